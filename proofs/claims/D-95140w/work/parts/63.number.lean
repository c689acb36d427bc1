/-! PURE: a number, by both -/
set_option maxRecDepth 100000
def lp_X4_number (F : St) (x3 : Int32) : Nat → Int32 → Int32 → Option (Int32 × Int32)
  | 0, _, _ => none
  | n + 1, v, i => if x3 = 0 then some (v, i) else if (F 16 4 0 0) ≤ i then some (v, i) else og (vpb i 200) (lp_X4_number F x3 n ((((10 : Int32) * v) + (F 15 0 0 i.toNatClampNeg)) - (48 : Int32)) (i + 1))
theorem lp_X4_number_s {F : St} {x3 : Int32} {n : Nat} {v i : Int32} : lp_X4_number F x3 (n + 1) v i = if x3 = 0 then some (v, i) else if (F 16 4 0 0) ≤ i then some (v, i) else og (vpb i 200) (lp_X4_number F x3 n ((((10 : Int32) * v) + (F 15 0 0 i.toNatClampNeg)) - (48 : Int32)) (i + 1)) := rfl
/-- inner none: it threw, the reader's place is the fault's -/
def fn_X4_number (F : St) (p1 p2 : Int32) : Option (St × Option Int32) :=
  ob (if (F 0 20 0 0) ≤ (F 16 3 0 0) then some (0 : Int32) else ob (fn_X4_kindAt F (F 16 3 0 0)) (fun r => if r = (2 : Int32) then (if ((F 16 4 0 0) - (F 16 3 0 0)) ≤ (3 : Int32) then some (1 : Int32) else some (0 : Int32)) else some (0 : Int32))) (fun x3 => ob2 (lp_X4_number F x3 300 (0 : Int32) (F 16 3 0 0)) (fun v i => ob (if x3 = 0 then some (0 : Int32) else ob (fn_X0_isIn F v.toInt64 p1.toInt64 p2.toInt64) (fun r => if r = 0 then some (0 : Int32) else some (1 : Int32))) (fun b => if b = 0 then some (F, none) else ob (fn_X4_token F) (fun F1 => some (F1, some v)))))
def numA (tx : Nat → Nat) (n p lo hi : Nat) : Option Nat := if spS tx n p < n ∧ kdS (tx (spS tx n p)) = 2 ∧ enS tx n (spS tx n p) - spS tx n p ≤ 3 ∧ lo ≤ nvS tx (spS tx n p) (enS tx n (spS tx n p) - spS tx n p) ∧ nvS tx (spS tx n p) (enS tx n (spS tx n p) - spS tx n p) ≤ hi then some (nvS tx (spS tx n p) (enS tx n (spS tx n p) - spS tx n p)) else none
/-- the place behind the token -/
def nxS (tx : Nat → Nat) (n p : Nat) : Nat := enS tx n (spS tx n p)
theorem nx_le {tx : Nat → Nat} {n p : Nat} (hp : p ≤ n) : nxS tx n p ≤ n := (en_le (sp_le hp).2).2
section NU
variable {F G : St} {tx : Nat → Nat} {n : Nat}
theorem c_number (ht : TX G tx n) {p lo hi : Nat} (hl : LK tx n G p) (hlo : lo < 2147483648) (hhi : hi < 2147483648) : Ok (fn_X4_number G (oN lo) (oN hi)) (fun r => (∀ v, numA tx n p lo hi = some v → r.2 = some (oN v) ∧ Rdo G r.1 ∧ LK tx n r.1 (nxS tx n p)) ∧ (numA tx n p lo hi = none → r.2 = none ∧ r.1 = G)) := by
  obtain ⟨hp, h2, h3, h4⟩ := hl
  have h200 := ht.1
  have hs := sp_le (tx := tx) hp
  have he := en_le (tx := tx) hs.2
  unfold fn_X4_number numA
  rw [ht.2.1, h3, h4]
  unfold nxS
  generalize hsS : spS tx n p = s at *
  generalize heE : enS tx n s = e at *
  have no : ∀ (x3 : Int32) (P : Prop) [Decidable P] (y : Nat), x3 = 0 → ¬ P → Ok (ob2 (lp_X4_number G x3 300 (0 : Int32) (oN s)) (fun v i => ob (if x3 = 0 then some (0 : Int32) else ob (fn_X0_isIn G v.toInt64 (oN lo).toInt64 (oN hi).toInt64) (fun r => if r = 0 then some (0 : Int32) else some (1 : Int32))) (fun b => if b = 0 then some (G, none) else ob (fn_X4_token G) (fun F1 => some (F1, some v))))) (fun r : St × Option Int32 => (∀ v, (if P then some y else none) = some v → r.2 = some (oN v) ∧ Rdo G r.1 ∧ LK tx n r.1 e) ∧ ((if P then some y else none) = none → r.2 = none ∧ r.1 = G)) := by
    intro x3 P _ y h0 hP
    subst h0
    rw [show lp_X4_number G 0 300 0 (oN s) = some (0, oN s) from by rw [lp_X4_number_s]; rfl, ob2_s, if_neg hP]
    exact ok_ob (ok_itp rfl (ok_some (Q := fun b => b = 0) rfl)) (fun b hb => ok_itp hb (ok_some ⟨fun v q => (nomatch q), fun _ => ⟨rfl, rfl⟩⟩))
  by_cases c0 : n ≤ s
  · refine ok_ob (ok_itp (yle c0 (by omega)) (ok_some (Q := fun x => x = 0) rfl)) (fun x3 hx => no x3 _ _ hx (by omega))
  · rw [c_kind ht (show s < n by omega), ob_s, show oN e - oN s = oN (e - s) from (Int32.ofNat_sub _ _ (by omega)).symm]
    have hk2 : kdS (tx s) ≤ 2 := by unfold kdS; split <;> (try split) <;> omega
    by_cases c1 : kdS (tx s) = 2
    · by_cases c2 : e - s ≤ 3
      · refine ok_ob (ok_itn (nle (by omega) (by omega)) (ok_itp (by rw [c1]; rfl) (ok_itp (yle (k := 3) c2 (by omega)) (ok_some (Q := fun x => x = 1) rfl)))) (fun x3 hx => ?_)
        subst hx
        have hall : ∀ j, s ≤ j → j < e → 48 ≤ tx j ∧ tx j ≤ 57 := fun j a b => kd_2.mp (by rw [en_kd (n := n) (s := s) (by omega) (by omega) j a (by rw [heE]; exact b)]; exact c1)
        have hv := nv_lt hall (e - s) (by omega)
        have h10 : 10 ^ (e - s) ≤ 10 ^ 3 := Nat.pow_le_pow_right (by omega) c2
        have h10b : (10 : Nat) ^ 3 = 1000 := by decide
        refine ok_ob2 (P := fun r => r.1 = oN (nvS tx s (e - s))) ?_ (fun v i hv2 => ?_)
        · have lpp : ∀ d m k, k + d = e - s → d < m → Ok (lp_X4_number G 1 m (oN (nvS tx s k)) (oN (s + k))) (fun r => r.1 = oN (nvS tx s (e - s))) := by
            intro d
            induction d with
            | zero =>
              intro m k hk hm
              obtain ⟨m', rfl⟩ : ∃ m', m = m' + 1 := ⟨m - 1, by omega⟩
              rw [lp_X4_number_s, h4]
              refine ok_itn n10 (ok_itp (yle (by omega) (by omega)) (ok_some ?_))
              show oN (nvS tx s k) = _
              rw [show k = e - s by omega]
            | succ d ih =>
              intro m k hk hm
              obtain ⟨m', rfl⟩ : ∃ m', m = m' + 1 := ⟨m - 1, by omega⟩
              obtain ⟨v1, -, v3⟩ := ht.2.2.2 (s + k) (by omega)
              have hd := hall (s + k) (by omega) (by omega)
              rw [lp_X4_number_s, h4, oN_n (show s + k < 2147483648 by omega), v3, (byc _ v1).2.2.2.1 (by omega), num_s hd.1, oN_1]
              exact ok_itn n10 (ok_itn (nle (by omega) (by omega)) (ok_og (oN_vp (by omega) (by omega)) (ih m' (k + 1) (by omega) (by omega))))
          exact lpp (e - s) 300 0 (by omega) (by omega)
        · have hv2 : v = oN (nvS tx s (e - s)) := hv2
          subst hv2
          rw [isIn_l G _ (oN lo) (oN hi) rfl rfl, ob_s]
          have hle : (oN lo ≤ oN (nvS tx s (e - s)) ∧ oN (nvS tx s (e - s)) ≤ oN hi) ↔ (lo ≤ nvS tx s (e - s) ∧ nvS tx s (e - s) ≤ hi) := by rw [oN_le (a := lo) (by omega) (by omega), oN_le (b := hi) (by omega) (by omega)]
          by_cases c3 : lo ≤ nvS tx s (e - s) ∧ nvS tx s (e - s) ≤ hi
          · rw [if_pos (hle.mpr c3), if_pos (show s < n ∧ kdS (tx s) = 2 ∧ e - s ≤ 3 ∧ lo ≤ nvS tx s (e - s) ∧ nvS tx s (e - s) ≤ hi from ⟨by omega, c1, c2, c3⟩)]
            refine ok_ob (ok_itn n10 (ok_itn n10 (ok_some (Q := fun b => b = 1) rfl))) (fun b hb => ?_)
            subst hb
            refine ok_itn n10 (ok_ob (c_token ht he.2 h2) (fun F1 h1 => ok_some ⟨fun v q => ?_, fun q => nomatch q⟩))
            injection q with q
            exact ⟨by rw [← q], h1.1, h1.2⟩
          · rw [if_neg (fun q => c3 (hle.mp q)), if_neg (show ¬ (s < n ∧ kdS (tx s) = 2 ∧ e - s ≤ 3 ∧ lo ≤ nvS tx s (e - s) ∧ nvS tx s (e - s) ≤ hi) from fun q => c3 q.2.2.2)]
            exact ok_ob (ok_itn n10 (ok_itp rfl (ok_some (Q := fun b => b = 0) rfl))) (fun b hb => ok_itp hb (ok_some ⟨fun v q => (nomatch q), fun _ => ⟨rfl, rfl⟩⟩))
      · refine ok_ob (ok_itn (nle (by omega) (by omega)) (ok_itp (by rw [c1]; rfl) (ok_itn (nle (k := 3) (by omega) (by omega)) (ok_some (Q := fun x => x = 0) rfl)))) (fun x3 hx => no x3 _ _ hx (by omega))
    · refine ok_ob (ok_itn (nle (by omega) (by omega)) (ok_itn (fun q => c1 ((oN_eq (b := 2) (by omega) (by omega)).mp q)) (ok_some (Q := fun x => x = 0) rfl))) (fun x3 hx => no x3 _ _ hx (by omega))
/-- of the model only these have changed: the reader's numbers, read from w on -/
def Mw (G H : St) (w : Nat) : Prop := ∀ k p y j, ¬ (k = 30 ∧ (p = 20 ∨ p = 21 ∨ p = 22 ∨ p = 23 ∨ p = 24 ∨ p = 25 ∨ p = 64)) → ¬ (k = 39 ∧ w ≤ j ∧ j < w + 6) → H k p y j = G k p y j
theorem Mw.tt {H : St} {w : Nat} (h : Mw G H w) (ht : TXm G tx n) : TXm H tx n := by
  obtain ⟨h1, h2, h3, h4⟩ := ht
  exact ⟨h1, trivial, by rw [h 30 18 0 0 (by omega) (by omega)]; exact h3, fun j hj => by rw [h 38 0 0 j (by omega) (by omega)]; exact h4 j hj⟩
theorem Mw.of {H : St} {w : Nat} (h : Mdo G H) : Mw G H w := fun k p y j a _ => h k p y j (by omega)
theorem Mw.tr {H K : St} {w : Nat} (h : Mw G H w) (h2 : Mw H K w) : Mw G K w := fun k p y j a b => by rw [h2 k p y j a b, h k p y j a b]
theorem Mw.f9 {H : St} {w j : Nat} {v : Int32} (h : Mw G H w) (h1 : w ≤ j) (h2 : j < w + 6) : Mw G (fu H 39 0 0 j v) w := fun k q y i a b => by
  rw [fu_n _ _ _ _ _ _ (by omega)]
  exact h k q y i a b
theorem Mw.fi {H : St} {w p : Nat} {v : Int32} (h : Mw G H w) (hp : p = 20 ∨ p = 21 ∨ p = 22 ∨ p = 23 ∨ p = 24 ∨ p = 25 ∨ p = 64) : Mw G (fu H 30 p 0 0 v) w := fun k q y i a b => by
  rw [fu_n _ _ _ _ _ _ (by omega)]
  exact h k q y i a b
theorem m_number (ht : TXm G tx n) {p lo hi w i : Nat} (hp : p ≤ n) (h2 : G 30 20 0 0 = oN p) (hlo : lo < 2147483648) (hhi : hi < 2147483648) (hi1 : w ≤ i) (hi2 : i < w + 6) (hi3 : i < 60) : Ok (fn_X8_isNumber G (oN i) (oN lo) (oN hi)) (fun r => Mw G r.1 w ∧ (∀ v, numA tx n p lo hi = some v → r.2 = 1 ∧ r.1 30 20 0 0 = oN (nxS tx n p) ∧ r.1 39 0 0 i = oN v ∧ ∀ j, j ≠ i → r.1 39 0 0 j = G 39 0 0 j) ∧ (numA tx n p lo hi = none → r.2 = 0 ∧ r.1 30 25 0 0 = oN (spS tx n p))) := by
  unfold fn_X8_isNumber
  refine ok_ob (m_token ht hp h2) (fun F1 h1 => ?_)
  obtain ⟨m1, k20, k21, ktk, knv⟩ := h1
  have hs := sp_le (tx := tx) hp
  have he := en_le (tx := tx) hs.2
  have h200 := ht.1
  rw [ktk]
  have no : numA tx n p lo hi = none → Ok (ob2 (fn_X8_fails F1) (fun F4 r5 => og (bzb r5) (some (F4, r5)))) (fun r => Mw G r.1 w ∧ (∀ v, numA tx n p lo hi = some v → r.2 = 1 ∧ r.1 30 20 0 0 = oN (nxS tx n p) ∧ r.1 39 0 0 i = oN v ∧ ∀ j, j ≠ i → r.1 39 0 0 j = G 39 0 0 j) ∧ (numA tx n p lo hi = none → r.2 = 0 ∧ r.1 30 25 0 0 = oN (spS tx n p))) := by
    intro hno
    have e : fn_X8_fails F1 = some (fu F1 30 25 0 0 (F1 30 21 0 0), 0) := rfl
    rw [e, ob2_s, hno]
    refine ok_og rfl (ok_some ⟨(Mw.of m1).fi (by omega), fun v q => (nomatch q), fun _ => ⟨rfl, ?_⟩⟩)
    show fu F1 30 25 0 0 (F1 30 21 0 0) 30 25 0 0 = _
    rw [fu_s, k21]
  by_cases c : tkS tx n (spS tx n p) (enS tx n (spS tx n p)) = -1
  · obtain ⟨c0, c1, c2⟩ := (tk_1 hp).mp c
    refine ok_itp ((lg_cmp_eq _ _).mpr c) ?_
    have hall : ∀ j, spS tx n p ≤ j → j < enS tx n (spS tx n p) → 48 ≤ tx j ∧ tx j ≤ 57 := fun j a b => kd_2.mp (by rw [en_kd (by omega) (by omega) j a b]; exact c1)
    have hv := nv_lt hall (enS tx n (spS tx n p) - spS tx n p) (by omega)
    have h10 : 10 ^ (enS tx n (spS tx n p) - spS tx n p) ≤ 10 ^ 3 := Nat.pow_le_pow_right (by omega) c2
    have h10b : (10 : Nat) ^ 3 = 1000 := by decide
    rw [in_e, ob_s, knv c1 c0 c2]
    have hle : (oN lo ≤ oN (nvS tx (spS tx n p) (enS tx n (spS tx n p) - spS tx n p)) ∧ oN (nvS tx (spS tx n p) (enS tx n (spS tx n p) - spS tx n p)) ≤ oN hi) ↔ (lo ≤ nvS tx (spS tx n p) (enS tx n (spS tx n p) - spS tx n p) ∧ nvS tx (spS tx n p) (enS tx n (spS tx n p) - spS tx n p) ≤ hi) := by rw [oN_le (a := lo) (by omega) (by omega), oN_le (b := hi) (by omega) (by omega)]
    by_cases c3 : lo ≤ nvS tx (spS tx n p) (enS tx n (spS tx n p) - spS tx n p) ∧ nvS tx (spS tx n p) (enS tx n (spS tx n p) - spS tx n p) ≤ hi
    · have ey : numA tx n p lo hi = some (nvS tx (spS tx n p) (enS tx n (spS tx n p) - spS tx n p)) := if_pos ⟨c0, c1, c2, c3⟩
      rw [if_pos (hle.mpr c3), ey, oN_n (show i < 2147483648 by omega)]
      refine ok_itn n10 (ok_og (oN_vp hi3 (by omega)) (ok_pl (ok_some ⟨(Mw.of m1).f9 hi1 hi2, fun v q => ?_, fun q => nomatch q⟩)))
      injection q with q
      subst q
      have e1 : ∀ v, fu F1 39 0 0 i v 30 20 0 0 = oN (nxS tx n p) := fun v => by rw [fu_n _ _ _ _ _ _ (by omega)]; exact k20
      have e2 : ∀ v j, j ≠ i → fu F1 39 0 0 i v 39 0 0 j = G 39 0 0 j := fun v j hj => by rw [fu_n _ _ _ _ _ _ (by omega)]; exact m1 39 0 0 j (by omega)
      exact ⟨rfl, e1 (oN (nvS tx (spS tx n p) (enS tx n (spS tx n p) - spS tx n p))), fu_s _ _ _ _ _ _, fun j hj => e2 (oN (nvS tx (spS tx n p) (enS tx n (spS tx n p) - spS tx n p))) j hj⟩
    · rw [if_neg (fun q => c3 (hle.mp q))]
      exact ok_itp rfl (no (if_neg (fun q => c3 q.2.2.2)))
  · refine ok_itn (fun q => c ((lg_cmp_eq _ _).mp q)) (no (if_neg (fun q => c ((tk_1 hp).mpr ⟨q.1, q.2.1, q.2.2.1⟩))))
end NU
