/-! PURE: the model's tokens -/
set_option maxRecDepth 100000
/-- a word as a number; digits as a number -/
def cdS (tx : Nat → Nat) (s : Nat) : Nat → Nat
  | 0 => 0
  | m + 1 => 27 * cdS tx s m + (tx (s + m) - 96)
def nvS (tx : Nat → Nat) (s : Nat) : Nat → Nat
  | 0 => 0
  | m + 1 => 10 * nvS tx s m + (tx (s + m) - 48)
def tkS (tx : Nat → Nat) (n s e : Nat) : Int64 := if n ≤ s then -2 else if kdS (tx s) = 1 then (if e - s ≤ 9 then Int64.ofNat (cdS tx s (e - s)) else -4) else if kdS (tx s) = 2 then (if e - s ≤ 3 then -1 else -4) else if tx s = 59 then -3 else -4
theorem kd_1 {v : Nat} : kdS v = 1 ↔ 97 ≤ v ∧ v ≤ 122 := by
  unfold kdS
  split
  · rename_i h; exact ⟨fun _ => h, fun _ => rfl⟩
  · split <;> exact ⟨fun q => by omega, fun q => by omega⟩
theorem kd_2 {v : Nat} : kdS v = 2 ↔ 48 ≤ v ∧ v ≤ 57 := by
  unfold kdS
  split
  · exact ⟨fun q => by omega, fun q => by omega⟩
  · split
    · rename_i h; exact ⟨fun _ => h, fun _ => rfl⟩
    · exact ⟨fun q => by omega, fun q => by omega⟩
theorem cd_lt {tx : Nat → Nat} {s e : Nat} (h : ∀ j, s ≤ j → j < e → 97 ≤ tx j ∧ tx j ≤ 122) : ∀ m, s + m ≤ e → cdS tx s m < 27 ^ m
  | 0, _ => by show (0 : Nat) < 1; omega
  | m + 1, hm => by
    have ih := cd_lt h m (by omega)
    have := h (s + m) (by omega) (by omega)
    show 27 * cdS tx s m + (tx (s + m) - 96) < 27 ^ (m + 1)
    rw [Nat.pow_succ]
    omega
theorem nv_lt {tx : Nat → Nat} {s e : Nat} (h : ∀ j, s ≤ j → j < e → 48 ≤ tx j ∧ tx j ≤ 57) : ∀ m, s + m ≤ e → nvS tx s m < 10 ^ m
  | 0, _ => by show (0 : Nat) < 1; omega
  | m + 1, hm => by
    have ih := nv_lt h m (by omega)
    have := h (s + m) (by omega) (by omega)
    show 10 * nvS tx s m + (tx (s + m) - 48) < 10 ^ (m + 1)
    rw [Nat.pow_succ]
    omega
theorem num_s {a v : Nat} (hv : 48 ≤ v) : (10 : Int32) * oN a + oN v - 48 = oN (10 * a + (v - 48)) := by
  rw [show (10 : Int32) * oN a = oN (10 * a) from (Int32.ofNat_mul 10 a).symm, oN_add, show oN (10 * a + v) - 48 = oN (10 * a + v - 48) from (Int32.ofNat_sub _ 48 (by omega)).symm]
  congr 1
  omega
theorem cod_s {a v : Nat} (hv : 96 ≤ v) (h2 : v < 256) : (27 : Int64) * Int64.ofNat a + (oN v).toInt64 - 96 = Int64.ofNat (27 * a + (v - 96)) := by
  rw [Int32.toInt64_ofNat' (show (v : Int) ≤ Int32.maxValue.toInt by
    have : Int32.maxValue.toInt = 2147483647 := rfl
    omega), show (27 : Int64) * Int64.ofNat a = Int64.ofNat (27 * a) from (Int64.ofNat_mul 27 a).symm, ← Int64.ofNat_add, show Int64.ofNat (27 * a + v) - 96 = Int64.ofNat (27 * a + v - 96) from (Int64.ofNat_sub _ 96 (by omega)).symm]
  congr 1
  omega
/-- the text as the model has it -/
def TXm (F : St) (tx : Nat → Nat) (n : Nat) : Prop := n ≤ 200 ∧ True ∧ F 30 18 0 0 = oN n ∧ ∀ j, j < n → tx j < 256 ∧ F 38 0 0 j = oN (tx j) ∧ True
theorem TX.m {F : St} {tx : Nat → Nat} {n : Nat} (h : TX F tx n) : TXm F tx n := ⟨h.1, trivial, h.2.2.1, fun j hj => ⟨(h.2.2.2 j hj).1, (h.2.2.2 j hj).2.1, trivial⟩⟩
section MT2
variable {F G H : St} {tx : Nat → Nat} {n : Nat}
/-- of the model's reader only these have changed -/
def Mdo (G H : St) : Prop := ∀ k p y j, ¬ (k = 30 ∧ (p = 20 ∨ p = 21 ∨ p = 22 ∨ p = 23 ∨ p = 24 ∨ p = 64)) → H k p y j = G k p y j
theorem Mdo.tt (h : Mdo G H) (ht : TXm G tx n) : TXm H tx n := by
  obtain ⟨h1, h2, h3, h4⟩ := ht
  exact ⟨h1, trivial, by rw [h 30 18 0 0 (by omega)]; exact h3, fun j hj => by rw [h 38 0 0 j (by omega)]; exact h4 j hj⟩
theorem Mdo.fu (h : Mdo G H) {p : Nat} {v : Int32} (hp : p = 20 ∨ p = 21 ∨ p = 22 ∨ p = 23 ∨ p = 24 ∨ p = 64) : Mdo G (fu H 30 p 0 0 v) := fun k q y j hne => by
  rw [fu_n _ _ _ _ _ _ (fun z => hne ⟨z.1, by rw [z.2.1]; exact hp⟩)]
  exact h k q y j hne
/-- the model has read the token from p on -/
def MK (tx : Nat → Nat) (n : Nat) (H : St) (p : Nat) : Prop := H 30 20 0 0 = oN (enS tx n (spS tx n p)) ∧ H 30 21 0 0 = oN (spS tx n p) ∧ jn (H 30 22 0 0) (H 30 64 0 0) = tkS tx n (spS tx n p) (enS tx n (spS tx n p)) ∧ (kdS (tx (spS tx n p)) = 2 → spS tx n p < n → enS tx n (spS tx n p) - spS tx n p ≤ 3 → H 30 24 0 0 = oN (nvS tx (spS tx n p) (enS tx n (spS tx n p) - spS tx n p)))
theorem m_token (ht : TXm G tx n) {p : Nat} (hp : p ≤ n) (h2 : G 30 20 0 0 = oN p) : Ok (fn_X8_nextToken G) (fun r => Mdo G r ∧ MK tx n r p) := by
  have h200 := ht.1
  have hs := sp_le (tx := tx) hp
  have hsb := sp_b tx (n - p) p
  have he := en_le (tx := tx) hs.2
  unfold fn_X8_nextToken MK
  refine ok_ob (P := fun r => Mdo G r ∧ r 30 20 0 0 = oN (spS tx n p)) ?_ (fun F2 h => ?_)
  · refine ok_lpG (lp := lp_X8_nextToken_0) (fun k H => Mdo G H ∧ H 30 20 0 0 = oN (p + k)) (spS tx n p - p) ?_ ?_ (spS tx n p - p) 300 0 G (by omega) (by omega) ⟨fun _ _ _ _ _ => rfl, h2⟩
    · intro m k H hk hI ih
      obtain ⟨i1, i2⟩ := hI
      have hsp : tx (p + k) = 32 := hsb.2.2.1 (p + k) (by omega) (by unfold spS at hk; omega)
      obtain ⟨v1, v2, -⟩ := (i1.tt ht).2.2.2 (p + k) (by omega)
      rw [lp_X8_nextToken_0_s, i2, (i1.tt ht).2.2.1, oN_n (show p + k < 2147483648 by omega), v2, hsp]
      refine ok_itn (nle (by omega) (by omega)) (ok_og (oN_vp (by omega) (by omega)) (ok_itp rfl (ok_pl (ih _ ⟨i1.fu (by omega), ?_⟩))))
      rw [fu_s, oN_1]
      rfl
    · intro m H hI
      obtain ⟨i1, i2⟩ := hI
      rw [show p + (spS tx n p - p) = spS tx n p by omega] at i2
      rw [lp_X8_nextToken_0_s, i2, (i1.tt ht).2.2.1]
      by_cases hsn : n ≤ spS tx n p
      · exact ok_itp (yle hsn (by omega)) (ok_some ⟨i1, i2⟩)
      · obtain ⟨v1, v2, -⟩ := (i1.tt ht).2.2.2 (spS tx n p) (by omega)
        rw [oN_n (show spS tx n p < 2147483648 by omega), v2]
        refine ok_itn (nle (by omega) (by omega)) (ok_og (oN_vp (by omega) (by omega)) (ok_itn (fun q => ?_) (ok_some ⟨i1, i2⟩)))
        rcases hsb.2.2.2 with z | z
        · unfold spS at hsn; omega
        · exact z ((oN_eq (a := tx (spS tx n p)) (b := 32) (by omega) (by omega)).mp q)
  · obtain ⟨i1, i2⟩ := h
    rw [i2]
    refine ok_pl (ok_pl (ok_pl ?_))
    have m15 : Mdo G (fu (fu (fu F2 30 21 0 0 (oN (spS tx n p))) 30 23 0 0 0) 30 24 0 0 0) := ((i1.fu (by omega)).fu (by omega)).fu (by omega)
    have p15 : fu (fu (fu F2 30 21 0 0 (oN (spS tx n p))) 30 23 0 0 0) 30 24 0 0 0 30 20 0 0 = oN (spS tx n p) := by rw [fu_n _ _ _ _ _ _ (by omega), fu_n _ _ _ _ _ _ (by omega), fu_n _ _ _ _ _ _ (by omega)]; exact i2
    have t15 : fu (fu (fu F2 30 21 0 0 (oN (spS tx n p))) 30 23 0 0 0) 30 24 0 0 0 30 21 0 0 = oN (spS tx n p) := by rw [fu_n _ _ _ _ _ _ (by omega), fu_n _ _ _ _ _ _ (by omega), fu_s]
    have d15 : fu (fu (fu F2 30 21 0 0 (oN (spS tx n p))) 30 23 0 0 0) 30 24 0 0 0 30 23 0 0 = 0 := by rw [fu_n _ _ _ _ _ _ (by omega), fu_s]
    have n15 : fu (fu (fu F2 30 21 0 0 (oN (spS tx n p))) 30 23 0 0 0) 30 24 0 0 0 30 24 0 0 = 0 := fu_s _ _ _ _ _ _
    generalize fu (fu (fu F2 30 21 0 0 (oN (spS tx n p))) 30 23 0 0 0) 30 24 0 0 0 = F15 at *
    have it := m15.tt ht
    rw [p15, it.2.2.1]
    generalize hsS : spS tx n p = s at *
    have tw : ∀ (H : St) (v : Int64), Mdo G H → H 30 20 0 0 = oN (enS tx n s) → H 30 21 0 0 = oN s → v = tkS tx n s (enS tx n s) → (kdS (tx s) = 2 → s < n → enS tx n s - s ≤ 3 → H 30 24 0 0 = oN (nvS tx s (enS tx n s - s))) → Mdo G (fu (fu H 30 22 0 0 (jhi v)) 30 64 0 0 (jlo v)) ∧ (fu (fu H 30 22 0 0 (jhi v)) 30 64 0 0 (jlo v)) 30 20 0 0 = oN (enS tx n s) ∧ (fu (fu H 30 22 0 0 (jhi v)) 30 64 0 0 (jlo v)) 30 21 0 0 = oN s ∧ jn ((fu (fu H 30 22 0 0 (jhi v)) 30 64 0 0 (jlo v)) 30 22 0 0) ((fu (fu H 30 22 0 0 (jhi v)) 30 64 0 0 (jlo v)) 30 64 0 0) = tkS tx n s (enS tx n s) ∧ (kdS (tx s) = 2 → s < n → enS tx n s - s ≤ 3 → (fu (fu H 30 22 0 0 (jhi v)) 30 64 0 0 (jlo v)) 30 24 0 0 = oN (nvS tx s (enS tx n s - s))) := by
      intro H v g1 g2 g3 g4 g5
      refine ⟨(g1.fu (by omega)).fu (by omega), ?_, ?_, ?_, fun a b c => ?_⟩
      · rw [fu_n _ _ _ _ _ _ (by omega), fu_n _ _ _ _ _ _ (by omega)]; exact g2
      · rw [fu_n _ _ _ _ _ _ (by omega), fu_n _ _ _ _ _ _ (by omega)]; exact g3
      · rw [fu_n _ _ _ _ _ _ (show ¬ (30 = 30 ∧ 22 = 64 ∧ 0 = 0 ∧ 0 = 0) by omega), fu_s, fu_s, jn_eta, g4]
      · rw [fu_n _ _ _ _ _ _ (by omega), fu_n _ _ _ _ _ _ (by omega)]; exact g5 a b c
    by_cases hsn : n ≤ s
    · have hsn2 : s = n := by omega
      have hen : enS tx n s = n := if_pos hsn
      refine ok_itp (by rw [hsn2]) (ok_pl (ok_some (tw F15 _ m15 (by rw [p15, hen, hsn2]) t15 (by unfold tkS; rw [if_pos hsn]) (fun _ q => absurd q (by omega)))))
    · have hlt : s < n := by omega
      have hgt := en_gt (tx := tx) hlt
      obtain ⟨v1, v2, -⟩ := it.2.2.2 s hlt
      rw [oN_n (show s < 2147483648 by omega), v2, in_e, ob_s]
      refine ok_itn (by rw [oN_eq (by omega) (by omega)]; omega) (ok_og (oN_vp (by omega) (by omega)) ?_)
      have cl : ((97 : Int32) ≤ oN (tx s) ∧ oN (tx s) ≤ 122) ↔ kdS (tx s) = 1 := by
        rw [kd_1, show (97 : Int32) = oN 97 from rfl, show (122 : Int32) = oN 122 from rfl, oN_le (by omega) (by omega), oN_le (by omega) (by omega)]
      have cdg : ((48 : Int32) ≤ oN (tx s) ∧ oN (tx s) ≤ 57) ↔ kdS (tx s) = 2 := by
        rw [kd_2, show (48 : Int32) = oN 48 from rfl, show (57 : Int32) = oN 57 from rfl, oN_le (by omega) (by omega), oN_le (by omega) (by omega)]
      by_cases c1 : kdS (tx s) = 1
      · -- letters
        rw [if_pos (cl.mpr c1)]
        have hall : ∀ j, s ≤ j → j < enS tx n s → 97 ≤ tx j ∧ tx j ≤ 122 := fun j a b => kd_1.mp (by rw [en_kd hlt (by omega) j a b]; exact c1)
        refine ok_itn n10 (ok_pl ?_)
        have m59 : Mdo G (fu (fu F15 30 22 0 0 (jhi 0)) 30 64 0 0 (jlo 0)) := (m15.fu (by omega)).fu (by omega)
        refine ok_ob (P := fun r => Mdo G r ∧ r 30 20 0 0 = oN (enS tx n s) ∧ r 30 21 0 0 = oN s ∧ (enS tx n s - s ≤ 9 → jn (r 30 22 0 0) (r 30 64 0 0) = Int64.ofNat (cdS tx s (enS tx n s - s)))) ?_ (fun F62 h62 => ?_)
        · refine ok_lpG (lp := lp_X8_nextToken_101) (fun k H => Mdo G H ∧ H 30 20 0 0 = oN (s + k) ∧ H 30 21 0 0 = oN s ∧ (k ≤ 9 → jn (H 30 22 0 0) (H 30 64 0 0) = Int64.ofNat (cdS tx s k))) (enS tx n s - s) ?_ ?_ (enS tx n s - s) 300 0 _ (by omega) (by omega) ⟨m59, by rw [fu_n _ _ _ _ _ _ (by omega), fu_n _ _ _ _ _ _ (by omega)]; exact p15, by rw [fu_n _ _ _ _ _ _ (by omega), fu_n _ _ _ _ _ _ (by omega)]; exact t15, fun _ => by rw [fu_n _ _ _ _ _ _ (show ¬ (30 = 30 ∧ 22 = 64 ∧ 0 = 0 ∧ 0 = 0) by omega), fu_s, fu_s, jn_eta]; rfl⟩
          · intro m k H hk hI ih
            obtain ⟨j1, j2, j3, j4⟩ := hI
            have hh := hall (s + k) (by omega) (by omega)
            obtain ⟨u1, u2, -⟩ := (j1.tt ht).2.2.2 (s + k) (by omega)
            rw [lp_X8_nextToken_101_s, j2, j3, (j1.tt ht).2.2.1, oN_n (show s + k < 2147483648 by omega), u2, in_e, ob_s, if_pos (show (97 : Int32) ≤ oN (tx (s + k)) ∧ oN (tx (s + k)) ≤ 122 from ⟨yle (a := 97) hh.1 (by omega), yle (k := 122) hh.2 (by omega)⟩), show oN (s + k) - oN s = oN k from by
              rw [show oN (s + k) - oN s = oN (s + k - s) from (Int32.ofNat_sub _ _ (by omega)).symm]
              congr 1
              omega]
            refine ok_itn (nle (by omega) (by omega)) (ok_og (oN_vp (by omega) (by omega)) (ok_itn n10 (ok_obi (ok_pl ?_))))
            rw [fu_n _ _ _ _ _ _ (show ¬ (30 = 30 ∧ 20 = 64 ∧ 0 = 0 ∧ 0 = 0) by omega), fu_n _ _ _ _ _ _ (show ¬ (30 = 30 ∧ 20 = 22 ∧ 0 = 0 ∧ 0 = 0) by omega), j2, oN_1]
            refine ok_pl (ih _ ⟨((j1.fu (by omega)).fu (by omega)).fu (by omega), by rw [fu_s]; rfl, ?_, fun hk9 => ?_⟩)
            · rw [fu_n _ _ _ _ _ _ (by omega), fu_n _ _ _ _ _ _ (by omega), fu_n _ _ _ _ _ _ (by omega)]; exact j3
            · rw [fu_n _ _ _ _ _ _ (show ¬ (30 = 30 ∧ 22 = 20 ∧ 0 = 0 ∧ 0 = 0) by omega), fu_n _ _ _ _ _ _ (show ¬ (30 = 30 ∧ 22 = 64 ∧ 0 = 0 ∧ 0 = 0) by omega), fu_s, fu_n _ _ _ _ _ _ (show ¬ (30 = 30 ∧ 64 = 20 ∧ 0 = 0 ∧ 0 = 0) by omega), fu_s, jn_eta, if_neg (show ¬ ((9 : Int32) ≤ oN k) from nle (a := 9) (by omega) (by omega)), j4 (by omega), cod_s (by omega) (by omega)]
              rfl
          · intro m H hI
            obtain ⟨j1, j2, j3, j4⟩ := hI
            rw [show s + (enS tx n s - s) = enS tx n s by omega] at j2
            rw [lp_X8_nextToken_101_s, j2, (j1.tt ht).2.2.1]
            by_cases hen : n ≤ enS tx n s
            · exact ok_itp (yle hen (by omega)) (ok_some ⟨j1, j2, j3, j4⟩)
            · obtain ⟨u1, u2, -⟩ := (j1.tt ht).2.2.2 (enS tx n s) (by omega)
              rw [oN_n (show enS tx n s < 2147483648 by omega), u2, in_e, ob_s]
              refine ok_itn (nle (by omega) (by omega)) (ok_og (oN_vp (by omega) (by omega)) ?_)
              rw [if_neg (show ¬ ((97 : Int32) ≤ oN (tx (enS tx n s)) ∧ oN (tx (enS tx n s)) ≤ 122) from fun q => by
                have hrn := (rn_b tx (kdS (tx s)) (n - (s + 1)) (s + 1)).2.2.2
                have hee : enS tx n s = rnF tx (kdS (tx s)) (n - (s + 1)) (s + 1) := by unfold enS; rw [if_neg (by omega), if_neg (by omega)]
                rw [← hee] at hrn
                rcases hrn with z | z
                · omega
                · refine z ?_
                  rw [c1, kd_1]
                  rw [show (97 : Int32) = oN 97 from rfl, show (122 : Int32) = oN 122 from rfl, oN_le (by omega) (by omega), oN_le (by omega) (by omega)] at q
                  exact q)]
              exact ok_itp z00 (ok_some ⟨j1, j2, j3, j4⟩)
        · obtain ⟨j1, j2, j3, j4⟩ := h62
          rw [j2, j3, show oN (enS tx n s) - oN s = oN (enS tx n s - s) from (Int32.ofNat_sub _ _ (by omega)).symm]
          refine ok_obi (ok_pl (ok_some (tw F62 _ j1 j2 j3 ?_ (fun q => by omega))))
          unfold tkS
          rw [if_neg hsn, if_pos c1]
          by_cases h9 : enS tx n s - s ≤ 9
          · rw [if_pos h9, ← j4 h9]
            exact if_pos (yle (k := 9) h9 (by omega))
          · rw [if_neg h9]
            exact if_neg (nle (k := 9) (by omega) (by omega))
      · rw [if_neg (fun q => c1 (cl.mp q)), in_e, ob_s]
        refine ok_itp z00 ?_
        by_cases c2 : kdS (tx s) = 2
        · -- digits
          rw [if_pos (cdg.mpr c2)]
          have hall : ∀ j, s ≤ j → j < enS tx n s → 48 ≤ tx j ∧ tx j ≤ 57 := fun j a b => kd_2.mp (by rw [en_kd hlt (by omega) j a b]; exact c2)
          refine ok_itn n10 (ok_ob (P := fun r => Mdo G r ∧ r 30 20 0 0 = oN (enS tx n s) ∧ r 30 21 0 0 = oN s ∧ r 30 23 0 0 = oN (enS tx n s - s) ∧ (enS tx n s - s ≤ 3 → r 30 24 0 0 = oN (nvS tx s (enS tx n s - s)))) ?_ (fun F34 h34 => ?_))
          · refine ok_lpG (lp := lp_X8_nextToken_241) (fun k H => Mdo G H ∧ H 30 20 0 0 = oN (s + k) ∧ H 30 21 0 0 = oN s ∧ H 30 23 0 0 = oN k ∧ (k ≤ 3 → H 30 24 0 0 = oN (nvS tx s k))) (enS tx n s - s) ?_ ?_ (enS tx n s - s) 300 0 F15 (by omega) (by omega) ⟨m15, p15, t15, d15, fun _ => n15⟩
            · intro m k H hk hI ih
              obtain ⟨j1, j2, j3, j4, j5⟩ := hI
              have hh := hall (s + k) (by omega) (by omega)
              obtain ⟨u1, u2, -⟩ := (j1.tt ht).2.2.2 (s + k) (by omega)
              rw [lp_X8_nextToken_241_s, j2, (j1.tt ht).2.2.1, oN_n (show s + k < 2147483648 by omega), u2, j4, in_e, ob_s, if_pos (show (48 : Int32) ≤ oN (tx (s + k)) ∧ oN (tx (s + k)) ≤ 57 from ⟨yle (a := 48) hh.1 (by omega), yle (k := 57) hh.2 (by omega)⟩)]
              refine ok_itn (nle (by omega) (by omega)) (ok_og (oN_vp (by omega) (by omega)) (ok_itn n10 (ok_obi (ok_pl ?_))))
              rw [fu_n _ _ _ _ _ _ (show ¬ (30 = 30 ∧ 23 = 24 ∧ 0 = 0 ∧ 0 = 0) by omega), j4, oN_1]
              refine ok_pl ?_
              rw [fu_n _ _ _ _ _ _ (show ¬ (30 = 30 ∧ 20 = 23 ∧ 0 = 0 ∧ 0 = 0) by omega), fu_n _ _ _ _ _ _ (show ¬ (30 = 30 ∧ 20 = 24 ∧ 0 = 0 ∧ 0 = 0) by omega), j2, oN_1]
              refine ok_pl (ih _ ⟨((j1.fu (by omega)).fu (by omega)).fu (by omega), by rw [fu_s]; rfl, ?_, ?_, fun hk3 => ?_⟩)
              · rw [fu_n _ _ _ _ _ _ (by omega), fu_n _ _ _ _ _ _ (by omega), fu_n _ _ _ _ _ _ (by omega)]; exact j3
              · rw [fu_n _ _ _ _ _ _ (by omega), fu_s]
              · rw [fu_n _ _ _ _ _ _ (by omega), fu_n _ _ _ _ _ _ (by omega), fu_s, if_neg (show ¬ ((3 : Int32) ≤ oN k) from nle (a := 3) (by omega) (by omega)), j5 (by omega), num_s hh.1]
                rfl
            · intro m H hI
              obtain ⟨j1, j2, j3, j4, j5⟩ := hI
              rw [show s + (enS tx n s - s) = enS tx n s by omega] at j2
              rw [lp_X8_nextToken_241_s, j2, (j1.tt ht).2.2.1]
              by_cases hen : n ≤ enS tx n s
              · exact ok_itp (yle hen (by omega)) (ok_some ⟨j1, j2, j3, j4, j5⟩)
              · obtain ⟨u1, u2, -⟩ := (j1.tt ht).2.2.2 (enS tx n s) (by omega)
                rw [oN_n (show enS tx n s < 2147483648 by omega), u2, in_e, ob_s]
                refine ok_itn (nle (by omega) (by omega)) (ok_og (oN_vp (by omega) (by omega)) ?_)
                rw [if_neg (show ¬ ((48 : Int32) ≤ oN (tx (enS tx n s)) ∧ oN (tx (enS tx n s)) ≤ 57) from fun q => by
                  have hrn := (rn_b tx (kdS (tx s)) (n - (s + 1)) (s + 1)).2.2.2
                  have hee : enS tx n s = rnF tx (kdS (tx s)) (n - (s + 1)) (s + 1) := by unfold enS; rw [if_neg (by omega), if_neg (by omega)]
                  rw [← hee] at hrn
                  rcases hrn with z | z
                  · omega
                  · refine z ?_
                    rw [c2, kd_2]
                    rw [show (48 : Int32) = oN 48 from rfl, show (57 : Int32) = oN 57 from rfl, oN_le (by omega) (by omega), oN_le (by omega) (by omega)] at q
                    exact q)]
                exact ok_itp z00 (ok_some ⟨j1, j2, j3, j4, j5⟩)
          · obtain ⟨j1, j2, j3, j4, j5⟩ := h34
            rw [j4]
            refine ok_obi (ok_pl (ok_some (tw F34 _ j1 j2 j3 ?_ (fun _ _ q => j5 q))))
            unfold tkS
            rw [if_neg hsn, if_neg c1, if_pos c2]
            by_cases h3 : enS tx n s - s ≤ 3
            · rw [if_pos h3]
              exact if_pos (yle (k := 3) h3 (by omega))
            · rw [if_neg h3]
              exact if_neg (nle (k := 3) (by omega) (by omega))
        · rw [if_neg (fun q => c2 (cdg.mp q))]
          have hk0 : kdS (tx s) = 0 := by
            have : kdS (tx s) ≤ 2 := by unfold kdS; split <;> (try split) <;> omega
            omega
          have hen : enS tx n s = s + 1 := by unfold enS; rw [if_neg (by omega), if_pos hk0]
          refine ok_itp z00 (ok_obi (ok_pl ?_))
          rw [fu_n _ _ _ _ _ _ (show ¬ (30 = 30 ∧ 20 = 64 ∧ 0 = 0 ∧ 0 = 0) by omega), fu_n _ _ _ _ _ _ (show ¬ (30 = 30 ∧ 20 = 22 ∧ 0 = 0 ∧ 0 = 0) by omega), p15, oN_1]
          refine ok_pl (ok_some ⟨((m15.fu (by omega)).fu (by omega)).fu (by omega), by rw [fu_s, hen], ?_, ?_, fun q => absurd q c2⟩)
          · rw [fu_n _ _ _ _ _ _ (by omega), fu_n _ _ _ _ _ _ (by omega), fu_n _ _ _ _ _ _ (by omega)]; exact t15
          · rw [fu_n _ _ _ _ _ _ (show ¬ (30 = 30 ∧ 22 = 20 ∧ 0 = 0 ∧ 0 = 0) by omega), fu_n _ _ _ _ _ _ (show ¬ (30 = 30 ∧ 22 = 64 ∧ 0 = 0 ∧ 0 = 0) by omega), fu_s, fu_n _ _ _ _ _ _ (show ¬ (30 = 30 ∧ 64 = 20 ∧ 0 = 0 ∧ 0 = 0) by omega), fu_s, jn_eta]
            unfold tkS
            rw [if_neg hsn, if_neg c1, if_neg c2]
            by_cases h59 : tx s = 59
            · rw [if_pos h59, h59]
              exact if_pos rfl
            · rw [if_neg h59]
              exact if_neg (fun q => h59 ((oN_eq (a := tx s) (b := 59) (by omega) (by omega)).mp q))
end MT2
