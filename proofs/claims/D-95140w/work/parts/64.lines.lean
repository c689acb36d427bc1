/-! PURE: a line, by the class -/
set_option maxRecDepth 100000
def upN {α : Type} (t : Nat → α) (k : Nat) (v : α) : Nat → α := fun j => if j = k then v else t j
/-- how many numbers a line of this sort tells, and their bounds -/
def cnS : Nat → Nat
  | 0 => 2 | 1 => 3 | 2 => 3 | 3 => 2 | 4 => 3 | 5 => 3 | 8 => 3 | 9 => 0 | 14 => 5 | _ => 1
def bdS (so rn ly k : Nat) (t : Nat → Nat) : Nat × Nat :=
  match so with
  | 0 => (1, 4)
  | 1 => (0, 99)
  | 2 => (0, 100)
  | 3 => (0, if k = 0 then 95 else 9)
  | 4 => (0, if k = 0 then rn - 1 else if k = 1 then ly - 1 else 50)
  | 5 => (0, if k = 0 then rn - 1 else if k = 1 then ly - 1 else 50)
  | 6 => (0, 20)
  | 7 => (0, 999)
  | 8 => (if k = 2 then 1 else 0, if k = 0 then 59 else if k = 1 then rn - 1 else 500)
  | 10 => (0, 10)
  | 11 => (0, 100)
  | 12 => (1, 20)
  | 13 => (1, 60)
  | _ => (if k = 1 ∨ k = 3 then t (k - 1) else 0, 999)
def nsA (tx : Nat → Nat) (n : Nat) (bd : Nat → (Nat → Nat) → Nat × Nat) : Nat → Nat → (Nat → Nat) → Nat → Nat ⊕ ((Nat → Nat) × Nat)
  | 0, _, t, p => .inr (t, p)
  | m + 1, k, t, p => match numA tx n p (bd k t).1 (bd k t).2 with
    | none => .inl (spS tx n p)
    | some v => nsA tx n bd m (k + 1) (upN t k v) (nxS tx n p)
def srtS (c : Int64) : Nat := if c = 1597 then 0 else if c = 10506516 then 1 else if c = 355568 then 2 else if c = 6683990 then 3 else if c = 10334396 then 4 else if c = 10811306 then 5 else if c = 380651 then 6 else if c = 13703 then 7 else if c = 326448 then 8 else if c = 10497936 then 9 else if c = 262776 then 10 else if c = 453937 then 11 else if c = 4075480 then 12 else if c = 10808470 then 13 else if c = 1753022 then 14 else 15
def tkP (tx : Nat → Nat) (n p : Nat) : Int64 := tkS tx n (spS tx n p) (enS tx n (spS tx n p))
def lnA (tx : Nat → Nat) (n rn ly p : Nat) : Nat ⊕ (Nat × (Nat → Nat) × Nat) :=
  if srtS (tkP tx n p) = 15 then .inl (spS tx n p) else match nsA tx n (bdS (srtS (tkP tx n p)) rn ly) (cnS (srtS (tkP tx n p))) 0 (fun _ => 0) (nxS tx n p) with
    | .inl f => .inl f
    | .inr r => .inr (srtS (tkP tx n p), r.1, r.2)
theorem num_b {tx : Nat → Nat} {n p lo hi v : Nat} (hp : p ≤ n) (h : numA tx n p lo hi = some v) : lo ≤ v ∧ v ≤ hi ∧ v < 1000 := by
  unfold numA at h
  by_cases c : spS tx n p < n ∧ kdS (tx (spS tx n p)) = 2 ∧ enS tx n (spS tx n p) - spS tx n p ≤ 3 ∧ lo ≤ nvS tx (spS tx n p) (enS tx n (spS tx n p) - spS tx n p) ∧ nvS tx (spS tx n p) (enS tx n (spS tx n p) - spS tx n p) ≤ hi
  · rw [if_pos c] at h
    injection h with h
    obtain ⟨c0, c1, c2, c3, c4⟩ := c
    have hs := sp_le (tx := tx) hp
    have he := en_le (tx := tx) hs.2
    have hall : ∀ j, spS tx n p ≤ j → j < enS tx n (spS tx n p) → 48 ≤ tx j ∧ tx j ≤ 57 := fun j a b => kd_2.mp (by rw [en_kd (by omega) (by omega) j a b]; exact c1)
    have hv := nv_lt hall (enS tx n (spS tx n p) - spS tx n p) (by omega)
    have h10 : 10 ^ (enS tx n (spS tx n p) - spS tx n p) ≤ 10 ^ 3 := Nat.pow_le_pow_right (by omega) c2
    have h10b : (10 : Nat) ^ 3 = 1000 := by decide
    omega
  · rw [if_neg c] at h
    exact nomatch h
/-! the class' -/
def obT {α β : Type} (o : Option (St × Option α)) (f : St → α → Option (St × Option β)) : Option (St × Option β) :=
  match o with
  | none => none
  | some (F, none) => some (F, none)
  | some (F, some v) => f F v
theorem ok_obT {α β : Type} {o : Option (St × Option α)} {f : St → α → Option (St × Option β)} {P : St × Option α → Prop} {Q : St × Option β → Prop} (h : Ok o P) (h1 : ∀ F, P (F, none) → Q (F, none)) (h2 : ∀ F v, P (F, some v) → Ok (f F v) Q) : Ok (obT o f) Q := by
  obtain ⟨⟨F, y⟩, rfl, hr⟩ := h
  cases y with
  | none => exact ok_some (h1 F hr)
  | some v => exact h2 F v hr
abbrev BdI : Type := Nat → St → (Nat → Int32) → Int32 × Int32
def rdN (bd : BdI) : Nat → Nat → St → (Nat → Int32) → Option (St × Option (Nat → Int32))
  | 0, _, F, t => some (F, some t)
  | m + 1, k, F, t => obT (fn_X4_number F (bd k F t).1 (bd k F t).2) (fun F1 v => rdN bd m (k + 1) F1 (upN t k v))
/-- a line: its class, its int, how many it tells, what it tells -/
abbrev Ln : Type := Int32 × Int32 × Nat × (Nat → Int32)
def lnR (c i : Int32) (m : Nat) (bd : BdI) (F : St) : Option (St × Option Ln) := obT (rdN bd m 0 F (fun _ => 0)) (fun F1 t => some (F1, some (c, i, m, t)))
def skw (i : Nat) (F : St) (yes no : St → Option (St × Option Ln)) : Option (St × Option Ln) := ob2 (fn_X4_skips F i) (fun F1 r => if r = 0 then no F1 else yes F1)
def fn_X4_ofBed (F : St) : Option (St × Option Ln) := obT (rdN (fun _ _ _ => (1, 4)) 2 0 F (fun _ => 0)) (fun F1 t => some (fu (fu F1 16 5 0 0 (t 0)) 16 6 0 0 (t 1), some (11, 0, 2, t)))
def fn_X4_ofCell (i : Int32) : St → Option (St × Option Ln) := lnR 13 i 3 (fun k F _ => (0, if k = 0 then F 16 5 0 0 - 1 else if k = 1 then F 16 6 0 0 - 1 else 50))
def fn_X4_ofPour : St → Option (St × Option Ln) := lnR 14 0 3 (fun k F _ => (if k = 2 then 1 else 0, if k = 0 then 59 else if k = 1 then F 16 5 0 0 - 1 else 500))
def fn_X4_ofChart : St → Option (St × Option Ln) := lnR 12 3 5 (fun k _ t => (if k = 1 ∨ k = 3 then t (k - 1) else 0, 999))
def lstI : List Int32 := [0, 0, 0, 0, 1, 1]
def mstI : List Int32 := [20, 999, 10, 100, 20, 60]
def fn_X4_lineO (F : St) : Option (St × Option Ln) := ob2 (fn_X4_one_16_t6 F) (fun F1 w => if w = (-1 : Int32) then some (F1, none) else og (vpb w 6) (lnR 15 w 1 (fun _ _ _ => (lstI.getD w.toNatClampNeg 0, mstI.getD w.toNatClampNeg 0)) F1))
def fn_X4_line (F : St) : Option (St × Option Ln) :=
  skw 0 F fn_X4_ofBed (fun F => skw 1 F (lnR 12 0 3 (fun _ _ _ => (0, 99))) (fun F => skw 2 F (lnR 12 1 3 (fun _ _ _ => (0, 100))) (fun F => skw 3 F (lnR 12 2 2 (fun k _ _ => (0, if k = 0 then 95 else 9))) (fun F => skw 4 F (fn_X4_ofCell 1) (fun F => skw 5 F (fn_X4_ofCell (-1)) (fun F => skw 6 F fn_X4_ofPour (fun F => skw 7 F (lnR 14 0 0 (fun _ _ _ => (0, 0))) (fun F => skw 8 F fn_X4_ofChart fn_X4_lineO))))))))
section LC
variable {F G : St} {tx : Nat → Nat} {n rn ly : Nat}
theorem Rdo.tr {H : St} (h : Rdo G F) (h2 : Rdo F H) : Rdo G H := fun k p y j a => by rw [h2 k p y j a, h k p y j a]
theorem Rdo.rf : Rdo G G := fun _ _ _ _ _ => rfl
theorem c_rdN {bdI : BdI} {bd : Nat → (Nat → Nat) → Nat × Nat} {K : Nat} (hb : ∀ k H ti t, k < K → Rdo G H → (∀ j, j < k → ti j = oN (t j) ∧ t j < 1000) → bdI k H ti = (oN (bd k t).1, oN (bd k t).2) ∧ (bd k t).1 < 2147483648 ∧ (bd k t).2 < 2147483648) (ht : TX G tx n) : ∀ m k H ti t p, k + m = K → Rdo G H → LK tx n H p → (∀ j, j < k → ti j = oN (t j) ∧ t j < 1000) → Ok (rdN bdI m k H ti) (fun r => Rdo G r.1 ∧ (∀ f, nsA tx n bd m k t p = .inl f → r.2 = none ∧ r.1 16 3 0 0 = oN f) ∧ (∀ z, nsA tx n bd m k t p = .inr z → (∃ ti', r.2 = some ti' ∧ ∀ j, j < K → ti' j = oN (z.1 j) ∧ z.1 j < 1000) ∧ LK tx n r.1 z.2))
  | 0, k, H, ti, t, p, hk, h1, h2, h3 => ok_some ⟨h1, fun f q => (nomatch q), fun z q => by
      have q : Sum.inr (t, p) = Sum.inr z := q
      injection q with q
      subst q
      exact ⟨⟨ti, rfl, fun j hj => h3 j (by omega)⟩, h2⟩⟩
  | m + 1, k, H, ti, t, p, hk, h1, h2, h3 => by
    obtain ⟨b1, b2, b3⟩ := hb k H ti t (by omega) h1 h3
    show Ok (obT (fn_X4_number H (bdI k H ti).1 (bdI k H ti).2) (fun F1 v => rdN bdI m (k + 1) F1 (upN ti k v))) _
    rw [b1]
    have hns : nsA tx n bd (m + 1) k t p = (match numA tx n p (bd k t).1 (bd k t).2 with
      | none => .inl (spS tx n p)
      | some v => nsA tx n bd m (k + 1) (upN t k v) (nxS tx n p)) := rfl
    rw [hns]
    refine ok_obT (c_number (h1.tt ht) h2 b2 b3) (fun F1 q => ?_) (fun F1 v q => ?_)
    · cases hn : numA tx n p (bd k t).1 (bd k t).2 with
      | some v => exact absurd (q.1 v hn).1 (fun z => nomatch z)
      | none =>
        have e : F1 = H := (q.2 hn).2
        subst e
        refine ⟨h1, fun f z => ?_, fun z y => (nomatch y)⟩
        have z : Sum.inl (spS tx n p) = Sum.inl f := z
        injection z with z
        subst z
        exact ⟨rfl, h2.2.2.1⟩
    · cases hn : numA tx n p (bd k t).1 (bd k t).2 with
      | none => exact absurd (q.2 hn).1 (fun z => nomatch z)
      | some v' =>
        obtain ⟨q1, q2, q3⟩ := q.1 v' hn
        have q1 : some v = some (oN v') := q1
        injection q1 with q1
        subst q1
        exact c_rdN hb ht m (k + 1) F1 _ (upN t k v') _ (by omega) (h1.tr q2) q3 (fun j hj => by
          unfold upN
          by_cases hjk : j = k
          · rw [if_pos hjk, if_pos hjk]
            exact ⟨rfl, (num_b h2.1 hn).2.2⟩
          · rw [if_neg hjk, if_neg hjk]
            exact h3 j (by omega))
/-- the class' sort of line, its int -/
def ccS : Nat → Int32
  | 0 => 11 | 1 => 12 | 2 => 12 | 3 => 12 | 4 => 13 | 5 => 13 | 8 => 14 | 9 => 14 | 14 => 12 | _ => 15
def ciS : Nat → Int32
  | 2 => 1 | 3 => 2 | 4 => 1 | 5 => -1 | 7 => 1 | 10 => 2 | 11 => 3 | 12 => 4 | 13 => 5 | 14 => 3 | _ => 0
/-- of the class only the reader's have changed -/
def Rdl (G H : St) : Prop := ∀ k p y j, ¬ (k = 16 ∧ 2 ≤ p) → H k p y j = G k p y j
theorem Rdo.l (h : Rdo G F) : Rdl G F := fun k p y j a => h k p y j (by omega)
/-- what the class' line does, by what was read -/
def LnC (tx : Nat → Nat) (n rn ly : Nat) (G : St) (x : Nat ⊕ (Nat × (Nat → Nat) × Nat)) (r : St × Option Ln) : Prop := Rdl G r.1 ∧ (∀ f, x = .inl f → r.2 = none ∧ r.1 16 3 0 0 = oN f) ∧ ∀ z, x = .inr z → (∃ ti, r.2 = some (ccS z.1, ciS z.1, cnS z.1, ti) ∧ ∀ j, j < cnS z.1 → ti j = oN (z.2.1 j) ∧ z.2.1 j < 1000) ∧ LK tx n r.1 z.2.2 ∧ r.1 16 5 0 0 = oN (if z.1 = 0 then z.2.1 0 else rn) ∧ r.1 16 6 0 0 = oN (if z.1 = 0 then z.2.1 1 else ly)
theorem ln_e {tx : Nat → Nat} {n rn ly p so : Nat} (h : srtS (tkP tx n p) = so) (hso : so ≠ 15) : lnA tx n rn ly p = match nsA tx n (bdS so rn ly) (cnS so) 0 (fun _ => 0) (nxS tx n p) with
    | .inl f => .inl f
    | .inr r => .inr (so, r.1, r.2) := by
  unfold lnA
  rw [h, if_neg hso]
theorem c_lnR {c i : Int32} {m p so : Nat} {bdI : BdI} {H : St} (ht : TX G tx n) (hG : Rdo G H) (hl : LK tx n H (nxS tx n p)) (h5 : G 16 5 0 0 = oN rn) (h6 : G 16 6 0 0 = oN ly) (hs : srtS (tkP tx n p) = so) (hso : so ≠ 15) (h0 : so ≠ 0) (ec : ccS so = c) (ei : ciS so = i) (em : cnS so = m)
    (hb : ∀ k K ti t, k < m → Rdo G K → (∀ j, j < k → ti j = oN (t j) ∧ t j < 1000) → bdI k K ti = (oN (bdS so rn ly k t).1, oN (bdS so rn ly k t).2) ∧ (bdS so rn ly k t).1 < 2147483648 ∧ (bdS so rn ly k t).2 < 2147483648) : Ok (lnR c i m bdI H) (LnC tx n rn ly G (lnA tx n rn ly p)) := by
  rw [ln_e hs hso, em]
  unfold lnR
  refine ok_obT (c_rdN hb ht m 0 H (fun _ => 0) (fun _ => 0) _ (by omega) hG hl (fun j hj => absurd hj (by omega))) (fun F1 q => ?_) (fun F1 v q => ok_some ?_)
  · obtain ⟨q0, q1, q2⟩ := q
    have q0 : Rdo G F1 := q0
    cases hn : nsA tx n (bdS so rn ly) m 0 (fun _ => 0) (nxS tx n p) with
    | inl f =>
      refine ⟨q0.l, fun f2 z => ?_, fun z y => (nomatch y)⟩
      have z : Sum.inl f = Sum.inl f2 := z
      injection z with z
      subst z
      exact ⟨rfl, (q1 f hn).2⟩
    | inr z =>
      obtain ⟨⟨ti, w, -⟩, -⟩ := q2 z hn
      exact nomatch w
  · obtain ⟨q0, q1, q2⟩ := q
    have q0 : Rdo G F1 := q0
    cases hn : nsA tx n (bdS so rn ly) m 0 (fun _ => 0) (nxS tx n p) with
    | inl f => exact absurd (q1 f hn).1 (fun z => nomatch z)
    | inr z =>
      obtain ⟨⟨ti, w, w2⟩, w3⟩ := q2 z hn
      have w : some v = some ti := w
      injection w with w
      subst w
      refine ⟨q0.l, fun f2 y => (nomatch y), fun y e => ?_⟩
      have e : Sum.inr (so, z.1, z.2) = Sum.inr y := e
      injection e with e
      subst e
      refine ⟨⟨v, ?_, fun j hj => w2 j (by rw [← em]; exact hj)⟩, w3, ?_, ?_⟩
      · show some (c, i, m, v) = some (ccS so, ciS so, cnS so, v)
        rw [ec, ei, em]
      · show F1 16 5 0 0 = oN (if so = 0 then z.1 0 else rn)
        rw [if_neg h0, q0 16 5 0 0 (by omega), h5]
      · show F1 16 6 0 0 = oN (if so = 0 then z.1 1 else ly)
        rw [if_neg h0, q0 16 6 0 0 (by omega), h6]
theorem c_ofBed {p : Nat} {H : St} (ht : TX G tx n) (hG : Rdo G H) (hl : LK tx n H (nxS tx n p)) (hs : srtS (tkP tx n p) = 0) : Ok (fn_X4_ofBed H) (LnC tx n rn ly G (lnA tx n rn ly p)) := by
  rw [ln_e hs (by omega)]
  unfold fn_X4_ofBed
  refine ok_obT (c_rdN (K := 2) (bd := bdS 0 rn ly) (fun k K ti t _ _ _ => ⟨rfl, by show 1 < 2147483648; omega, by show 4 < 2147483648; omega⟩) ht 2 0 H (fun _ => 0) (fun _ => 0) _ (by omega) hG hl (fun j hj => absurd hj (by omega))) (fun F1 q => ?_) (fun F1 v q => ok_some ?_)
  · obtain ⟨q0, q1, q2⟩ := q
    have q0 : Rdo G F1 := q0
    have e2 : cnS 0 = 2 := rfl
    rw [e2]
    cases hn : nsA tx n (bdS 0 rn ly) 2 0 (fun _ => 0) (nxS tx n p) with
    | inl f =>
      refine ⟨q0.l, fun f2 z => ?_, fun z y => (nomatch y)⟩
      have z : Sum.inl f = Sum.inl f2 := z
      injection z with z
      subst z
      exact ⟨rfl, (q1 f hn).2⟩
    | inr z =>
      obtain ⟨⟨ti, w, -⟩, -⟩ := q2 z hn
      exact nomatch w
  · obtain ⟨q0, q1, q2⟩ := q
    have q0 : Rdo G F1 := q0
    have e2 : cnS 0 = 2 := rfl
    rw [e2]
    cases hn : nsA tx n (bdS 0 rn ly) 2 0 (fun _ => 0) (nxS tx n p) with
    | inl f => exact absurd (q1 f hn).1 (fun z => nomatch z)
    | inr z =>
      obtain ⟨⟨ti, w, w2⟩, w3⟩ := q2 z hn
      have w : some v = some ti := w
      injection w with w
      subst w
      refine ⟨fun k p y j a => ?_, fun f2 y => (nomatch y), fun y e => ?_⟩
      · show fu (fu F1 16 5 0 0 (v 0)) 16 6 0 0 (v 1) k p y j = G k p y j
        rw [fu_n _ _ _ _ _ _ (by omega), fu_n _ _ _ _ _ _ (by omega)]
        exact q0.l k p y j a
      · have e : Sum.inr (0, z.1, z.2) = Sum.inr y := e
        injection e with e
        subst e
        refine ⟨⟨v, rfl, fun j hj => w2 j hj⟩, ?_, ?_, ?_⟩
        · obtain ⟨a1, a2, a3, a4⟩ := w3
          refine ⟨a1, ?_, ?_, ?_⟩
          · show fu (fu F1 16 5 0 0 (v 0)) 16 6 0 0 (v 1) 16 2 0 0 = _
            rw [fu_n _ _ _ _ _ _ (by omega), fu_n _ _ _ _ _ _ (by omega)]; exact a2
          · show fu (fu F1 16 5 0 0 (v 0)) 16 6 0 0 (v 1) 16 3 0 0 = _
            rw [fu_n _ _ _ _ _ _ (by omega), fu_n _ _ _ _ _ _ (by omega)]; exact a3
          · show fu (fu F1 16 5 0 0 (v 0)) 16 6 0 0 (v 1) 16 4 0 0 = _
            rw [fu_n _ _ _ _ _ _ (by omega), fu_n _ _ _ _ _ _ (by omega)]; exact a4
        · show fu (fu F1 16 5 0 0 (v 0)) 16 6 0 0 (v 1) 16 5 0 0 = oN (if 0 = 0 then z.1 0 else rn)
          rw [if_pos rfl, fu_n _ _ _ _ _ _ (by omega), fu_s]
          exact (w2 0 (by omega)).1
        · show fu (fu F1 16 5 0 0 (v 0)) 16 6 0 0 (v 1) 16 6 0 0 = oN (if 0 = 0 then z.1 1 else ly)
          rw [if_pos rfl, fu_s]
          exact (w2 1 (by omega)).1
end LC
