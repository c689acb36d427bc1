/-! PURE: a text, by the class -/
set_option maxRecDepth 100000
abbrev La : Type := Nat × (Nat → Nat)
def consA (a : La) : Nat ⊕ List La → Nat ⊕ List La
  | .inl f => .inl f
  | .inr ls => .inr (a :: ls)
def rnN (so : Nat) (t : Nat → Nat) (rn : Nat) : Nat := if so = 0 then t 0 else rn
def lyN (so : Nat) (t : Nat → Nat) (ly : Nat) : Nat := if so = 0 then t 1 else ly
/-- what follows a line; d more lines may come -/
def rsA (tx : Nat → Nat) (n : Nat) : Nat → Nat → Nat → Nat → Nat ⊕ List La
  | 0, q, _, _ => if n ≤ spS tx n q then .inr [] else .inl (spS tx n q)
  | d + 1, q, rn, ly => if n ≤ spS tx n q then .inr [] else if tkP tx n q = -3 then (match lnA tx n rn ly (nxS tx n q) with
      | .inl f => .inl f
      | .inr z => consA (z.1, z.2.1) (rsA tx n d z.2.2 (rnN z.1 z.2.1 rn) (lyN z.1 z.2.1 ly))) else .inl (spS tx n q)
/-- a line and what follows -/
def rlA (tx : Nat → Nat) (n d p rn ly : Nat) : Nat ⊕ List La := match lnA tx n rn ly p with
      | .inl f => .inl f
      | .inr z => consA (z.1, z.2.1) (rsA tx n d z.2.2 (rnN z.1 z.2.1 rn) (lyN z.1 z.2.1 ly))
/-- a line that may stand -/
def GLn (so : Nat) (t : Nat → Nat) (rn ly : Nat) : Prop := so < 15 ∧ (so ≠ 14 → ∀ j, j < cnS so → (bdS so rn ly j (fun _ => 0)).1 ≤ t j ∧ t j ≤ (bdS so rn ly j (fun _ => 0)).2) ∧ ∀ j, j < cnS so → t j < 1000
theorem bd_c {so rn ly k : Nat} (h : so ≠ 14) (h2 : so < 15) (h9 : so ≠ 9) (t t' : Nat → Nat) : bdS so rn ly k t = bdS so rn ly k t' := by
  have : so = 0 ∨ so = 1 ∨ so = 2 ∨ so = 3 ∨ so = 4 ∨ so = 5 ∨ so = 6 ∨ so = 7 ∨ so = 8 ∨ so = 10 ∨ so = 11 ∨ so = 12 ∨ so = 13 := by omega
  rcases this with h | h | h | h | h | h | h | h | h | h | h | h | h <;> subst h <;> rfl
section RD
variable {F G : St} {tx : Nat → Nat} {n rn ly : Nat}
theorem ns_b {bd : Nat → (Nat → Nat) → Nat × Nat} : ∀ m k t p z, p ≤ n → nsA tx n bd m k t p = .inr z → z.2 ≤ n ∧ (∀ j, j < k → z.1 j = t j) ∧ ∀ j, k ≤ j → j < k + m → (∃ t0, (bd j t0).1 ≤ z.1 j ∧ z.1 j ≤ (bd j t0).2) ∧ z.1 j < 1000
  | 0, k, t, p, z, hp, h => by
    have h : Sum.inr (t, p) = Sum.inr z := h
    injection h with h
    subst h
    exact ⟨hp, fun j _ => rfl, fun j a b => absurd b (by omega)⟩
  | m + 1, k, t, p, z, hp, h => by
    have hns : nsA tx n bd (m + 1) k t p = (match numA tx n p (bd k t).1 (bd k t).2 with
      | none => .inl (spS tx n p)
      | some v => nsA tx n bd m (k + 1) (upN t k v) (nxS tx n p)) := rfl
    rw [hns] at h
    cases hn : numA tx n p (bd k t).1 (bd k t).2 with
    | none => rw [hn] at h; exact nomatch h
    | some v =>
      rw [hn] at h
      obtain ⟨i1, i2, i3⟩ := ns_b m (k + 1) (upN t k v) (nxS tx n p) z (nx_le hp) h
      have hv := num_b hp hn
      have ek : z.1 k = v := by rw [i2 k (by omega)]; unfold upN; rw [if_pos rfl]
      refine ⟨i1, fun j hj => ?_, fun j a b => ?_⟩
      · rw [i2 j (by omega)]
        unfold upN
        rw [if_neg (by omega)]
      · by_cases hjk : j = k
        · subst hjk
          rw [ek]
          exact ⟨⟨t, hv.1, hv.2.1⟩, hv.2.2⟩
        · exact i3 j (by omega) (by omega)
theorem ln_b {p : Nat} {z : Nat × (Nat → Nat) × Nat} (hp : p ≤ n) (h : lnA tx n rn ly p = .inr z) : z.2.2 ≤ n ∧ GLn z.1 z.2.1 rn ly := by
  by_cases h15 : srtS (tkP tx n p) = 15
  · unfold lnA at h
    rw [if_pos h15] at h
    exact nomatch h
  · have hle := srt_le (tkP tx n p)
    rw [ln_w rfl h15] at h
    cases hn : nsA tx n (bdS (srtS (tkP tx n p)) rn ly) (cnS (srtS (tkP tx n p))) 0 (fun _ => 0) (nxS tx n p) with
    | inl f => rw [hn] at h; exact nomatch h
    | inr y =>
      rw [hn] at h
      have h : Sum.inr (srtS (tkP tx n p), y.1, y.2) = Sum.inr z := h
      injection h with h
      subst h
      obtain ⟨i1, -, i3⟩ := ns_b _ _ _ _ _ (nx_le hp) hn
      refine ⟨i1, by show srtS (tkP tx n p) < 15; omega, fun h14 j hj => ?_, fun j hj => (i3 j (by omega) (by rw [Nat.zero_add]; exact hj)).2⟩
      obtain ⟨⟨t0, a, b⟩, -⟩ := i3 j (by omega) (by rw [Nat.zero_add]; exact hj)
      have h14 : srtS (tkP tx n p) ≠ 14 := h14
      have h9 : srtS (tkP tx n p) ≠ 9 := fun q => by
        have hj : j < cnS (srtS (tkP tx n p)) := hj
        rw [q] at hj
        exact absurd hj (by show ¬ j < 0; omega)
      rw [bd_c h14 (by omega) h9 t0 (fun _ => 0)] at a b
      exact ⟨a, b⟩
theorem gl_rn {so : Nat} {t : Nat → Nat} (h : GLn so t rn ly) (hr : 1 ≤ rn ∧ rn ≤ 4) (hy : 1 ≤ ly ∧ ly ≤ 4) : (1 ≤ rnN so t rn ∧ rnN so t rn ≤ 4) ∧ (1 ≤ lyN so t ly ∧ lyN so t ly ≤ 4) := by
  unfold rnN lyN
  by_cases h0 : so = 0
  · subst h0
    rw [if_pos rfl, if_pos rfl]
    exact ⟨h.2.1 (by omega) 0 (by decide), h.2.1 (by omega) 1 (by decide)⟩
  · rw [if_neg h0, if_neg h0]
    exact ⟨hr, hy⟩
/-- lines that may stand one behind the other -/
def GLs : List La → Nat → Nat → Prop
  | [], _, _ => True
  | a :: ls, rn, ly => GLn a.1 a.2 rn ly ∧ GLs ls (rnN a.1 a.2 rn) (lyN a.1 a.2 ly)
theorem cons_r {a : La} {x : Nat ⊕ List La} {ls : List La} (h : consA a x = .inr ls) : ∃ l2, x = .inr l2 ∧ ls = a :: l2 := by
  cases x with
  | inl f => exact nomatch h
  | inr l2 =>
    have h : Sum.inr (a :: l2) = Sum.inr ls := h
    injection h with h
    exact ⟨l2, rfl, h.symm⟩
theorem cons_l {a : La} {x : Nat ⊕ List La} {f : Nat} (h : consA a x = .inl f) : x = .inl f := by
  cases x with
  | inl g =>
    exact h
  | inr l2 => exact nomatch h
theorem rs_b : ∀ d q rn ly ls, q ≤ n → rsA tx n d q rn ly = .inr ls → GLs ls rn ly ∧ ls.length ≤ d
  | 0, q, rn, ly, ls, hq, h => by
    have h : (if n ≤ spS tx n q then .inr [] else .inl (spS tx n q)) = Sum.inr ls := h
    by_cases c : n ≤ spS tx n q
    · rw [if_pos c] at h
      injection h with h
      subst h
      exact ⟨trivial, Nat.le_refl _⟩
    · rw [if_neg c] at h
      exact nomatch h
  | d + 1, q, rn, ly, ls, hq, h => by
    unfold rsA at h
    by_cases c : n ≤ spS tx n q
    · rw [if_pos c] at h
      injection h with h
      subst h
      exact ⟨trivial, Nat.zero_le _⟩
    · rw [if_neg c] at h
      by_cases c2 : tkP tx n q = -3
      · rw [if_pos c2] at h
        cases hl : lnA tx n rn ly (nxS tx n q) with
        | inl f => rw [hl] at h; exact nomatch h
        | inr z =>
          rw [hl] at h
          have h : consA (z.1, z.2.1) (rsA tx n d z.2.2 (rnN z.1 z.2.1 rn) (lyN z.1 z.2.1 ly)) = .inr ls := h
          obtain ⟨l2, h1, h2⟩ := cons_r h
          subst h2
          obtain ⟨b1, b2⟩ := ln_b (nx_le hq) hl
          have ih := rs_b d z.2.2 _ _ l2 b1 h1
          exact ⟨⟨b2, ih.1⟩, by rw [List.length_cons]; omega⟩
      · rw [if_neg c2] at h
        exact nomatch h
/-! the class -/
def pRow (F : St) (i : Nat) (ln : Ln) : St := fun k p y j => if k = 17 ∧ p = 0 ∧ y = 0 ∧ j = i then 1 else if k = 27 ∧ y = i ∧ j = 0 ∧ p = 2 then ln.1 else if k = 27 ∧ y = i ∧ j = 0 ∧ p = 3 then ln.2.1 else if k = 27 ∧ y = i ∧ j = 0 ∧ p = 5 then oN ln.2.2.1 else if k = 28 ∧ p = 0 ∧ y = i then ln.2.2.2 j else F k p y j
def lp_X4_read : Nat → St → Option (St × Option Unit)
  | 0, _ => none
  | m + 1, F => if F 0 20 0 0 ≤ F 16 3 0 0 then some (F, some ()) else ob2 (if (10 : Int32) ≤ F 16 1 0 0 then some (F, (0 : Int32)) else fn_X4_skips F 9) (fun F1 r => if r = 0 then some (F1, none) else og (vpb (F1 16 1 0 0) 10) (obT (fn_X4_line F1) (fun F2 ln => lp_X4_read m (fu (pRow F2 (F1 16 1 0 0).toNatClampNeg ln) 16 1 0 0 (F2 16 1 0 0 + 1)))))
theorem lp_X4_read_s {m : Nat} {F : St} : lp_X4_read (m + 1) F = if F 0 20 0 0 ≤ F 16 3 0 0 then some (F, some ()) else ob2 (if (10 : Int32) ≤ F 16 1 0 0 then some (F, (0 : Int32)) else fn_X4_skips F 9) (fun F1 r => if r = 0 then some (F1, none) else og (vpb (F1 16 1 0 0) 10) (obT (fn_X4_line F1) (fun F2 ln => lp_X4_read m (fu (pRow F2 (F1 16 1 0 0).toNatClampNeg ln) 16 1 0 0 (F2 16 1 0 0 + 1))))) := rfl
def fn_X4_read (F : St) : Option (St × Option Unit) :=
  pl (fu F 16 2 0 0 0) (fun F1 => pl (fu F1 16 1 0 0 0) (fun F2 => pl (fu F2 16 5 0 0 (F2 0 0 0 0)) (fun F3 => pl (fu F3 16 6 0 0 (F3 0 1 0 0)) (fun F4 => ob (fn_X4_token F4) (fun F5 => og (vpb (F5 16 1 0 0) 10) (obT (fn_X4_line F5) (fun F6 ln => lp_X4_read 300 (fu (pRow F6 (F5 16 1 0 0).toNatClampNeg ln) 16 1 0 0 (F6 16 1 0 0 + 1)))))))))
/-- line i of the class -/
def RC (F : St) (i so : Nat) (t : Nat → Nat) : Prop := F 27 2 i 0 = ccS so ∧ F 27 3 i 0 = ciS so ∧ F 27 5 i 0 = oN (cnS so) ∧ F 17 0 0 i = 1 ∧ ∀ j, j < cnS so → F 28 0 i j = oN (t j)
/-- only the reader's and lines from i on have changed -/
def Rk (i : Nat) (G H : St) : Prop := ∀ k p y j, k ≠ 16 → ¬ (k = 17 ∧ i ≤ j) → ¬ ((k = 27 ∨ k = 28) ∧ i ≤ y) → H k p y j = G k p y j
theorem Rk.tt {i : Nat} (h : Rk i G F) (ht : TX G tx n) : TX F tx n := by
  obtain ⟨h1, h2, h3, h4⟩ := ht
  exact ⟨h1, by rw [h 0 20 0 0 (by omega) (by omega) (by omega)]; exact h2, by rw [h 30 18 0 0 (by omega) (by omega) (by omega)]; exact h3, fun j hj => by rw [h 38 0 0 j (by omega) (by omega) (by omega), h 15 0 0 j (by omega) (by omega) (by omega)]; exact h4 j hj⟩
theorem Rk.tr {i : Nat} {H : St} (h : Rk i G F) (h2 : Rk (i + 1) F H) : Rk i G H := fun k p y j a b c => by rw [h2 k p y j a (by omega) (by omega), h k p y j a b c]
def RdP (G : St) (i : Nat) (x : Nat ⊕ List La) (r : St × Option Unit) : Prop := Rk i G r.1 ∧ (∀ f, x = .inl f → r.2 = none ∧ r.1 16 3 0 0 = oN f) ∧ ∀ ls, x = .inr ls → r.2 = some () ∧ r.1 16 1 0 0 = oN (i + ls.length) ∧ ∀ j a, ls[j]? = some a → RC r.1 (i + j) a.1 a.2
/-- one line put into its row -/
theorem row_c {i so : Nat} {t : Nat → Nat} {ti : Nat → Int32} {H : St} (h : Rdl G H) (h1 : G 16 1 0 0 = oN i) (hti : ∀ j, j < cnS so → ti j = oN (t j) ∧ t j < 1000) : Rk i G (fu (pRow H i (ccS so, ciS so, cnS so, ti)) 16 1 0 0 (H 16 1 0 0 + 1)) ∧ RC (fu (pRow H i (ccS so, ciS so, cnS so, ti)) 16 1 0 0 (H 16 1 0 0 + 1)) i so t ∧ fu (pRow H i (ccS so, ciS so, cnS so, ti)) 16 1 0 0 (H 16 1 0 0 + 1) 16 1 0 0 = oN (i + 1) ∧ ∀ p, p ≠ 1 → fu (pRow H i (ccS so, ciS so, cnS so, ti)) 16 1 0 0 (H 16 1 0 0 + 1) 16 p 0 0 = H 16 p 0 0 := by
  have hpr : ∀ k p y j, k ≠ 17 → k ≠ 27 → k ≠ 28 → pRow H i (ccS so, ciS so, cnS so, ti) k p y j = H k p y j := fun k p y j a b c => by
    unfold pRow
    rw [if_neg (by omega), if_neg (by omega), if_neg (by omega), if_neg (by omega), if_neg (by omega)]
  refine ⟨fun k p y j a b c => ?_, ⟨?_, ?_, ?_, ?_, fun j hj => ?_⟩, ?_, fun p hp => ?_⟩
  · rw [fu_n _ _ _ _ _ _ (by omega)]
    unfold pRow
    rw [if_neg (by omega), if_neg (by omega), if_neg (by omega), if_neg (by omega), if_neg (by omega)]
    exact h k p y j (by omega)
  · rw [fu_n _ _ _ _ _ _ (by omega)]
    unfold pRow
    rw [if_neg (by omega), if_pos ⟨rfl, rfl, rfl, rfl⟩]
  · rw [fu_n _ _ _ _ _ _ (by omega)]
    unfold pRow
    rw [if_neg (by omega), if_neg (by omega), if_pos ⟨rfl, rfl, rfl, rfl⟩]
  · rw [fu_n _ _ _ _ _ _ (by omega)]
    unfold pRow
    rw [if_neg (by omega), if_neg (by omega), if_neg (by omega), if_pos ⟨rfl, rfl, rfl, rfl⟩]
  · rw [fu_n _ _ _ _ _ _ (by omega)]
    unfold pRow
    rw [if_pos ⟨rfl, rfl, rfl, rfl⟩]
  · rw [fu_n _ _ _ _ _ _ (by omega)]
    unfold pRow
    rw [if_neg (by omega), if_neg (by omega), if_neg (by omega), if_neg (by omega), if_pos ⟨rfl, rfl, rfl⟩]
    exact (hti j hj).1
  · rw [fu_s, h 16 1 0 0 (by omega), h1, oN_1]
  · rw [fu_n _ _ _ _ _ _ (by omega), hpr 16 p 0 0 (by omega) (by omega) (by omega)]
/-- a line is read and put; then what follows -/
theorem c_put {i d p m : Nat} (ht : TX G tx n) (hl : LK tx n G p) (h1 : G 16 1 0 0 = oN i) (hi : i < 10) (h5 : G 16 5 0 0 = oN rn) (h6 : G 16 6 0 0 = oN ly) (hr : 1 ≤ rn ∧ rn ≤ 4) (hy : 1 ≤ ly ∧ ly ≤ 4)
    (ih : ∀ (K : St) q rn ly, TX K tx n → LK tx n K q → K 16 1 0 0 = oN (i + 1) → K 16 5 0 0 = oN rn → K 16 6 0 0 = oN ly → (1 ≤ rn ∧ rn ≤ 4) → (1 ≤ ly ∧ ly ≤ 4) → Ok (lp_X4_read m K) (RdP K (i + 1) (rsA tx n d q rn ly))) :
    Ok (og (vpb (G 16 1 0 0) 10) (obT (fn_X4_line G) (fun F2 ln => lp_X4_read m (fu (pRow F2 (G 16 1 0 0).toNatClampNeg ln) 16 1 0 0 (F2 16 1 0 0 + 1))))) (RdP G i (rlA tx n d p rn ly)) := by
  rw [h1, oN_n (show i < 2147483648 by omega)]
  refine ok_og (oN_vp hi (by omega)) (ok_obT (c_line ht hl h5 h6 hr hy) (fun F2 q => ?_) (fun F2 ln q => ?_))
  · obtain ⟨q0, q1, q2⟩ := q
    have q0 : Rdl G F2 := q0
    unfold rlA
    cases hn : lnA tx n rn ly p with
    | inr z =>
      obtain ⟨⟨ti, w, -⟩, -⟩ := q2 z hn
      exact nomatch w
    | inl f =>
      refine ⟨fun k p y j a b c => q0 k p y j (by omega), fun g z => ?_, fun ls z => (nomatch z)⟩
      have z : Sum.inl f = Sum.inl g := z
      injection z with z
      subst z
      exact ⟨rfl, (q1 f hn).2⟩
  · obtain ⟨q0, q1, q2⟩ := q
    have q0 : Rdl G F2 := q0
    unfold rlA
    cases hn : lnA tx n rn ly p with
    | inl f => exact absurd (q1 f hn).1 (fun z => nomatch z)
    | inr z =>
      obtain ⟨⟨ti, w, w2⟩, w3, w5, w6⟩ := q2 z hn
      have w : some ln = some (ccS z.1, ciS z.1, cnS z.1, ti) := w
      injection w with w
      subst w
      obtain ⟨b1, b2⟩ := ln_b hl.1 hn
      obtain ⟨g1, g2⟩ := gl_rn b2 hr hy
      obtain ⟨r1, r2, r3, r4⟩ := row_c (H := F2) (i := i) q0 h1 w2
      have w3 : LK tx n F2 z.2.2 := w3
      have w5 : F2 16 5 0 0 = _ := w5
      have w6 : F2 16 6 0 0 = _ := w6
      show Ok (lp_X4_read m _) (RdP G i (consA (z.1, z.2.1) (rsA tx n d z.2.2 (rnN z.1 z.2.1 rn) (lyN z.1 z.2.1 ly))))
      generalize fu (pRow F2 i (ccS z.1, ciS z.1, cnS z.1, ti)) 16 1 0 0 (F2 16 1 0 0 + 1) = K at *
      refine ok_mono (ih K z.2.2 (rnN z.1 z.2.1 rn) (lyN z.1 z.2.1 ly) (r1.tt ht) ⟨w3.1, by rw [r4 2 (by omega)]; exact w3.2.1, by rw [r4 3 (by omega)]; exact w3.2.2.1, by rw [r4 4 (by omega)]; exact w3.2.2.2⟩ r3 (by rw [r4 5 (by omega)]; exact w5) (by rw [r4 6 (by omega)]; exact w6) g1 g2) (fun r hr => ?_)
      obtain ⟨j1, j2, j3⟩ := hr
      refine ⟨r1.tr j1, fun f q => j2 f (cons_l q), fun ls q => ?_⟩
      obtain ⟨l2, e1, e2⟩ := cons_r q
      subst e2
      obtain ⟨k1, k2, k3⟩ := j3 l2 e1
      refine ⟨k1, by rw [k2, List.length_cons]; congr 1; omega, fun j a hj => ?_⟩
      cases j with
      | zero =>
        have hj : some (z.1, z.2.1) = some a := hj
        injection hj with hj
        subst hj
        obtain ⟨c1, c2, c3, c4, c5⟩ := r2
        have u : ∀ k p, k = 27 ∨ k = 28 → ∀ j, r.1 k p i j = K k p i j := fun k p hk j => j1 k p i j (by omega) (by omega) (by omega)
        refine ⟨?_, ?_, ?_, ?_, fun j hj => ?_⟩
        · rw [Nat.add_zero, u 27 2 (by omega)]; exact c1
        · rw [Nat.add_zero, u 27 3 (by omega)]; exact c2
        · rw [Nat.add_zero, u 27 5 (by omega)]; exact c3
        · rw [Nat.add_zero, j1 17 0 0 i (by omega) (by omega) (by omega)]; exact c4
        · rw [Nat.add_zero, u 28 0 (by omega)]; exact c5 j hj
      | succ j =>
        rw [List.getElem?_cons_succ] at hj
        have := k3 j a hj
        rw [show i + 1 + j = i + (j + 1) by omega] at this
        exact this
theorem c_rdlp : ∀ d m G i q rn ly, i + d = 10 → d < m → TX G tx n → LK tx n G q → G 16 1 0 0 = oN i → G 16 5 0 0 = oN rn → G 16 6 0 0 = oN ly → (1 ≤ rn ∧ rn ≤ 4) → (1 ≤ ly ∧ ly ≤ 4) → Ok (lp_X4_read m G) (RdP G i (rsA tx n d q rn ly)) := by
  intro d
  induction d with
  | zero =>
    intro m G i q rn ly hi hm ht hl h1 h5 h6 hr hy
    obtain ⟨m', rfl⟩ : ∃ m', m = m' + 1 := ⟨m - 1, by omega⟩
    have hs := sp_le (tx := tx) hl.1
    have h200 := ht.1
    rw [lp_X4_read_s, ht.2.1, hl.2.2.1, h1]
    unfold rsA
    by_cases c : n ≤ spS tx n q
    · rw [if_pos c]
      refine ok_itp (yle c (by omega)) (ok_some ⟨fun _ _ _ _ _ _ _ => rfl, fun f z => (nomatch z), fun ls z => ?_⟩)
      injection z with z
      subst z
      exact ⟨rfl, h1, fun j a hj => nomatch hj⟩
    · rw [if_neg c]
      refine ok_itn (nle (by omega) (by omega)) (ok_ob2 (ok_itp (yle (a := 10) (by omega) (by omega)) (ok_some (Q := fun r => r.1 = G ∧ r.2 = 0) ⟨rfl, rfl⟩)) (fun F1 r h => ok_itp h.2 (ok_some ?_)))
      have e : F1 = G := h.1
      subst e
      refine ⟨fun _ _ _ _ _ _ _ => rfl, fun f z => ?_, fun ls z => (nomatch z)⟩
      injection z with z
      subst z
      exact ⟨rfl, hl.2.2.1⟩
  | succ d ih =>
    intro m G i q rn ly hi hm ht hl h1 h5 h6 hr hy
    obtain ⟨m', rfl⟩ : ∃ m', m = m' + 1 := ⟨m - 1, by omega⟩
    have hs := sp_le (tx := tx) hl.1
    have h200 := ht.1
    rw [lp_X4_read_s, ht.2.1, hl.2.2.1, h1]
    unfold rsA
    by_cases c : n ≤ spS tx n q
    · rw [if_pos c]
      refine ok_itp (yle c (by omega)) (ok_some ⟨fun _ _ _ _ _ _ _ => rfl, fun f z => (nomatch z), fun ls z => ?_⟩)
      injection z with z
      subst z
      exact ⟨rfl, h1, fun j a hj => nomatch hj⟩
    · rw [if_neg c]
      refine ok_itn (nle (by omega) (by omega)) (ok_ob2 (ok_itn (nle (a := 10) (by omega) (by omega)) (c_skips ht (i := 9) (by omega) hl)) (fun F1 r h => ?_))
      have k9 : tkP tx n q = -3 ↔ isW tx n q 9 := tk_9 hl.1
      by_cases c2 : tkP tx n q = -3
      · rw [if_pos c2]
        obtain ⟨z1, z2, z3⟩ := h.1 (k9.mp c2)
        have z1 : r = 1 := z1
        subst z1
        have z2 : Rdo G F1 := z2
        refine ok_itn n10 ?_
        refine ok_mono (c_put (d := d) (z2.tt ht) z3 (by rw [z2 16 1 0 0 (by omega)]; exact h1) (by omega) (by rw [z2 16 5 0 0 (by omega)]; exact h5) (by rw [z2 16 6 0 0 (by omega)]; exact h6) hr hy (fun K q rn ly a1 a2 a3 a4 a5 a6 a7 => ih m' K (i + 1) q rn ly (by omega) (by omega) a1 a2 a3 a4 a5 a6 a7)) (fun r2 hr2 => ?_)
        obtain ⟨j1, j2⟩ := hr2
        exact ⟨fun k p y j a b c => by rw [j1 k p y j a b c]; exact z2 k p y j (by omega), j2⟩
      · rw [if_neg c2]
        obtain ⟨z1, z2⟩ := h.2 (fun z => c2 (k9.mpr z))
        have z1 : r = 0 := z1
        have z2 : F1 = G := z2
        subst z1
        subst z2
        refine ok_itp rfl (ok_some ⟨fun _ _ _ _ _ _ _ => rfl, fun f z => ?_, fun ls z => (nomatch z)⟩)
        injection z with z
        subst z
        exact ⟨rfl, hl.2.2.1⟩
theorem c_read (ht : TX G tx n) (h0 : G 0 0 0 0 = oN rn) (h1 : G 0 1 0 0 = oN ly) (hr : 1 ≤ rn ∧ rn ≤ 4) (hy : 1 ≤ ly ∧ ly ≤ 4) : Ok (fn_X4_read G) (RdP G 0 (rlA tx n 9 0 rn ly)) := by
  unfold fn_X4_read
  refine ok_pl (ok_pl (ok_pl (ok_pl ?_)))
  rw [fu_n (fu G 16 2 0 0 0) 16 1 0 0 0 (show ¬ (0 = 16 ∧ 0 = 1 ∧ 0 = 0 ∧ 0 = 0) by omega), fu_n G 16 2 0 0 0 (show ¬ (0 = 16 ∧ 0 = 2 ∧ 0 = 0 ∧ 0 = 0) by omega), h0]
  have e1 : fu (fu (fu G 16 2 0 0 0) 16 1 0 0 0) 16 5 0 0 (oN rn) 0 1 0 0 = oN ly := by
    rw [fu_n _ _ _ _ _ _ (by omega), fu_n _ _ _ _ _ _ (by omega), fu_n _ _ _ _ _ _ (by omega), h1]
  rw [e1]
  have u : ∀ k p y j, k ≠ 16 → fu (fu (fu (fu G 16 2 0 0 0) 16 1 0 0 0) 16 5 0 0 (oN rn)) 16 6 0 0 (oN ly) k p y j = G k p y j := fun k p y j a => by
    rw [fu_n _ _ _ _ _ _ (by omega), fu_n _ _ _ _ _ _ (by omega), fu_n _ _ _ _ _ _ (by omega), fu_n _ _ _ _ _ _ (by omega)]
  have u2 : fu (fu (fu (fu G 16 2 0 0 0) 16 1 0 0 0) 16 5 0 0 (oN rn)) 16 6 0 0 (oN ly) 16 2 0 0 = oN 0 := by
    rw [fu_n _ _ _ _ _ _ (by omega), fu_n _ _ _ _ _ _ (by omega), fu_n _ _ _ _ _ _ (by omega), fu_s]; rfl
  have u1 : fu (fu (fu (fu G 16 2 0 0 0) 16 1 0 0 0) 16 5 0 0 (oN rn)) 16 6 0 0 (oN ly) 16 1 0 0 = oN 0 := by
    rw [fu_n _ _ _ _ _ _ (by omega), fu_n _ _ _ _ _ _ (by omega), fu_s]; rfl
  have u5 : fu (fu (fu (fu G 16 2 0 0 0) 16 1 0 0 0) 16 5 0 0 (oN rn)) 16 6 0 0 (oN ly) 16 5 0 0 = oN rn := by
    rw [fu_n _ _ _ _ _ _ (by omega), fu_s]
  have u6 : fu (fu (fu (fu G 16 2 0 0 0) 16 1 0 0 0) 16 5 0 0 (oN rn)) 16 6 0 0 (oN ly) 16 6 0 0 = oN ly := fu_s _ _ _ _ _ _
  generalize fu (fu (fu (fu G 16 2 0 0 0) 16 1 0 0 0) 16 5 0 0 (oN rn)) 16 6 0 0 (oN ly) = F4 at *
  have k4 : Rk 0 G F4 := fun k p y j a _ _ => u k p y j a
  have t4 := k4.tt ht
  refine ok_ob (c_token t4 (Nat.zero_le _) u2) (fun F5 h5 => ?_)
  obtain ⟨z1, z2⟩ := h5
  refine ok_mono (c_put (d := 9) (i := 0) (z1.tt t4) z2 (by rw [z1 16 1 0 0 (by omega)]; exact u1) (by omega) (by rw [z1 16 5 0 0 (by omega)]; exact u5) (by rw [z1 16 6 0 0 (by omega)]; exact u6) hr hy (fun K q rn ly a1 a2 a3 a4 a5 a6 a7 => c_rdlp 9 300 K 1 q rn ly (by omega) (by omega) a1 a2 a3 a4 a5 a6 a7)) (fun r2 hr2 => ?_)
  obtain ⟨j1, j2⟩ := hr2
  exact ⟨fun k p y j a b c => by rw [j1 k p y j a b c, z1 k p y j (by omega)]; exact u k p y j a, j2⟩
end RD
