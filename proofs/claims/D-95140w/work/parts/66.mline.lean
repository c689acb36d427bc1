/-! PURE: a line, by the model -/
set_option maxRecDepth 100000
def aS (c : Int64) : Int32 := if c = 1597 then (0 : Int32) else if c = 10506516 then (1 : Int32) else if c = 355568 then (2 : Int32) else if c = 6683990 then (3 : Int32) else if c = 10334396 then (4 : Int32) else if c = 10811306 then (5 : Int32) else if c = 380651 then (6 : Int32) else if c = 13703 then (7 : Int32) else (-1 : Int32)
def bS (c : Int64) : Int32 := if c = 326448 then (8 : Int32) else if c = 10497936 then (9 : Int32) else if c = 262776 then (10 : Int32) else if c = 453937 then (11 : Int32) else if c = 4075480 then (12 : Int32) else if c = 10808470 then (13 : Int32) else if c = 1753022 then (14 : Int32) else (-1 : Int32)
theorem aS_e (c : Int64) : (if (lg_cmp c (1597 : Int64)) = 0 then some (0 : Int32) else if (lg_cmp c (10506516 : Int64)) = 0 then some (1 : Int32) else if (lg_cmp c (355568 : Int64)) = 0 then some (2 : Int32) else if (lg_cmp c (6683990 : Int64)) = 0 then some (3 : Int32) else if (lg_cmp c (10334396 : Int64)) = 0 then some (4 : Int32) else if (lg_cmp c (10811306 : Int64)) = 0 then some (5 : Int32) else if (lg_cmp c (380651 : Int64)) = 0 then some (6 : Int32) else if (lg_cmp c (13703 : Int64)) = 0 then some (7 : Int32) else some (-1 : Int32)) = some (aS c) := by
  simp only [lg_cmp_eq]
  unfold aS
  by_cases h0 : c = 1597
  · rw [if_pos h0, if_pos h0]
  rw [if_neg h0, if_neg h0]
  by_cases h1 : c = 10506516
  · rw [if_pos h1, if_pos h1]
  rw [if_neg h1, if_neg h1]
  by_cases h2 : c = 355568
  · rw [if_pos h2, if_pos h2]
  rw [if_neg h2, if_neg h2]
  by_cases h3 : c = 6683990
  · rw [if_pos h3, if_pos h3]
  rw [if_neg h3, if_neg h3]
  by_cases h4 : c = 10334396
  · rw [if_pos h4, if_pos h4]
  rw [if_neg h4, if_neg h4]
  by_cases h5 : c = 10811306
  · rw [if_pos h5, if_pos h5]
  rw [if_neg h5, if_neg h5]
  by_cases h6 : c = 380651
  · rw [if_pos h6, if_pos h6]
  rw [if_neg h6, if_neg h6]
  by_cases h7 : c = 13703
  · rw [if_pos h7, if_pos h7]
  rw [if_neg h7, if_neg h7]
theorem bS_e (c : Int64) : (if (lg_cmp c (326448 : Int64)) = 0 then some (8 : Int32) else if (lg_cmp c (10497936 : Int64)) = 0 then some (9 : Int32) else if (lg_cmp c (262776 : Int64)) = 0 then some (10 : Int32) else if (lg_cmp c (453937 : Int64)) = 0 then some (11 : Int32) else if (lg_cmp c (4075480 : Int64)) = 0 then some (12 : Int32) else if (lg_cmp c (10808470 : Int64)) = 0 then some (13 : Int32) else if (lg_cmp c (1753022 : Int64)) = 0 then some (14 : Int32) else some (-1 : Int32)) = some (bS c) := by
  simp only [lg_cmp_eq]
  unfold bS
  by_cases h0 : c = 326448
  · rw [if_pos h0, if_pos h0]
  rw [if_neg h0, if_neg h0]
  by_cases h1 : c = 10497936
  · rw [if_pos h1, if_pos h1]
  rw [if_neg h1, if_neg h1]
  by_cases h2 : c = 262776
  · rw [if_pos h2, if_pos h2]
  rw [if_neg h2, if_neg h2]
  by_cases h3 : c = 453937
  · rw [if_pos h3, if_pos h3]
  rw [if_neg h3, if_neg h3]
  by_cases h4 : c = 4075480
  · rw [if_pos h4, if_pos h4]
  rw [if_neg h4, if_neg h4]
  by_cases h5 : c = 10808470
  · rw [if_pos h5, if_pos h5]
  rw [if_neg h5, if_neg h5]
  by_cases h6 : c = 1753022
  · rw [if_pos h6, if_pos h6]
  rw [if_neg h6, if_neg h6]
def vS (c : Int64) : Int32 := if srtS c = 15 then -1 else oN (srtS c)
theorem vS_e (c : Int64) : (if aS c = (-1 : Int32) then some (bS c) else some (aS c)) = some (vS c) := by
  by_cases h0 : c = 1597
  · subst h0; decide
  by_cases h1 : c = 10506516
  · subst h1; decide
  by_cases h2 : c = 355568
  · subst h2; decide
  by_cases h3 : c = 6683990
  · subst h3; decide
  by_cases h4 : c = 10334396
  · subst h4; decide
  by_cases h5 : c = 10811306
  · subst h5; decide
  by_cases h6 : c = 380651
  · subst h6; decide
  by_cases h7 : c = 13703
  · subst h7; decide
  by_cases h8 : c = 326448
  · subst h8; decide
  by_cases h9 : c = 10497936
  · subst h9; decide
  by_cases h10 : c = 262776
  · subst h10; decide
  by_cases h11 : c = 453937
  · subst h11; decide
  by_cases h12 : c = 4075480
  · subst h12; decide
  by_cases h13 : c = 10808470
  · subst h13; decide
  by_cases h14 : c = 1753022
  · subst h14; decide
  have ha : aS c = -1 := by unfold aS; rw [if_neg h0, if_neg h1, if_neg h2, if_neg h3, if_neg h4, if_neg h5, if_neg h6, if_neg h7]
  have hb : bS c = -1 := by unfold bS; rw [if_neg h8, if_neg h9, if_neg h10, if_neg h11, if_neg h12, if_neg h13, if_neg h14]
  have hs : srtS c = 15 := by unfold srtS; rw [if_neg h0, if_neg h1, if_neg h2, if_neg h3, if_neg h4, if_neg h5, if_neg h6, if_neg h7, if_neg h8, if_neg h9, if_neg h10, if_neg h11, if_neg h12, if_neg h13, if_neg h14]
  unfold vS
  rw [ha, hb, hs]
  rfl
theorem srt_le (c : Int64) : srtS c ≤ 15 := by
  unfold srtS
  by_cases h0 : c = 1597
  · rw [if_pos h0]; omega
  rw [if_neg h0]
  by_cases h1 : c = 10506516
  · rw [if_pos h1]; omega
  rw [if_neg h1]
  by_cases h2 : c = 355568
  · rw [if_pos h2]; omega
  rw [if_neg h2]
  by_cases h3 : c = 6683990
  · rw [if_pos h3]; omega
  rw [if_neg h3]
  by_cases h4 : c = 10334396
  · rw [if_pos h4]; omega
  rw [if_neg h4]
  by_cases h5 : c = 10811306
  · rw [if_pos h5]; omega
  rw [if_neg h5]
  by_cases h6 : c = 380651
  · rw [if_pos h6]; omega
  rw [if_neg h6]
  by_cases h7 : c = 13703
  · rw [if_pos h7]; omega
  rw [if_neg h7]
  by_cases h8 : c = 326448
  · rw [if_pos h8]; omega
  rw [if_neg h8]
  by_cases h9 : c = 10497936
  · rw [if_pos h9]; omega
  rw [if_neg h9]
  by_cases h10 : c = 262776
  · rw [if_pos h10]; omega
  rw [if_neg h10]
  by_cases h11 : c = 453937
  · rw [if_pos h11]; omega
  rw [if_neg h11]
  by_cases h12 : c = 4075480
  · rw [if_pos h12]; omega
  rw [if_neg h12]
  by_cases h13 : c = 10808470
  · rw [if_pos h13]; omega
  rw [if_neg h13]
  by_cases h14 : c = 1753022
  · rw [if_pos h14]; omega
  rw [if_neg h14]
  omega
section ML
variable {F G : St} {tx : Nat → Nat} {n rn ly w : Nat}
/-- of the model only the reader's have changed, read from w on -/
def Mvl (G H : St) (w : Nat) : Prop := ∀ k p y j, ¬ (k = 30 ∧ 20 ≤ p ∧ p ≠ 26) → ¬ (k = 39 ∧ w ≤ j ∧ j < w + 6) → H k p y j = G k p y j
theorem Mw.v {H : St} (h : Mw G H w) : Mvl G H w := fun k p y j a b => h k p y j (by omega) b
def LnM (n rn ly : Nat) (G : St) (w : Nat) (x : Nat ⊕ (Nat × (Nat → Nat) × Nat)) (r : St × Int32) : Prop := (r.2 = 0 ∨ r.2 = 1) ∧ Mvl G r.1 w ∧ (∀ f, x = .inl f → r.2 = 0 ∧ r.1 30 25 0 0 = oN f) ∧ ∀ z, x = .inr z → r.2 = 1 ∧ r.1 39 0 0 w = oN z.1 ∧ (∀ j, j < cnS z.1 → r.1 39 0 0 (w + 1 + j) = oN (z.2.1 j)) ∧ (r.1 30 20 0 0 = oN z.2.2 ∧ z.2.2 ≤ n) ∧ r.1 30 28 0 0 = oN (if z.1 = 0 then z.2.1 0 else rn) ∧ r.1 30 29 0 0 = oN (if z.1 = 0 then z.2.1 1 else ly)
def lnW (so : Nat) (x : Nat ⊕ ((Nat → Nat) × Nat)) : Nat ⊕ (Nat × (Nat → Nat) × Nat) :=
  match x with
  | .inl f => .inl f
  | .inr r => .inr (so, r.1, r.2)
def MI (n : Nat) (G : St) (w so : Nat) (H : St) (k : Nat) (t : Nat → Nat) (p : Nat) : Prop := Mw G H w ∧ H 39 0 0 w = oN so ∧ (∀ j, j < k → H 39 0 0 (w + 1 + j) = oN (t j) ∧ t j < 1000) ∧ H 30 20 0 0 = oN p ∧ p ≤ n
theorem LnM.no {f so : Nat} (hf : Mw G F w) (h : F 30 25 0 0 = oN f) : LnM n rn ly G w (lnW so (.inl f)) (F, 0) := by
  refine ⟨Or.inl rfl, hf.v, fun g q => ?_, fun z q => (nomatch q)⟩
  have q : Sum.inl f = Sum.inl g := q
  injection q with q
  subst q
  exact ⟨rfl, h⟩
theorem m_fin {so p : Nat} {H : St} {t : Nat → Nat} (h0 : so ≠ 0) (h28 : G 30 28 0 0 = oN rn) (h29 : G 30 29 0 0 = oN ly) (hI : MI n G w so H (cnS so) t p) : LnM n rn ly G w (lnW so (.inr (t, p))) (H, 1) := by
  obtain ⟨i1, i2, i3, i4, i5⟩ := hI
  refine ⟨Or.inr rfl, i1.v, fun g q => (nomatch q), fun z q => ?_⟩
  have q : Sum.inr (so, t, p) = Sum.inr z := q
  injection q with q
  subst q
  refine ⟨rfl, i2, fun j hj => (i3 j hj).1, ⟨i4, i5⟩, ?_, ?_⟩
  · show H 30 28 0 0 = oN (if so = 0 then t 0 else rn)
    rw [if_neg h0, i1 30 28 0 0 (by omega) (by omega), h28]
  · show H 30 29 0 0 = oN (if so = 0 then t 1 else ly)
    rw [if_neg h0, i1 30 29 0 0 (by omega) (by omega), h29]
theorem m_step {so p k m : Nat} {H : St} {t : Nat → Nat} {bd : Nat → (Nat → Nat) → Nat × Nat} {lo hi ii : Int32} {f : St → Option (St × Int32)} (ht : TXm G tx n) (hI : MI n G w so H k t p) (hw : w + 6 ≤ 60) (hk : k < 5) (hii : ii = oN (w + 1 + k)) (hlo : lo = oN (bd k t).1) (hhi : hi = oN (bd k t).2) (b1 : (bd k t).1 < 2147483648) (b2 : (bd k t).2 < 2147483648)
    (hc : ∀ H' v, numA tx n p (bd k t).1 (bd k t).2 = some v → MI n G w so H' (k + 1) (upN t k v) (nxS tx n p) → Ok (f H') (LnM n rn ly G w (lnW so (nsA tx n bd m (k + 1) (upN t k v) (nxS tx n p))))) : Ok (ob2 (fn_X8_isNumber H ii lo hi) (fun F1 r2 => if r2 = 0 then some (F1, (0 : Int32)) else f F1)) (LnM n rn ly G w (lnW so (nsA tx n bd (m + 1) k t p))) := by
  obtain ⟨i1, i2, i3, i4, i5⟩ := hI
  subst hii hlo hhi
  have hns : nsA tx n bd (m + 1) k t p = (match numA tx n p (bd k t).1 (bd k t).2 with
      | none => .inl (spS tx n p)
      | some v => nsA tx n bd m (k + 1) (upN t k v) (nxS tx n p)) := rfl
  rw [hns]
  refine ok_ob2 (m_number (i1.tt ht) i5 i4 b1 b2 (w := w) (i := w + 1 + k) (by omega) (by omega) (by omega)) (fun F1 r q => ?_)
  obtain ⟨q0, q1, q2⟩ := q
  have q0 : Mw H F1 w := q0
  cases hn : numA tx n p (bd k t).1 (bd k t).2 with
  | none =>
    obtain ⟨z1, z2⟩ := q2 hn
    exact ok_itp z1 (ok_some (LnM.no (i1.tr q0) z2))
  | some v =>
    obtain ⟨z1, z2, z3, z4⟩ := q1 v hn
    have z1 : r = 1 := z1
    subst z1
    refine ok_itn n10 (hc F1 v hn ⟨i1.tr q0, ?_, fun j hj => ?_, z2, nx_le i5⟩)
    · rw [← i2]
      exact z4 w (by omega)
    · by_cases hjk : j = k
      · rw [hjk]
        unfold upN
        rw [if_pos rfl]
        exact ⟨z3, (num_b i5 hn).2.2⟩
      · unfold upN
        rw [if_neg hjk]
        have z4 : F1 39 0 0 (w + 1 + j) = H 39 0 0 (w + 1 + j) := z4 (w + 1 + j) (by omega)
        rw [z4]
        exact i3 j (by omega)
theorem ok_bz {X : Option (St × Int32)} {Q : St × Int32 → Prop} (h : Ok X Q) (hq : ∀ r, Q r → r.2 = 0 ∨ r.2 = 1) : Ok (ob2 X (fun F r => og (bzb r) (some (F, r)))) Q := by
  refine ok_ob2 h (fun F1 r q => ?_)
  have : r = 0 ∨ r = 1 := hq _ q
  exact ok_og (by rcases this with e | e <;> subst e <;> rfl) (ok_some q)
theorem ok_b1 {X : Option (St × Int32)} {Q : St × Int32 → Prop} (h : Ok (ob2 X (fun F1 r2 => if r2 = 0 then some (F1, (0 : Int32)) else some (F1, (1 : Int32)))) Q) (hx : Ok X (fun r => r.2 = 0 ∨ r.2 = 1)) : Ok (ob2 X (fun F r => og (bzb r) (some (F, r)))) Q := by
  obtain ⟨⟨F1, r⟩, rfl, hr⟩ := hx
  rw [ob2_s] at h ⊢
  have hr : r = 0 ∨ r = 1 := hr
  rcases hr with e | e <;> subst e
  · exact h
  · exact h
theorem m_num01 {so p k : Nat} {H : St} {t : Nat → Nat} {lo hi : Nat} {ii : Int32} (ht : TXm G tx n) (hI : MI n G w so H k t p) (hw : w + 6 ≤ 60) (hii : ii = oN (w + 1)) (b1 : lo < 2147483648) (b2 : hi < 2147483648) : Ok (fn_X8_isNumber H ii (oN lo) (oN hi)) (fun r => r.2 = 0 ∨ r.2 = 1) := by
  obtain ⟨i1, i2, i3, i4, i5⟩ := hI
  subst hii
  refine ok_mono (m_number (i1.tt ht) i5 i4 b1 b2 (w := w) (i := w + 1) (by omega) (by omega) (by omega)) (fun r hr => ?_)
  cases hn : numA tx n p lo hi with
  | none => exact Or.inl (hr.2.2 hn).1
  | some v => exact Or.inr (hr.2.1 v hn).1
theorem ln_w {p so : Nat} (h : srtS (tkP tx n p) = so) (hso : so ≠ 15) : lnA tx n rn ly p = lnW so (nsA tx n (bdS so rn ly) (cnS so) 0 (fun _ => 0) (nxS tx n p)) := by
  rw [ln_e h hso]
  cases nsA tx n (bdS so rn ly) (cnS so) 0 (fun _ => 0) (nxS tx n p) <;> rfl
end ML
