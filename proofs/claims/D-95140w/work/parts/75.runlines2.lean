/-! PURE: a line done by the class -/
set_option maxRecDepth 100000
section CR
variable {C M : St} {rn ly i so : Nat} {t : Nat → Nat}
theorem c_run (hP : ParX C M) (h12 : ∃ c, c ≤ 12 ∧ M 30 12 0 0 = oN c) (hG : GLn so t rn ly) (hr : 1 ≤ rn ∧ rn ≤ 4) (hy : 1 ≤ ly ∧ ly ≤ 4) (hR : RC C i so t) : Ok (ln_run C i) (fun C' => ParX C' (updL M so t) ∧ Crn C C') := by
  obtain ⟨e0, e1, e6, e7, e14, e23, e24, e250, e251, e11, e13, e8, e9, e10, e16, e26⟩ := hP
  obtain ⟨g1, g2, g3⟩ := hG
  obtain ⟨r2, r3, r5, r17, rj⟩ := id hR
  have hl : rnL C i = cnS so := by
    unfold rnL
    rw [r5]
    exact oN_n (by have := cn_5 so; omega)
  unfold ln_run
  rw [r2]
  refine ok_og (decide_eq_true r17) ?_
  have cell : (so = 4 ∨ so = 5) → t 0 < 4 ∧ t 1 < 4 := fun q => by
    have a0 := (g2 (by omega) 0 (by rcases q with q | q <;> subst q <;> decide)).2
    have a1 := (g2 (by omega) 1 (by rcases q with q | q <;> subst q <;> decide)).2
    have b0 : t 0 ≤ rn - 1 := by rcases q with q | q <;> subst q <;> exact a0
    have b1 : t 1 ≤ ly - 1 := by rcases q with q | q <;> subst q <;> exact a1
    omega
  have h14 : so = 0 ∨ so = 1 ∨ so = 2 ∨ so = 3 ∨ so = 4 ∨ so = 5 ∨ so = 6 ∨ so = 7 ∨ so = 8 ∨ so = 9 ∨ so = 10 ∨ so = 11 ∨ so = 12 ∨ so = 13 ∨ so = 14 := by omega
  have crf : ∀ p v, p < 15 → Crn C (fu C 0 p 0 0 v) := fun p v hp k q y j a b c d e f g => fu_n _ _ _ _ _ _ (by omega)
  rcases h14 with h | h | h | h | h | h | h | h | h | h | h | h | h | h | h <;> subst h
  · refine ok_itp (by decide) (?_)
    unfold rn_bed
    rw [hl]
    have f1 : fu C 0 0 0 0 (C 28 0 i 0) 28 0 i 1 = oN (t 1) := by rw [fu_n _ _ _ _ _ _ (by omega)]; exact rj 1 (by decide)
    refine ok_og (by decide) (ok_pl ?_)
    rw [f1, rj 0 (by decide)]
    refine (ok_og (by decide) (ok_pl (ok_pl (ok_some ⟨⟨rfl, rfl, e6, e7, rfl, e23, e24, e250, e251, fun c l hc hl => ?_, e13, e8, e9, e10, e16, e26⟩, fun k q y j a b c d e f g => ?_⟩))))
    · show z11 _ 11 0 c l = z33 _ 16 33 0 0 (4 * l + c)
      unfold z11 z33
      rw [if_pos ⟨rfl, rfl, hc, hl⟩, if_pos ⟨rfl, rfl, rfl, by omega⟩]
    · unfold z11
      rw [if_neg (by omega), fu_n _ _ _ _ _ _ (by omega), fu_n _ _ _ _ _ _ (by omega), fu_n _ _ _ _ _ _ (by omega)]
  · refine ok_itn (by decide) (ok_itp (by decide) (?_))
    unfold rn_row
    rw [r3, hl]
    refine ok_itp (by decide) (ok_og (by decide) (ok_some ⟨⟨e0, e1, e6, e7, e14, fun s hs => ?_, e24, e250, e251, e11, e13, e8, e9, e10, e16, e26⟩, fun k q y j a b c d e f g => ?_⟩))
    · have e : mvR C i 23 3 23 0 0 s = C 28 0 i s := if_pos ⟨rfl, rfl, rfl, hs⟩
      rw [e, rj s hs]
      rcases (show s = 0 ∨ s = 1 ∨ s = 2 by omega) with h | h | h <;> subst h <;> rfl
    · exact if_neg (by omega)
  · refine ok_itn (by decide) (ok_itp (by decide) (?_))
    unfold rn_row
    rw [r3, hl]
    refine ok_itn (by decide) (ok_itp (by decide) (ok_og (by decide) (ok_some ⟨⟨e0, e1, e6, e7, e14, e23, fun s hs => ?_, e250, e251, e11, e13, e8, e9, e10, e16, e26⟩, fun k q y j a b c d e f g => ?_⟩)))
    · have e : mvR C i 24 3 24 0 0 s = C 28 0 i s := if_pos ⟨rfl, rfl, rfl, hs⟩
      rw [e, rj s hs]
      rcases (show s = 0 ∨ s = 1 ∨ s = 2 by omega) with h | h | h <;> subst h <;> rfl
    · exact if_neg (by omega)
  · refine ok_itn (by decide) (ok_itp (by decide) (?_))
    unfold rn_row
    rw [r3, hl]
    refine ok_itn (by decide) (ok_itn (by decide) (ok_itp (by decide) (ok_og (by decide) (ok_some ⟨⟨e0, e1, e6, e7, e14, e23, e24, ?_, ?_, e11, e13, e8, e9, e10, e16, e26⟩, fun k q y j a b c d e f g => ?_⟩))))
    · exact rj 0 (by decide)
    · exact rj 1 (by decide)
    · exact if_neg (by omega)
  · have hc := cell (by omega)
    refine ok_itn (by decide) (ok_itn (by decide) (ok_itp (by decide) (?_)))
    unfold rn_cell
    rw [hl, r3, rj 0 (by decide), rj 1 (by decide), rj 2 (by decide), oN_n (show t 0 < 2147483648 by omega), oN_n (show t 1 < 2147483648 by omega)]
    refine ok_og (by decide) (ok_og (oN_vp hc.1 (by omega)) (ok_og (by decide) (ok_og (by decide) (ok_og (oN_vp hc.2 (by omega)) (ok_some ⟨⟨e0, e1, e6, e7, e14, e23, e24, e250, e251, fun c l hc2 hl2 => ?_, e13, e8, e9, e10, e16, e26⟩, fun k q y j a b c d e f g => fu_n _ _ _ _ _ _ (by omega)⟩)))))
    show fu C 11 0 (t 0) (t 1) (ciS 4 * oN (t 2)) 11 0 c l = fu M 33 0 0 (4 * t 1 + t 0) (oN (t 2)) 33 0 0 (4 * l + c)
    have em : ciS 4 * oN (t 2) = oN (t 2) := by
      show (1 : Int32) * oN (t 2) = _
      rw [Int32.one_mul]
    rw [fu_a, fu_a, em]
    by_cases h : c = t 0 ∧ l = t 1
    · rw [if_pos ⟨rfl, rfl, h.1, h.2⟩, if_pos ⟨rfl, rfl, rfl, by omega⟩]
    · rw [if_neg (by omega), if_neg (by omega)]
      exact e11 c l hc2 hl2
  · have hc := cell (by omega)
    refine ok_itn (by decide) (ok_itn (by decide) (ok_itp (by decide) (?_)))
    unfold rn_cell
    rw [hl, r3, rj 0 (by decide), rj 1 (by decide), rj 2 (by decide), oN_n (show t 0 < 2147483648 by omega), oN_n (show t 1 < 2147483648 by omega)]
    refine ok_og (by decide) (ok_og (oN_vp hc.1 (by omega)) (ok_og (by decide) (ok_og (by decide) (ok_og (oN_vp hc.2 (by omega)) (ok_some ⟨⟨e0, e1, e6, e7, e14, e23, e24, e250, e251, fun c l hc2 hl2 => ?_, e13, e8, e9, e10, e16, e26⟩, fun k q y j a b c d e f g => fu_n _ _ _ _ _ _ (by omega)⟩)))))
    show fu C 11 0 (t 0) (t 1) (ciS 5 * oN (t 2)) 11 0 c l = fu M 33 0 0 (4 * t 1 + t 0) (-(oN (t 2))) 33 0 0 (4 * l + c)
    have em : ciS 5 * oN (t 2) = -(oN (t 2)) := by
      show (-1 : Int32) * oN (t 2) = _
      rw [Int32.neg_mul, Int32.one_mul]
    rw [fu_a, fu_a, em]
    by_cases h : c = t 0 ∧ l = t 1
    · rw [if_pos ⟨rfl, rfl, h.1, h.2⟩, if_pos ⟨rfl, rfl, rfl, by omega⟩]
    · rw [if_neg (by omega), if_neg (by omega)]
      exact e11 c l hc2 hl2
  · refine ok_itn (by decide) (ok_itn (by decide) (ok_itn (by decide) (ok_itn (by decide) (ok_itp (by decide) (ok_ofe (one_c hR (by omega)) ⟨⟨e0, e1, rfl, e7, e14, e23, e24, e250, e251, e11, e13, e8, e9, e10, e16, e26⟩, crf _ _ (by decide)⟩)))))
  · refine ok_itn (by decide) (ok_itn (by decide) (ok_itn (by decide) (ok_itn (by decide) (ok_itp (by decide) (ok_ofe (one_c hR (by omega)) ⟨⟨e0, e1, e6, rfl, e14, e23, e24, e250, e251, e11, e13, e8, e9, e10, e16, e26⟩, crf _ _ (by decide)⟩)))))
  · refine ok_itn (by decide) (ok_itn (by decide) (ok_itn (by decide) (ok_itp (by decide) (?_))))
    unfold rn_pour
    obtain ⟨c, hc, ec⟩ := h12
    rw [r5, hl, e14, ec, oN_n (show c < 2147483648 by omega)]
    refine ok_itn (by decide) ?_
    show Ok _ (fun C' => ParX C' (pou M t) ∧ Crn C C')
    unfold pou
    rw [ec, oN_n (show c < 2147483648 by omega)]
    by_cases c12 : 12 ≤ c
    · rw [if_pos (show (12 : Int32) ≤ oN c from yle (a := 12) c12 (by omega)), if_pos (show (12 : Int32) ≤ oN c from yle (a := 12) c12 (by omega))]
      exact ok_some ⟨⟨e0, e1, e6, e7, e14, e23, e24, e250, e251, e11, e13, e8, e9, e10, e16, e26⟩, fun _ _ _ _ _ _ _ _ _ _ _ => rfl⟩
    · rw [if_neg (show ¬ (12 : Int32) ≤ oN c from nle (a := 12) (by omega) (by omega)), if_neg (show ¬ (12 : Int32) ≤ oN c from nle (a := 12) (by omega) (by omega))]
      refine ok_og (oN_vp (by omega) (by omega)) (ok_og (by decide) (ok_pl ?_))
      have e14' : cpR C i c 3 0 14 0 0 = oN c := (if_neg (by omega)).trans (e14.trans ec)
      rw [e14']
      refine ok_some ⟨⟨e0, e1, e6, e7, rfl, e23, e24, e250, e251, e11, fun k hk => ?_, e8, e9, e10, e16, e26⟩, fun k q y j a b c d e f g => ?_⟩
      · have a1 : ∀ j, fu (cpR C i c 3) 0 14 0 0 (oN c + 1) 13 0 k j = cpR C i c 3 13 0 k j := fun j => fu_n _ _ _ _ _ _ (by omega)
        rw [a1, a1, a1]
        have m34 : fu (fu (fu (fu M 34 0 0 c (oN (t 0))) 35 0 0 c (oN (t 1))) 36 0 0 c (oN (t 2))) 30 12 0 0 (oN c + 1) 34 0 0 k = if k = c then oN (t 0) else M 34 0 0 k := by
          rw [fu_n _ _ _ _ _ _ (by omega), fu_n _ _ _ _ _ _ (by omega), fu_n _ _ _ _ _ _ (by omega), fu_a]
          by_cases h : k = c
          · rw [if_pos ⟨rfl, rfl, rfl, h⟩, if_pos h]
          · rw [if_neg (by omega), if_neg h]
        have m35 : fu (fu (fu (fu M 34 0 0 c (oN (t 0))) 35 0 0 c (oN (t 1))) 36 0 0 c (oN (t 2))) 30 12 0 0 (oN c + 1) 35 0 0 k = if k = c then oN (t 1) else M 35 0 0 k := by
          rw [fu_n _ _ _ _ _ _ (by omega), fu_n _ _ _ _ _ _ (by omega), fu_a, fu_n _ _ _ _ _ _ (by omega)]
          by_cases h : k = c
          · rw [if_pos ⟨rfl, rfl, rfl, h⟩, if_pos h]
          · rw [if_neg (by omega), if_neg h]
        have m36 : fu (fu (fu (fu M 34 0 0 c (oN (t 0))) 35 0 0 c (oN (t 1))) 36 0 0 c (oN (t 2))) 30 12 0 0 (oN c + 1) 36 0 0 k = if k = c then oN (t 2) else M 36 0 0 k := by
          rw [fu_n _ _ _ _ _ _ (by omega), fu_a, fu_n _ _ _ _ _ _ (by omega), fu_n _ _ _ _ _ _ (by omega)]
          by_cases h : k = c
          · rw [if_pos ⟨rfl, rfl, rfl, h⟩, if_pos h]
          · rw [if_neg (by omega), if_neg h]
        rw [m34, m35, m36]
        by_cases h : k = c
        · have b1 : ∀ j, j < 3 → cpR C i c 3 13 0 k j = oN (t j) := fun j hj => (if_pos ⟨rfl, rfl, h, hj⟩).trans (rj j hj)
          rw [b1 0 (by omega), b1 1 (by omega), b1 2 (by omega), if_pos h, if_pos h, if_pos h]
          exact ⟨rfl, rfl, rfl⟩
        · have b1 : ∀ j, cpR C i c 3 13 0 k j = C 13 0 k j := fun j => if_neg (by omega)
          rw [b1, b1, b1, if_neg h, if_neg h, if_neg h]
          exact e13 k hk
      · rw [fu_n _ _ _ _ _ _ (by omega)]
        exact if_neg (by omega)
  · refine ok_itn (by decide) (ok_itn (by decide) (ok_itn (by decide) (ok_itp (by decide) (?_))))
    unfold rn_pour
    rw [r5]
    exact ok_itp (by decide) (ok_some ⟨⟨e0, e1, e6, e7, rfl, e23, e24, e250, e251, e11, e13, e8, e9, e10, e16, e26⟩, crf 14 0 (by decide)⟩)
  · refine ok_itn (by decide) (ok_itn (by decide) (ok_itn (by decide) (ok_itn (by decide) (ok_itp (by decide) (ok_ofe (one_c hR (by omega)) ⟨⟨e0, e1, e6, e7, e14, e23, e24, e250, e251, e11, e13, rfl, e9, e10, e16, e26⟩, crf _ _ (by decide)⟩)))))
  · refine ok_itn (by decide) (ok_itn (by decide) (ok_itn (by decide) (ok_itn (by decide) (ok_itp (by decide) (ok_ofe (one_c hR (by omega)) ⟨⟨e0, e1, e6, e7, e14, e23, e24, e250, e251, e11, e13, e8, rfl, e10, e16, e26⟩, crf _ _ (by decide)⟩)))))
  · refine ok_itn (by decide) (ok_itn (by decide) (ok_itn (by decide) (ok_itn (by decide) (ok_itp (by decide) (ok_ofe (one_c hR (by omega)) ⟨⟨e0, e1, e6, e7, e14, e23, e24, e250, e251, e11, e13, e8, e9, rfl, e16, e26⟩, crf _ _ (by decide)⟩)))))
  · refine ok_itn (by decide) (ok_itn (by decide) (ok_itn (by decide) (ok_itn (by decide) (ok_itp (by decide) (ok_ofe (one_c hR (by omega)) ⟨⟨e0, e1, e6, e7, e14, e23, e24, e250, e251, e11, e13, e8, e9, e10, rfl, e26⟩, crf _ _ (by decide)⟩)))))
  · refine ok_itn (by decide) (ok_itp (by decide) (?_))
    unfold rn_row
    rw [r3, hl]
    refine ok_itn (by decide) (ok_itn (by decide) (ok_itn (by decide) (ok_itp (by decide) (ok_og (by decide) (ok_some ⟨⟨e0, e1, e6, e7, e14, e23, e24, e250, e251, e11, e13, e8, e9, e10, e16, fun s hs => ?_⟩, fun k q y j a b c d e f g => ?_⟩)))))
    · have e : mvR C i 26 5 26 0 0 s = C 28 0 i s := if_pos ⟨rfl, rfl, rfl, hs⟩
      rw [e, rj s hs]
      exact (if_pos ⟨rfl, rfl, rfl, hs⟩ : c37 M t 5 37 0 0 s = oN (t s)).symm
    · exact if_neg (by omega)
end CR
