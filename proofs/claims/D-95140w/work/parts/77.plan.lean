/-! PURE: plan -/
set_option maxRecDepth 100000
def fn_X0_plan (F : St) : Option (St × Int32) := ob2 (fn_X0_fault F) (fun F1 r => if r = (-1 : Int32) then ob2 (lp_X0_plan 300 F1 (0 : Int32)) (fun F2 x => ob (fn_X1_begin F2 0 (F2 0 10 0 0)) (fun F3 => pl (fu F3 0 17 0 0 0) (fun F4 => pl (fu F4 0 20 0 0 0) (fun F5 => some (F5, F5 16 1 0 0))))) else some (F1, (-4 : Int32)))
theorem rl_b {tx : Nat → Nat} {n d p rn ly : Nat} {ls : List La} (hp : p ≤ n) (h : rlA tx n d p rn ly = .inr ls) : GLs ls rn ly ∧ ls.length ≤ d + 1 := by
  unfold rlA at h
  cases hl : lnA tx n rn ly p with
  | inl f => rw [hl] at h; exact nomatch h
  | inr z =>
    rw [hl] at h
    have h : consA (z.1, z.2.1) (rsA tx n d z.2.2 (rnN z.1 z.2.1 rn) (lyN z.1 z.2.1 ly)) = .inr ls := h
    obtain ⟨l2, h1, h2⟩ := cons_r h
    subst h2
    obtain ⟨b1, b2⟩ := ln_b hp hl
    have := rs_b d z.2.2 _ _ l2 b1 h1
    exact ⟨⟨b2, this.1⟩, by rw [List.length_cons]; omega⟩
theorem px_of {C M : St} (hP : PB M) (h : Par C) (e : C 0 8 0 0 = M 30 4 0 0 ∧ C 0 9 0 0 = M 30 10 0 0 ∧ C 0 10 0 0 = M 30 11 0 0 ∧ C 0 11 0 0 = M 30 16 0 0 ∧ ∀ k, k < 5 → C 26 0 0 k = M 37 0 0 k) (hn : NE C M) : ParX C M := by
  obtain ⟨a0, a1, a6, a7, a14, a23, a24, a250, a251, a11, a13⟩ := h
  obtain ⟨b8, b9, b10, b11, b26⟩ := e
  have m : ∀ p, p < 18 → C 30 p 0 0 = M 30 p 0 0 := fun p hp => hn 30 p 0 0 (Or.inl ⟨rfl, hp⟩)
  have n : ∀ k, 31 ≤ k → k ≤ 37 → ∀ j, C k 0 0 j = M k 0 0 j := fun k q1 q2 j => hn k 0 0 j (Or.inr ⟨q1, q2⟩)
  refine ⟨?_, ?_, ?_, ?_, ?_, fun s hs => ?_, fun s hs => ?_, ?_, ?_, fun c l hc hl => ?_, fun k hk => ?_, b8, b9, b10, b11, b26⟩
  · rw [← m 0 (by omega)]; exact a0
  · rw [← m 1 (by omega)]; exact a1
  · rw [← m 8 (by omega)]; exact a6
  · rw [← m 9 (by omega)]; exact a7
  · rw [← m 12 (by omega)]; exact a14
  · rw [← n 31 (by omega) (by omega)]; exact a23 s hs
  · rw [← n 32 (by omega) (by omega)]; exact a24 s hs
  · rw [← m 5 (by omega)]; exact a250
  · rw [← m 6 (by omega)]; exact a251
  · rw [← n 33 (by omega) (by omega)]; exact a11 c l hc hl
  · rw [← n 34 (by omega) (by omega), ← n 35 (by omega) (by omega), ← n 36 (by omega) (by omega)]; exact a13 k hk
def cnu (k p : Nat) : Prop := (k = 0 ∧ p < 15) ∨ k = 11 ∨ k = 13 ∨ k = 23 ∨ k = 24 ∨ k = 25 ∨ k = 26
theorem px_c {C C2 M M2 : St} (h : ParX C M) (hc : ∀ k p y j, cnu k p → C2 k p y j = C k p y j) (hm : NE M2 M) : ParX C2 M2 := by
  obtain ⟨a0, a1, a6, a7, a14, a23, a24, a250, a251, a11, a13, b8, b9, b10, b11, b26⟩ := h
  have z : ∀ p, p < 15 → C2 0 p 0 0 = C 0 p 0 0 := fun p hp => hc 0 p 0 0 (Or.inl ⟨rfl, hp⟩)
  have w : ∀ k, (k = 11 ∨ k = 13 ∨ k = 23 ∨ k = 24 ∨ k = 25 ∨ k = 26) → ∀ y j, C2 k 0 y j = C k 0 y j := fun k q y j => hc k 0 y j (Or.inr q)
  have m : ∀ p, p < 18 → M2 30 p 0 0 = M 30 p 0 0 := fun p hp => hm 30 p 0 0 (Or.inl ⟨rfl, hp⟩)
  have n : ∀ k, 31 ≤ k → k ≤ 37 → ∀ j, M2 k 0 0 j = M k 0 0 j := fun k q1 q2 j => hm k 0 0 j (Or.inr ⟨q1, q2⟩)
  refine ⟨?_, ?_, ?_, ?_, ?_, fun s hs => ?_, fun s hs => ?_, ?_, ?_, fun c l hc hl => ?_, fun k hk => ?_, ?_, ?_, ?_, ?_, fun k hk => ?_⟩
  · rw [m 0 (by omega), z 0 (by omega)]; exact a0
  · rw [m 1 (by omega), z 1 (by omega)]; exact a1
  · rw [m 8 (by omega), z 6 (by omega)]; exact a6
  · rw [m 9 (by omega), z 7 (by omega)]; exact a7
  · rw [m 12 (by omega), z 14 (by omega)]; exact a14
  · rw [n 31 (by omega) (by omega), w 23 (by omega)]; exact a23 s hs
  · rw [n 32 (by omega) (by omega), w 24 (by omega)]; exact a24 s hs
  · rw [m 5 (by omega), w 25 (by omega)]; exact a250
  · rw [m 6 (by omega), w 25 (by omega)]; exact a251
  · rw [n 33 (by omega) (by omega), w 11 (by omega)]; exact a11 c l hc hl
  · rw [n 34 (by omega) (by omega), n 35 (by omega) (by omega), n 36 (by omega) (by omega), w 13 (by omega), w 13 (by omega), w 13 (by omega)]; exact a13 k hk
  · rw [m 4 (by omega), z 8 (by omega)]; exact b8
  · rw [m 10 (by omega), z 9 (by omega)]; exact b9
  · rw [m 11 (by omega), z 10 (by omega)]; exact b10
  · rw [m 16 (by omega), z 11 (by omega)]; exact b11
  · rw [n 37 (by omega) (by omega), w 26 (by omega)]; exact b26 k hk
theorem px_rp {K : St} (h : ParX K K) (hM : RPm K) : RP K := by
  obtain ⟨a0, a1, a6, a7, a14, a23, a24, a250, a251, a11, a13, b8, b9, b10, b11, b26⟩ := h
  obtain ⟨h1, h2, h3, h4, h5⟩ := hM
  exact ⟨h1, ⟨a0, a1, a6, a7, a14, a23, a24, a250, a251, a11, a13⟩, ⟨b8, b9, b10, b11, b26⟩, h2, h3, h4, h5⟩
theorem ne_agr {F G : St} (h : NE G F) : agr F G := fun k p i j a b c => h k p i j (by unfold num; omega)
theorem rpm_c {F G : St} (h : NE G F) (hM : RPm F) : RPm G := by
  obtain ⟨h1, h2, h3, h4, h5⟩ := hM
  have m : ∀ p, p < 18 → G 30 p 0 0 = F 30 p 0 0 := fun p hp => h 30 p 0 0 (Or.inl ⟨rfl, hp⟩)
  exact ⟨PB_c (ne_agr h) h1, by rw [m 4 (by omega)]; exact h2, by rw [m 10 (by omega)]; exact h3, by rw [m 11 (by omega)]; exact h4, by rw [m 16 (by omega)]; exact h5⟩
theorem rq_of {K : St} {i : Nat} (h : ∀ g x, g < 4 → x ≤ 16 → gt K (lm i g x) = 0) : ∃ b, RB i K K b := ⟨fun g x => gt K (lb i g x), fun g x => gt K (lb i g x), ⟨fun _ _ _ _ _ => rfl, fun _ _ _ => rfl, h⟩, fun _ _ => rfl⟩
theorem bo_plan : Bo fn_X0_plan fn_X8_plan := by
  intro F hr
  obtain ⟨tx, n, ht⟩ := hr.txt
  obtain ⟨g1, g2, g3, g4, g5, g6⟩ := hr.rg
  obtain ⟨⟨hp, hq, hx, q4, q5, q6, q7⟩, -, -, hQ, -⟩ := id hr
  have hMF : RPm F := ⟨hp, q4, q5, q6, q7⟩
  unfold fn_X0_plan
  refine ok_ob2 (c_fault ht g1 g2 g3 g4) (fun F1 y h => ?_)
  obtain ⟨a1, a2⟩ := h
  have aK : Rk 0 F F1 := a1
  rcases a2 with ⟨f, hf, c1, c2⟩ | ⟨ls, c1, c2, c3, c4⟩
  · have c2 : y = oN f := c2
    subst c2
    refine ok_itn (oN_m1 (by omega)) (ok_some ?_)
    show Ok (fn_X8_plan F1) _
    unfold fn_X8_plan
    refine ok_ob2 (m_read (aK.tt ht).m (by rw [aK 30 0 0 0 (by omega) (by omega) (by omega)]; exact g5) (by rw [aK 30 1 0 0 (by omega) (by omega) (by omega)]; exact g6) g3 g4) (fun F2 r2 h2 => ?_)
    obtain ⟨b1, b2⟩ := h2
    have b1 : Mr 0 F1 F2 := b1
    have hR : Rel F2 := Rel_sm hr (sm_read hr aK b1)
    rcases b2 with ⟨d1, ls, d2, -⟩ | ⟨d1, f2, d2, d3⟩
    · rw [c1] at d2; exact nomatch d2
    · exact ok_itp d1 (ok_some ⟨rfl, hR⟩)
  · have c2 : y = -1 := c2
    subst c2
    obtain ⟨hGL, hlen⟩ := rl_b (Nat.zero_le _) c1
    refine ok_itp rfl ?_
    have o1 : ∀ k p y j, k ≠ 16 → k ≠ 17 → k ≠ 27 → k ≠ 28 → F1 k p y j = F k p y j := fun k p y j q1 q2 q3 q4 => aK k p y j q1 (by omega) (by omega)
    have px1 : ParX F1 F := px_c (px_of hp hq hx (fun _ _ _ _ _ => rfl)) (fun k p y j q => o1 k p y j (by unfold cnu at q; omega) (by unfold cnu at q; omega) (by unfold cnu at q; omega) (by unfold cnu at q; omega)) (fun _ _ _ _ _ => rfl)
    refine ok_ob2 (c_planlp ls 300 F1 F 0 (by omega) (by omega) px1 hMF hGL (by rw [Nat.zero_add]; exact c3) (fun j a hj => by rw [Nat.zero_add]; exact c4 j a hj)) (fun F2 x2 h2 => ?_)
    obtain ⟨px2, cr2⟩ := h2
    have px2 : ParX F2 (updS F ls) := px2
    have cr2 : Crn F1 F2 := cr2
    have o2 : ∀ k p y j, ¬ cnu k p → k ≠ 16 → k ≠ 17 → k ≠ 27 → k ≠ 28 → F2 k p y j = F k p y j := fun k p y j q q1 q2 q3 q4 => by
      unfold cnu at q
      rw [cr2 k p y j (by omega) (by omega) (by omega) (by omega) (by omega) (by omega) (by omega)]
      exact o1 k p y j q1 q2 q3 q4
    have lmz : ∀ i, i < 4 → ∀ g x, g < 4 → x ≤ 16 → gt F2 (lm i g x) = 0 := fun i hi g x hg hx => by
      obtain ⟨b, b', hb, -⟩ := hQ i hi
      have e0 : gt F (lm i g x) = 0 := hb.2.2 g x hg hx
      rw [← e0]
      have hb2 := lm_bl (g := g) (x := x) hi
      unfold gt
      refine o2 _ _ _ _ ?_ ?_ ?_ ?_ ?_
      all_goals first | (unfold cnu; unfold bl at hb2; omega) | (unfold bl at hb2; omega)
    refine ok_ob (w_begin (i := 0) (by omega) (F := F2) (F' := F2) (b := fun g x => gt F2 (lb 0 g x)) (m := fun _ _ => 0) ⟨fun _ _ _ _ _ => rfl, fun _ _ _ => rfl, lmz 0 (by omega)⟩ (F2 0 10 0 0)) (fun F3 h3 => ok_pl (ok_pl (ok_some ?_)))
    obtain ⟨fr3, cw3, lm3⟩ := h3
    have o3 : ∀ k p y j, ¬ bl 0 k y → ¬ (k = 0 ∧ (p = 17 ∨ p = 20)) → fu (fu F3 0 17 0 0 0) 0 20 0 0 0 k p y j = F2 k p y j := fun k p y j q1 q2 => by
      rw [fu_n _ _ _ _ _ _ (by omega), fu_n _ _ _ _ _ _ (by omega)]
      exact fr3 k p y j q1
    have o3b : ∀ k p y j, bl 0 k y → fu (fu F3 0 17 0 0 0) 0 20 0 0 0 k p y j = F3 k p y j := fun k p y j q => by
      unfold bl at q
      rw [fu_n _ _ _ _ _ _ (by omega), fu_n _ _ _ _ _ _ (by omega)]
    have o17 : fu (fu F3 0 17 0 0 0) 0 20 0 0 0 0 17 0 0 = 0 := by rw [fu_n _ _ _ _ _ _ (by omega), fu_s]
    have o20 : fu (fu F3 0 17 0 0 0) 0 20 0 0 0 0 20 0 0 = 0 := fu_s _ _ _ _ _ _
    generalize fu (fu F3 0 17 0 0 0) 0 20 0 0 0 = F5 at *
    show Ok (fn_X8_plan F5) (fun q => q.2 = F5 16 1 0 0 ∧ Rel q.1)
    have e161 : F5 16 1 0 0 = oN ls.length := by
      rw [o3 16 1 0 0 (by unfold bl; omega) (by omega), cr2 16 1 0 0 (by omega) (by omega) (by omega) (by omega) (by omega) (by omega) (by omega)]
      exact c3
    have o5 : ∀ k p y j, 30 ≤ k → F5 k p y j = F k p y j := fun k p y j q => by
      rw [o3 k p y j (by unfold bl; omega) (by omega)]
      exact o2 k p y j (by unfold cnu; omega) (by omega) (by omega) (by omega) (by omega)
    have tm : TXm F5 tx n := ⟨ht.1, trivial, by rw [o5 30 18 0 0 (by omega)]; exact ht.2.2.1, fun j hj => ⟨(ht.2.2.2 j hj).1, by rw [o5 38 0 0 j (by omega)]; exact (ht.2.2.2 j hj).2.1, trivial⟩⟩
    unfold fn_X8_plan
    refine ok_ob2 (m_read tm (by rw [o5 30 0 0 0 (by omega)]; exact g5) (by rw [o5 30 1 0 0 (by omega)]; exact g6) g3 g4) (fun H1 r2 h4 => ?_)
    obtain ⟨b1, b2⟩ := h4
    have bK : Mr 0 F5 H1 := b1
    rcases b2.symm with ⟨d1, f2, d2, d3⟩ | ⟨d1, l2, d2, d3, d4⟩
    · rw [c1] at d2; exact nomatch d2
    rw [c1] at d2
    injection d2 with d2
    subst d2
    have d1 : r2 = 1 := d1
    subst d1
    have ne1 : NE H1 F := fun k p y j hn => by
      unfold num at hn
      rw [bK k p y j (by omega) (by omega)]
      exact o5 k p y j (by omega)
    have m1 : RPm H1 := rpm_c ne1 hMF
    have eR : Rg H1 = Rg F := by unfold Rg; rw [ne1 30 0 0 0 (by unfold num; omega)]
    have eL : Ly H1 = Ly F := by unfold Ly; rw [ne1 30 1 0 0 (by unfold num; omega)]
    refine ok_itn n10 (ok_ob2 (m_planlp ls 300 H1 0 (by omega) (by omega) m1 (by rw [eR, eL]; exact hGL) (by rw [Nat.zero_add]; exact d3) (fun j a hj => by rw [Nat.zero_add]; exact d4 j a hj)) (fun H2 x8 h5 => ok_pl (ok_pl (ok_pl ?_))))
    have h5 : H2 = updS H1 ls := h5
    have vz : vp_nar .boolean (0 : Int32) = 0 := by decide
    rw [vz]
    have oh : ∀ k p y j, ¬ (k = 30 ∧ p = 18) → ¬ k = 43 → fu (fu (fu H2 30 18 0 0 0) 43 0 0 0 0) 43 0 0 1 0 k p y j = H2 k p y j := fun k p y j q1 q2 => by
      rw [fu_n _ _ _ _ _ _ (by omega), fu_n _ _ _ _ _ _ (by omega), fu_n _ _ _ _ _ _ (by omega)]
    have oh18 : fu (fu (fu H2 30 18 0 0 0) 43 0 0 0 0) 43 0 0 1 0 30 18 0 0 = 0 := by rw [fu_n _ _ _ _ _ _ (by omega), fu_n _ _ _ _ _ _ (by omega), fu_s]
    have oh0 : fu (fu (fu H2 30 18 0 0 0) 43 0 0 0 0) 43 0 0 1 0 43 0 0 0 = 0 := by rw [fu_n _ _ _ _ _ _ (by omega), fu_s]
    have oh1 : fu (fu (fu H2 30 18 0 0 0) 43 0 0 0 0) 43 0 0 1 0 43 0 0 1 = 0 := fu_s _ _ _ _ _ _
    generalize fu (fu (fu H2 30 18 0 0 0) 43 0 0 0 0) 43 0 0 1 0 = H5 at *
    have neM : NE H5 (updS F ls) := fun k p y j hn => by
      rw [oh k p y j (by unfold num at hn; omega) (by unfold num at hn; omega), h5]
      exact upS_c ls ne1 k p y j hn
    have rM : RPm (updS F ls) := rpm_s ls hMF hGL
    have r5 : RPm H5 := rpm_c neM rM
    refine ok_ob (m_begin r5.1 (F' := H5) (b := fun g x => H5 40 0 0 (16 * g + x)) (m := fun g x => H5 44 0 0 (16 * g + x)) ⟨fun _ _ _ _ _ _ => rfl, fun _ _ _ => rfl, fun _ _ _ _ => rfl⟩) (fun H6 h6 => ok_some ?_)
    obtain ⟨k1, k2, k3⟩ := h6
    have o6 : ∀ k p y j, k ≠ 40 → k ≠ 44 → ¬ (k = 30 ∧ 37 ≤ p ∧ p < 64) → H6 k p y j = H5 k p y j := fun k p y j q1 q2 q3 => k1 k p y j q1 ⟨q2, q3⟩
    have oc : ∀ k p y j, k < 30 → H6 k p y j = F5 k p y j := fun k p y j q => by
      rw [o6 k p y j (by omega) (by omega) (by omega), oh k p y j (by omega) (by omega), h5, upS_o ls (by unfold num; omega)]
      exact bK k p y j (by omega) (by omega)
    have ne6 : NE H6 H5 := fun k p y j hn => o6 k p y j (by unfold num at hn; omega) (by unfold num at hn; omega) (by unfold num at hn; omega)
    have ne6M : NE H6 (updS F ls) := fun k p y j hn => (ne6 k p y j hn).trans (neM k p y j hn)
    have r6 : RPm H6 := rpm_c ne6 r5
    have px6 : ParX H6 H6 := px_c px2 (fun k p y j q => by
      unfold cnu at q
      rw [oc k p y j (by omega), o3 k p y j (by unfold bl; omega) (by omega)]) ne6M
    have hmu : F2 0 10 0 0 = H6 30 11 0 0 := by
      have e1 : F2 0 10 0 0 = updS F ls 30 11 0 0 := px2.2.2.2.2.2.2.2.2.2.2.2.2.2.1
      rw [e1]
      exact (ne6M 30 11 0 0 (by unfold num; omega)).symm
    have e26 : H6 30 26 0 0 = F5 16 1 0 0 := by
      rw [o6 30 26 0 0 (by omega) (by omega) (by omega), oh 30 26 0 0 (by omega) (by omega), h5, upS_o ls (by unfold num; omega), e161]
      exact d3
    refine ⟨e26, ?_⟩
    show Rel H6
    refine ⟨px_rp px6 r6, ?_, ?_, ?_, ?_⟩
    · have hmu2 : 0 ≤ (H6 30 11 0 0).toInt ∧ (H6 30 11 0 0).toInt ≤ 20 := by have := r6.2.2.2.1; omega
      refine ⟨0, begS H6 (H6 30 11 0 0), beg_inv r6.1 hmu2, ⟨fun g x => if g = 9 then gt H6 (lb 0 9 x) else begS H6 (H6 30 11 0 0) g x, ⟨fun _ _ _ _ _ => rfl, fun g x hv => ?_, fun g x hg hx => ?_⟩, fun g hg => by funext x; exact if_neg hg⟩, fun g x hx => ?_⟩
      · have hw := vb_w hv
        have hbl := lb_blw (i := 0) (by omega) hw
        have e : gt H6 (lb 0 g x) = gt F3 (lb 0 g x) := by
          unfold gt
          rw [oc _ _ _ _ (by unfold bl at hbl; omega)]
          exact o3b _ _ _ _ hbl
        show gt H6 (lb 0 g x) = (if g = 9 then gt H6 (lb 0 9 x) else begS H6 (H6 30 11 0 0) g x)
        by_cases h9 : g = 9
        · subst h9
          rw [if_pos rfl]
        · rw [if_neg h9, e, cw3 g x hw]
          show (if g = 9 then _ else if g = 8 then (0 : Int32) else b8c F2 (F2 0 10 0 0) g) = _
          rw [if_neg h9]
          unfold begS
          rcases hv with ⟨hg, hcx, hx⟩ | ⟨hg, hx⟩ | ⟨hg, hx⟩
          · rw [if_neg (by omega)]
            unfold b8c
            by_cases hg5 : 2 ≤ g ∧ g < 5
            · rw [if_pos hg5, if_pos ⟨hcx, hg5⟩, hmu]
              have e23 : F2 23 0 0 (g - 2) = updS F ls 31 0 0 (g - 2) := px2.2.2.2.2.2.1 (g - 2) (by omega)
              rw [e23, ne6M 31 0 0 (g - 2) (by unfold num; omega)]
            · rw [if_neg hg5, if_neg (fun q => hg5 q.2), if_neg (by omega), if_neg (by omega)]
          · subst hg
            rw [if_pos rfl, if_neg (by omega), if_neg (by omega), if_neg (by omega)]
          · exact absurd hg h9
      · have hbl := lm_bl (i := 0) (g := g) (x := x) (by omega)
        have e : gt H6 (lm 0 g x) = gt F3 (lm 0 g x) := by
          unfold gt
          rw [oc _ _ _ _ (by unfold bl at hbl; omega)]
          exact o3b _ _ _ _ hbl
        rw [e]
        exact lm3 g x hg hx
      · rw [Nat.zero_add, k2 g x hx]
        have ag : agr H5 H6 := ne_agr ne6
        rw [ne6 30 11 0 0 (by unfold num; omega), ← nf_beg H6, nf_e ag, nf_beg]
    · refine ⟨⟨0, 0, by omega, by omega, ?_, ?_, ?_⟩, fun k hk hne => ?_⟩
      · rw [oc 0 17 0 0 (by omega), o17]; rfl
      · rw [o6 43 0 0 0 (by omega) (by omega) (by omega), oh0]; rfl
      · rw [o6 43 0 0 1 (by omega) (by omega) (by omega), oh1]; rfl
      · refine absurd ?_ hne
        rcases (show k = 0 ∨ k = 1 by omega) with h | h <;> subst h
        · rw [o6 43 0 0 0 (by omega) (by omega) (by omega), oh0]
        · rw [o6 43 0 0 1 (by omega) (by omega) (by omega), oh1]
    · intro i hi
      refine rq_of (fun g x hg hx => ?_)
      have hbl := lm_bl (g := g) (x := x) hi
      by_cases h0 : i = 0
      · subst h0
        have e : gt H6 (lm 0 g x) = gt F3 (lm 0 g x) := by
          unfold gt
          rw [oc _ _ _ _ (by unfold bl at hbl; omega)]
          exact o3b _ _ _ _ hbl
        rw [e]
        exact lm3 g x hg hx
      · rw [← lmz i hi g x hg hx]
        unfold gt
        rw [oc _ _ _ _ (by unfold bl at hbl; omega)]
        exact o3 _ _ _ _ (bl_ne hi (by omega) h0 hbl) (by unfold bl at hbl; omega)
    · exact ⟨0, by omega, by rw [oc 0 20 0 0 (by omega), o20]; rfl, by rw [o6 30 18 0 0 (by omega) (by omega) (by omega), oh18]; rfl, fun j hj => absurd hj (by omega)⟩
