/-! PURE: the start: class and model alike -/
set_option maxRecDepth 100000
theorem F0c_lm (i g x : Nat) : gt F0c (lm i g x) = 0 := by
  unfold lm
  split <;> rfl
theorem first_rel : Ok (fn_X1_begin F0c 0 5) (fun Fz => Ok (fn_X8_begin (FJ Fz)) Rel) := by
  obtain ⟨Fz, e, fr3, cw3, lm3⟩ := w_begin (i := 0) (by omega) (F := F0c) (F' := F0c) (b := fun g x => gt F0c (lb 0 g x)) (m := fun _ _ => 0) ⟨fun _ _ _ _ _ => rfl, fun _ _ _ => rfl, fun g x _ _ => F0c_lm 0 g x⟩ 5
  refine ⟨Fz, e, ?_⟩
  clear e
  have gl : ∀ k p y j, k < 30 → FJ Fz k p y j = Fz k p y j := fun k p y j h => if_pos h
  have gh : ∀ k p y j, 30 ≤ k → FJ Fz k p y j = nN p j k := fun k p y j h => if_neg (Nat.not_lt.mpr h)
  have gc : ∀ k p y j, k < 30 → ¬ bl 0 k y → FJ Fz k p y j = F0c k p y j := fun k p y j h q => (gl k p y j h).trans (fr3 k p y j q)
  have gb : ∀ k p y j, bl 0 k y → FJ Fz k p y j = Fz k p y j := fun k p y j q => gl k p y j (by unfold bl at q; omega)
  show Ok (fn_X8_begin (FJ Fz)) Rel
  generalize FJ Fz = G at *
  have r0 : Rg G = 2 := by unfold Rg; rw [gh 30 0 0 0 (by omega)]; rfl
  have r1 : Ly G = 2 := by unfold Ly; rw [gh 30 1 0 0 (by omega)]; rfl
  have hp : PB G := by
    refine ⟨⟨by rw [r0, gh 30 0 0 0 (by omega)]; rfl, by omega, by omega⟩, ⟨by rw [r1, gh 30 1 0 0 (by omega)]; rfl, by omega, by omega⟩, by rw [gh 30 8 0 0 (by omega)]; decide, ⟨0, by omega, by rw [gh 30 12 0 0 (by omega)]; rfl, fun k hk => absurd hk (by omega)⟩, fun s hs => ?_, fun s hs => ?_⟩
    · rw [gh 31 0 0 s (by omega)]
      exact lt3 (P := fun s => 0 ≤ (nN 0 s 31).toInt ∧ (nN 0 s 31).toInt ≤ 99) (by decide) (by decide) (by decide) s hs
    · rw [gh 32 0 0 s (by omega)]
      exact lt3 (P := fun s => 0 ≤ (nN 0 s 32).toInt ∧ (nN 0 s 32).toInt ≤ 100) (by decide) (by decide) (by decide) s hs
  have nb : ∀ k y, k = 0 ∨ 10 ≤ k → ¬ bl 0 k y := fun k y h q => by unfold bl at q; omega
  have hq : Par G := by
    refine ⟨?_, ?_, ?_, ?_, ?_, fun s hs => ?_, fun s hs => ?_, ?_, ?_, fun c l hc hl => ?_, fun k hk => ⟨?_, ?_, ?_⟩⟩
    · rw [gc 0 0 0 0 (by omega) (nb _ _ (by omega)), gh 30 0 0 0 (by omega)]; rfl
    · rw [gc 0 1 0 0 (by omega) (nb _ _ (by omega)), gh 30 1 0 0 (by omega)]; rfl
    · rw [gc 0 6 0 0 (by omega) (nb _ _ (by omega)), gh 30 8 0 0 (by omega)]; rfl
    · rw [gc 0 7 0 0 (by omega) (nb _ _ (by omega)), gh 30 9 0 0 (by omega)]; rfl
    · rw [gc 0 14 0 0 (by omega) (nb _ _ (by omega)), gh 30 12 0 0 (by omega)]; rfl
    · rw [gc 23 0 0 s (by omega) (nb _ _ (by omega)), gh 31 0 0 s (by omega)]; rfl
    · rw [gc 24 0 0 s (by omega) (nb _ _ (by omega)), gh 32 0 0 s (by omega)]; rfl
    · rw [gc 25 0 0 0 (by omega) (nb _ _ (by omega)), gh 30 5 0 0 (by omega)]; rfl
    · rw [gc 25 0 0 1 (by omega) (nb _ _ (by omega)), gh 30 6 0 0 (by omega)]; rfl
    · rw [gc 11 0 c l (by omega) (nb _ _ (by omega)), gh 33 0 0 _ (by omega)]; rfl
    · rw [gc 13 0 k 0 (by omega) (nb _ _ (by omega)), gh 34 0 0 _ (by omega)]; rfl
    · rw [gc 13 0 k 1 (by omega) (nb _ _ (by omega)), gh 35 0 0 _ (by omega)]; rfl
    · rw [gc 13 0 k 2 (by omega) (nb _ _ (by omega)), gh 36 0 0 _ (by omega)]; rfl
  have hRP : RP G := by
    refine ⟨hp, hq, ⟨?_, ?_, ?_, ?_, fun k hk => ?_⟩, ?_, ?_, ?_, 30, by omega, by omega, ?_⟩
    · rw [gc 0 8 0 0 (by omega) (nb _ _ (by omega)), gh 30 4 0 0 (by omega)]; rfl
    · rw [gc 0 9 0 0 (by omega) (nb _ _ (by omega)), gh 30 10 0 0 (by omega)]; rfl
    · rw [gc 0 10 0 0 (by omega) (nb _ _ (by omega)), gh 30 11 0 0 (by omega)]; rfl
    · rw [gc 0 11 0 0 (by omega) (nb _ _ (by omega)), gh 30 16 0 0 (by omega)]; rfl
    · rw [gc 26 0 0 k (by omega) (nb _ _ (by omega)), gh 37 0 0 k (by omega)]; rfl
    · rw [gh 30 4 0 0 (by omega)]; decide
    · rw [gh 30 10 0 0 (by omega)]; decide
    · rw [gh 30 11 0 0 (by omega)]; decide
    · rw [gh 30 16 0 0 (by omega)]; rfl
  obtain ⟨H6, e6, o6, k2, -⟩ := m_begin hp (F' := G) (b := fun g x => G 40 0 0 (16 * g + x)) (m := fun g x => G 44 0 0 (16 * g + x)) ⟨fun _ _ _ _ _ _ => rfl, fun _ _ _ => rfl, fun _ _ _ _ => rfl⟩
  refine ⟨H6, e6, ?_⟩
  have h11 : G 30 11 0 0 = 5 := by rw [gh 30 11 0 0 (by omega)]; rfl
  rw [h11] at k2
  have pa : ∀ k p y j, pk k p → H6 k p y j = G k p y j := fun k p y j q => by
    unfold pk at q
    exact o6 k p y j (by omega) (by omega)
  have ag : agr G H6 := pk_agr pa
  have oc : ∀ k p y j, k < 30 → H6 k p y j = G k p y j := fun k p y j q => o6 k p y j (by omega) (by omega)
  have ob : ∀ k p y j, bl 0 k y → H6 k p y j = G k p y j := fun k p y j q => oc k p y j (by unfold bl at q; omega)
  have hb : RB 0 G G (begS G 5) := by
    refine ⟨fun g x => if g = 9 then gt G (lb 0 g x) else begS G 5 g x, ⟨fun _ _ _ _ _ => rfl, fun g x hv => ?_, fun g x hg hx => ?_⟩, fun g hg => by funext x; exact if_neg hg⟩
    · show gt G (lb 0 g x) = if g = 9 then gt G (lb 0 g x) else begS G 5 g x
      by_cases h9 : g = 9
      · rw [if_pos h9]
      · rw [if_neg h9]
        have hw := vb_w hv
        have e : gt G (lb 0 g x) = gt Fz (lb 0 g x) := by
          have hbl := lb_blw (i := 0) (by omega) hw
          unfold gt
          exact gb _ _ _ _ hbl
        rw [e, cw3 g x hw]
        show (if g = 9 then gt F0c (lb 0 9 x) else if g = 8 then 0 else b8c F0c 5 g) = _
        rw [if_neg h9]
        unfold begS
        rcases hv with ⟨hg, hcx, hx⟩ | ⟨hg, hx⟩ | ⟨hg, hx⟩
        · rw [if_neg (by omega)]
          unfold b8c
          by_cases hg5 : 2 ≤ g ∧ g < 5
          · rw [if_pos hg5, if_pos ⟨hcx, hg5⟩, gh 31 0 0 (g - 2) (by omega)]
            rfl
          · rw [if_neg hg5, if_neg (fun q => hg5 q.2), if_neg (by omega), if_neg (by omega)]
        · subst hg
          rw [if_pos rfl, if_neg (by omega), if_neg (by omega), if_neg (by omega)]
        · exact absurd hg h9
    · have hbl := lm_bl (i := 0) (g := g) (x := x) (by omega)
      have e : gt G (lm 0 g x) = gt Fz (lm 0 g x) := by
        unfold gt
        exact gb _ _ _ _ hbl
      rw [e]
      exact lm3 g x hg hx
  refine ⟨RP_c pa hRP, ⟨0, begS G 5, ?_, rb_c (by omega) hb ag ob, fun g x hx => ?_⟩, ⟨⟨0, 0, by omega, by omega, ?_, ?_, ?_⟩, fun k hk hne => ?_⟩, fun i hi => ?_, ⟨0, by omega, ?_, ?_, fun j hj => absurd hj (by omega)⟩⟩
  · rw [pa 30 11 0 0 (by unfold pk; omega), h11]
    exact inv_c ag (beg_inv hp (by decide))
  · rw [Nat.zero_add]
    exact k2 g x hx
  · rw [oc 0 17 0 0 (by omega), gc 0 17 0 0 (by omega) (nb _ _ (by omega))]; rfl
  · rw [o6 43 0 0 0 (by omega) (by omega), gh 43 0 0 0 (by omega)]; rfl
  · rw [o6 43 0 0 1 (by omega) (by omega), gh 43 0 0 1 (by omega)]; rfl
  · refine absurd ?_ hne
    rw [o6 43 0 0 k (by omega) (by omega), gh 43 0 0 k (by omega)]; rfl
  · refine rq_of (fun g x hg hx => ?_)
    have hbl := lm_bl (g := g) (x := x) hi
    have e1 : gt H6 (lm i g x) = gt G (lm i g x) := by
      unfold gt
      exact oc _ _ _ _ (by unfold bl at hbl; omega)
    rw [e1]
    by_cases h0 : i = 0
    · subst h0
      have e : gt G (lm 0 g x) = gt Fz (lm 0 g x) := by
        unfold gt
        exact gb _ _ _ _ hbl
      rw [e]
      exact lm3 g x hg hx
    · have e : gt G (lm i g x) = gt F0c (lm i g x) := by
        unfold gt
        exact gc _ _ _ _ (by unfold bl at hbl; omega) (bl_ne hi (by omega) h0 hbl)
      rw [e]
      exact F0c_lm i g x
  · rw [oc 0 20 0 0 (by omega), gc 0 20 0 0 (by omega) (nb _ _ (by omega))]; rfl
  · rw [o6 30 18 0 0 (by omega) (by omega), gh 30 18 0 0 (by omega)]; rfl
