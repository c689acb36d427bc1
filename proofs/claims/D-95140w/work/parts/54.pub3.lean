/-! PURE: takes, little -/
set_option maxRecDepth 100000
theorem oN_ne1 {i : Nat} (h : i < 2147483648) : oN i ≠ -1 := fun q => by
  have h2 := congrArg Int32.toInt q
  rw [oN_i h] at h2
  have k1 : (-1 : Int32).toInt = -1 := rfl
  omega
theorem ag_of {F F1 : St} (hf : ∀ k p, 30 ≤ k → k < 40 → ¬ (k = 30 ∧ (p = 4 ∨ p = 10 ∨ p = 11)) → ∀ y j, F1 k p y j = F k p y j) : agr F F1 := fun k p i j a1 a2 a3 => hf k p a1 (by omega) (by omega) i j
theorem bo_takes (p1 p2 : Int32) : Bo (fun F => fn_X0_takes F p1 p2) (fun F => fn_X8_takes F p1 p2) := by
  intro F hr
  obtain ⟨T, hT1, hT2, hT3, hT4, hC, hM⟩ := hr.cbr
  obtain ⟨⟨hp, hq, ⟨e8, e9, e10, -⟩, -, h5, h6, -⟩, ⟨t0, b0, hv0, hb0, hm0⟩, -, h4, -⟩ := id hr
  have hmu : 0 ≤ (F 30 11 0 0).toInt ∧ (F 30 11 0 0).toInt ≤ 20 := by omega
  obtain ⟨b3, hb3⟩ := h4 3 (by omega)
  show Ok (fn_X0_takes F p1 p2) _
  unfold fn_X0_takes
  rw [isIn_l F p1 1 9999 (l2 := 1) (h2 := 9999) rfl rfl, ob_s]
  by_cases h : (1 : Int32) ≤ p1 ∧ p1 ≤ 9999
  · rw [if_pos h]
    refine ok_itn n10 ?_
    rw [isIn_l F p2 0 10 (l2 := 0) (h2 := 10) rfl rfl, ob_s]
    by_cases hs : (0 : Int32) ≤ p2 ∧ p2 ≤ 10
    · rw [if_pos hs, e10]
      let f : Nat → Bt := fun n => runS F p2 (F 30 10 0 0) (F 30 11 0 0) n
      have hfv : ∀ n, n ≤ 60 → Inv F (F 30 11 0 0) n (f n) := fun n hn => run_inv hp hmu h5 n hn
      have hf0 : ¬ p1 ≤ f 0 8 0 := fun q => by
        have e : f 0 8 0 = 0 := by
          show begS F (F 30 11 0 0) 8 0 = 0
          unfold begS
          rw [if_neg (by omega), if_neg (by omega), if_neg (by omega)]
        rw [e] at q
        have a1 := le_i.mp q
        have a2 := le_i.mp h.1
        have k0 : (0 : Int32).toInt = 0 := rfl
        have k1 : (1 : Int32).toInt = 1 := rfl
        omega
      have hcl : Ok (ob (fn_X1_begin F 3 (F 30 11 0 0)) (fun F7 => lp_X0_takes_38 p1 p2 300 F7)) (fun r => ∃ k, k ≤ 60 ∧ RB 3 F r (f k) ∧ (∀ j, j < k → ¬ p1 ≤ f j 8 0) ∧ (p1 ≤ f k 8 0 ∨ k = 60)) := by
        refine ok_ob (hb3.begin (by omega) hp hq _) (fun F7 h7 => ?_)
        refine ok_lpG (lp := lp_X0_takes_38 p1 p2) (fun k G => RB 3 F G (f k) ∧ ∀ j, j < k → ¬ p1 ≤ f j 8 0) 60 ?_ ?_ 60 300 0 F7 (by omega) (by omega) ⟨h7, fun j hj => absurd hj (by omega)⟩
        · intro n k G hk hI ih
          obtain ⟨i1, i2⟩ := hI
          have hv := hfv k (by omega)
          rw [lp_X0_takes_38_s, i1.rb (k := 1) (p := 2) (y := 3) (j := 0) 8 4 rfl (Or.inr (Or.inl ⟨rfl, by omega⟩)) (by decide), hv.2.1.1, i1.rb (k := 2) (p := 1) (y := 64 + 3) (j := 0) 8 0 rfl (Or.inr (Or.inl ⟨rfl, by omega⟩)) (by decide), i1.o (k := 0) (by decide), e9]
          refine ok_itn (nle (a := 60) hk (by omega)) (ok_ite (fun q => ok_some ⟨k, by omega, i1, i2, Or.inl q⟩) (fun q => ok_ob (i1.tick (by omega) hp hq hmu h5 hv (by omega)) (fun G2 h2 => ih G2 ⟨h2, fun j hj => ?_⟩)))
          by_cases hjk : j = k
          · subst hjk; exact q
          · exact i2 j (by omega)
        · intro n G hI
          obtain ⟨i1, i2⟩ := hI
          have hv := hfv 60 (by omega)
          rw [lp_X0_takes_38_s, i1.rb (k := 1) (p := 2) (y := 3) (j := 0) 8 4 rfl (Or.inr (Or.inl ⟨rfl, by omega⟩)) (by decide), hv.2.1.1]
          exact ok_itp (yle (a := 60) (Nat.le_refl _) (by omega)) (ok_some ⟨60, by omega, i1, i2, Or.inr rfl⟩)
      have hcl2 : Ok (ob (fn_X1_begin F 3 (F 30 11 0 0)) (fun F7 => ob (lp_X0_takes_38 p1 p2 300 F7) (fun F10 => if p1 ≤ (F10 2 1 (64 + 3) 0) then some (F10, (F10 1 2 3 0)) else some (F10, (-1 : Int32))))) (fun r => ∃ k, k ≤ 60 ∧ RB 3 F r.1 (f k) ∧ (∀ j, j < k → ¬ p1 ≤ f j 8 0) ∧ ((p1 ≤ f k 8 0 ∧ r.2 = oN k) ∨ (k = 60 ∧ ¬ p1 ≤ f 60 8 0 ∧ r.2 = -1))) := by
        obtain ⟨F10, g1, k, hk, i1, i2, i3⟩ := hcl
        have g2 : ob (fn_X1_begin F 3 (F 30 11 0 0)) (fun F7 => ob (lp_X0_takes_38 p1 p2 300 F7) (fun F10 => if p1 ≤ (F10 2 1 (64 + 3) 0) then some (F10, (F10 1 2 3 0)) else some (F10, (-1 : Int32)))) = (if p1 ≤ (F10 2 1 (64 + 3) 0) then some (F10, (F10 1 2 3 0)) else some (F10, (-1 : Int32))) := by
          obtain ⟨F7, j1, j2⟩ := ob_e g1
          rw [j1, ob_s, j2, ob_s]
        have hv := hfv k hk
        rw [g2, i1.rb (k := 1) (p := 2) (y := 3) (j := 0) 8 4 rfl (Or.inr (Or.inl ⟨rfl, by omega⟩)) (by decide), hv.2.1.1, i1.rb (k := 2) (p := 1) (y := 64 + 3) (j := 0) 8 0 rfl (Or.inr (Or.inl ⟨rfl, by omega⟩)) (by decide)]
        refine ok_ite (fun q => ok_some ⟨k, hk, i1, i2, Or.inl ⟨q, rfl⟩⟩) (fun q => ok_some ⟨k, hk, i1, i2, ?_⟩)
        rcases i3 with z | z
        · exact absurd z q
        · exact Or.inr ⟨z, by rw [← z]; exact q, rfl⟩
      refine ok_itn n10 (ok_mono hcl2 (fun r hrr => ?_))
      obtain ⟨F10, rv⟩ := r
      obtain ⟨K, hK, i1, i2, i3⟩ := hrr
      have i1 : RB 3 F F10 (f K) := i1
      have i3 : (p1 ≤ f K 8 0 ∧ rv = oN K) ∨ (K = 60 ∧ ¬ p1 ≤ f 60 8 0 ∧ rv = -1) := i3
      show Ok (fn_X8_takes F10 p1 p2) (fun q => q.2 = rv ∧ Rel q.1)
      have c : ∀ k p y j, 30 ≤ k → F10 k p y j = F k p y j := fun k p y j hk => i1.fr k p y j (by unfold bl; omega)
      unfold fn_X8_takes
      rw [in_e, ob_s, if_pos h]
      refine ok_itn n10 ?_
      rw [in_e, ob_s, if_pos hs]
      refine ok_itn n10 (ok_pl (ok_pl (ok_ob (m_c4041 _) (fun F11 h11 => ?_))))
      obtain ⟨g1, g2⟩ := h11
      have d : ∀ k p y j, k ≠ 41 → ¬ (k = 30 ∧ p = 4) → F11 k p y j = F10 k p y j := fun k p y j c1 c2 => by
        rw [g1 k p y j c1, fu_n _ _ _ _ _ _ (fun z => c2 ⟨z.1, z.2.1⟩)]
      have d4 : F11 30 4 0 0 = p2 := by rw [g1 30 4 0 0 (by decide), fu_s]
      have ag : agr F F11 := fun k p y j a1 a2 a3 => by rw [d k p y j (by omega) (by omega), c k p y j (by omega)]
      have e11 : F11 30 11 0 0 = F 30 11 0 0 := by rw [d 30 11 0 0 (by omega) (by omega), c 30 11 0 0 (by omega)]
      have e10' : F11 30 10 0 0 = F 30 10 0 0 := by rw [d 30 10 0 0 (by omega) (by omega), c 30 10 0 0 (by omega)]
      have hp1 := PB_c ag hp
      have hfc : ∀ n, tickS F11 p2 (F 30 10 0 0) (f n) = f (n + 1) := fun n => by
        show _ = tickS F p2 (F 30 10 0 0) (f n)
        rw [← nf_tick F11, nf_e ag, nf_tick]
      have hMh : Mh F11 F11 (fun g x => F11 40 0 0 (16 * g + x)) (fun g x => F11 44 0 0 (16 * g + x)) := ⟨fun _ _ _ _ _ _ => rfl, fun _ _ _ => rfl, fun _ _ _ _ => rfl⟩
      refine ok_ob (m_begin hp1 hMh) (fun F13 h13 => ?_)
      rw [e11, ← nf_beg F11, nf_e ag, nf_beg] at h13
      have hlp : Ok (lp_X8_takes_57 p1 300 F13 (-1) 1) (fun r => ∃ n m', n ≤ 60 ∧ Mh F11 r.1 (f n) m' ∧ ((r.2.1 = -1 ∧ ∀ j, j ≤ 60 → ¬ p1 ≤ f j 8 0) ∨ (r.2.1 = oN n ∧ p1 ≤ f n 8 0 ∧ ∀ j, j < n → ¬ p1 ≤ f j 8 0))) := by
        refine ok_lpA (lp := fun n (s : St × Int32) x => lp_X8_takes_57 p1 n s.1 s.2 x) (I := fun k s => ∃ m', Mh F11 s.1 (f (k - 1)) m' ∧ ((s.2 = -1 ∧ ∀ j, j < k → ¬ p1 ≤ f j 8 0) ∨ (s.2 = oN (k - 1) ∧ 1 ≤ k - 1 ∧ p1 ≤ f (k - 1) 8 0 ∧ ∀ j, j < k - 1 → ¬ p1 ≤ f j 8 0))) 1 61 (by omega) (by omega) (a := (F13, -1)) ?_ ?_ ⟨_, h13, Or.inl ⟨rfl, fun j hj => by rw [show j = 0 by omega]; exact hf0⟩⟩
        · intro n k s hk hk1 hI ih
          obtain ⟨G, x⟩ := s
          obtain ⟨m', i1, i2⟩ := hI
          have i1 : Mh F11 G (f (k - 1)) m' := i1
          show Ok (lp_X8_takes_57 p1 (n + 1) G x (oN k)) _
          rw [lp_X8_takes_57_s]
          refine ok_itn (show ¬ oN 60 < oN k from by rw [oN_lt (by omega) (by omega)]; omega) ?_
          rcases i2 with ⟨z1, z2⟩ | ⟨z1, z2, z3, z4⟩
          · have z1 : x = -1 := z1
            have hv := inv_c ag (hfv (k - 1) (by omega))
            have htk := m_tick hp1 (fun x hx => ((tick_inv (st := p2) (wm := F 30 10 0 0) hp1 hmu h5 hv (by omega)).2.1 x hx).1) i1
            rw [d4, e10', hfc, show k - 1 + 1 = k by omega] at htk
            refine ok_itp z1 (ok_ob htk (fun G2 h2 => ?_))
            obtain ⟨m2, h2⟩ := h2
            rw [h2.rb 8 0 (by omega) ⟨by omega, by omega⟩]
            refine ok_obi (ih (G2, _) ⟨m2, by rw [show k + 1 - 1 = k by omega]; exact h2, ?_⟩)
            by_cases q : f k 8 0 < p1
            · refine Or.inl ⟨if_pos q, fun j hj => ?_⟩
              by_cases hjk : j = k
              · rw [hjk]; exact Int32.not_le.mpr q
              · exact z2 j (by omega)
            · refine Or.inr ⟨by rw [show k + 1 - 1 = k by omega]; exact if_neg q, by omega, by rw [show k + 1 - 1 = k by omega]; exact Int32.not_lt.mp q, fun j hj => z2 j (by omega)⟩
          · have z1 : x = oN (k - 1) := z1
            refine ok_itn (fun q => oN_ne1 (by omega) (z1.symm.trans q)) (ok_some ⟨k - 1, m', by omega, i1, Or.inr ⟨z1, z3, z4⟩⟩)
        · intro n s hI
          obtain ⟨G, x⟩ := s
          obtain ⟨m', i1, i2⟩ := hI
          show Ok (lp_X8_takes_57 p1 (n + 1) G x (oN 61)) _
          rw [lp_X8_takes_57_s]
          refine ok_itp (by decide) (ok_some ⟨60, m', by omega, i1, ?_⟩)
          rcases i2 with ⟨z1, z2⟩ | ⟨z1, z2, z3, z4⟩
          · exact Or.inl ⟨z1, fun j hj => z2 j (by omega)⟩
          · exact Or.inr ⟨z1, z3, z4⟩
      refine ok_ob3 hlp (fun F18 x19 x20 h18 => ok_ob (m_c4140 F18) (fun F32 h32 => ok_pl (ok_some ?_)))
      obtain ⟨N, m', hN, w1, w2⟩ := h18
      obtain ⟨u1, u2⟩ := h32
      have w1 : Mh F11 F18 (f N) m' := w1
      have w2 : (x19 = -1 ∧ ∀ j, j ≤ 60 → ¬ p1 ≤ f j 8 0) ∨ (x19 = oN N ∧ p1 ≤ f N 8 0 ∧ ∀ j, j < N → ¬ p1 ≤ f j 8 0) := w2
      show x19 = rv ∧ Rel (fu F32 30 4 0 0 (F10 30 4 0 0))
      refine ⟨?_, Rel_sm hr (sm_taste hr i1 ⟨fun k p y j c1 c2 c3 c4 => ?_, fun j hj => ?_⟩)⟩
      · rcases w2 with ⟨v1, v2⟩ | ⟨v1, v2, v3⟩
        · rcases i3 with ⟨z1, z2⟩ | ⟨z1, z2, z3⟩
          · exact absurd z1 (v2 K hK)
          · rw [v1, z3]
        · rcases i3 with ⟨z1, z2⟩ | ⟨z1, z2, z3⟩
          · have hKN : K = N := by
              rcases Nat.lt_trichotomy K N with l | l | l
              · exact absurd z1 (v3 K l)
              · exact l
              · exact absurd v2 (i2 N l)
            rw [v1, z2, hKN]
          · exfalso
            subst z1
            rcases (show N < 60 ∨ N = 60 by omega) with l | l
            · exact i2 N l v2
            · subst l; exact z2 v2
      · by_cases h4 : k = 30 ∧ p = 4 ∧ y = 0 ∧ j = 0
        · obtain ⟨rfl, rfl, rfl, rfl⟩ := h4
          rw [fu_s]
        · rw [fu_n _ _ _ _ _ _ h4, u1 k p y j c1, w1.1 k p y j c1 ⟨c3, c4⟩]
          rw [g1 k p y j c2, fu_n _ _ _ _ _ _ h4]
      · rw [fu_n _ _ _ _ _ _ (by omega), u2 j hj, w1.1 41 0 0 j (by decide) (by decide), g2 j hj, fu_n _ _ _ _ _ _ (by omega)]
    · rw [if_neg hs]
      refine ok_itp z00 (ok_some ?_)
      show Ok (fn_X8_takes F p1 p2) _
      unfold fn_X8_takes
      rw [in_e, ob_s, if_pos h]
      refine ok_itn n10 ?_
      rw [in_e, ob_s, if_neg hs]
      exact ok_itp z00 (ok_some ⟨rfl, hr⟩)
  · rw [if_neg h]
    refine ok_itp z00 (ok_some ?_)
    show Ok (fn_X8_takes F p1 p2) _
    unfold fn_X8_takes
    rw [in_e, ob_s, if_neg h]
    exact ok_itp z00 (ok_some ⟨rfl, hr⟩)
/-- what the class keeps while it tries -/
def Try (F G : St) : Prop := (∀ k p y j, ¬ bl 3 k y → k ≠ 19 → k ≠ 20 → k ≠ 22 → G k p y j = F k p y j) ∧ ∃ b, RB 3 G G b
theorem Try.cbr {F G : St} (hr : Rel F) (h : Try F G) {T : Nat} {st wm mu : Int32} (hT : F 0 11 0 0 = oN T) (hT2 : T ≤ 60) (hmu : 0 ≤ mu.toInt ∧ mu.toInt ≤ 20) (hwm : 0 ≤ wm.toInt ∧ wm.toInt ≤ 100) : Cbr G mu st wm T := by
  obtain ⟨⟨hp, hq, ⟨-, -, -, -, h26⟩, -⟩, -⟩ := hr
  have hpk : ∀ k p y j, pk k p → G k p y j = F k p y j := fun k p y j hk => by
    unfold pk at hk
    exact h.1 k p y j (by unfold bl; omega) (by omega) (by omega) (by omega)
  refine ⟨PB_c (pk_agr hpk) hp, Par_c hpk hq, hmu, hwm, ⟨by rw [hpk 0 11 0 0 (by unfold pk; omega)]; exact hT, hT2⟩, fun k hk => by rw [hpk 26 0 0 k (by unfold pk; omega), hpk 37 0 0 k (by unfold pk; omega)]; exact h26 k hk⟩
theorem Try.next {F G G2 : St} {b : Bt} (h : Try F G) (h2 : RB 3 G G2 b) : Try F G2 := ⟨fun k p y j c1 c2 c3 c4 => by
  rw [← h.1 k p y j c1 c2 c3 c4]
  exact h2.fr k p y j c1, b, rb_c (by omega) h2 (rb_agr h2) (fun _ _ _ _ _ => rfl)⟩
theorem Try.fu {F G : St} (h : Try F G) {k p y j : Nat} {v : Int32} (hk : k = 19 ∨ k = 20 ∨ k = 22) : Try F (fu G k p y j v) := by
  obtain ⟨h1, b, h2⟩ := h
  refine ⟨fun k2 p2 y2 j2 c1 c2 c3 c4 => by
    rw [fu_n _ _ _ _ _ _ (fun z => by omega)]
    exact h1 k2 p2 y2 j2 c1 c2 c3 c4, b, rb_c (by omega) h2 (fun k2 p2 i2 j2 a1 a2 a3 => fu_n _ _ _ _ _ _ (by omega)) (fun k2 p2 y2 j2 hb => fu_n _ _ _ _ _ _ (fun z => by
      unfold bl at hb
      omega))⟩
theorem Try.agr {F G : St} (h : Try F G) : agr F G := fun k p y j a1 a2 a3 => h.1 k p y j (by unfold bl; omega) (by omega) (by omega) (by omega)
theorem Try.h37 {F G : St} (h : Try F G) : ∀ k, G 37 0 0 k = F 37 0 0 k := fun k => h.1 37 0 0 k (by unfold bl; omega) (by omega) (by omega) (by omega)
theorem Try.refl {F : St} (hr : Rel F) : Try F F := ⟨fun _ _ _ _ _ _ _ _ => rfl, hr.2.2.2.1 3 (by omega)⟩
/-- the model's scratch behind the class' tries -/
def MTry (F1 F2 : St) : Prop := (∀ k p y j, k ≠ 40 → k ≠ 41 → k ≠ 44 → k ≠ 45 → k ≠ 46 → ¬ (k = 30 ∧ 37 ≤ p ∧ p < 64) → F2 k p y j = F1 k p y j) ∧ ∀ j, j < 138 → F2 40 0 0 j = F1 40 0 0 j
theorem sm_try {F F1 F2 : St} (h1 : Try F F1) (h2 : MTry F1 F2) : Sm F F2 := by
  obtain ⟨o, b, hb⟩ := h1
  have ag : agr F1 F2 := fun k p i j a1 a2 a3 => h2.1 k p i j (by omega) (by omega) (by omega) (by omega) (by omega) (by omega)
  refine ⟨fun k p y j hs => ?_, fun j hj => ?_, b, rb_c (by omega) hb ag (fun k p y j hb => ?_)⟩
  · unfold scr at hs
    rw [h2.1 k p y j (by omega) (by omega) (by omega) (by omega) (by omega) (by omega)]
    exact o k p y j (fun q => hs (Or.inl q)) (by omega) (by omega) (by omega)
  · rw [h2.2 j hj]
    exact o 40 0 0 j (by unfold bl; omega) (by omega) (by omega) (by omega)
  · unfold bl at hb
    exact h2.1 k p y j (by omega) (by omega) (by omega) (by omega) (by omega) (by omega)
/-- one try of the class -/
theorem c_try {F G : St} (hr : Rel F) (h : Try F G) {T : Nat} (hT : F 0 11 0 0 = oN T) (hT2 : T ≤ 60) (hmu : 0 ≤ (G 20 3 0 0).toInt ∧ (G 20 3 0 0).toInt ≤ 20) (hwm : 0 ≤ (G 20 2 0 0).toInt ∧ (G 20 2 0 0).toInt ≤ 100) : Ok (fn_X5_taste_20 G) (fun r => Try F r.1 ∧ (∀ k p y j, ¬ bl 3 k y → r.1 k p y j = G k p y j) ∧ r.2 = tstS F (G 20 1 0 0) (G 20 2 0 0) (G 20 3 0 0) T) := by
  obtain ⟨b, hb⟩ := h.2
  refine ok_mono (c_taste20 (h.cbr hr hT hT2 hmu hwm) hb) (fun r hrr => ?_)
  obtain ⟨h1, h2⟩ := hrr
  exact ⟨h.next h1, h1.fr, by rw [h2, tst_c h.agr h.h37]⟩
/-- one try of the model: st, wm, mu as they stand -/
def MT (F1 G : St) (st wm mu : Int32) : Prop := (∀ k p y j, k ≠ 40 → k ≠ 41 → k ≠ 44 → k ≠ 45 → k ≠ 46 → ¬ (k = 30 ∧ 37 ≤ p ∧ p < 64) → ¬ (k = 30 ∧ (p = 4 ∨ p = 10 ∨ p = 11) ∧ y = 0 ∧ j = 0) → G k p y j = F1 k p y j) ∧ (∀ j, j < 138 → G 40 0 0 j = F1 40 0 0 j) ∧ G 30 4 0 0 = st ∧ G 30 10 0 0 = wm ∧ G 30 11 0 0 = mu
theorem MT.agr {F1 G : St} {st wm mu : Int32} (h : MT F1 G st wm mu) : agr F1 G := fun k p y j a1 a2 a3 => h.1 k p y j (by omega) (by omega) (by omega) (by omega) (by omega) (by omega) (by omega)
theorem MT.fu4 {F1 G : St} {st wm mu : Int32} (h : MT F1 G st wm mu) (v : Int32) : MT F1 (fu G 30 4 0 0 v) v wm mu := ⟨fun k p y j c1 c2 c3 c4 c5 c6 c7 => by
  rw [fu_n _ _ _ _ _ _ (fun z => c7 ⟨z.1, Or.inl z.2.1, z.2.2⟩)]
  exact h.1 k p y j c1 c2 c3 c4 c5 c6 c7, fun j hj => by rw [fu_n _ _ _ _ _ _ (by omega)]; exact h.2.1 j hj, fu_s _ _ _ _ _ _, by rw [fu_n _ _ _ _ _ _ (by omega)]; exact h.2.2.2.1, by rw [fu_n _ _ _ _ _ _ (by omega)]; exact h.2.2.2.2⟩
theorem MT.fu10 {F1 G : St} {st wm mu : Int32} (h : MT F1 G st wm mu) (v : Int32) : MT F1 (fu G 30 10 0 0 v) st v mu := ⟨fun k p y j c1 c2 c3 c4 c5 c6 c7 => by
  rw [fu_n _ _ _ _ _ _ (fun z => c7 ⟨z.1, Or.inr (Or.inl z.2.1), z.2.2⟩)]
  exact h.1 k p y j c1 c2 c3 c4 c5 c6 c7, fun j hj => by rw [fu_n _ _ _ _ _ _ (by omega)]; exact h.2.1 j hj, by rw [fu_n _ _ _ _ _ _ (by omega)]; exact h.2.2.1, fu_s _ _ _ _ _ _, by rw [fu_n _ _ _ _ _ _ (by omega)]; exact h.2.2.2.2⟩
theorem MT.fu11 {F1 G : St} {st wm mu : Int32} (h : MT F1 G st wm mu) (v : Int32) : MT F1 (fu G 30 11 0 0 v) st wm v := ⟨fun k p y j c1 c2 c3 c4 c5 c6 c7 => by
  rw [fu_n _ _ _ _ _ _ (fun z => c7 ⟨z.1, Or.inr (Or.inr z.2.1), z.2.2⟩)]
  exact h.1 k p y j c1 c2 c3 c4 c5 c6 c7, fun j hj => by rw [fu_n _ _ _ _ _ _ (by omega)]; exact h.2.1 j hj, by rw [fu_n _ _ _ _ _ _ (by omega)]; exact h.2.2.1, by rw [fu_n _ _ _ _ _ _ (by omega)]; exact h.2.2.2.1, fu_s _ _ _ _ _ _⟩
theorem MT.fur {F1 G : St} {st wm mu : Int32} (h : MT F1 G st wm mu) {k j : Nat} {v : Int32} (hk : k = 45 ∨ k = 46) : MT F1 (fu G k 0 0 j v) st wm mu := ⟨fun k2 p y j c1 c2 c3 c4 c5 c6 c7 => by
  rw [fu_n _ _ _ _ _ _ (fun z => by omega)]
  exact h.1 k2 p y j c1 c2 c3 c4 c5 c6 c7, fun j hj => by rw [fu_n _ _ _ _ _ _ (by omega)]; exact h.2.1 j hj, by rw [fu_n _ _ _ _ _ _ (by omega)]; exact h.2.2.1, by rw [fu_n _ _ _ _ _ _ (by omega)]; exact h.2.2.2.1, by rw [fu_n _ _ _ _ _ _ (by omega)]; exact h.2.2.2.2⟩
theorem MT.end {F1 G : St} (h : MT F1 G (F1 30 4 0 0) (F1 30 10 0 0) (F1 30 11 0 0)) : MTry F1 G := ⟨fun k p y j c1 c2 c3 c4 c5 c6 => by
  by_cases q : k = 30 ∧ (p = 4 ∨ p = 10 ∨ p = 11) ∧ y = 0 ∧ j = 0
  · obtain ⟨rfl, z, rfl, rfl⟩ := q
    rcases z with rfl | rfl | rfl
    · exact h.2.2.1
    · exact h.2.2.2.1
    · exact h.2.2.2.2
  · exact h.1 k p y j c1 c2 c3 c4 c5 c6 q, h.2.1⟩
theorem MT.start (F1 : St) : MT F1 F1 (F1 30 4 0 0) (F1 30 10 0 0) (F1 30 11 0 0) := ⟨fun _ _ _ _ _ _ _ _ _ _ _ => rfl, fun _ _ => rfl, rfl, rfl, rfl⟩
theorem m_try {F1 G : St} {T : Nat} {st wm mu : Int32} (hp : PB F1) (hT : F1 30 16 0 0 = oN T) (hT2 : T ≤ 60) (h : MT F1 G st wm mu) (hmu : 0 ≤ mu.toInt ∧ mu.toInt ≤ 20) (hwm : 0 ≤ wm.toInt ∧ wm.toInt ≤ 100) : Ok (fn_X8_tasteNow G) (fun r => MT F1 r.1 st wm mu ∧ (∀ k j, k = 45 ∨ k = 46 → r.1 k 0 0 j = G k 0 0 j) ∧ r.2 = tstS F1 st wm mu T) := by
  obtain ⟨h1, h2, h3, h4, h5⟩ := id h
  have hM : Mbr G T := ⟨PB_c h.agr hp, by rw [h5]; exact hmu, by rw [h4]; exact hwm, by rw [h1 30 16 0 0 (by omega) (by omega) (by omega) (by omega) (by omega) (by omega) (by omega)]; exact hT, hT2⟩
  refine ok_mono (m_taste hM) (fun r hrr => ?_)
  obtain ⟨⟨g1, g2⟩, g3, -⟩ := hrr
  rw [h3, h4, h5, tst_c h.agr (fun k => h1 37 0 0 k (by omega) (by omega) (by omega) (by omega) (by omega) (by omega) (by omega))] at g3
  refine ⟨⟨fun k p y j c1 c2 c3 c4 c5 c6 c7 => ?_, fun j hj => by rw [g2 j hj]; exact h2 j hj, by rw [g1 30 4 0 0 (by omega) (by omega) (by omega) (by omega)]; exact h3, by rw [g1 30 10 0 0 (by omega) (by omega) (by omega) (by omega)]; exact h4, by rw [g1 30 11 0 0 (by omega) (by omega) (by omega) (by omega)]; exact h5⟩, fun k j hk => g1 k 0 0 j (by omega) (by omega) (by omega) (by omega), g3⟩
  rw [g1 k p y j c1 c2 c3 c6]
  exact h1 k p y j c1 c2 c3 c4 c5 c6 c7
theorem try_par {F F1 : St} (hr : Rel F) (h : Try F F1) : PB F1 ∧ (∀ p, F1 30 p 0 0 = F 30 p 0 0) := ⟨PB_c h.agr hr.1.1, fun p => h.1 30 p 0 0 (by unfold bl; omega) (by omega) (by omega) (by omega)⟩
theorem bo_little : Bo fn_X0_little fn_X8_little := by
  intro F hr
  obtain ⟨T, hT1, hT2, hT3, hT4, -, -⟩ := hr.cbr
  obtain ⟨⟨hp, hq, ⟨e8, e9, e10, -⟩, -, h5, h6, -⟩, -⟩ := id hr
  let f : Nat → Int32 := fun n => tstS F (F 30 4 0 0) (F 30 10 0 0) (oN n) T
  unfold fn_X0_little fn_X7_lay
  refine ok_ob (P := fun F1 => Try F F1 ∧ F1 20 1 0 0 = F 30 4 0 0 ∧ F1 20 2 0 0 = F 30 10 0 0) (ok_pl (ok_pl (ok_pl (ok_some ?_)))) (fun F1 h1 => ok_pl ?_)
  · refine ⟨(((Try.refl hr).fu (by omega)).fu (by omega)).fu (by omega), ?_, ?_⟩
    · rw [fu_n _ _ _ _ _ _ (by omega), fu_n _ _ _ _ _ _ (by omega), fu_s, e8]
    · rw [fu_n _ _ _ _ _ _ (by omega), fu_s, fu_n _ _ _ _ _ _ (by omega), e9]
  · obtain ⟨t1, t2, t3⟩ := h1
    have hlp : Ok (lp_X0_little_15 300 (fu F1 20 3 0 0 1)) (fun r => (∃ G k, r = Sum.inl (G, oN k) ∧ Try F G ∧ 1 ≤ k ∧ k ≤ 20 ∧ f k ≠ 3 ∧ ∀ j, 1 ≤ j → j < k → f j = 3) ∨ (∃ G, r = Sum.inr G ∧ Try F G ∧ ∀ j, 1 ≤ j → j < 21 → f j = 3)) := by
      refine ok_lpG (lp := lp_X0_little_15) (fun k G => (1 ≤ k ∧ Try F G ∧ G 20 1 0 0 = F 30 4 0 0 ∧ G 20 2 0 0 = F 30 10 0 0 ∧ G 20 3 0 0 = oN k) ∧ ∀ j, 1 ≤ j → j < k → f j = 3) 21 ?_ ?_ 20 300 1 _ (by omega) (by omega) ⟨⟨by omega, t1.fu (by omega), by rw [fu_n _ _ _ _ _ _ (by omega)]; exact t2, by rw [fu_n _ _ _ _ _ _ (by omega)]; exact t3, by rw [fu_s]; rfl⟩, fun j h1 h2 => absurd h1 (by omega)⟩
      · intro n k G hk hI ih
        obtain ⟨⟨k1, g1, g2, g3, g4⟩, g5⟩ := hI
        rw [lp_X0_little_15_s, g4]
        have htr := c_try hr g1 hT4 hT2 (by rw [g4, oN_i (by omega)]; omega) (by rw [g3]; exact h5)
        rw [g2, g3, g4] at htr
        refine ok_itn (show ¬ oN 20 < oN k from by rw [oN_lt (by omega) (by omega)]; omega) (ok_ob2 htr (fun G2 r2 h2 => ?_))
        obtain ⟨u1, u2, u3⟩ := h2
        have u1 : Try F G2 := u1
        have u2 : ∀ k p y j, ¬ bl 3 k y → G2 k p y j = G k p y j := u2
        have u3 : r2 = f k := u3
        rw [u2 20 3 0 0 (by unfold bl; omega), g4]
        refine ok_ite (fun q => ok_pl (ih _ ⟨⟨by omega, u1.fu (by omega), ?_, ?_, ?_⟩, fun j j1 j2 => ?_⟩)) (fun q => ok_some (Or.inl ⟨G2, k, rfl, u1, k1, by omega, by rw [← u3]; exact q, g5⟩))
        · rw [fu_n _ _ _ _ _ _ (by omega), u2 20 1 0 0 (by unfold bl; omega)]; exact g2
        · rw [fu_n _ _ _ _ _ _ (by omega), u2 20 2 0 0 (by unfold bl; omega)]; exact g3
        · rw [fu_s, oN_1]
        · by_cases hjk : j = k
          · subst hjk; rw [← u3]; exact q
          · exact g5 j j1 (by omega)
      · intro n G hI
        obtain ⟨⟨k1, g1, g2, g3, g4⟩, g5⟩ := hI
        rw [lp_X0_little_15_s, g4]
        exact ok_itp (by decide) (ok_some (Or.inr ⟨G, rfl, g1, g5⟩))
    obtain ⟨r, hr1, hr2⟩ := hlp
    rw [hr1]
    have key : ∀ (G : St) (rv : Int32), Try F G → ((∃ k, rv = oN k ∧ 1 ≤ k ∧ k ≤ 20 ∧ f k ≠ 3 ∧ ∀ j, 1 ≤ j → j < k → f j = 3) ∨ (rv = -1 ∧ ∀ j, 1 ≤ j → j < 21 → f j = 3)) → Ok (fn_X8_little G) (fun q => q.2 = rv ∧ Rel q.1) := by
      intro G rv hG hrv
      obtain ⟨hpG, cG⟩ := try_par hr hG
      unfold fn_X8_little
      refine ok_pl (ok_ob3 (P := fun r => ∃ mu, MT G r.1 (F 30 4 0 0) (F 30 10 0 0) mu ∧ r.2.1 = rv) ?_ (fun F6 x7 x8 h6 => ok_pl (ok_some ?_)))
      · have hs := MT.start G
        rw [cG 4, cG 10, cG 11] at hs
        refine ok_lpA (lp := fun n (s : St × Int32) x => lp_X8_little_9 n s.1 s.2 x) (I := fun k s => (∃ mu, MT G s.1 (F 30 4 0 0) (F 30 10 0 0) mu) ∧ ((s.2 = -1 ∧ ∀ j, 1 ≤ j → j < k → f j = 3) ∨ (∃ i, s.2 = oN i ∧ 1 ≤ i ∧ i < k ∧ f i ≠ 3 ∧ ∀ j, 1 ≤ j → j < i → f j = 3))) 1 21 (by omega) (by omega) (a := (G, -1)) ?_ ?_ ⟨⟨_, hs⟩, Or.inl ⟨rfl, fun j j1 j2 => absurd j1 (by omega)⟩⟩
        · intro n k s hk hk1 hI ih
          obtain ⟨H, x⟩ := s
          obtain ⟨⟨mu, g1⟩, g2⟩ := hI
          have g1 : MT G H _ _ mu := g1
          show Ok (lp_X8_little_9 (n + 1) H x (oN k)) _
          rw [lp_X8_little_9_s]
          refine ok_itn (nle (a := 21) hk (by omega)) ?_
          rcases g2 with ⟨z1, z2⟩ | ⟨i, z1, z2, z3, z4, z5⟩
          · have z1 : x = -1 := z1
            have htr := m_try hpG (by rw [cG 16]; exact hT3) hT2 (g1.fu11 (oN k)) (by rw [oN_i (by omega)]; omega) h5
            rw [tst_c hG.agr hG.h37] at htr
            refine ok_itp z1 (ok_pl (ok_ob2 htr (fun H2 r2 h2 => ok_obi (ih (H2, _) ⟨⟨_, h2.1⟩, ?_⟩))))
            have hr2 : r2 = f k := h2.2.2
            by_cases q : r2 = 3
            · refine Or.inl ⟨if_pos q, fun j j1 j2 => ?_⟩
              by_cases hjk : j = k
              · rw [hjk, ← hr2]; exact q
              · exact z2 j j1 (by omega)
            · exact Or.inr ⟨k, if_neg q, hk1, by omega, by rw [← hr2]; exact q, z2⟩
          · have z1 : x = oN i := z1
            refine ok_itn (fun q => oN_ne1 (by omega) (z1.symm.trans q)) (ok_some ⟨mu, g1, ?_⟩)
            rcases hrv with ⟨k2, w1, w2, w3, w4, w5⟩ | ⟨w1, w2⟩
            · have : i = k2 := by
                rcases Nat.lt_trichotomy i k2 with l | l | l
                · exact absurd (w5 i z2 l) z4
                · exact l
                · exact absurd (z5 k2 w2 l) w4
              show x = rv
              rw [z1, w1, this]
            · exact absurd (w2 i z2 (by omega)) z4
        · intro n s hI
          obtain ⟨H, x⟩ := s
          obtain ⟨⟨mu, g1⟩, g2⟩ := hI
          show Ok (lp_X8_little_9 (n + 1) H x (oN 21)) _
          rw [lp_X8_little_9_s]
          refine ok_itp (by decide) (ok_some ⟨mu, g1, ?_⟩)
          show x = rv
          rcases g2 with ⟨z1, z2⟩ | ⟨i, z1, z2, z3, z4, z5⟩
          · have z1 : x = -1 := z1
            rcases hrv with ⟨k2, w1, w2, w3, w4, w5⟩ | ⟨w1, w2⟩
            · exact absurd (z2 k2 w2 (by omega)) w4
            · rw [z1, w1]
          · have z1 : x = oN i := z1
            rcases hrv with ⟨k2, w1, w2, w3, w4, w5⟩ | ⟨w1, w2⟩
            · have : i = k2 := by
                rcases Nat.lt_trichotomy i k2 with l | l | l
                · exact absurd (w5 i z2 l) z4
                · exact l
                · exact absurd (z5 k2 w2 l) w4
              rw [z1, w1, this]
            · exact absurd (w2 i z2 (by omega)) z4
      · obtain ⟨mu, g1, g2⟩ := h6
        have g1 : MT G F6 _ _ mu := g1
        have g2 : x7 = rv := g2
        have hend := g1.fu11 (G 30 11 0 0)
        rw [← cG 4, ← cG 10] at hend
        exact ⟨g2, Rel_sm hr (sm_try hG hend.end)⟩
    rcases hr2 with ⟨G, k, rfl, v1, v2, v3, v4, v5⟩ | ⟨G, rfl, v1, v2⟩
    · exact ok_some (key G (oN k) v1 (Or.inl ⟨k, rfl, v2, v3, v4, v5⟩))
    · exact ok_some (key G (-1) v1 (Or.inr ⟨rfl, v2⟩))
