/-! PURE: the model's tick, whole -/
set_option maxRecDepth 100000
section MH3
variable {F F' : St} {b m : Bt} {ρ : Type} {Q : ρ → Prop}
theorem m_loose (h : Mh F F' b m) {k : Nat} (hk : k < 16) (v : Int32) : fn_X8_looseOf F' (oN k) v = some (loS F (F 30 4 0 0) k v) := by
  unfold fn_X8_looseOf loS
  rw [og_t (oN_vp hk (by omega)), pl_s, oN_n (show k < 2147483648 by omega), h.1 30 4 0 0 (by decide) (by decide), h.1 30 5 0 0 (by decide) (by decide), h.1 30 6 0 0 (by decide) (by decide), h.1 33 0 0 k (by decide) (by decide)]
  split
  · split <;> rfl
  · rfl
theorem e0_c {b b' : Bt} {g k : Nat} {mm : Int32} (h0 : b' 0 k = b 0 k) (h1 : ∀ g, 1 ≤ g → g < 4 → b' (4 + g) k = b (4 + g) k) (hg : g < 4) : e0 b' g k mm = e0 b g k mm := by
  unfold e0
  by_cases hg0 : g = 0
  · rw [if_pos hg0, if_pos hg0]
  · rw [if_neg hg0, if_neg hg0, h0, h1 g (by omega) hg]
theorem mS_z {F : St} {b : Bt} {g z : Nat} (h : ¬ cel F z = true) : mS F b g z = 0 := by
  unfold mS tS
  rw [oS_z (fun q => h q.1), oS_z (fun q => h q.1), oS_z (fun q => h q.2.1), oS_z (fun q => h q.2.1)]
  simp
theorem tD_z {F : St} {st : Int32} {b : Bt} {S : Nat → Bool} {g z : Nat} (h : ¬ cel F z = true) : tD F st b S g z = 0 := by
  unfold tD
  rw [dS_z h]
  simp [h]
theorem m_do2 (h : Mh F F' b m) (hz : ∀ g x, g < 4 → x < 16 → ¬ cel F x = true → m g x = 0) : Ok (fn_X8_doGoings F') (fun r => Mh F r (addS F m b) m) := by
  refine ok_mono (m_do h) (fun r hr => hr.eqb (fun g x hx => ?_) (fun _ _ _ _ => rfl))
  have hx16 := hx.1
  unfold addS
  by_cases hc : cel F x = true
  · by_cases hg : g = 0
    · subst hg; simp [hc, hx16]
    · simp [hc, hg]
  · by_cases hg : g = 0
    · subst hg; simp [hc, hx16, hz 0 x (by omega) hx16 hc]
    · by_cases hg5 : 5 ≤ g ∧ g < 8
      · simp [hc, hg, hg5, hz (g - 4) x (by omega) hx16 hc]
      · simp [hc, hg, hg5]
theorem m_down (hp : PB F) (h : Mh F F' b (fun _ _ => 0)) : Ok (lp_X8_goTick_149 300 F' 0) (fun r => Mh F r.1 (fun g x => if g = 8 ∧ x < 4 then b 8 x + cS F (F 30 4 0 0) b x (Rg F) else if g = 1 ∧ cel F x = true then b 1 x + crS F (muS F (F 30 4 0 0) b x) else b g x) (tD F (F 30 4 0 0) b (fun _ => true))) := by
  have hR := hp.1.2
  have hL := hp.2.1.2
  refine ok_lpF (I := fun k F' => Mh F F' (fun g x => if g = 8 ∧ x < 4 then b 8 x + cS F (F 30 4 0 0) b x (min (Rg F) (k - 4 * (Ly F - 1))) else if g = 1 ∧ x < k ∧ cel F x = true then b 1 x + crS F (muS F (F 30 4 0 0) b x) else b g x) (tD F (F 30 4 0 0) b (fun y => decide (y < k)))) 16 (by omega) ?_ ?_ (h.eqb (fun g x _ => ?_) (fun g x _ _ => ?_))
  · intro n k F' hk h ih
    have hi : ∀ g, g < 8 → ix g k := fun g hg => ⟨hk, Or.inl hg⟩
    have hadd : ∀ z, (fun y => decide (y < k + 1)) z = ((fun y => decide (y < k)) z || z == k) := fun z => by
      rw [Bool.eq_iff_iff]
      simp
      omega
    have hnk : (fun y => decide (y < k)) k = false := by simp
    rw [lp_X8_goTick_149_s]
    refine ok_itn (nle (a := 16) hk (by omega)) ?_
    rw [isCell_e hp h hk, ob_s]
    by_cases hc : cel F k = true
    · have hc2 := cel_i.mp hc
      rw [if_pos hc, l16, oN_n (show k < 2147483648 by omega), oN_n (show 16 + k < 2147483648 by omega), (dm4 k hk).2]
      refine ok_ob (ok_itn (by decide) (ok_og (oN_vp (by omega) (by omega)) (ok_og (oN_vp (by omega) (by omega)) ?_))) (fun F3 h3 => ih F3 h3)
      rw [m_loose h hk, ob_s, h.rb 0 k (by omega) (hi 0 (by omega)), h.rb 1 k (by omega) (hi 1 (by omega)), h.1 30 1 0 0 (by decide) (by decide), hp.2.1.1]
      simp only [show ¬ ((0 : Nat) = 8 ∧ k < 4) by omega, show ¬ ((1 : Nat) = 8 ∧ k < 4) by omega, Nat.lt_irrefl, false_and, and_false, if_false]
      rw [show oN (Ly F) - 1 = oN (Ly F - 1) from (Int32.ofNat_sub (Ly F) 1 (by omega)).symm]
      have hcr : ∀ (G : St), G 30 9 0 0 = F 30 9 0 0 → ∀ {f : Int32 → Option St} {Q : St → Prop}, Ok (f (crS F (muS F (F 30 4 0 0) b k))) Q → Ok (ob (if G 30 9 0 0 ≤ 0 then some (0 : Int32) else if muS F (F 30 4 0 0) b k ≤ G 30 9 0 0 then some (0 : Int32) else some (1 : Int32)) f) Q := by
        intro G hG f Q hf
        rw [hG]
        unfold crS at hf
        split
        · rename_i h1
          rw [if_pos h1] at hf; exact hf
        · rename_i h1
          rw [if_neg h1] at hf
          split
          · rename_i h2
            rw [if_pos h2] at hf; exact hf
          · rename_i h2
            rw [if_neg h2] at hf; exact hf
      have hnz : ∀ b' : Bt, b' 0 k = b 0 k → ¬ muS F (F 30 4 0 0) b k ≤ 0 → b' 0 k ≠ 0 := fun b' hb' hm q => hm (by
        rw [hb'] at q
        unfold muS
        rw [q, Int32.zero_mul]
        decide)
      have hee : ∀ g, g < 4 → e0 (fun g x => if g = 8 ∧ x < 4 then b 8 x + cS F (F 30 4 0 0) b x (min (Rg F) (k - 4 * (Ly F - 1))) else if g = 1 ∧ x < k ∧ cel F x = true then b 1 x + crS F (muS F (F 30 4 0 0) b x) else b g x) g k (muS F (F 30 4 0 0) b k) = dS F (F 30 4 0 0) b g k := fun g hg => by
        rw [e0_c (b := b) (by simp) (fun g h1 h2 => by rw [if_neg (by omega), if_neg (by omega)]) hg]
        exact (if_pos hc).symm
      refine ok_ple (y := muS F (F 30 4 0 0) b k) rfl ?_
      by_cases hbt : k / 4 = Ly F - 1
      · rw [if_pos (by rw [hbt]), ob_s]
        refine ok_ob (m_goesC h hk (hnz _ (by simp))) (fun F2 h2 => hcr F2 (h2.1 30 9 0 0 (by decide) (by decide)) ?_)
        rw [h2.rb 1 k (by omega) (hi 1 (by omega))]
        refine h2.pb 1 k (by omega) (hi 1 (by omega)) (fun F3 h3 => ok_some (h3.eqb (fun g x hx => ?_) (fun g x hg hx => ?_)))
        · have hn1 : min (Rg F) (k - 4 * (Ly F - 1)) = k - 4 * (Ly F - 1) := by omega
          have hn2 : min (Rg F) (k + 1 - 4 * (Ly F - 1)) = k - 4 * (Ly F - 1) + 1 := by omega
          have hn3 : 4 * (Ly F - 1) + (k - 4 * (Ly F - 1)) = k := by omega
          by_cases hg8 : g = 8 ∧ x < 4
          · rw [bu_ne (by omega), if_pos hg8, if_pos hg8, hee x hg8.2, if_pos ⟨rfl, hg8.2⟩, hn1, hn2]
            show _ = b 8 x + (cS F (F 30 4 0 0) b x (k - 4 * (Ly F - 1)) + dS F (F 30 4 0 0) b x (4 * (Ly F - 1) + (k - 4 * (Ly F - 1))))
            rw [hn3, Int32.add_assoc]
          · rw [if_neg hg8]
            by_cases hg1 : g = 1
            · subst hg1
              by_cases hxk : x = k
              · subst hxk
                rw [bu_eq, if_neg (by omega), if_neg (by omega), if_neg (by omega), if_pos ⟨rfl, by omega, hc⟩]
              · have e1 : x < k + 1 ↔ x < k := by omega
                rw [bu_nx hxk, if_neg hg8, if_neg hg8]
                simp only [e1]
            · rw [bu_ne hg1, if_neg hg8, if_neg hg8, if_neg (fun q => hg1 q.1), if_neg (fun q => hg1 q.1)]
        · have hcn : ¬ (x = k + 4 ∧ cel F x = true) := fun q => by
            have := cel_i.mp q.2
            have := q.1
            omega
          rw [tD_add F (F 30 4 0 0) b hadd hnk g x, hee g hg, if_neg hcn]
          simp
      · rw [if_neg (by rw [oN_eq (by omega) (by omega)]; exact hbt), ob_s, show oN k + 4 = oN (k + 4) from oN_add k 4]
        refine ok_ob (m_goes h hk (y := k + 4) (by omega) (by omega) (hnz _ (by simp))) (fun F2 h2 => hcr F2 (h2.1 30 9 0 0 (by decide) (by decide)) ?_)
        rw [h2.rb 1 k (by omega) (hi 1 (by omega))]
        refine h2.pb 1 k (by omega) (hi 1 (by omega)) (fun F3 h3 => ok_some (h3.eqb (fun g x hx => ?_) (fun g x hg hx => ?_)))
        · have hn1 : min (Rg F) (k - 4 * (Ly F - 1)) = 0 := by omega
          have hn2 : min (Rg F) (k + 1 - 4 * (Ly F - 1)) = 0 := by omega
          rw [hn2, hn1]
          by_cases hg8 : g = 8 ∧ x < 4
          · rw [bu_ne (by omega), if_pos hg8, if_pos hg8]
          · rw [if_neg hg8]
            by_cases hg1 : g = 1
            · subst hg1
              by_cases hxk : x = k
              · subst hxk
                rw [bu_eq, if_neg (by omega), if_neg (by omega), if_pos ⟨rfl, by omega, hc⟩]
              · have e1 : x < k + 1 ↔ x < k := by omega
                rw [bu_nx hxk, if_neg hg8]
                simp only [e1]
            · rw [bu_ne hg1, if_neg hg8, if_neg (fun q => hg1 q.1), if_neg (fun q => hg1 q.1)]
        · have hcn : (x = k + 4 ∧ cel F x = true) ↔ x = k + 4 := ⟨fun q => q.1, fun q => ⟨q, cel_i.mpr (by omega)⟩⟩
          rw [tD_add F (F 30 4 0 0) b hadd hnk g x, hee g hg]
          simp only [hcn]
    · have hc2 : ¬ (k % 4 < Rg F ∧ k / 4 < Ly F) := fun q => hc (cel_i.mpr q)
      rw [if_neg hc]
      refine ok_ob (ok_itp rfl (ok_mhs h)) (fun F2 h2 => ih F2 (h2.eqb (fun g x _ => ?_) (fun g x _ _ => ?_)))
      · have hn : min (Rg F) (k - 4 * (Ly F - 1)) = min (Rg F) (k + 1 - 4 * (Ly F - 1)) := by omega
        have e1 : (x < k + 1 ∧ cel F x = true) ↔ (x < k ∧ cel F x = true) := by
          constructor
          · intro q
            refine ⟨?_, q.2⟩
            by_cases hx : x = k
            · subst hx; exact absurd q.2 hc
            · omega
          · intro q
            exact ⟨by omega, q.2⟩
        rw [hn]
        simp only [e1]
      · rw [tD_add F (F 30 4 0 0) b hadd hnk g x, dS_z hc]
        simp
  · intro n F' h
    rw [lp_X8_goTick_149_s]
    refine ok_itp (yle (a := 16) (Nat.le_refl _) (by omega)) (ok_some (h.eqb (fun g x hx => ?_) (fun g x _ _ => tD_all (fun y hy => by simpa using cel_lt hp hy) g x)))
    have hx16 := hx.1
    rw [show min (Rg F) (16 - 4 * (Ly F - 1)) = Rg F by omega]
    simp only [hx16, true_and]
  · by_cases hg8 : g = 8 ∧ x < 4
    · rw [if_pos hg8, show min (Rg F) (0 - 4 * (Ly F - 1)) = 0 by omega, hg8.1]
      show _ = b 8 x + 0
      rw [Int32.add_zero]
    · rw [if_neg hg8, if_neg (by omega)]
  · have e : (fun y => decide (y < 0)) = (fun _ : Nat => false) := by funext y; simp
    rw [e, tD_none]
theorem m_tick (hp : PB F) (hw : ∀ x, cel F x = true → 0 ≤ (pourS F b 0 x).toInt) (h : Mh F F' b m) : Ok (fn_X8_goTick F') (fun r => ∃ m', Mh F r (tickS F (F 30 4 0 0) (F 30 10 0 0) b) m') := by
  have hw2 : ∀ x, cel F x = true → 0 ≤ (takeS F (F 30 10 0 0) (pourS F b) 0 x).toInt := fun x hx => by
    unfold takeS
    rw [if_neg (by omega), if_neg (by omega)]
    exact hw x hx
  unfold fn_X8_goTick
  refine ok_ob2 (m_pour hp h) (fun F1 _ h1 => ok_ob2 (m_take hp h1) (fun F2 _ h2 => ok_ob (m_clear h2) (fun F3 h3 => ok_ob2 (m_side hp hw2 h3) (fun F4 _ h4 => ok_ob (m_do2 h4 (fun g x _ _ hz => mS_z hz)) (fun F5 h5 => ok_ob (m_clear h5) (fun F6 h6 => ok_ob2 (m_down hp h6) (fun F7 _ h7 => ok_ob (m_do2 h7 (fun g x _ _ hz => tD_z hz)) (fun F8 h8 => ?_))))))))
  have h8 : Mh F F8 _ _ := h8
  rw [h8.rb 8 4 (by omega) ⟨by omega, by omega⟩]
  refine h8.pb 8 4 (by omega) ⟨by omega, by omega⟩ (fun F9 h9 => ok_some ⟨_, h9.eqb (fun g x hx => ?_) (fun _ _ _ _ => rfl)⟩)
  show _ = downS F (F 30 4 0 0) (sideS F (takeS F (F 30 10 0 0) (pourS F b))) g x
  unfold downS sideS
  generalize addS F (mS F (takeS F (F 30 10 0 0) (pourS F b))) (takeS F (F 30 10 0 0) (pourS F b)) = b3
  by_cases hg8 : g = 8
  · subst hg8
    by_cases hx4 : x < 4
    · rw [if_pos ⟨rfl, hx4⟩, bu_nx (by omega)]
      unfold addS
      simp [hx4]
    · by_cases hx5 : x = 4
      · subst hx5
        rw [bu_eq, if_neg (by omega), if_pos ⟨rfl, rfl⟩]
        unfold addS
        simp
      · rw [bu_nx hx5, if_neg (by omega), if_neg (by omega), if_neg (by omega)]
        unfold addS
        simp [hx4]
  · rw [bu_ne hg8, if_neg (fun q => hg8 q.1), if_neg (fun q => hg8 q.1)]
    unfold addS
    by_cases hc : cel F x = true
    · by_cases hg1 : g = 1
      · subst hg1
        simp [hc]
      · simp [hc, hg8, hg1]
    · simp [hc, hg8]
end MH3
