/-! PURE: the model's goings -/
set_option maxRecDepth 100000
section MH2
variable {F F' : St} {b m : Bt} {ρ : Type} {Q : ρ → Prop}
/-- some water goes from cell k to cell y -/
theorem m_goes (h : Mh F F' b m) {k y : Nat} (hk : k < 16) (hy : y < 16) (hky : k ≠ y) {mm : Int32} (hnz : ¬ mm ≤ 0 → b 0 k ≠ 0) : Ok (fn_X8_goes F' (oN k) (oN y) mm) (fun r => Mh F r b (fun g x => m g x + (if x = k then - e0 b g k mm else 0) + (if x = y then e0 b g k mm else 0))) := by
  have hi : ∀ g, g < 8 → ix g k := fun g hg => ⟨hk, Or.inl hg⟩
  unfold fn_X8_goes
  rw [oN_n (show k < 2147483648 by omega), oN_n (show y < 2147483648 by omega), h.rm 0 k (by omega) (by omega) hk]
  refine ok_og (oN_vp (by omega) (by omega)) (h.pm 0 k (by omega) hk (fun F1 h1 => ?_))
  clear h
  rw [h1.rm 0 y (by omega) (by omega) hy, bu_nx (Ne.symm hky)]
  refine ok_ob (ok_itn (nlt0 (by omega)) (ok_og (oN_vp (by omega) (by omega)) (h1.pm 0 y (by omega) hy (fun F2 h2 => ok_mhs h2)))) (fun F2 h2 => ?_)
  clear h1
  by_cases hm : mm ≤ 0
  · refine ok_itp hm (ok_some (h2.eqb (fun _ _ _ => rfl) (fun g x hg hx => ?_)))
    unfold bu e0
    by_cases hg0 : g = 0
    · subst hg0
      by_cases h1 : x = k
      · subst h1
        simp [hky, Int32.sub_eq_add_neg]
      · by_cases h3 : x = y
        · subst h3
          simp [h1]
        · simp [h1, h3]
    · simp [hg0, hm]
  · have hb := hnz hm
    refine ok_itn hm ?_
    rw [l80, oN_n (show 80 + k < 2147483648 by omega), h2.rb 0 k (by omega) (hi 0 (by omega)), h2.rb 5 k (by omega) (hi 5 (by omega)), l16, oN_n (show 16 + k < 2147483648 by omega), h2.rm 1 k (by omega) (by omega) hk, bu_ne (by decide), bu_ne (by decide)]
    refine ok_og (oN_vp (by omega) (by omega)) (ok_og (oN_vp (by omega) (by omega)) (ok_og (nzl_t hb) (ok_ple (y := e0 b 1 k mm) (by unfold e0; rw [if_neg (by decide), if_neg hm]) (ok_og (oN_vp (by omega) (by omega)) (h2.pm 1 k (by omega) hk (fun F3 h3 => ?_))))))
    clear h2
    rw [l16, oN_n (show 16 + y < 2147483648 by omega), h3.rm 1 y (by omega) (by omega) hy, bu_nx (Ne.symm hky), bu_ne (by decide), bu_ne (by decide)]
    refine ok_ob (ok_itn (nlt0 (by omega)) (ok_og (oN_vp (by omega) (by omega)) (h3.pm 1 y (by omega) hy (fun F4 h4 => ok_mhs h4)))) (fun F4 h4 => ok_itn hm ?_)
    clear h3
    rw [l96, oN_n (show 96 + k < 2147483648 by omega), h4.rb 0 k (by omega) (hi 0 (by omega)), h4.rb 6 k (by omega) (hi 6 (by omega)), l32, oN_n (show 32 + k < 2147483648 by omega), h4.rm 2 k (by omega) (by omega) hk, bu_ne (by decide), bu_ne (by decide), bu_ne (by decide), bu_ne (by decide)]
    refine ok_og (oN_vp (by omega) (by omega)) (ok_og (nzl_t hb) (ok_ple (y := e0 b 2 k mm) (by unfold e0; rw [if_neg (by decide), if_neg hm]) (ok_og (oN_vp (by omega) (by omega)) (h4.pm 2 k (by omega) hk (fun F5 h5 => ?_)))))
    clear h4
    rw [l32, oN_n (show 32 + y < 2147483648 by omega), h5.rm 2 y (by omega) (by omega) hy, bu_nx (Ne.symm hky), bu_ne (by decide), bu_ne (by decide), bu_ne (by decide), bu_ne (by decide)]
    refine ok_ob (ok_itn (nlt0 (by omega)) (ok_og (oN_vp (by omega) (by omega)) (h5.pm 2 y (by omega) hy (fun F6 h6 => ok_mhs h6)))) (fun F6 h6 => ok_itn hm ?_)
    clear h5
    rw [l112, oN_n (show 112 + k < 2147483648 by omega), h6.rb 0 k (by omega) (hi 0 (by omega)), h6.rb 7 k (by omega) (hi 7 (by omega)), l48, oN_n (show 48 + k < 2147483648 by omega), h6.rm 3 k (by omega) (by omega) hk, bu_ne (by decide), bu_ne (by decide), bu_ne (by decide), bu_ne (by decide), bu_ne (by decide), bu_ne (by decide)]
    refine ok_og (oN_vp (by omega) (by omega)) (ok_og (nzl_t hb) (ok_ple (y := e0 b 3 k mm) (by unfold e0; rw [if_neg (by decide), if_neg hm]) (ok_og (oN_vp (by omega) (by omega)) (h6.pm 3 k (by omega) hk (fun F7 h7 => ?_)))))
    clear h6
    rw [l48, oN_n (show 48 + y < 2147483648 by omega), h7.rm 3 y (by omega) (by omega) hy, bu_nx (Ne.symm hky), bu_ne (by decide), bu_ne (by decide), bu_ne (by decide), bu_ne (by decide), bu_ne (by decide), bu_ne (by decide)]
    refine ok_ob (ok_itn (nlt0 (by omega)) (ok_og (oN_vp (by omega) (by omega)) (h7.pm 3 y (by omega) hy (fun F8 h8 => ok_mhs h8)))) (fun F8 h8 => ok_some (h8.eqb (fun _ _ _ => rfl) (fun g x hg hx => ?_)))
    have e00 : e0 b 0 k mm = mm := rfl
    by_cases h1 : x = k
    · subst h1
      rcases (show g = 0 ∨ g = 1 ∨ g = 2 ∨ g = 3 by omega) with q | q | q | q <;> subst q <;> simp [bu, hky, e00, Int32.sub_eq_add_neg]
    · by_cases h3 : x = y
      · subst h3
        rcases (show g = 0 ∨ g = 1 ∨ g = 2 ∨ g = 3 by omega) with q | q | q | q <;> subst q <;> simp [bu, h1, e00]
      · simp [bu, h1, h3]
/-- .. to the cup -/
theorem m_goesC (h : Mh F F' b m) {k : Nat} (hk : k < 16) {mm : Int32} (hnz : ¬ mm ≤ 0 → b 0 k ≠ 0) : Ok (fn_X8_goes F' (oN k) (-1) mm) (fun r => Mh F r (fun g x => if g = 8 ∧ x < 4 then b 8 x + e0 b x k mm else b g x) (fun g x => m g x + (if x = k then - e0 b g k mm else 0))) := by
  have hi : ∀ g, g < 8 → ix g k := fun g hg => ⟨hk, Or.inl hg⟩
  have h8 : ∀ x, x < 4 → ix 8 x := fun x hx => ⟨by omega, Or.inr ⟨rfl, by omega⟩⟩
  unfold fn_X8_goes
  rw [oN_n (show k < 2147483648 by omega), h.rm 0 k (by omega) (by omega) hk]
  refine ok_og (oN_vp (by omega) (by omega)) (h.pm 0 k (by omega) hk (fun F1 h1 => ?_))
  clear h
  rw [h1.rb 8 0 (by omega) (h8 0 (by omega))]
  refine ok_ob (ok_itp (by decide) (h1.pb 8 0 (by omega) (h8 0 (by omega)) (fun F2 h2 => ok_mhs h2))) (fun F2 h2 => ?_)
  clear h1
  by_cases hm : mm ≤ 0
  · refine ok_itp hm (ok_some (h2.eqb (fun g x hx => ?_) (fun g x hg hx => ?_)))
    · unfold bu e0
      by_cases hg : g = 8
      · subst hg
        by_cases hx0 : x = 0
        · subst hx0; simp
        · simp [hx0, hm]
      · simp [hg]
    · unfold bu e0
      by_cases hg0 : g = 0
      · subst hg0
        by_cases h1 : x = k
        · subst h1
          simp [Int32.sub_eq_add_neg]
        · simp [h1]
      · simp [hg0, hm]
  · have hb := hnz hm
    refine ok_itn hm ?_
    rw [l80, oN_n (show 80 + k < 2147483648 by omega), h2.rb 0 k (by omega) (hi 0 (by omega)), h2.rb 5 k (by omega) (hi 5 (by omega)), l16, oN_n (show 16 + k < 2147483648 by omega), h2.rm 1 k (by omega) (by omega) hk, bu_ne (by decide), bu_ne (by decide), bu_ne (by decide)]
    refine ok_og (oN_vp (by omega) (by omega)) (ok_og (oN_vp (by omega) (by omega)) (ok_og (nzl_t hb) (ok_ple (y := e0 b 1 k mm) (by unfold e0; rw [if_neg (by decide), if_neg hm]) (ok_og (oN_vp (by omega) (by omega)) (h2.pm 1 k (by omega) hk (fun F3 h3 => ?_))))))
    clear h2
    rw [h3.rb 8 1 (by omega) (h8 1 (by omega)), bu_nx (by decide)]
    refine ok_ob (ok_itp (by decide) (h3.pb 8 1 (by omega) (h8 1 (by omega)) (fun F4 h4 => ok_mhs h4))) (fun F4 h4 => ok_itn hm ?_)
    clear h3
    rw [l96, oN_n (show 96 + k < 2147483648 by omega), h4.rb 0 k (by omega) (hi 0 (by omega)), h4.rb 6 k (by omega) (hi 6 (by omega)), l32, oN_n (show 32 + k < 2147483648 by omega), h4.rm 2 k (by omega) (by omega) hk]
    simp only [bu_ne (show (0 : Nat) ≠ 8 by decide), bu_ne (show (6 : Nat) ≠ 8 by decide), bu_ne (show (2 : Nat) ≠ 1 by decide), bu_ne (show (2 : Nat) ≠ 0 by decide)]
    refine ok_og (oN_vp (by omega) (by omega)) (ok_og (nzl_t hb) (ok_ple (y := e0 b 2 k mm) (by unfold e0; rw [if_neg (by decide), if_neg hm]) (ok_og (oN_vp (by omega) (by omega)) (h4.pm 2 k (by omega) hk (fun F5 h5 => ?_)))))
    clear h4
    rw [h5.rb 8 2 (by omega) (h8 2 (by omega)), bu_nx (by decide), bu_nx (by decide)]
    refine ok_ob (ok_itp (by decide) (h5.pb 8 2 (by omega) (h8 2 (by omega)) (fun F6 h6 => ok_mhs h6))) (fun F6 h6 => ok_itn hm ?_)
    clear h5
    rw [l112, oN_n (show 112 + k < 2147483648 by omega), h6.rb 0 k (by omega) (hi 0 (by omega)), h6.rb 7 k (by omega) (hi 7 (by omega)), l48, oN_n (show 48 + k < 2147483648 by omega), h6.rm 3 k (by omega) (by omega) hk]
    simp only [bu_ne (show (0 : Nat) ≠ 8 by decide), bu_ne (show (7 : Nat) ≠ 8 by decide), bu_ne (show (3 : Nat) ≠ 2 by decide), bu_ne (show (3 : Nat) ≠ 1 by decide), bu_ne (show (3 : Nat) ≠ 0 by decide)]
    refine ok_og (oN_vp (by omega) (by omega)) (ok_og (nzl_t hb) (ok_ple (y := e0 b 3 k mm) (by unfold e0; rw [if_neg (by decide), if_neg hm]) (ok_og (oN_vp (by omega) (by omega)) (h6.pm 3 k (by omega) hk (fun F7 h7 => ?_)))))
    clear h6
    rw [h7.rb 8 3 (by omega) (h8 3 (by omega)), bu_nx (by decide), bu_nx (by decide), bu_nx (by decide)]
    refine ok_ob (ok_itp (by decide) (h7.pb 8 3 (by omega) (h8 3 (by omega)) (fun F8 h8 => ok_mhs h8))) (fun F8 h8 => ok_some (h8.eqb (fun g x hx => ?_) (fun g x hg hx => ?_)))
    · have e00 : e0 b 0 k mm = mm := rfl
      by_cases hg : g = 8
      · subst hg
        by_cases hx4 : x < 4
        · rcases (show x = 0 ∨ x = 1 ∨ x = 2 ∨ x = 3 by omega) with q | q | q | q <;> subst q <;> simp [bu, e00]
        · rw [if_neg (by omega), bu_nx (by omega), bu_nx (by omega), bu_nx (by omega), bu_nx (by omega)]
      · rw [if_neg (fun q => hg q.1), bu_ne hg, bu_ne hg, bu_ne hg, bu_ne hg]
    · have e00 : e0 b 0 k mm = mm := rfl
      by_cases h1 : x = k
      · subst h1
        rcases (show g = 0 ∨ g = 1 ∨ g = 2 ∨ g = 3 by omega) with q | q | q | q <;> subst q <;> simp [bu, e00, Int32.sub_eq_add_neg]
      · simp [bu, h1]
theorem m_goSide (hp : PB F) (h : Mh F F' b m) {k y : Nat} (hk : k < 16) (hy : y < 16) (hky : k ≠ y) (hc : cel F k = true) (hw : ∀ x, cel F x = true → 0 ≤ (b 0 x).toInt) : Ok (fn_X8_goSide F' (oN k) (oN y)) (fun r => Mh F r b (fun g x => m g x + (if x = k then - oS F b g k y else 0) + (if x = y then oS F b g k y else 0))) := by
  unfold fn_X8_goSide
  rw [isCell_e hp h hy, ob_s]
  by_cases hcy : cel F y = true
  · rw [if_pos hcy]
    refine ok_itn (by decide) ?_
    rw [oN_n (show k < 2147483648 by omega), oN_n (show y < 2147483648 by omega), h.rb 0 k (by omega) ⟨hk, by omega⟩, h.rb 0 y (by omega) ⟨hy, by omega⟩, h.1 30 8 0 0 (by decide) (by decide)]
    refine ok_og (oN_vp (by omega) (by omega)) (ok_og (oN_vp (by omega) (by omega)) ?_)
    by_cases hle : b 0 k ≤ b 0 y
    · refine ok_itp hle (ok_some (h.eqb (fun _ _ _ => rfl) (fun g x _ _ => ?_)))
      rw [oS_z (fun q => Int32.not_lt.mpr hle q.2.2)]
      simp
    · have hlt : b 0 y < b 0 k := Int32.not_le.mp hle
      have hnz : b 0 k ≠ 0 := fun q => by
        rw [q] at hlt
        have h1 := Int32.lt_iff_toInt_lt.mp hlt
        have h2 := hw y hcy
        have h3 : (0 : Int32).toInt = 0 := rfl
        omega
      refine ok_itn hle (ok_ob (m_goes h hk hy hky (fun _ => hnz)) (fun F'' h2 => ok_some (h2.eqb (fun _ _ _ => rfl) (fun g x _ _ => ?_))))
      have e : oS F b g k y = e0 b g k (((b 0 k - b 0 y) * F 30 8 0 0) / 100) := if_pos ⟨hc, hcy, hlt⟩
      rw [e]
  · rw [if_neg hcy]
    refine ok_itp rfl (ok_some (h.eqb (fun _ _ _ => rfl) (fun g x _ _ => ?_)))
    rw [oS_z (fun q => hcy q.2.1)]
    simp
theorem m_side (hp : PB F) (hw : ∀ x, cel F x = true → 0 ≤ (b 0 x).toInt) (h : Mh F F' b (fun _ _ => 0)) : Ok (lp_X8_goTick_90 300 F' 0) (fun r => Mh F r.1 b (mS F b)) := by
  refine ok_lpF (I := fun k F' => Mh F F' b (tS F b (fun y => decide (y < k)))) 16 (by omega) ?_ ?_ (h.eqb (fun _ _ _ => rfl) (fun g x _ _ => by
    have e : (fun y => decide (y < 0)) = (fun _ : Nat => false) := by funext y; simp
    rw [e, tS_none]))
  · intro n k F' hk h ih
    have hadd : ∀ z, (fun y => decide (y < k + 1)) z = ((fun y => decide (y < k)) z || z == k) := fun z => by
      rw [Bool.eq_iff_iff]
      simp
      omega
    have hnk : (fun y => decide (y < k)) k = false := by simp
    rw [lp_X8_goTick_90_s, (dm4 k hk).1]
    refine ok_itn (nle (a := 16) hk (by omega)) ?_
    rw [isCell_e hp h hk, ob_s]
    by_cases hc : cel F k = true
    · rw [if_pos hc]
      refine ok_ob (ok_itn (by decide) (ok_ob (P := fun r => Mh F r b (fun g x => tS F b (fun y => decide (y < k)) g x + (if x = k ∧ 0 < k % 4 then - oS F b g k (k - 1) else 0) + (if x + 1 = k ∧ 0 < k % 4 then oS F b g k (k - 1) else 0))) ?_ (fun F2 h2 => ?_))) (fun F3 h3 => ih F3 h3) (P := fun r => Mh F r b (tS F b (fun y => decide (y < k + 1))))
      · by_cases h4 : k % 4 = 0
        · refine ok_itp (by rw [h4]; exact (yle (a := 0) (k := 0) (by omega) (by omega))) (ok_some (h.eqb (fun _ _ _ => rfl) (fun g x _ _ => ?_)))
          simp [h4]
        · refine ok_itn (nle (a := k % 4) (k := 0) (by omega) (by omega)) ?_
          rw [show oN k - 1 = oN (k - 1) from (Int32.ofNat_sub k 1 (by omega)).symm]
          refine ok_ob (m_goSide hp h hk (y := k - 1) (by omega) (by omega) hc hw) (fun F2 h2 => ok_some (h2.eqb (fun _ _ _ => rfl) (fun g x _ _ => ?_)))
          have q1 : 0 < k % 4 := by omega
          have q2 : (x = k - 1) ↔ (x + 1 = k) := by omega
          simp only [q1, and_true, q2]
      · by_cases h4 : k % 4 < 3
        · refine ok_itn (nle (a := 3) (k := k % 4) h4 (by omega)) ?_
          rw [oN_1 k]
          refine ok_ob (m_goSide hp h2 hk (y := k + 1) (by omega) (by omega) hc hw) (fun F3 h3 => ok_some (h3.eqb (fun _ _ _ => rfl) (fun g x _ _ => ?_)))
          rw [tS_add F b hadd hnk g x]
          simp only [h4, and_true]
        · refine ok_itp (yle (a := 3) (k := k % 4) (by omega) (by omega)) (ok_some (h2.eqb (fun _ _ _ => rfl) (fun g x _ _ => ?_)))
          rw [tS_add F b hadd hnk g x]
          simp [h4]
    · rw [if_neg hc]
      refine ok_ob (ok_itp rfl (ok_mhs h)) (fun F2 h2 => ih F2 (h2.eqb (fun _ _ _ => rfl) (fun g x _ _ => ?_)))
      rw [tS_add F b hadd hnk g x, oS_z (fun q => hc q.1), oS_z (fun q => hc q.1)]
      simp
  · intro n F' h
    rw [lp_X8_goTick_90_s]
    exact ok_itp (yle (a := 16) (Nat.le_refl _) (by omega)) (ok_some (h.eqb (fun _ _ _ => rfl) (fun g x _ _ => tS_all (fun y hy => by simpa using cel_lt hp hy) g x)))
theorem m_do (h : Mh F F' b m) : Ok (fn_X8_doGoings F') (fun r => Mh F r (fun g x => if g = 0 ∧ x < 16 then b 0 x + m 0 x else if 5 ≤ g ∧ g < 8 then b g x + m (g - 4) x else b g x) m) := by
  unfold fn_X8_doGoings
  refine ok_ob2 (ok_lpF (I := fun k F' => Mh F F' (fun g x => if x < k ∧ g = 0 then b 0 x + m 0 x else if x < k ∧ 5 ≤ g ∧ g < 8 then b g x + m (g - 4) x else b g x) m) (Q := fun r => Mh F r.1 (fun g x => if g = 0 ∧ x < 16 then b 0 x + m 0 x else if 5 ≤ g ∧ g < 8 then b g x + m (g - 4) x else b g x) m) 16 (by omega) ?_ ?_ (h.eqb (fun g x _ => by simp) (fun _ _ _ _ => rfl))) (fun y z hq => ok_some hq)
  · intro n k F' hk h ih
    have hi : ∀ g, g < 8 → ix g k := fun g hg => ⟨hk, Or.inl hg⟩
    rw [lp_X8_doGoings_2_s, l80, l96, l112, l16, l32, l48, oN_n (show k < 2147483648 by omega), oN_n (show 80 + k < 2147483648 by omega), oN_n (show 96 + k < 2147483648 by omega), oN_n (show 112 + k < 2147483648 by omega), oN_n (show 16 + k < 2147483648 by omega), oN_n (show 32 + k < 2147483648 by omega), oN_n (show 48 + k < 2147483648 by omega)]
    refine ok_itn (nle (a := 16) hk (by omega)) (ok_og (oN_vp (by omega) (by omega)) (ok_og (oN_vp (by omega) (by omega)) ?_))
    rw [h.rb 0 k (by omega) (hi 0 (by omega)), h.rm 0 k (by omega) (by omega) hk]
    refine h.pb 0 k (by omega) (hi 0 (by omega)) (fun F1 h1 => ok_og (oN_vp (by omega) (by omega)) (ok_og (oN_vp (by omega) (by omega)) ?_))
    rw [h1.rb 5 k (by omega) (hi 5 (by omega)), h1.rm 1 k (by omega) (by omega) hk]
    refine h1.pb 5 k (by omega) (hi 5 (by omega)) (fun F2 h2 => ok_og (oN_vp (by omega) (by omega)) (ok_og (oN_vp (by omega) (by omega)) ?_))
    rw [h2.rb 6 k (by omega) (hi 6 (by omega)), h2.rm 2 k (by omega) (by omega) hk]
    refine h2.pb 6 k (by omega) (hi 6 (by omega)) (fun F3 h3 => ok_og (oN_vp (by omega) (by omega)) (ok_og (oN_vp (by omega) (by omega)) ?_))
    rw [h3.rb 7 k (by omega) (hi 7 (by omega)), h3.rm 3 k (by omega) (by omega) hk]
    refine h3.pb 7 k (by omega) (hi 7 (by omega)) (fun F4 h4 => ih F4 (h4.eqb (fun g x hx => ?_) (fun _ _ _ _ => rfl)))
    by_cases hxk : x = k
    · subst hxk
      rcases (show g = 0 ∨ g = 5 ∨ g = 6 ∨ g = 7 ∨ (g ≠ 0 ∧ g ≠ 5 ∧ g ≠ 6 ∧ g ≠ 7) by omega) with q | q | q | q | q
      · subst q; simp [bu]
      · subst q; simp [bu]
      · subst q; simp [bu]
      · subst q; simp [bu]
      · rw [bu_ne q.2.2.2, bu_ne q.2.2.1, bu_ne q.2.1, bu_ne q.1, if_neg (by omega), if_neg (by omega), if_neg (by omega), if_neg (by omega)]
    · have e1 : x < k + 1 ↔ x < k := by omega
      rw [bu_nx hxk, bu_nx hxk, bu_nx hxk, bu_nx hxk]
      simp only [e1]
  · intro n F' h
    rw [lp_X8_doGoings_2_s]
    refine ok_itp (yle (a := 16) (Nat.le_refl _) (by omega)) (ok_some (h.eqb (fun g x hx => ?_) (fun _ _ _ _ => rfl)))
    have := hx.1
    simp only [this, true_and, and_true]
end MH2
