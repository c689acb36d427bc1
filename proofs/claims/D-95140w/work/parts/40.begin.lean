/-! PURE: a bed begun -/
set_option maxRecDepth 100000
def sumS (F : St) (mu : Int32) : Int32 := ((F 31 0 0 0 + F 31 0 0 1) + F 31 0 0 2) * mu
def begS (F : St) (mu : Int32) : Bt := fun g x => if cel F x = true ∧ 2 ≤ g ∧ g < 5 then F 31 0 0 (g - 2) * mu else if g = 8 ∧ x = 5 then sumS F mu * F 30 1 0 0 * F 30 0 0 0 else if g = 8 ∧ 6 ≤ x ∧ x < 6 + Rg F then sumS F mu * F 30 1 0 0 else 0
/-- how many cells are ahead of k; in ring c -/
def cnt (F : St) : Nat → Nat
  | 0 => 0
  | k + 1 => cnt F k + (if cel F k = true then 1 else 0)
def cnr (F : St) (c : Nat) : Nat → Nat
  | 0 => 0
  | k + 1 => cnr F c k + (if cel F k = true ∧ k % 4 = c then 1 else 0)
theorem cnt_16 {F : St} (hp : PB F) : cnt F 16 = Ly F * Rg F := by
  have hR := hp.1.2
  have hL := hp.2.1.2
  have h : ∀ R L, 1 ≤ R → R ≤ 4 → 1 ≤ L → L ≤ 4 → Rg F = R → Ly F = L → cnt F 16 = L * R := by
    intro R L h1 h2 h3 h4 e1 e2
    rcases (show R = 1 ∨ R = 2 ∨ R = 3 ∨ R = 4 by omega) with q | q | q | q <;> rcases (show L = 1 ∨ L = 2 ∨ L = 3 ∨ L = 4 by omega) with q2 | q2 | q2 | q2 <;> subst q <;> subst q2 <;> simp [cnt, cel, e1, e2]
  exact h _ _ hR.1 hR.2 hL.1 hL.2 rfl rfl
theorem cnr_16 {F : St} (hp : PB F) {c : Nat} (hc : c < 4) : cnr F c 16 = if c < Rg F then Ly F else 0 := by
  have hR := hp.1.2
  have hL := hp.2.1.2
  have h : ∀ R L, 1 ≤ R → R ≤ 4 → 1 ≤ L → L ≤ 4 → Rg F = R → Ly F = L → cnr F c 16 = if c < R then L else 0 := by
    intro R L h1 h2 h3 h4 e1 e2
    rcases (show c = 0 ∨ c = 1 ∨ c = 2 ∨ c = 3 by omega) with q3 | q3 | q3 | q3 <;> rcases (show R = 1 ∨ R = 2 ∨ R = 3 ∨ R = 4 by omega) with q | q | q | q <;> rcases (show L = 1 ∨ L = 2 ∨ L = 3 ∨ L = 4 by omega) with q2 | q2 | q2 | q2 <;> subst q <;> subst q2 <;> subst q3 <;> simp [cnr, cel, e1, e2]
  exact h _ _ hR.1 hR.2 hL.1 hL.2 rfl rfl
theorem dm4b : ∀ k, k < 16 → (134 : Int32) + (oN k - oN k / 4 * 4) = oN (134 + k % 4) := by decide
section BGM
variable {F F' : St} {b m : Bt}
theorem m_zero (h : Mh F F' b m) : Ok (lp_X8_begin_2 300 F' 0) (fun r => Mh F r.1 (fun _ _ => 0) m) := by
  refine ok_lpF (I := fun k F' => Mh F F' (fun g x => if 16 * g + x < k then 0 else b g x) m) 138 (by omega) ?_ ?_ (h.eqb (fun g x _ => by simp) (fun _ _ _ _ => rfl))
  · intro n k F' hk h ih
    rw [lp_X8_begin_2_s, oN_n (show k < 2147483648 by omega)]
    refine ok_itn (nle (a := 138) hk (by omega)) (ok_og (oN_vp hk (by omega)) (h.pb (k / 16) (k % 16) (by omega) ⟨by omega, by omega⟩ (fun F'' h2 => ih F'' (h2.eqb (fun g x hx => ?_) (fun _ _ _ _ => rfl)))))
    unfold bu
    have hx1 := hx.1
    by_cases he : g = k / 16 ∧ x = k % 16
    · rw [if_pos he, if_pos (by omega)]
    · rw [if_neg he]
      show (if 16 * g + x < k then (0 : Int32) else b g x) = _
      by_cases h3 : 16 * g + x < k
      · rw [if_pos h3, if_pos (by omega)]
      · rw [if_neg h3, if_neg (by omega)]
  · intro n F' h
    rw [lp_X8_begin_2_s]
    refine ok_itp (yle (a := 138) (Nat.le_refl _) (by omega)) (ok_some (h.eqb (fun g x hx => if_pos ?_) (fun _ _ _ _ => rfl)))
    have := hx.1
    have := hx.2
    omega
/-- the brew when k cells are begun -/
def bgk (F : St) (mu : Int32) (k : Nat) : Bt := fun g x => if g = 8 then (if x = 5 then sumS F mu * oN (cnt F k) else if 6 ≤ x ∧ x < 10 then sumS F mu * oN (cnr F (x - 6) k) else 0) else if x < k ∧ cel F x = true ∧ 2 ≤ g ∧ g < 5 then F 31 0 0 (g - 2) * mu else 0
theorem m_begin (hp : PB F) (h : Mh F F' b m) : Ok (fn_X8_begin F') (fun r => Mh F r (begS F (F 30 11 0 0)) m) := by
  have hR := hp.1.2
  unfold fn_X8_begin
  refine ok_ob2 (m_zero h) (fun F1 _ h1 => ok_ob2 (ok_lpF (I := fun k F' => Mh F F' (bgk F (F 30 11 0 0) k) m) (Q := fun r => Mh F r.1 (begS F (F 30 11 0 0)) m) 16 (by omega) ?_ ?_ (h1.eqb (fun g x hx => ?_) (fun _ _ _ _ => rfl))) (fun F2 _ h2 => ok_some h2))
  · intro n k F' hk h ih
    rw [lp_X8_begin_24_s]
    refine ok_itn (nle (a := 16) hk (by omega)) ?_
    rw [isCell_e hp h hk, ob_s]
    by_cases hc : cel F k = true
    · have hr4 : k % 4 < 4 := by omega
      rw [if_pos hc, l32, l48, l64, dm4b k hk, oN_n (show 32 + k < 2147483648 by omega), oN_n (show 48 + k < 2147483648 by omega), oN_n (show 64 + k < 2147483648 by omega), oN_n (show 134 + k % 4 < 2147483648 by omega), h.1 31 0 0 0 (by decide) (by decide), h.1 30 11 0 0 (by decide) (by decide)]
      have i8 : ix 8 5 := ⟨by omega, by omega⟩
      have i9 : ix 8 (6 + k % 4) := ⟨by omega, by omega⟩
      have hi : ∀ g, g < 8 → ix g k := fun g hg => ⟨hk, Or.inl hg⟩
      refine ok_ob (P := fun r => Mh F r (bgk F (F 30 11 0 0) (k + 1)) m) (ok_itn (by decide) (ok_pl (ok_og (oN_vp (by omega) (by omega)) (h.pb 2 k (by omega) (hi 2 (by omega)) (fun F1 h1 => ?_))))) (fun F2 h2 => ih F2 h2)
      rw [h1.rb 8 5 (by omega) i8]
      refine h1.pb 8 5 (by omega) i8 (fun F2 h2 => ok_og (oN_vp (by omega) (by omega)) ?_)
      rw [h2.rb 8 (6 + k % 4) (by omega) i9]
      refine h2.pb 8 (6 + k % 4) (by omega) i9 (fun F3 h3 => ?_)
      rw [isCell_e hp h3 hk, ob_s, if_pos hc, h3.1 31 0 0 1 (by decide) (by decide), h3.1 30 11 0 0 (by decide) (by decide)]
      refine ok_itn (by decide) (ok_pl (ok_og (oN_vp (by omega) (by omega)) (h3.pb 3 k (by omega) (hi 3 (by omega)) (fun F4 h4 => ?_))))
      rw [h4.rb 8 5 (by omega) i8]
      refine h4.pb 8 5 (by omega) i8 (fun F5 h5 => ?_)
      rw [h5.rb 8 (6 + k % 4) (by omega) i9]
      refine h5.pb 8 (6 + k % 4) (by omega) i9 (fun F6 h6 => ?_)
      rw [isCell_e hp h6 hk, ob_s, if_pos hc, h6.1 31 0 0 2 (by decide) (by decide), h6.1 30 11 0 0 (by decide) (by decide)]
      refine ok_itn (by decide) (ok_pl (ok_og (oN_vp (by omega) (by omega)) (h6.pb 4 k (by omega) (hi 4 (by omega)) (fun F7 h7 => ?_))))
      rw [h7.rb 8 5 (by omega) i8]
      refine h7.pb 8 5 (by omega) i8 (fun F8 h8 => ?_)
      rw [h8.rb 8 (6 + k % 4) (by omega) i9]
      refine h8.pb 8 (6 + k % 4) (by omega) i9 (fun F9 h9 => ok_some (h9.eqb (fun g x hx => ?_) (fun _ _ _ _ => rfl)))
      have ec : oN (cnt F (k + 1)) = oN (cnt F k) + 1 := by
        show oN (cnt F k + (if cel F k = true then 1 else 0)) = _
        rw [if_pos hc, oN_1]
      have er : oN (cnr F (k % 4) (k + 1)) = oN (cnr F (k % 4) k) + 1 := by
        show oN (cnr F (k % 4) k + (if cel F k = true ∧ k % 4 = k % 4 then 1 else 0)) = _
        rw [if_pos ⟨hc, rfl⟩, oN_1]
      have er2 : ∀ c, c ≠ k % 4 → cnr F c (k + 1) = cnr F c k := fun c hne => by
        show cnr F c k + (if cel F k = true ∧ k % 4 = c then 1 else 0) = _
        rw [if_neg (fun q => hne q.2.symm), Nat.add_zero]
      have n1 : ¬ (5 = 6 + k % 4) := by omega
      have n2 : ¬ (6 + k % 4 = 5) := by omega
      by_cases hg8 : g = 8
      · subst hg8
        by_cases hx5 : x = 5
        · subst hx5
          simp only [bu, bgk, n1, and_false, and_true, if_false, if_true, show ¬ ((8 : Nat) = 2) by decide, show ¬ ((8 : Nat) = 3) by decide, show ¬ ((8 : Nat) = 4) by decide, false_and]
          rw [ec]
          unfold sumS
          grind
        · by_cases hx6 : x = 6 + k % 4
          · subst hx6
            have n3 : 6 ≤ 6 + k % 4 ∧ 6 + k % 4 < 10 := by omega
            simp only [bu, bgk, n2, n3, and_false, and_true, if_false, if_true, show ¬ ((8 : Nat) = 2) by decide, show ¬ ((8 : Nat) = 3) by decide, show ¬ ((8 : Nat) = 4) by decide, false_and, Nat.add_sub_cancel_left]
            rw [er]
            unfold sumS
            grind
          · simp only [bu, bgk, hx5, hx6, and_false, if_false, if_true, show ¬ ((8 : Nat) = 2) by decide, show ¬ ((8 : Nat) = 3) by decide, show ¬ ((8 : Nat) = 4) by decide, false_and]
            by_cases h610 : 6 ≤ x ∧ x < 10
            · rw [er2 (x - 6) (by omega)]
            · rw [if_neg h610, if_neg h610]
      · by_cases hxk : x = k
        · subst hxk
          rcases (show g = 2 ∨ g = 3 ∨ g = 4 ∨ (g ≠ 2 ∧ g ≠ 3 ∧ g ≠ 4) by omega) with q | q | q | q
          · subst q; simp [bu, bgk, hc]
          · subst q; simp [bu, bgk, hc]
          · subst q; simp [bu, bgk, hc]
          · rw [bu_ne hg8, bu_ne hg8, bu_ne q.2.2, bu_ne hg8, bu_ne hg8, bu_ne q.2.1, bu_ne hg8, bu_ne hg8, bu_ne q.1]
            unfold bgk
            rw [if_neg hg8, if_neg hg8, if_neg (by omega), if_neg (by omega)]
        · have e1 : x < k + 1 ↔ x < k := by omega
          rw [bu_ne hg8, bu_ne hg8, bu_nx hxk, bu_ne hg8, bu_ne hg8, bu_nx hxk, bu_ne hg8, bu_ne hg8, bu_nx hxk]
          unfold bgk
          simp only [hg8, if_false, e1]
    · rw [if_neg hc]
      refine ok_ob (ok_itp rfl (ok_mhs h)) (fun F2 h2 => ih F2 (h2.eqb (fun g x hx => ?_) (fun _ _ _ _ => rfl)))
      have ec : cnt F (k + 1) = cnt F k := by
        show cnt F k + (if cel F k = true then 1 else 0) = _
        rw [if_neg hc, Nat.add_zero]
      have er2 : ∀ c, cnr F c (k + 1) = cnr F c k := fun c => by
        show cnr F c k + (if cel F k = true ∧ k % 4 = c then 1 else 0) = _
        rw [if_neg (fun q => hc q.1), Nat.add_zero]
      have e1 : (x < k + 1 ∧ cel F x = true ∧ 2 ≤ g ∧ g < 5) ↔ (x < k ∧ cel F x = true ∧ 2 ≤ g ∧ g < 5) := by
        constructor
        · intro q
          refine ⟨?_, q.2⟩
          by_cases hxk : x = k
          · subst hxk; exact absurd q.2.1 hc
          · omega
        · intro q
          exact ⟨by omega, q.2⟩
      unfold bgk
      simp only [ec, er2, e1]
  · intro n F' h
    rw [lp_X8_begin_24_s]
    refine ok_itp (yle (a := 16) (Nat.le_refl _) (by omega)) (ok_some (h.eqb (fun g x hx => ?_) (fun _ _ _ _ => rfl)))
    have hx1 := hx.1
    unfold bgk begS
    by_cases hg8 : g = 8
    · subst hg8
      rw [if_pos rfl, if_neg (show ¬ (cel F x = true ∧ 2 ≤ 8 ∧ 8 < 5) by omega)]
      by_cases hx5 : x = 5
      · subst hx5
        rw [if_pos rfl, if_pos ⟨rfl, rfl⟩, cnt_16 hp, hp.1.1, hp.2.1.1, Int32.mul_assoc]
        congr 1
        exact Int32.ofNat_mul _ _
      · rw [if_neg hx5, if_neg (show ¬ (8 = 8 ∧ x = 5) from fun q => hx5 q.2)]
        by_cases h610 : 6 ≤ x ∧ x < 10
        · rw [if_pos h610, cnr_16 hp (by omega)]
          by_cases hxr : x - 6 < Rg F
          · rw [if_pos hxr, if_pos ⟨rfl, by omega⟩, hp.2.1.1]
          · rw [if_neg hxr, if_neg (by omega)]
            exact Int32.mul_zero
        · rw [if_neg h610, if_neg (by omega)]
    · rw [if_neg hg8, if_neg (show ¬ (g = 8 ∧ x = 5) from fun q => hg8 q.1), if_neg (show ¬ (g = 8 ∧ 6 ≤ x ∧ x < 6 + Rg F) from fun q => hg8 q.1)]
      simp only [hx1, true_and]
  · unfold bgk
    by_cases hg8 : g = 8
    · rw [if_pos hg8]
      have e0 : oN (cnt F 0) = 0 := rfl
      have e1 : ∀ c, oN (cnr F c 0) = 0 := fun _ => rfl
      simp only [e0, e1, Int32.mul_zero, ite_self]
    · rw [if_neg hg8, if_neg (by omega)]
end BGM
