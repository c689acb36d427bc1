/-! PURE: the model's tick -/
set_option maxRecDepth 100000
def bu (b : Bt) (g0 x0 : Nat) (v : Int32) : Bt := fun g x => if g = g0 ∧ x = x0 then v else b g x
def ix (g x : Nat) : Prop := x < 16 ∧ (g < 8 ∨ g = 8 ∧ x < 10)
/-- F' is F but for the brew, which holds b, and the goings, which hold m -/
def Mh (F F' : St) (b m : Bt) : Prop := (∀ k p i j, k ≠ 40 → (k ≠ 44 ∧ ¬ (k = 30 ∧ 37 ≤ p ∧ p < 64)) → F' k p i j = F k p i j) ∧ (∀ g x, ix g x → F' 40 0 0 (16 * g + x) = b g x) ∧ (∀ g x, g < 4 → x < 16 → F' 44 0 0 (16 * g + x) = m g x)
section MHR
variable {F F' : St} {b m : Bt} {ρ : Type} {Q : ρ → Prop}
theorem Mh.eqb {b2 m2 : Bt} (h : Mh F F' b m) (h1 : ∀ g x, ix g x → b g x = b2 g x) (h2 : ∀ g x, g < 4 → x < 16 → m g x = m2 g x) : Mh F F' b2 m2 := ⟨h.1, fun g x hx => (h.2.1 g x hx).trans (h1 g x hx), fun g x hg hx => (h.2.2 g x hg hx).trans (h2 g x hg hx)⟩
theorem Mh.rb (h : Mh F F' b m) {j : Nat} (g x : Nat) (hj : j = 16 * g + x) (hx : ix g x) : F' 40 0 0 j = b g x := by rw [hj]; exact h.2.1 g x hx
theorem Mh.rm (h : Mh F F' b m) {j : Nat} (g x : Nat) (hj : j = 16 * g + x) (hg : g < 4) (hx : x < 16) : F' 44 0 0 j = m g x := by rw [hj]; exact h.2.2 g x hg hx
theorem Mh.pb (h : Mh F F' b m) {j : Nat} {v : Int32} {f : St → Option ρ} (g x : Nat) (hj : j = 16 * g + x) (hx : ix g x) (k : ∀ F'', Mh F F'' (bu b g x v) m → Ok (f F'') Q) : Ok (pl (fu F' 40 0 0 j v) f) Q := by
  refine k _ ⟨fun k p i j h1 h2 => ?_, fun g2 x2 h2 => ?_, fun g2 x2 h2 h3 => ?_⟩
  · rw [fu_n _ _ _ _ _ _ (fun q => h1 q.1)]; exact h.1 k p i j h1 h2
  · rw [fu_a, hj]
    unfold bu
    by_cases hq : g2 = g ∧ x2 = x
    · rw [if_pos hq, if_pos (by omega)]
    · have hne : ¬ (16 * g2 + x2 = 16 * g + x) := by
        have := hx.1
        have := h2.1
        omega
      rw [if_neg hq, if_neg (fun q => hne q.2.2.2)]
      exact h.2.1 g2 x2 h2
  · rw [fu_n _ _ _ _ _ _ (fun q => by omega)]; exact h.2.2 g2 x2 h2 h3
theorem Mh.pm (h : Mh F F' b m) {j : Nat} {v : Int32} {f : St → Option ρ} (g x : Nat) (hj : j = 16 * g + x) (hx : x < 16) (k : ∀ F'', Mh F F'' b (bu m g x v) → Ok (f F'') Q) : Ok (pl (fu F' 44 0 0 j v) f) Q := by
  refine k _ ⟨fun k p i j h1 h2 => ?_, fun g2 x2 h2 => ?_, fun g2 x2 h2 h3 => ?_⟩
  · rw [fu_n _ _ _ _ _ _ (fun q => h2.1 q.1)]; exact h.1 k p i j h1 h2
  · rw [fu_n _ _ _ _ _ _ (fun q => by omega)]; exact h.2.1 g2 x2 h2
  · rw [fu_a, hj]
    unfold bu
    by_cases hq : g2 = g ∧ x2 = x
    · rw [if_pos hq, if_pos (by omega)]
    · have hne : ¬ (16 * g2 + x2 = 16 * g + x) := by omega
      rw [if_neg hq, if_neg (fun q => hne q.2.2.2)]
      exact h.2.2 g2 x2 h2 h3
theorem ok_mhs (h : Mh F F' b m) : Ok (some F') (fun r => Mh F r b m) := ok_some h
theorem isCell_e (hp : PB F) (h : Mh F F' b m) {k : Nat} (hk : k < 16) : fn_X8_isCell F' (oN k) = some (if cel F k = true then 1 else 0) := by
  unfold fn_X8_isCell
  obtain ⟨⟨r1, r2, r3⟩, ⟨l1, l2, l3⟩, -⟩ := hp
  rw [(dm4 k hk).1, (dm4 k hk).2, h.1 30 0 0 0 (by decide) (by decide), h.1 30 1 0 0 (by decide) (by decide), r1, l1]
  simp only [oN_le (show Rg F < 2147483648 by omega) (show k % 4 < 2147483648 by omega), oN_le (show Ly F < 2147483648 by omega) (show k / 4 < 2147483648 by omega)]
  by_cases h1 : Rg F ≤ k % 4
  · rw [if_pos h1, if_neg (fun q => by have := (cel_i.mp q).1; omega)]
  · by_cases h2 : Ly F ≤ k / 4
    · rw [if_neg h1, if_pos h2, if_neg (fun q => by have := (cel_i.mp q).2; omega)]
    · rw [if_neg h1, if_neg h2, if_pos (cel_i.mpr ⟨by omega, by omega⟩)]
/-- pours -/
theorem m_pour (hp : PB F) (h : Mh F F' b m) : Ok (lp_X8_goTick_2 300 F' 0) (fun r => Mh F r.1 (pourS F b) m) := by
  obtain ⟨n, hn, hn2, hn3⟩ := hp.2.2.2.1
  have hR := hp.1.2.2
  have hcn : (F 30 12 0 0).toNatClampNeg = n := by rw [hn2, oN_n (by omega)]
  refine ok_lpF (I := fun k F' => Mh F F' (fun g x => if g = 0 ∧ x < 16 then pS F (b 8 4) k (b 0) x else b g x) m) n (by omega) ?_ ?_ (F := F') ?_
  · intro q k F' hk h ih
    have hr := (hn3 k hk).1
    have hrn : (F 35 0 0 k).toNatClampNeg < 4 := by
      have := cn_i hr.1
      omega
    rw [lp_X8_goTick_2_s, h.1 30 12 0 0 (by decide) (by decide), hn2, oN_n (show k < 2147483648 by omega), h.1 35 0 0 k (by decide) (by decide), h.1 34 0 0 k (by decide) (by decide), h.1 36 0 0 k (by decide) (by decide)]
    refine ok_itn (by rw [oN_le (by omega) (by omega)]; omega) (ok_og (oN_vp (by omega) (by omega)) (ok_og (vpb_t hr.1 (by omega)) (ok_obi ?_)))
    rw [h.rb 8 4 rfl ⟨by omega, by omega⟩, h.rb 0 (F 35 0 0 k).toNatClampNeg (by omega) ⟨by omega, by omega⟩]
    refine h.pb 0 (F 35 0 0 k).toNatClampNeg (by omega) ⟨by omega, by omega⟩ (fun F'' h2 => ih F'' (h2.eqb (fun g x hx => ?_) (fun _ _ _ _ => rfl)))
    unfold bu
    by_cases hg : g = 0
    · subst hg
      have hx16 : x < 16 := hx.1
      by_cases he : x = (F 35 0 0 k).toNatClampNeg
      · subst he
        simp only [true_and, if_pos rfl, hx16, if_true, pS]
        simp
      · simp only [true_and, he, if_false, hx16, if_true, pS]
    · simp only [hg, false_and, if_false]
  · intro q F' h
    rw [lp_X8_goTick_2_s, h.1 30 12 0 0 (by decide) (by decide), hn2]
    exact ok_itp (by rw [oN_le (by omega) (by omega)]; omega) (ok_some (by unfold pourS; rw [hcn]; exact h))
  · exact h.eqb (fun g x hx => by
      by_cases hg : g = 0
      · subst hg
        have hx16 : x < 16 := hx.1
        simp only [true_and, hx16, if_true, pS]
      · simp only [hg, false_and, if_false]) (fun _ _ _ _ => rfl)
theorem bu_ne {b : Bt} {g0 x0 g x : Nat} {v : Int32} (h : g ≠ g0) : bu b g0 x0 v g x = b g x := if_neg (fun q => h q.1)
theorem bu_nx {b : Bt} {g0 x0 g x : Nat} {v : Int32} (h : x ≠ x0) : bu b g0 x0 v g x = b g x := if_neg (fun q => h q.2)
theorem bu_eq {b : Bt} {g0 x0 : Nat} {v : Int32} : bu b g0 x0 v g0 x0 = v := if_pos ⟨rfl, rfl⟩
theorem m_clear (h : Mh F F' b m) : Ok (fn_X8_clearGoings F') (fun r => Mh F r b (fun _ _ => 0)) := by
  unfold fn_X8_clearGoings
  refine ok_ob2 (ok_lpF (I := fun k F' => Mh F F' b (fun g x => if 16 * g + x < k then 0 else m g x)) (Q := fun r => Mh F r.1 b (fun _ _ => 0)) 64 (by omega) ?_ ?_ (h.eqb (fun _ _ _ => rfl) (fun g x _ _ => by simp))) (fun y z hq => ok_some hq)
  · intro n k F' hk h ih
    rw [lp_X8_clearGoings_2_s, oN_n (show k < 2147483648 by omega)]
    refine ok_itn (nle (a := 64) hk (by omega)) (ok_og (oN_vp hk (by omega)) (h.pm (k / 16) (k % 16) (by omega) (by omega) (fun F'' h2 => ih F'' (h2.eqb (fun _ _ _ => rfl) (fun g x hg hx => ?_)))))
    unfold bu
    by_cases he : g = k / 16 ∧ x = k % 16
    · rw [if_pos he, if_pos (by omega)]
    · rw [if_neg he]
      show (if 16 * g + x < k then (0 : Int32) else m g x) = _
      by_cases h3 : 16 * g + x < k
      · rw [if_pos h3, if_pos (by omega)]
      · rw [if_neg h3, if_neg (by omega)]
  · intro n F' h
    rw [lp_X8_clearGoings_2_s]
    exact ok_itp (yle (a := 64) (Nat.le_refl _) (by omega)) (ok_some (h.eqb (fun _ _ _ => rfl) (fun g x hg hx => if_pos (by omega))))
theorem m_give (h : Mh F F' b m) {k : Nat} (hk : k < 16) : Ok (fn_X8_give F' (oN k)) (fun r => Mh F r (bu (bu (bu (bu (bu (bu b 2 k (b 2 k - byS F (F 30 10 0 0) b 0 k)) 5 k (b 5 k + byS F (F 30 10 0 0) b 0 k)) 3 k (b 3 k - byS F (F 30 10 0 0) b 1 k)) 6 k (b 6 k + byS F (F 30 10 0 0) b 1 k)) 4 k (b 4 k - byS F (F 30 10 0 0) b 2 k)) 7 k (b 7 k + byS F (F 30 10 0 0) b 2 k)) m) := by
  have hi : ∀ g, g < 8 → ix g k := fun g hg => ⟨hk, Or.inl hg⟩
  unfold fn_X8_give
  rw [oN_n (show k < 2147483648 by omega), h.rb 0 k (by omega) (hi 0 (by omega))]
  refine ok_og (oN_vp (by omega) (by omega)) (ok_obi (ok_pl ?_))
  rw [l32, oN_n (show 32 + k < 2147483648 by omega), h.rb 2 k (by omega) (hi 2 (by omega)), h.1 32 0 0 0 (by decide) (by decide), h.1 30 10 0 0 (by decide) (by decide)]
  refine ok_og (oN_vp (by omega) (by omega)) (ok_ple (y := byS F (F 30 10 0 0) b 0 k) rfl (h.pb 2 k (by omega) (hi 2 (by omega)) (fun F1 h1 => ?_)))
  clear h
  rw [l80, oN_n (show 80 + k < 2147483648 by omega), h1.rb 5 k (by omega) (hi 5 (by omega)), bu_ne (by decide)]
  refine ok_og (oN_vp (by omega) (by omega)) (h1.pb 5 k (by omega) (hi 5 (by omega)) (fun F2 h2 => ok_pl ?_))
  clear h1
  rw [l48, oN_n (show 48 + k < 2147483648 by omega), h2.rb 3 k (by omega) (hi 3 (by omega)), h2.1 32 0 0 1 (by decide) (by decide), h2.1 30 10 0 0 (by decide) (by decide), bu_ne (by decide), bu_ne (by decide)]
  refine ok_og (oN_vp (by omega) (by omega)) (ok_ple (y := byS F (F 30 10 0 0) b 1 k) rfl (h2.pb 3 k (by omega) (hi 3 (by omega)) (fun F3 h3 => ?_)))
  clear h2
  rw [l96, oN_n (show 96 + k < 2147483648 by omega), h3.rb 6 k (by omega) (hi 6 (by omega)), bu_ne (by decide), bu_ne (by decide), bu_ne (by decide)]
  refine ok_og (oN_vp (by omega) (by omega)) (h3.pb 6 k (by omega) (hi 6 (by omega)) (fun F4 h4 => ok_pl ?_))
  clear h3
  rw [l64, oN_n (show 64 + k < 2147483648 by omega), h4.rb 4 k (by omega) (hi 4 (by omega)), h4.1 32 0 0 2 (by decide) (by decide), h4.1 30 10 0 0 (by decide) (by decide), bu_ne (by decide), bu_ne (by decide), bu_ne (by decide), bu_ne (by decide)]
  refine ok_og (oN_vp (by omega) (by omega)) (ok_ple (y := byS F (F 30 10 0 0) b 2 k) rfl (h4.pb 4 k (by omega) (hi 4 (by omega)) (fun F5 h5 => ?_)))
  clear h4
  rw [l112, oN_n (show 112 + k < 2147483648 by omega), h5.rb 7 k (by omega) (hi 7 (by omega)), bu_ne (by decide), bu_ne (by decide), bu_ne (by decide), bu_ne (by decide), bu_ne (by decide)]
  exact ok_og (oN_vp (by omega) (by omega)) (h5.pb 7 k (by omega) (hi 7 (by omega)) (fun F6 h6 => ok_some h6))
/-- the six numbers of a cell, as takeS has them -/
theorem take6 (F : St) (wm : Int32) (b : Bt) {k : Nat} (hc : cel F k = true) (b' : Bt) (hb : ∀ g, b' g k = b g k) (hv : ∀ s, byS F wm b' s k = byS F wm b s k) (g x : Nat) : bu (bu (bu (bu (bu (bu b' 2 k (b' 2 k - byS F wm b' 0 k)) 5 k (b' 5 k + byS F wm b' 0 k)) 3 k (b' 3 k - byS F wm b' 1 k)) 6 k (b' 6 k + byS F wm b' 1 k)) 4 k (b' 4 k - byS F wm b' 2 k)) 7 k (b' 7 k + byS F wm b' 2 k) g x = if x = k then takeS F wm b g x else b' g x := by
  by_cases hx : x = k
  · subst hx
    rw [if_pos rfl]
    unfold takeS
    simp only [hb, hv, hc, true_and]
    rcases (show g = 2 ∨ g = 3 ∨ g = 4 ∨ g = 5 ∨ g = 6 ∨ g = 7 ∨ (g ≠ 2 ∧ g ≠ 3 ∧ g ≠ 4 ∧ g ≠ 5 ∧ g ≠ 6 ∧ g ≠ 7) by omega) with h | h | h | h | h | h | h
    · subst h; simp [bu]
    · subst h; simp [bu]
    · subst h; simp [bu]
    · subst h; simp [bu]
    · subst h; simp [bu]
    · subst h; simp [bu]
    · rw [if_neg (by omega), if_neg (by omega), bu_ne h.2.2.2.2.2, bu_ne h.2.2.1, bu_ne h.2.2.2.2.1, bu_ne h.2.1, bu_ne h.2.2.2.1, bu_ne h.1, hb]
  · rw [if_neg hx, bu_nx hx, bu_nx hx, bu_nx hx, bu_nx hx, bu_nx hx, bu_nx hx]
theorem m_take (hp : PB F) (h : Mh F F' b m) : Ok (lp_X8_goTick_59 300 F' 0) (fun r => Mh F r.1 (takeS F (F 30 10 0 0) b) m) := by
  refine ok_lpF (I := fun k F' => Mh F F' (fun g x => if x < k then takeS F (F 30 10 0 0) b g x else b g x) m) 16 (by omega) ?_ ?_ (h.eqb (fun g x _ => by simp) (fun _ _ _ _ => rfl))
  · intro n k F' hk h ih
    rw [lp_X8_goTick_59_s]
    refine ok_itn (nle (a := 16) hk (by omega)) ?_
    rw [isCell_e hp h hk, ob_s]
    by_cases hc : cel F k = true
    · rw [if_pos hc]
      refine ok_ob (ok_itn (by decide) (ok_ob (m_give h hk) (fun F'' h2 => ok_some h2))) (fun F'' h2 => ih F'' (h2.eqb (fun g x hx => ?_) (fun _ _ _ _ => rfl)))
      rw [take6 F (F 30 10 0 0) b hc _ (fun g => if_neg (by omega)) (fun s => by unfold byS; simp only [Nat.lt_irrefl, if_false])]
      by_cases h1 : x = k
      · rw [if_pos h1, if_pos (by omega)]
      · rw [if_neg h1]
        by_cases h3 : x < k
        · rw [if_pos h3, if_pos (by omega)]
        · rw [if_neg h3, if_neg (by omega)]
    · rw [if_neg hc]
      refine ok_ob (ok_itp rfl (ok_mhs h)) (fun F'' h2 => ih F'' (h2.eqb (fun g x hx => ?_) (fun _ _ _ _ => rfl)))
      by_cases h1 : x = k
      · subst h1
        rw [if_neg (by omega), if_pos (by omega)]
        unfold takeS
        rw [if_neg (fun q => hc q.1), if_neg (fun q => hc q.1)]
      · by_cases h3 : x < k
        · rw [if_pos h3, if_pos (by omega)]
        · rw [if_neg h3, if_neg (by omega)]
  · intro n F' h
    rw [lp_X8_goTick_59_s]
    exact ok_itp (yle (a := 16) (Nat.le_refl _) (by omega)) (ok_some (h.eqb (fun g x hx => if_pos hx.1) (fun _ _ _ _ => rfl)))
end MHR
