/-! PURE: a bed of the class begun, copied -/
set_option maxRecDepth 100000
def vw (g x : Nat) : Prop := (g < 8 ∧ x < 16) ∨ (g = 8 ∧ x < 5) ∨ (g = 9 ∧ x < 16)
theorem vb_w {F : St} {g x : Nat} (h : vb F g x) : vw g x := by
  unfold vb at h
  unfold vw
  omega
theorem lb_iw {i g x g2 x2 : Nat} (hi : i < 4) (h1 : vw g x) (h2 : vw g2 x2) (h : lb i g x = lb i g2 x2) : g = g2 ∧ x = x2 := by
  unfold vw at h1 h2
  have a1 : x < 16 → x2 < 16 → hx i x = hx i x2 → x = x2 := fun p q r => hx_i p q r
  have a2 : x < 16 → hx i x < 64 := fun p => (hx_b p hi).2
  have a3 : x2 < 16 → hx i x2 < 64 := fun p => (hx_b p hi).2
  unfold lb at h
  repeat' split at h
  all_goals simp only [Prod.mk.injEq] at h
  all_goals omega
theorem lb_blw {i g x : Nat} (hi : i < 4) (h : vw g x) : bl i (lb i g x).1 (lb i g x).2.2.1 := by
  unfold vw at h
  have a2 : x < 16 → hx i x / 16 = i ∧ hx i x < 64 := fun p => hx_b p hi
  unfold lb
  repeat' split
  all_goals first | exact Or.inl ⟨rfl, rfl⟩ | exact Or.inr (Or.inl ⟨Or.inl rfl, Or.inr rfl⟩) | exact Or.inr (Or.inl ⟨Or.inr (Or.inl rfl), Or.inr rfl⟩) | exact Or.inr (Or.inl ⟨Or.inl rfl, Or.inl (a2 (by omega))⟩) | exact Or.inr (Or.inl ⟨Or.inr (Or.inl rfl), Or.inl (a2 (by omega))⟩) | exact Or.inr (Or.inr ⟨rfl, by show (4 * i + x % 4) / 4 = i; omega⟩)
section CB
variable {F F' : St} {b m : Bt} {ρ : Type} {Q : ρ → Prop} {i : Nat}
theorem Ch.pw (hi : i < 4) (h : Ch i F F' b m) {k p y j : Nat} {v : Int32} {f : St → Option ρ} (g x : Nat) (e : lb i g x = (k, p, y, j)) (hv : vw g x) (kk : ∀ F'', Ch i F F'' (bu b g x v) m → Ok (f F'') Q) : Ok (pl (fu F' k p y j v) f) Q := by
  refine kk _ ⟨fun k2 p2 y2 j2 hn => ?_, fun g2 x2 h2 => ?_, fun g2 x2 h2 h3 => ?_⟩
  · rw [fu_n _ _ _ _ _ _ (fun q => hn (by
      have h1 := lb_blw hi hv
      rw [e] at h1
      rw [q.1, q.2.2.1]
      exact h1))]
    exact h.1 k2 p2 y2 j2 hn
  · rw [gt_fu, ← e]
    unfold bu
    by_cases hq : g2 = g ∧ x2 = x
    · rw [if_pos hq, if_pos (by rw [hq.1, hq.2])]
    · rw [if_neg hq, if_neg (fun q => hq (lb_iw hi (vb_w h2) hv q))]
      exact h.2.1 g2 x2 h2
  · rw [gt_fu, ← e, if_neg (fun q => lb_lm q.symm)]
    exact h.2.2 g2 x2 h2 h3
/-- a place of the cup that nobody reads -/
theorem Ch.pu (h : Ch i F F' b m) {k p j : Nat} {v : Int32} {f : St → Option ρ} (hk : (k = 2 ∧ p = 2) ∨ (k = 4 ∧ p = 0)) (hi : i < 4) (kk : ∀ F'', Ch i F F'' b m → Ok (f F'') Q) : Ok (pl (fu F' k p (64 + i) j v) f) Q := by
  refine kk _ ⟨fun k2 p2 y2 j2 hn => ?_, fun g2 x2 h2 => ?_, fun g2 x2 h2 h3 => ?_⟩
  · rw [fu_n _ _ _ _ _ _ (fun q => hn (by
      rw [q.1, q.2.2.1]
      rcases hk with ⟨rfl, -⟩ | ⟨rfl, -⟩
      · exact Or.inr (Or.inl ⟨Or.inl rfl, Or.inr rfl⟩)
      · exact Or.inr (Or.inl ⟨Or.inr (Or.inl rfl), Or.inr rfl⟩)))]
    exact h.1 k2 p2 y2 j2 hn
  · rw [gt_fu, if_neg]
    · exact h.2.1 g2 x2 h2
    · intro q
      have hw := vb_w h2
      unfold vw at hw
      have a2 : x2 < 16 → hx i x2 < 64 := fun p => (hx_b p hi).2
      unfold lb at q
      repeat' split at q
      all_goals simp only [Prod.mk.injEq] at q
      all_goals omega
  · rw [gt_fu, if_neg]
    · exact h.2.2 g2 x2 h2 h3
    · intro q
      unfold lm at q
      repeat' split at q
      all_goals simp only [Prod.mk.injEq] at q
      all_goals omega
/-- a cell as it begins -/
def b8 (F : St) (mu : Int32) (g : Nat) : Int32 := if 2 ≤ g ∧ g < 5 then F 31 0 0 (g - 2) * mu else 0
theorem c_clear (hi : i < 4) (hq : Par F) (h : Ch i F F' b m) {z : Nat} (hz : z < 16) (mu : Int32) : Ok (fn_X1_clear F' i (hx i z) mu) (fun r => Ch i F r (fun g x => if x = z ∧ g < 8 then b8 F mu g else b g x) m) := by
  have hv : ∀ g, g < 8 → vw g z := fun g hg => Or.inl ⟨hg, hz⟩
  have ht := hq.2.2.2.2.2.1
  unfold fn_X1_clear
  refine h.pw hi 0 z rfl (hv 0 (by omega)) (fun F1 h1 => h1.pw hi 1 z rfl (hv 1 (by omega)) (fun F2 h2 => ?_))
  rw [h2.o (k := 23) (by decide), ht 0 (by omega)]
  refine h2.pw hi 2 z rfl (hv 2 (by omega)) (fun F3 h3 => h3.pw hi 5 z rfl (hv 5 (by omega)) (fun F4 h4 => ?_))
  rw [h4.o (k := 23) (by decide), ht 1 (by omega)]
  refine h4.pw hi 3 z rfl (hv 3 (by omega)) (fun F5 h5 => h5.pw hi 6 z rfl (hv 6 (by omega)) (fun F6 h6 => ?_))
  rw [h6.o (k := 23) (by decide), ht 2 (by omega)]
  refine h6.pw hi 4 z rfl (hv 4 (by omega)) (fun F7 h7 => h7.pw hi 7 z rfl (hv 7 (by omega)) (fun F8 h8 => ok_some (h8.eqb (fun g x hx => ?_) (fun _ _ _ _ => rfl))))
  by_cases hxz : x = z
  · subst hxz
    unfold b8
    rcases (show g = 0 ∨ g = 1 ∨ g = 2 ∨ g = 3 ∨ g = 4 ∨ g = 5 ∨ g = 6 ∨ g = 7 ∨ 8 ≤ g by omega) with q | q | q | q | q | q | q | q | q
    · subst q; simp [bu]
    · subst q; simp [bu]
    · subst q; simp [bu]
    · subst q; simp [bu]
    · subst q; simp [bu]
    · subst q; simp [bu]
    · subst q; simp [bu]
    · subst q; simp [bu]
    · rw [bu_ne (by omega), bu_ne (by omega), bu_ne (by omega), bu_ne (by omega), bu_ne (by omega), bu_ne (by omega), bu_ne (by omega), bu_ne (by omega), if_neg (by omega)]
  · rw [bu_nx hxz, bu_nx hxz, bu_nx hxz, bu_nx hxz, bu_nx hxz, bu_nx hxz, bu_nx hxz, bu_nx hxz, if_neg (fun q => hxz q.1)]
theorem c_clearC (hi : i < 4) (h : Ch i F F' b m) (mu : Int32) : Ok (fn_X1_clear F' i (64 + i) mu) (fun r => Ch i F r (fun g x => if g = 8 ∧ x < 4 then 0 else b g x) m) := by
  have hv : ∀ x, x < 5 → vw 8 x := fun x hx => Or.inr (Or.inl ⟨rfl, hx⟩)
  unfold fn_X1_clear
  refine h.pw hi 8 0 rfl (hv 0 (by omega)) (fun F1 h1 => h1.pu (Or.inl ⟨rfl, rfl⟩) hi (fun F2 h2 => h2.pu (Or.inr ⟨rfl, rfl⟩) hi (fun F3 h3 => h3.pw hi 8 1 rfl (hv 1 (by omega)) (fun F4 h4 => h4.pu (Or.inr ⟨rfl, rfl⟩) hi (fun F5 h5 => h5.pw hi 8 2 rfl (hv 2 (by omega)) (fun F6 h6 => h6.pu (Or.inr ⟨rfl, rfl⟩) hi (fun F7 h7 => h7.pw hi 8 3 rfl (hv 3 (by omega)) (fun F8 h8 => ok_some (h8.eqb (fun g x hx => ?_) (fun _ _ _ _ => rfl))))))))))
  by_cases hg : g = 8
  · subst hg
    by_cases hx4 : x < 4
    · rcases (show x = 0 ∨ x = 1 ∨ x = 2 ∨ x = 3 by omega) with q | q | q | q <;> subst q <;> simp [bu]
    · rw [bu_nx (by omega), bu_nx (by omega), bu_nx (by omega), bu_nx (by omega), if_neg (by omega)]
  · rw [bu_ne hg, bu_ne hg, bu_ne hg, bu_ne hg, if_neg (fun q => hg q.1)]
theorem c_begin (hi : i < 4) (hp : PB F) (hq : Par F) (h : Ch i F F' b m) (mu : Int32) : Ok (fn_X1_begin F' i mu) (fun r => Ch i F r (fun g x => if g = 9 then b 9 x else begS F mu g x) m) := by
  have r3 := hp.1.2.2
  unfold fn_X1_begin
  refine ok_ob2 (ok_nest (lo := lp_X1_begin_2 i mu) (li := lp_X1_begin_9 i mu) 4 4 (by omega) (by omega) (fun c l F' => Ch i F F' (fun g x => if pr c l x = true ∧ g < 8 then b8 F mu g else b g x) m) ?_ ?_ ?_ ?_ ?_ ?_) (fun F1 _ h1 => ?_)
  · intro c l n F' hc hl h Q ih
    rw [lp_X1_begin_9_s, oN_n (show c < 2147483648 by omega), oN_n (show l < 2147483648 by omega), hx_e hc]
    refine ok_itn (nle (a := 4) hl (by omega)) (ok_og (oN_vp (by omega) (by omega)) (ok_og (oN_vp (by omega) (by omega)) (ok_ob (c_clear hi hq h (z := 4 * l + c) (by omega) mu) (fun F2 h2 => ih F2 (h2.eqb (fun g x hv => ?_) (fun _ _ _ _ => rfl))))))
    by_cases hx : x = 4 * l + c
    · subst hx
      have e1 : pr c (l + 1) (4 * l + c) = true := pr_i.mpr (by omega)
      by_cases hg : g < 8
      · rw [if_pos ⟨rfl, hg⟩, if_pos ⟨e1, hg⟩]
      · rw [if_neg (fun q => hg q.2), if_neg (fun q => hg q.2), if_neg (fun q => hg q.2)]
    · have e1 : pr c (l + 1) x = pr c l x := by
        rw [pr_add (by omega)]
        have : (x == 4 * l + c) = false := by simpa using hx
        rw [this, Bool.or_false]
      rw [if_neg (fun q => hx q.1), e1]
  · intro c n F' hc h
    rw [lp_X1_begin_9_s]
    exact if_pos (yle (a := 4) (Nat.le_refl _) (by omega))
  · intro c n F' hc h
    rw [lp_X1_begin_2_s]
    exact if_neg (nle (a := 4) hc (by omega))
  · intro n F' h
    rw [lp_X1_begin_2_s]
    exact if_pos (yle (a := 4) (Nat.le_refl _) (by omega))
  · intro c F' hc h
    refine h.eqb (fun g x hv => ?_) (fun _ _ _ _ => rfl)
    rcases hv with ⟨hg, hcx, hx⟩ | hg
    · have e1 : pr (c + 1) 0 x = pr c 4 x := by
        rw [Bool.eq_iff_iff, pr_i, pr_i]
        omega
      rw [e1]
    · rw [if_neg (by omega), if_neg (by omega)]
  · refine h.eqb (fun g x hv => ?_) (fun _ _ _ _ => rfl)
    rw [if_neg (fun q => by have := pr_i.mp q.1; omega)]
  · have h1 : Ch i F F1 _ _ := h1
    refine ok_ob (c_clearC hi h1 0) (fun F2 h2 => ?_)
    have h2 : Ch i F F2 _ _ := h2
    refine h2.pw hi 8 4 rfl (Or.inr (Or.inl ⟨rfl, by omega⟩)) (fun F3 h3 => ok_some (h3.eqb (fun g x hv => ?_) (fun _ _ _ _ => rfl)))
    unfold begS
    rcases hv with ⟨hg, hcx, hx⟩ | ⟨hg, hx⟩ | ⟨hg, hx⟩
    · rw [bu_ne (by omega), if_neg (by omega), if_pos ⟨pr_i.mpr (by omega), hg⟩, if_neg (by omega)]
      unfold b8
      by_cases hg5 : 2 ≤ g ∧ g < 5
      · rw [if_pos hg5, if_pos ⟨hcx, hg5⟩]
      · rw [if_neg hg5, if_neg (fun q => hg5 q.2), if_neg (by omega), if_neg (by omega)]
    · subst hg
      rw [if_neg (show ¬ ((8 : Nat) = 9) by omega), if_neg (show ¬ (cel F x = true ∧ 2 ≤ 8 ∧ 8 < 5) by omega), if_neg (show ¬ (8 = 8 ∧ x = 5) by omega), if_neg (show ¬ (8 = 8 ∧ 6 ≤ x ∧ x < 6 + Rg F) by omega)]
      by_cases hx4 : x = 4
      · subst hx4; rw [bu_eq]
      · rw [bu_nx hx4, if_pos ⟨rfl, by omega⟩]
    · subst hg
      rw [bu_ne (by omega), if_neg (by omega), if_neg (by omega), if_pos rfl]
/-- a cell copied -/
theorem c_copy1 (hi : i < 4) {j : Nat} (hj : j < 4) (hij : i ≠ j) (h : Ch i F F' b m) {z : Nat} (hz : z < 16) {b2 : Bt} (hs : ∀ g, g < 8 → gt F (lb j g z) = b2 g z) : Ok (fn_X2_copy F' (hx i z) (hx j z)) (fun r => Ch i F r (fun g x => if x = z ∧ g < 8 then b2 g z else b g x) m) := by
  have hv : ∀ g, g < 8 → vw g z := fun g hg => Or.inl ⟨hg, hz⟩
  have hr : ∀ {F1 : St} {b1 m1 : Bt}, Ch i F F1 b1 m1 → ∀ g, g < 8 → ∀ {k p y e : Nat}, lb j g z = (k, p, y, e) → F1 k p y e = b2 g z := by
    intro F1 b1 m1 h1 g hg k p y e he
    rw [← hs g hg, he]
    refine h1.1 k p y e (fun q => ?_)
    have h2 := lb_blw (i := j) hj (hv g hg)
    rw [he] at h2
    unfold bl at q h2
    have q : (k = 1 ∧ y = i) ∨ ((k = 2 ∨ k = 4 ∨ k = 5) ∧ ((y / 16 = i ∧ y < 64) ∨ y = 64 + i)) ∨ (k = 9 ∧ y / 4 = i) := q
    have h2 : (k = 1 ∧ y = j) ∨ ((k = 2 ∨ k = 4 ∨ k = 5) ∧ ((y / 16 = j ∧ y < 64) ∨ y = 64 + j)) ∨ (k = 9 ∧ y / 4 = j) := h2
    omega
  unfold fn_X2_copy
  rw [hr h 0 (by omega) rfl]
  refine h.pw hi 0 z rfl (hv 0 (by omega)) (fun F1 h1 => ?_)
  rw [hr h1 1 (by omega) rfl]
  refine h1.pw hi 1 z rfl (hv 1 (by omega)) (fun F2 h2 => ?_)
  rw [hr h2 2 (by omega) rfl]
  refine h2.pw hi 2 z rfl (hv 2 (by omega)) (fun F3 h3 => ?_)
  rw [hr h3 5 (by omega) rfl]
  refine h3.pw hi 5 z rfl (hv 5 (by omega)) (fun F4 h4 => ?_)
  rw [hr h4 3 (by omega) rfl]
  refine h4.pw hi 3 z rfl (hv 3 (by omega)) (fun F5 h5 => ?_)
  rw [hr h5 6 (by omega) rfl]
  refine h5.pw hi 6 z rfl (hv 6 (by omega)) (fun F6 h6 => ?_)
  rw [hr h6 4 (by omega) rfl]
  refine h6.pw hi 4 z rfl (hv 4 (by omega)) (fun F7 h7 => ?_)
  rw [hr h7 7 (by omega) rfl]
  refine h7.pw hi 7 z rfl (hv 7 (by omega)) (fun F8 h8 => ok_some (h8.eqb (fun g x hx => ?_) (fun _ _ _ _ => rfl)))
  by_cases hxz : x = z
  · subst hxz
    rcases (show g = 0 ∨ g = 1 ∨ g = 2 ∨ g = 3 ∨ g = 4 ∨ g = 5 ∨ g = 6 ∨ g = 7 ∨ 8 ≤ g by omega) with q | q | q | q | q | q | q | q | q
    · subst q; simp [bu]
    · subst q; simp [bu]
    · subst q; simp [bu]
    · subst q; simp [bu]
    · subst q; simp [bu]
    · subst q; simp [bu]
    · subst q; simp [bu]
    · subst q; simp [bu]
    · rw [bu_ne (by omega), bu_ne (by omega), bu_ne (by omega), bu_ne (by omega), bu_ne (by omega), bu_ne (by omega), bu_ne (by omega), bu_ne (by omega), if_neg (by omega)]
  · rw [bu_nx hxz, bu_nx hxz, bu_nx hxz, bu_nx hxz, bu_nx hxz, bu_nx hxz, bu_nx hxz, bu_nx hxz, if_neg (fun q => hxz q.1)]
theorem c_copyC (hi : i < 4) {j : Nat} (hj : j < 4) (hij : i ≠ j) (h : Ch i F F' b m) {b2 : Bt} (hs : ∀ x, x < 5 → gt F (lb j 8 x) = b2 8 x) : Ok (fn_X2_copy F' (64 + i) (64 + j)) (fun r => Ch i F r (fun g x => if g = 8 ∧ x < 4 then b2 8 x else b g x) m) := by
  have hv : ∀ x, x < 5 → vw 8 x := fun x hx => Or.inr (Or.inl ⟨rfl, hx⟩)
  have hr : ∀ {F1 : St} {b1 m1 : Bt}, Ch i F F1 b1 m1 → ∀ x, x < 5 → ∀ {k p y e : Nat}, lb j 8 x = (k, p, y, e) → F1 k p y e = b2 8 x := by
    intro F1 b1 m1 h1 x hx k p y e he
    rw [← hs x hx, he]
    refine h1.1 k p y e (fun q => ?_)
    have h2 := lb_blw (i := j) hj (hv x hx)
    rw [he] at h2
    have q : (k = 1 ∧ y = i) ∨ ((k = 2 ∨ k = 4 ∨ k = 5) ∧ ((y / 16 = i ∧ y < 64) ∨ y = 64 + i)) ∨ (k = 9 ∧ y / 4 = i) := q
    have h2 : (k = 1 ∧ y = j) ∨ ((k = 2 ∨ k = 4 ∨ k = 5) ∧ ((y / 16 = j ∧ y < 64) ∨ y = 64 + j)) ∨ (k = 9 ∧ y / 4 = j) := h2
    omega
  unfold fn_X2_copy
  rw [hr h 0 (by omega) rfl]
  refine h.pw hi 8 0 rfl (hv 0 (by omega)) (fun F1 h1 => h1.pu (Or.inl ⟨rfl, rfl⟩) hi (fun F2 h2 => h2.pu (Or.inr ⟨rfl, rfl⟩) hi (fun F3 h3 => ?_)))
  rw [hr h3 1 (by omega) rfl]
  refine h3.pw hi 8 1 rfl (hv 1 (by omega)) (fun F4 h4 => h4.pu (Or.inr ⟨rfl, rfl⟩) hi (fun F5 h5 => ?_))
  rw [hr h5 2 (by omega) rfl]
  refine h5.pw hi 8 2 rfl (hv 2 (by omega)) (fun F6 h6 => h6.pu (Or.inr ⟨rfl, rfl⟩) hi (fun F7 h7 => ?_))
  rw [hr h7 3 (by omega) rfl]
  refine h7.pw hi 8 3 rfl (hv 3 (by omega)) (fun F8 h8 => ok_some (h8.eqb (fun g x hx => ?_) (fun _ _ _ _ => rfl)))
  by_cases hg : g = 8
  · subst hg
    by_cases hx4 : x < 4
    · rcases (show x = 0 ∨ x = 1 ∨ x = 2 ∨ x = 3 by omega) with q | q | q | q <;> subst q <;> simp [bu]
    · rw [bu_nx (by omega), bu_nx (by omega), bu_nx (by omega), bu_nx (by omega), if_neg (by omega)]
  · rw [bu_ne hg, bu_ne hg, bu_ne hg, bu_ne hg, if_neg (fun q => hg q.1)]
/-- bed j laid into bed i -/
theorem c_copy (hi : i < 4) {j : Nat} (hj : j < 4) (hij : i ≠ j) (h : Ch i F F' b m) : Ok (fn_X1_copy F' i j) (fun r => Ch i F r (fun g x => if g = 9 then b 9 x else gt F (lb j g x)) m) := by
  unfold fn_X1_copy
  refine ok_ob2 (ok_nest (lo := lp_X1_copy_2 i j) (li := lp_X1_copy_9 i j) 4 4 (by omega) (by omega) (fun c l F' => Ch i F F' (fun g x => if pr c l x = true ∧ g < 8 then gt F (lb j g x) else b g x) m) ?_ ?_ ?_ ?_ ?_ ?_) (fun F1 _ h1 => ?_)
  · intro c l n F' hc hl h Q ih
    rw [lp_X1_copy_9_s, oN_n (show c < 2147483648 by omega), oN_n (show l < 2147483648 by omega), hx_e (i := i) hc, hx_e (i := j) hc]
    refine ok_itn (nle (a := 4) hl (by omega)) (ok_og (oN_vp (by omega) (by omega)) (ok_og (oN_vp (by omega) (by omega)) (ok_ob (c_copy1 hi hj hij h (z := 4 * l + c) (by omega) (b2 := fun g x => gt F (lb j g x)) (fun _ _ => rfl)) (fun F2 h2 => ih F2 (h2.eqb (fun g x hv => ?_) (fun _ _ _ _ => rfl))))))
    by_cases hx : x = 4 * l + c
    · subst hx
      have e1 : pr c (l + 1) (4 * l + c) = true := pr_i.mpr (by omega)
      by_cases hg : g < 8
      · rw [if_pos ⟨rfl, hg⟩, if_pos ⟨e1, hg⟩]
      · rw [if_neg (fun q => hg q.2), if_neg (fun q => hg q.2), if_neg (fun q => hg q.2)]
    · have e1 : pr c (l + 1) x = pr c l x := by
        rw [pr_add (by omega)]
        have : (x == 4 * l + c) = false := by simpa using hx
        rw [this, Bool.or_false]
      rw [if_neg (fun q => hx q.1), e1]
  · intro c n F' hc h
    rw [lp_X1_copy_9_s]
    exact if_pos (yle (a := 4) (Nat.le_refl _) (by omega))
  · intro c n F' hc h
    rw [lp_X1_copy_2_s]
    exact if_neg (nle (a := 4) hc (by omega))
  · intro n F' h
    rw [lp_X1_copy_2_s]
    exact if_pos (yle (a := 4) (Nat.le_refl _) (by omega))
  · intro c F' hc h
    refine h.eqb (fun g x hv => ?_) (fun _ _ _ _ => rfl)
    rcases hv with ⟨hg, hcx, hx⟩ | hg
    · have e1 : pr (c + 1) 0 x = pr c 4 x := by
        rw [Bool.eq_iff_iff, pr_i, pr_i]
        omega
      rw [e1]
    · rw [if_neg (by omega), if_neg (by omega)]
  · refine h.eqb (fun g x hv => ?_) (fun _ _ _ _ => rfl)
    rw [if_neg (fun q => by have := pr_i.mp q.1; omega)]
  · have h1 : Ch i F F1 _ _ := h1
    refine ok_ob (c_copyC hi hj hij h1 (b2 := fun g x => gt F (lb j g x)) (fun _ _ => rfl)) (fun F2 h2 => ?_)
    have h2 : Ch i F F2 _ _ := h2
    have e84 : F2 1 2 j 0 = gt F (lb j 8 4) := h2.1 1 2 j 0 (fun q => by
      unfold bl at q
      omega)
    rw [e84]
    refine h2.pw hi 8 4 rfl (Or.inr (Or.inl ⟨rfl, by omega⟩)) (fun F3 h3 => ok_some (h3.eqb (fun g x hv => ?_) (fun _ _ _ _ => rfl)))
    rcases hv with ⟨hg, hcx, hx⟩ | ⟨hg, hx⟩ | ⟨hg, hx⟩
    · rw [bu_ne (by omega), if_neg (by omega), if_pos ⟨pr_i.mpr (by omega), hg⟩, if_neg (by omega)]
    · subst hg
      rw [if_neg (show ¬ ((8 : Nat) = 9) by omega)]
      by_cases hx4 : x = 4
      · subst hx4; rw [bu_eq]
      · rw [bu_nx hx4, if_pos ⟨rfl, by omega⟩]
    · subst hg
      rw [bu_ne (by omega), if_neg (by omega), if_neg (by omega), if_pos rfl]
end CB
