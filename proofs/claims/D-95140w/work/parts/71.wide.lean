/-! PURE: a bed of the class begun, all its cells looked at -/
set_option maxRecDepth 100000
def ChW (i : Nat) (F F' : St) (b m : Bt) : Prop := Fr i F F' ∧ (∀ g x, vw g x → gt F' (lb i g x) = b g x) ∧ (∀ g x, g < 4 → x ≤ 16 → gt F' (lm i g x) = m g x)
theorem ChW.eqb {i : Nat} {F F' : St} {b m b2 m2 : Bt} (h : ChW i F F' b m) (h1 : ∀ g x, vw g x → b g x = b2 g x) (h2 : ∀ g x, g < 4 → x ≤ 16 → m g x = m2 g x) : ChW i F F' b2 m2 := ⟨h.1, fun g x hv => by rw [← h1 g x hv]; exact h.2.1 g x hv, fun g x a b => by rw [← h2 g x a b]; exact h.2.2 g x a b⟩
theorem ChW.o {i : Nat} {F F' : St} {b m : Bt} (h : ChW i F F' b m) {k p y j : Nat} (hk : (decide (k = 1) || decide (k = 2) || decide (k = 4) || decide (k = 5) || decide (k = 9)) = false) : F' k p y j = F k p y j := by
  simp only [Bool.or_eq_false_iff, decide_eq_false_iff_not] at hk
  refine h.1 k p y j (fun q => ?_)
  unfold bl at q
  omega
section CW
variable {F F' : St} {b m : Bt} {ρ : Type} {Q : ρ → Prop} {i : Nat}
theorem ChW.pw (hi : i < 4) (h : ChW i F F' b m) {k p y j : Nat} {v : Int32} {f : St → Option ρ} (g x : Nat) (e : lb i g x = (k, p, y, j)) (hv : vw g x) (kk : ∀ F'', ChW i F F'' (bu b g x v) m → Ok (f F'') Q) : Ok (pl (fu F' k p y j v) f) Q := by
  refine kk _ ⟨fun k2 p2 y2 j2 hn => ?_, fun g2 x2 h2 => ?_, fun g2 x2 h2 h3 => ?_⟩
  · rw [fu_n _ _ _ _ _ _ (fun q => hn (by
      have h1 := lb_blw hi hv
      rw [e] at h1
      rw [q.1, q.2.2.1]
      exact h1))]
    exact h.1 k2 p2 y2 j2 hn
  · rw [gt_fu, ← e]
    unfold bu
    by_cases hq : g2 = g ∧ x2 = x
    · rw [if_pos hq, if_pos (by rw [hq.1, hq.2])]
    · rw [if_neg hq, if_neg (fun q => hq (lb_iw hi h2 hv q))]
      exact h.2.1 g2 x2 h2
  · rw [gt_fu, ← e, if_neg (fun q => lb_lm q.symm)]
    exact h.2.2 g2 x2 h2 h3
/-- a place of the cup that nobody reads -/
theorem ChW.pu (h : ChW i F F' b m) {k p j : Nat} {v : Int32} {f : St → Option ρ} (hk : (k = 2 ∧ p = 2) ∨ (k = 4 ∧ p = 0)) (hi : i < 4) (kk : ∀ F'', ChW i F F'' b m → Ok (f F'') Q) : Ok (pl (fu F' k p (64 + i) j v) f) Q := by
  refine kk _ ⟨fun k2 p2 y2 j2 hn => ?_, fun g2 x2 h2 => ?_, fun g2 x2 h2 h3 => ?_⟩
  · rw [fu_n _ _ _ _ _ _ (fun q => hn (by
      rw [q.1, q.2.2.1]
      rcases hk with ⟨rfl, -⟩ | ⟨rfl, -⟩
      · exact Or.inr (Or.inl ⟨Or.inl rfl, Or.inr rfl⟩)
      · exact Or.inr (Or.inl ⟨Or.inr (Or.inl rfl), Or.inr rfl⟩)))]
    exact h.1 k2 p2 y2 j2 hn
  · rw [gt_fu, if_neg]
    · exact h.2.1 g2 x2 h2
    · intro q
      have hw := h2
      unfold vw at hw
      have a2 : x2 < 16 → hx i x2 < 64 := fun p => (hx_b p hi).2
      unfold lb at q
      repeat' split at q
      all_goals simp only [Prod.mk.injEq] at q
      all_goals omega
  · rw [gt_fu, if_neg]
    · exact h.2.2 g2 x2 h2 h3
    · intro q
      unfold lm at q
      repeat' split at q
      all_goals simp only [Prod.mk.injEq] at q
      all_goals omega
/-- a cell as it begins -/
def b8c (F : St) (mu : Int32) (g : Nat) : Int32 := if 2 ≤ g ∧ g < 5 then F 23 0 0 (g - 2) * mu else 0
theorem w_clear (hi : i < 4) (h : ChW i F F' b m) {z : Nat} (hz : z < 16) (mu : Int32) : Ok (fn_X1_clear F' i (hx i z) mu) (fun r => ChW i F r (fun g x => if x = z ∧ g < 8 then b8c F mu g else b g x) m) := by
  have hv : ∀ g, g < 8 → vw g z := fun g hg => Or.inl ⟨hg, hz⟩
  unfold fn_X1_clear
  refine h.pw hi 0 z rfl (hv 0 (by omega)) (fun F1 h1 => h1.pw hi 1 z rfl (hv 1 (by omega)) (fun F2 h2 => ?_))
  rw [h2.o (k := 23) (by decide)]
  refine h2.pw hi 2 z rfl (hv 2 (by omega)) (fun F3 h3 => h3.pw hi 5 z rfl (hv 5 (by omega)) (fun F4 h4 => ?_))
  rw [h4.o (k := 23) (by decide)]
  refine h4.pw hi 3 z rfl (hv 3 (by omega)) (fun F5 h5 => h5.pw hi 6 z rfl (hv 6 (by omega)) (fun F6 h6 => ?_))
  rw [h6.o (k := 23) (by decide)]
  refine h6.pw hi 4 z rfl (hv 4 (by omega)) (fun F7 h7 => h7.pw hi 7 z rfl (hv 7 (by omega)) (fun F8 h8 => ok_some (h8.eqb (fun g x hx => ?_) (fun _ _ _ _ => rfl))))
  by_cases hxz : x = z
  · subst hxz
    unfold b8c
    rcases (show g = 0 ∨ g = 1 ∨ g = 2 ∨ g = 3 ∨ g = 4 ∨ g = 5 ∨ g = 6 ∨ g = 7 ∨ 8 ≤ g by omega) with q | q | q | q | q | q | q | q | q
    · subst q; simp [bu]
    · subst q; simp [bu]
    · subst q; simp [bu]
    · subst q; simp [bu]
    · subst q; simp [bu]
    · subst q; simp [bu]
    · subst q; simp [bu]
    · subst q; simp [bu]
    · rw [bu_ne (by omega), bu_ne (by omega), bu_ne (by omega), bu_ne (by omega), bu_ne (by omega), bu_ne (by omega), bu_ne (by omega), bu_ne (by omega), if_neg (by omega)]
  · rw [bu_nx hxz, bu_nx hxz, bu_nx hxz, bu_nx hxz, bu_nx hxz, bu_nx hxz, bu_nx hxz, bu_nx hxz, if_neg (fun q => hxz q.1)]
theorem w_clearC (hi : i < 4) (h : ChW i F F' b m) (mu : Int32) : Ok (fn_X1_clear F' i (64 + i) mu) (fun r => ChW i F r (fun g x => if g = 8 ∧ x < 4 then 0 else b g x) m) := by
  have hv : ∀ x, x < 5 → vw 8 x := fun x hx => Or.inr (Or.inl ⟨rfl, hx⟩)
  unfold fn_X1_clear
  refine h.pw hi 8 0 rfl (hv 0 (by omega)) (fun F1 h1 => h1.pu (Or.inl ⟨rfl, rfl⟩) hi (fun F2 h2 => h2.pu (Or.inr ⟨rfl, rfl⟩) hi (fun F3 h3 => h3.pw hi 8 1 rfl (hv 1 (by omega)) (fun F4 h4 => h4.pu (Or.inr ⟨rfl, rfl⟩) hi (fun F5 h5 => h5.pw hi 8 2 rfl (hv 2 (by omega)) (fun F6 h6 => h6.pu (Or.inr ⟨rfl, rfl⟩) hi (fun F7 h7 => h7.pw hi 8 3 rfl (hv 3 (by omega)) (fun F8 h8 => ok_some (h8.eqb (fun g x hx => ?_) (fun _ _ _ _ => rfl))))))))))
  by_cases hg : g = 8
  · subst hg
    by_cases hx4 : x < 4
    · rcases (show x = 0 ∨ x = 1 ∨ x = 2 ∨ x = 3 by omega) with q | q | q | q <;> subst q <;> simp [bu]
    · rw [bu_nx (by omega), bu_nx (by omega), bu_nx (by omega), bu_nx (by omega), if_neg (by omega)]
  · rw [bu_ne hg, bu_ne hg, bu_ne hg, bu_ne hg, if_neg (fun q => hg q.1)]
theorem w_begin (hi : i < 4) (h : ChW i F F' b m) (mu : Int32) : Ok (fn_X1_begin F' i mu) (fun r => ChW i F r (fun g x => if g = 9 then b 9 x else if g = 8 then 0 else b8c F mu g) m) := by
  unfold fn_X1_begin
  refine ok_ob2 (ok_nest (lo := lp_X1_begin_2 i mu) (li := lp_X1_begin_9 i mu) 4 4 (by omega) (by omega) (fun c l F' => ChW i F F' (fun g x => if pr c l x = true ∧ g < 8 then b8c F mu g else b g x) m) ?_ ?_ ?_ ?_ ?_ ?_) (fun F1 _ h1 => ?_)
  · intro c l n F' hc hl h Q ih
    rw [lp_X1_begin_9_s, oN_n (show c < 2147483648 by omega), oN_n (show l < 2147483648 by omega), hx_e hc]
    refine ok_itn (nle (a := 4) hl (by omega)) (ok_og (oN_vp (by omega) (by omega)) (ok_og (oN_vp (by omega) (by omega)) (ok_ob (w_clear hi h (z := 4 * l + c) (by omega) mu) (fun F2 h2 => ih F2 (h2.eqb (fun g x hv => ?_) (fun _ _ _ _ => rfl))))))
    by_cases hx : x = 4 * l + c
    · subst hx
      have e1 : pr c (l + 1) (4 * l + c) = true := pr_i.mpr (by omega)
      by_cases hg : g < 8
      · rw [if_pos ⟨rfl, hg⟩, if_pos ⟨e1, hg⟩]
      · rw [if_neg (fun q => hg q.2), if_neg (fun q => hg q.2), if_neg (fun q => hg q.2)]
    · have e1 : pr c (l + 1) x = pr c l x := by
        rw [pr_add (by omega)]
        have : (x == 4 * l + c) = false := by simpa using hx
        rw [this, Bool.or_false]
      rw [if_neg (fun q => hx q.1), e1]
  · intro c n F' hc h
    rw [lp_X1_begin_9_s]
    exact if_pos (yle (a := 4) (Nat.le_refl _) (by omega))
  · intro c n F' hc h
    rw [lp_X1_begin_2_s]
    exact if_neg (nle (a := 4) hc (by omega))
  · intro n F' h
    rw [lp_X1_begin_2_s]
    exact if_pos (yle (a := 4) (Nat.le_refl _) (by omega))
  · intro c F' hc h
    refine h.eqb (fun g x hv => ?_) (fun _ _ _ _ => rfl)
    rcases hv with ⟨hg, hx⟩ | hg
    · have e1 : pr (c + 1) 0 x = pr c 4 x := by
        rw [Bool.eq_iff_iff, pr_i, pr_i]
        omega
      rw [e1]
    · rw [if_neg (by omega), if_neg (by omega)]
  · refine h.eqb (fun g x hv => ?_) (fun _ _ _ _ => rfl)
    rw [if_neg (fun q => by have := pr_i.mp q.1; omega)]
  · have h1 : ChW i F F1 _ _ := h1
    refine ok_ob (w_clearC hi h1 0) (fun F2 h2 => ?_)
    have h2 : ChW i F F2 _ _ := h2
    refine h2.pw hi 8 4 rfl (Or.inr (Or.inl ⟨rfl, by omega⟩)) (fun F3 h3 => ok_some (h3.eqb (fun g x hv => ?_) (fun _ _ _ _ => rfl)))
    rcases hv with ⟨hg, hx⟩ | ⟨hg, hx⟩ | ⟨hg, hx⟩
    · rw [bu_ne (by omega), if_neg (by omega), if_pos ⟨pr_i.mpr (by omega), hg⟩, if_neg (by omega), if_neg (by omega)]
    · subst hg
      rw [if_neg (show ¬ ((8 : Nat) = 9) by omega), if_pos (show (8 : Nat) = 8 from rfl)]
      by_cases hx4 : x = 4
      · subst hx4; rw [bu_eq]
      · rw [bu_nx hx4, if_pos ⟨rfl, by omega⟩]
    · subst hg
      rw [bu_ne (by omega), if_neg (by omega), if_neg (by omega), if_pos rfl]
end CW
