/-! PURE: a bed of the class, as numbers -/
set_option maxRecDepth 100000
/-- where cell x of bed i lies -/
def hx (i x : Nat) : Nat := 4 * (4 * i + x % 4) + x / 4
def hy (i x : Nat) : Nat := if x < 16 then hx i x else 64 + i
abbrev Lc4 : Type := Nat × Nat × Nat × Nat
def gt (F : St) (q : Lc4) : Int32 := F q.1 q.2.1 q.2.2.1 q.2.2.2
def lb (i g x : Nat) : Lc4 := if g = 0 then (2, 1, hx i x, 0) else if g = 1 then (2, 2, hx i x, 0) else if g < 5 then (4, 0, hx i x, g - 2) else if g < 8 then (4, 1, hx i x, g - 5) else if g = 8 then (if x = 0 then (2, 1, 64 + i, 0) else if x < 4 then (4, 1, 64 + i, x - 1) else (1, 2, i, 0)) else (9, 0, 4 * i + x % 4, x / 4)
def lm (i g x : Nat) : Lc4 := if g = 0 then (2, 3, hy i x, 0) else (5, 0, hy i x, g - 1)
def vb (F : St) (g x : Nat) : Prop := (g < 8 ∧ cel F x = true ∧ x < 16) ∨ (g = 8 ∧ x < 5) ∨ (g = 9 ∧ x < 16)
/-- bed i's own places -/
def bl (i k y : Nat) : Prop := (k = 1 ∧ y = i) ∨ ((k = 2 ∨ k = 4 ∨ k = 5) ∧ ((y / 16 = i ∧ y < 64) ∨ y = 64 + i)) ∨ (k = 9 ∧ y / 4 = i)
def Fr (i : Nat) (F F' : St) : Prop := ∀ k p y j, ¬ bl i k y → F' k p y j = F k p y j
def Ch (i : Nat) (F F' : St) (b m : Bt) : Prop := Fr i F F' ∧ (∀ g x, vb F g x → gt F' (lb i g x) = b g x) ∧ (∀ g x, g < 4 → x ≤ 16 → gt F' (lm i g x) = m g x)
theorem hx_i {i x y : Nat} (hx1 : x < 16) (hy1 : y < 16) (h : hx i x = hx i y) : x = y := by
  unfold hx at h
  omega
theorem hx_b {i x : Nat} (hx1 : x < 16) (hi : i < 4) : hx i x / 16 = i ∧ hx i x < 64 := by
  unfold hx
  omega
theorem hy_b {i x : Nat} (hi : i < 4) : (hy i x / 16 = i ∧ hy i x < 64) ∨ hy i x = 64 + i := by
  unfold hy
  split
  · exact Or.inl (hx_b ‹_› hi)
  · exact Or.inr rfl
theorem hy_i {i x y : Nat} (hi : i < 4) (hx1 : x ≤ 16) (hy1 : y ≤ 16) (h : hy i x = hy i y) : x = y := by
  unfold hy at h
  by_cases h1 : x < 16
  · by_cases h2 : y < 16
    · rw [if_pos h1, if_pos h2] at h; exact hx_i h1 h2 h
    · rw [if_pos h1, if_neg h2] at h
      have := hx_b h1 hi
      omega
  · by_cases h2 : y < 16
    · rw [if_neg h1, if_pos h2] at h
      have := hx_b h2 hi
      omega
    · omega
theorem lb_i {F : St} {i g x g2 x2 : Nat} (hi : i < 4) (h1 : vb F g x) (h2 : vb F g2 x2) (h : lb i g x = lb i g2 x2) : g = g2 ∧ x = x2 := by
  unfold vb at h1 h2
  have a1 : x < 16 → x2 < 16 → hx i x = hx i x2 → x = x2 := fun p q r => hx_i p q r
  have a2 : x < 16 → hx i x < 64 := fun p => (hx_b p hi).2
  have a3 : x2 < 16 → hx i x2 < 64 := fun p => (hx_b p hi).2
  unfold lb at h
  repeat' split at h
  all_goals simp only [Prod.mk.injEq] at h
  all_goals omega
theorem lm_i {i g x g2 x2 : Nat} (hi : i < 4) (h1 : g < 4) (h2 : g2 < 4) (h3 : x ≤ 16) (h4 : x2 ≤ 16) (h : lm i g x = lm i g2 x2) : g = g2 ∧ x = x2 := by
  have a1 : hy i x = hy i x2 → x = x2 := fun r => hy_i hi h3 h4 r
  unfold lm at h
  repeat' split at h
  all_goals simp only [Prod.mk.injEq] at h
  all_goals omega
theorem lb_lm {i g x g2 x2 : Nat} (h : lb i g x = lm i g2 x2) : False := by
  unfold lb lm at h
  repeat' split at h
  all_goals simp only [Prod.mk.injEq] at h
  all_goals omega
theorem gt_fu (F : St) (k p y j : Nat) (v : Int32) (q : Lc4) : gt (fu F k p y j v) q = if q = (k, p, y, j) then v else gt F q := by
  obtain ⟨a, b, c, d⟩ := q
  unfold gt
  rw [fu_a]
  simp only [Prod.mk.injEq]
theorem lb_bl {F : St} {i g x : Nat} (hi : i < 4) (h : vb F g x) : bl i (lb i g x).1 (lb i g x).2.2.1 := by
  unfold vb at h
  have a2 : x < 16 → hx i x / 16 = i ∧ hx i x < 64 := fun p => hx_b p hi
  unfold lb
  repeat' split
  all_goals first | exact Or.inl ⟨rfl, rfl⟩ | exact Or.inr (Or.inl ⟨Or.inl rfl, Or.inr rfl⟩) | exact Or.inr (Or.inl ⟨Or.inr (Or.inl rfl), Or.inr rfl⟩) | exact Or.inr (Or.inl ⟨Or.inl rfl, Or.inl (a2 (by omega))⟩) | exact Or.inr (Or.inl ⟨Or.inr (Or.inl rfl), Or.inl (a2 (by omega))⟩) | exact Or.inr (Or.inr ⟨rfl, by show (4 * i + x % 4) / 4 = i; omega⟩)
theorem lm_bl {i g x : Nat} (hi : i < 4) : bl i (lm i g x).1 (lm i g x).2.2.1 := by
  have a2 := hy_b (i := i) (x := x) hi
  unfold lm
  split
  · exact Or.inr (Or.inl ⟨Or.inl rfl, a2⟩)
  · exact Or.inr (Or.inl ⟨Or.inr (Or.inr rfl), a2⟩)
section CHR
variable {F F' : St} {b m : Bt} {ρ : Type} {Q : ρ → Prop} {i : Nat}
theorem ok_chs (h : Ch i F F' b m) : Ok (some F') (fun r => Ch i F r b m) := ok_some h
theorem Ch.eqb {b2 m2 : Bt} (h : Ch i F F' b m) (h1 : ∀ g x, vb F g x → b g x = b2 g x) (h2 : ∀ g x, g < 4 → x ≤ 16 → m g x = m2 g x) : Ch i F F' b2 m2 := ⟨h.1, fun g x hx => (h.2.1 g x hx).trans (h1 g x hx), fun g x hg hx => (h.2.2 g x hg hx).trans (h2 g x hg hx)⟩
theorem Ch.rb (h : Ch i F F' b m) {k p y j : Nat} (g x : Nat) (e : lb i g x = (k, p, y, j)) (hv : vb F g x) : F' k p y j = b g x := by
  have h1 := h.2.1 g x hv
  rw [e] at h1
  exact h1
theorem Ch.rm (h : Ch i F F' b m) {k p y j : Nat} (g x : Nat) (e : lm i g x = (k, p, y, j)) (hg : g < 4) (hx : x ≤ 16) : F' k p y j = m g x := by
  have h1 := h.2.2 g x hg hx
  rw [e] at h1
  exact h1
theorem Ch.pb (hi : i < 4) (h : Ch i F F' b m) {k p y j : Nat} {v : Int32} {f : St → Option ρ} (g x : Nat) (e : lb i g x = (k, p, y, j)) (hv : vb F g x) (kk : ∀ F'', Ch i F F'' (bu b g x v) m → Ok (f F'') Q) : Ok (pl (fu F' k p y j v) f) Q := by
  refine kk _ ⟨fun k2 p2 y2 j2 hn => ?_, fun g2 x2 h2 => ?_, fun g2 x2 h2 h3 => ?_⟩
  · rw [fu_n _ _ _ _ _ _ (fun q => hn (by
      have h1 := lb_bl hi hv
      rw [e] at h1
      rw [q.1, q.2.2.1]
      exact h1))]
    exact h.1 k2 p2 y2 j2 hn
  · rw [gt_fu, ← e]
    unfold bu
    by_cases hq : g2 = g ∧ x2 = x
    · rw [if_pos hq, if_pos (by rw [hq.1, hq.2])]
    · rw [if_neg hq, if_neg (fun q => hq (lb_i hi h2 hv q))]
      exact h.2.1 g2 x2 h2
  · rw [gt_fu, ← e, if_neg (fun q => lb_lm q.symm)]
    exact h.2.2 g2 x2 h2 h3
theorem Ch.pm (hi : i < 4) (h : Ch i F F' b m) {k p y j : Nat} {v : Int32} {f : St → Option ρ} (g x : Nat) (e : lm i g x = (k, p, y, j)) (hg : g < 4) (hx : x ≤ 16) (kk : ∀ F'', Ch i F F'' b (bu m g x v) → Ok (f F'') Q) : Ok (pl (fu F' k p y j v) f) Q := by
  refine kk _ ⟨fun k2 p2 y2 j2 hn => ?_, fun g2 x2 h2 => ?_, fun g2 x2 h2 h3 => ?_⟩
  · rw [fu_n _ _ _ _ _ _ (fun q => hn (by
      have h1 := lm_bl (g := g) (x := x) hi
      rw [e] at h1
      rw [q.1, q.2.2.1]
      exact h1))]
    exact h.1 k2 p2 y2 j2 hn
  · rw [gt_fu, ← e, if_neg (fun q => lb_lm q)]
    exact h.2.1 g2 x2 h2
  · rw [gt_fu, ← e]
    unfold bu
    by_cases hq : g2 = g ∧ x2 = x
    · rw [if_pos hq, if_pos (by rw [hq.1, hq.2])]
    · rw [if_neg hq, if_neg (fun q => hq (lm_i hi h2 hg h3 hx q))]
      exact h.2.2 g2 x2 h2 h3
/-- numbers that were told lie elsewhere -/
theorem Ch.o (h : Ch i F F' b m) {k p y j : Nat} (hk : (decide (k = 1) || decide (k = 2) || decide (k = 4) || decide (k = 5) || decide (k = 9)) = false) : F' k p y j = F k p y j := by
  simp only [Bool.or_eq_false_iff, decide_eq_false_iff_not] at hk
  refine h.1 k p y j (fun q => ?_)
  unfold bl at q
  omega
/-- the class' numbers are the model's -/
def Par (F : St) : Prop :=
  F 0 0 0 0 = F 30 0 0 0 ∧ F 0 1 0 0 = F 30 1 0 0 ∧ F 0 6 0 0 = F 30 8 0 0 ∧ F 0 7 0 0 = F 30 9 0 0 ∧ F 0 14 0 0 = F 30 12 0 0 ∧ (∀ s, s < 3 → F 23 0 0 s = F 31 0 0 s) ∧ (∀ s, s < 3 → F 24 0 0 s = F 32 0 0 s) ∧ F 25 0 0 0 = F 30 5 0 0 ∧ F 25 0 0 1 = F 30 6 0 0 ∧ (∀ c l, c < 4 → l < 4 → F 11 0 c l = F 33 0 0 (4 * l + c)) ∧ (∀ k, k < 12 → F 13 0 k 0 = F 34 0 0 k ∧ F 13 0 k 1 = F 35 0 0 k ∧ F 13 0 k 2 = F 36 0 0 k)
/-- with some water goes -/
def wvS (b : Bt) (s y : Nat) (mm : Int32) : Int32 := if b 0 y = 0 then 0 else (((b (5 + s) y).toInt64 * mm.toInt64) / (b 0 y).toInt64).toInt32
theorem c_with (h : Ch i F F' b m) {y s : Nat} (hs : s < 3) (hc : cel F y = true) (hy1 : y < 16) (mm : Int32) : fn_X2_with F' (hx i y) mm (oN s) = some (wvS b s y mm) := by
  unfold fn_X2_with wvS
  rw [h.rb 0 y rfl (Or.inl ⟨by omega, hc, hy1⟩), oN_n (show s < 2147483648 by omega), h.rb (5 + s) y (show lb i (5 + s) y = (4, 1, hx i y, s) by
    unfold lb
    rw [if_neg (by omega), if_neg (by omega), if_neg (by omega), if_pos (by omega)]
    simp) (Or.inl ⟨by omega, hc, hy1⟩)]
  by_cases h0 : b 0 y = 0
  · rw [if_pos h0, if_pos h0]
  · rw [if_neg h0, if_neg h0, og_t (oN_vp hs (by omega)), og_t (nzl_t h0)]
theorem wvS_e {b : Bt} {s y : Nat} {mm : Int32} (hm : mm = 0 ∨ (¬ mm ≤ 0 ∧ b 0 y ≠ 0)) : wvS b s y mm = e0 b (1 + s) y mm := by
  unfold wvS e0
  rw [if_neg (show ¬ 1 + s = 0 by omega), show 4 + (1 + s) = 5 + s by omega]
  rcases hm with hm | ⟨h1, h2⟩
  · subst hm
    rw [if_pos (by decide : (0 : Int32) ≤ 0)]
    by_cases h0 : b 0 y = 0
    · rw [if_pos h0]
    · rw [if_neg h0, show (0 : Int32).toInt64 = 0 from rfl, Int64.mul_zero, Int64.zero_div]
      rfl
  · rw [if_neg h2, if_neg h1]
/-- a note of water that comes out of cell y into z (or goes) -/
theorem c_note (hi : i < 4) (h : Ch i F F' b m) {z y : Nat} (hz : z ≤ 16) (hc : cel F y = true) (hy1 : y < 16) {mm sg : Int32} (hm : mm = 0 ∨ (¬ mm ≤ 0 ∧ b 0 y ≠ 0)) : Ok (fn_X2_note F' (hy i z) (hx i y) mm sg) (fun r => Ch i F r b (fun g x => m g x + (if x = z then sg * e0 b g y mm else 0))) := by
  unfold fn_X2_note
  rw [h.rm 0 z rfl (by omega) hz]
  refine h.pm hi 0 z rfl (by omega) hz (fun F1 h1 => ?_)
  rw [show (0 : Int32) = oN 0 from rfl, c_with h1 (by omega) hc hy1, ob_s, wvS_e hm, h1.rm 1 z rfl (by omega) hz, bu_ne (by decide)]
  refine h1.pm hi 1 z rfl (by omega) hz (fun F2 h2 => ?_)
  rw [show (1 : Int32) = oN 1 from rfl, c_with h2 (by omega) hc hy1, ob_s, wvS_e hm, h2.rm 2 z rfl (by omega) hz, bu_ne (by decide), bu_ne (by decide)]
  refine h2.pm hi 2 z rfl (by omega) hz (fun F3 h3 => ?_)
  rw [show (2 : Int32) = oN 2 from rfl, c_with h3 (by omega) hc hy1, ob_s, wvS_e hm, h3.rm 3 z rfl (by omega) hz, bu_ne (by decide), bu_ne (by decide), bu_ne (by decide)]
  refine h3.pm hi 3 z rfl (by omega) hz (fun F4 h4 => ok_some (h4.eqb (fun _ _ _ => rfl) (fun g x hg hx => ?_)))
  by_cases hxz : x = z
  · subst hxz
    rcases (show g = 0 ∨ g = 1 ∨ g = 2 ∨ g = 3 by omega) with q | q | q | q <;> subst q <;> simp [bu]
    · rfl
  · simp [bu, hxz]
    rfl
end CHR
