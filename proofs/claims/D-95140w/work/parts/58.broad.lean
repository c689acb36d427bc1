/-! PURE: broad -/
set_option maxRecDepth 100000
theorem md11 (q : Nat) (h : q < 2147483648) : oN q - oN q / 11 * 11 = oN (q % 11) ∧ oN q / 11 = oN (q / 11) := by
  rw [show (11 : Int32) = oN 11 from rfl, dv q 11 h (by omega), show oN (q / 11) * oN 11 = oN (q / 11 * 11) from (Int32.ofNat_mul _ _).symm, show oN q - oN (q / 11 * 11) = oN (q - q / 11 * 11) from (Int32.ofNat_sub _ _ (by omega)).symm]
  refine ⟨?_, rfl⟩
  congr 1
  omega
def qvS (F : St) (T : Nat) (v : Nat) : Int32 := if tstS F (oN (v / 11)) (oN (10 * (v % 11))) (F 30 11 0 0) T = 0 then 1 else 0
def sA (f : Nat → Int32) (lo : Nat) (acc : Int32) : Nat → Int32
  | 0 => acc
  | n + 1 => sA f lo acc n + f (lo + n)
def oA (q : Nat → Int32) (s w : Nat) : Nat → Int32
  | 0 => 0
  | n + 1 => sA (fun b => q (11 * (s - 1 + n) + b)) (w - 1) (oA q s w n) (min 10 (w + 1) + 1 - (w - 1))
def nrS (q : Nat → Int32) (v : Nat) : Int32 := oA q (v / 11) (v % 11) (min 10 (v / 11 + 1) + 1 - (v / 11 - 1))
def mAt (q : Nat → Int32) (s w j : Nat) : Int32 := if (1 ≤ s + j / 3 ∧ s + j / 3 ≤ 11) ∧ (1 ≤ w + j % 3 ∧ w + j % 3 ≤ 11) then q (11 * (s + j / 3 - 1) + (w + j % 3 - 1)) else 0
def mA (q : Nat → Int32) (s w : Nat) : Nat → Int32
  | 0 => 0
  | j + 1 => mA q s w j + mAt q s w j
theorem nr_m (q : Nat → Int32) (v : Nat) (hv : v < 121) : nrS q v = mA q (v / 11) (v % 11) 9 := by
  have h1 : v / 11 ≤ 10 := by omega
  have h2 : v % 11 ≤ 10 := by omega
  unfold nrS
  generalize v / 11 = s at *
  generalize v % 11 = w at *
  rcases (show s = 0 ∨ s = 10 ∨ (1 ≤ s ∧ s ≤ 9) by omega) with a | a | a <;> rcases (show w = 0 ∨ w = 10 ∨ (1 ≤ w ∧ w ≤ 9) by omega) with c | c | c
  · subst a; subst c; simp [oA, sA, mA, mAt]
  · subst a; subst c; simp [oA, sA, mA, mAt]
  · subst a
    have e0 : w - 1 + 1 = w := by omega
    simp [oA, sA, mA, mAt, show min 10 (w + 1) + 1 - (w - 1) = 3 by omega, show 1 ≤ w by omega, show w ≤ 11 by omega, show w ≤ 10 by omega, show w ≤ 9 by omega, e0, show w - 1 + 2 = w + 1 by omega, show w + 1 + 1 - (w - 1) = 3 by omega]
  · subst a; subst c; simp [oA, sA, mA, mAt]
  · subst a; subst c; simp [oA, sA, mA, mAt]
  · subst a
    simp [oA, sA, mA, mAt, show min 10 (w + 1) + 1 - (w - 1) = 3 by omega, show 1 ≤ w by omega, show w ≤ 11 by omega, show w ≤ 10 by omega, show w ≤ 9 by omega, show w - 1 + 1 = w by omega, show w - 1 + 2 = w + 1 by omega, show w + 1 + 1 - (w - 1) = 3 by omega]
  · subst c
    simp [oA, sA, mA, mAt, show min 10 (s + 1) + 1 - (s - 1) = 3 by omega, show 1 ≤ s by omega, show s ≤ 11 by omega, show s ≤ 10 by omega, show s ≤ 9 by omega, show s - 1 + 1 = s by omega, show s - 1 + 2 = s + 1 by omega, show s + 1 + 1 - (s - 1) = 3 by omega]
  · subst c
    simp [oA, sA, mA, mAt, show min 10 (s + 1) + 1 - (s - 1) = 3 by omega, show 1 ≤ s by omega, show s ≤ 11 by omega, show s ≤ 10 by omega, show s ≤ 9 by omega, show s - 1 + 1 = s by omega, show s - 1 + 2 = s + 1 by omega, show s + 1 + 1 - (s - 1) = 3 by omega]
  · simp [oA, sA, mA, mAt, show min 10 (s + 1) + 1 - (s - 1) = 3 by omega, show 1 ≤ s by omega, show s ≤ 11 by omega, show s ≤ 10 by omega, show s ≤ 9 by omega, show s - 1 + 1 = s by omega, show s - 1 + 2 = s + 1 by omega, show s + 1 + 1 - (s - 1) = 3 by omega, show min 10 (w + 1) + 1 - (w - 1) = 3 by omega, show 1 ≤ w by omega, show w ≤ 11 by omega, show w ≤ 10 by omega, show w ≤ 9 by omega, show w - 1 + 1 = w by omega, show w - 1 + 2 = w + 1 by omega, show w + 1 + 1 - (w - 1) = 3 by omega]
theorem mA_b {q : Nat → Int32} (hq : ∀ v, q v = 0 ∨ q v = 1) (s w : Nat) : ∀ j, j ≤ 9 → 0 ≤ (mA q s w j).toInt ∧ (mA q s w j).toInt ≤ j
  | 0, _ => ⟨Int.le_refl _, Int.le_refl _⟩
  | j + 1, hj => by
    have ih := mA_b hq s w j (by omega)
    have k0 : (0 : Int32).toInt = 0 := rfl
    have k1 : (1 : Int32).toInt = 1 := rfl
    have hm : 0 ≤ (mAt q s w j).toInt ∧ (mAt q s w j).toInt ≤ 1 := by
      unfold mAt
      split
      · rcases hq (11 * (s + j / 3 - 1) + (w + j % 3 - 1)) with z | z <;> rw [z]
        · rw [k0]; omega
        · rw [k1]; omega
      · rw [k0]; omega
    show (0 : Int) ≤ (mA q s w j + mAt q s w j).toInt ∧ (mA q s w j + mAt q s w j).toInt ≤ ((j + 1 : Nat) : Int)
    rw [i_add (by omega) (by omega)]
    omega
def btS (q : Nat → Int32) : Nat → Nat
  | 0 => 0
  | v + 1 => if v = 0 then 0 else if nrS q v ≤ nrS q (btS q v) then btS q v else v
theorem bt_lt (q : Nat → Int32) : ∀ v, btS q (v + 1) ≤ v
  | 0 => by simp [btS]
  | v + 1 => by
    have := bt_lt q v
    show (if v + 1 = 0 then 0 else if nrS q (v + 1) ≤ nrS q (btS q (v + 1)) then btS q (v + 1) else v + 1) ≤ v + 1
    rw [if_neg (by omega)]
    split <;> omega
section BR
variable {F : St} {T : Nat}
theorem lo_e {w : Nat} (hw : w ≤ 10) : (if (0 : Int32) < oN w - 1 then oN w - 1 else 0) = oN (w - 1) := by
  rcases (show w = 0 ∨ 1 ≤ w by omega) with q | q
  · subst q; decide
  · rw [show oN w - 1 = oN (w - 1) from (Int32.ofNat_sub w 1 q).symm]
    by_cases h : (0 : Int32) < oN (w - 1)
    · rw [if_pos h]
    · rw [if_neg h]
      have h2 : ¬ oN 0 < oN (w - 1) := h
      rw [oN_lt (by omega) (by omega)] at h2
      rw [show w - 1 = 0 by omega]
      rfl
theorem hi_e {w : Nat} (hw : w ≤ 10) : (if oN w + 1 < (10 : Int32) then oN w + 1 else 10) = oN (min 10 (w + 1)) := by
  rw [oN_1]
  by_cases h : w + 1 < 10
  · rw [show min 10 (w + 1) = w + 1 by omega]
    exact if_pos (show oN (w + 1) < oN 10 from by rw [oN_lt (by omega) (by omega)]; exact h)
  · rw [show min 10 (w + 1) = 10 by omega]
    exact if_neg (show ¬ oN (w + 1) < oN 10 from by rw [oN_lt (by omega) (by omega)]; exact h)
theorem c_near {G : St} {q : Nat → Int32} (hG : ∀ u, u < 121 → G 22 0 (u / 11) (u % 11) = q u) {v : Nat} (hv : v < 121) : fn_X0_rightNear G (oN v / 11) (oN v - oN v / 11 * 11) = some (nrS q v) := by
  rw [(md11 v (by omega)).1, (md11 v (by omega)).2]
  have h1 : v / 11 ≤ 10 := by omega
  have h2 : v % 11 ≤ 10 := by omega
  unfold nrS
  generalize v / 11 = s at *
  generalize v % 11 = w at *
  have hab : ∀ a b, a ≤ 10 → b ≤ 10 → G 22 0 a b = q (11 * a + b) := fun a b ha hb => by
    have := hG (11 * a + b) (by omega)
    rw [show (11 * a + b) / 11 = a by omega, show (11 * a + b) % 11 = b by omega] at this
    exact this
  refine ok_eqv ?_
  unfold fn_X0_rightNear
  rw [lo_e h1]
  refine ok_pl (ok_ob2 (ok_lpG (lp := fun m (p : Int32 × Int32) => lp_X0_rightNear_11 G (oN s) (oN w) m p.1 p.2) (fun k p => p.1 = oA q s w k ∧ p.2 = oN (s - 1 + k)) (Q := fun r => r.1 = oA q s w (min 10 (s + 1) + 1 - (s - 1))) (min 10 (s + 1) + 1 - (s - 1)) ?_ ?_ (min 10 (s + 1) + 1 - (s - 1)) 300 0 (0, oN (s - 1)) (by omega) (by omega) ⟨rfl, rfl⟩) (fun y z hy => ok_some hy))
  · intro m k p hk hI ih
    obtain ⟨x, a⟩ := p
    obtain ⟨i1, i2⟩ := hI
    have i1 : x = _ := i1
    have i2 : a = _ := i2
    show Ok (lp_X0_rightNear_11 G (oN s) (oN w) (m + 1) x a) _
    rw [lp_X0_rightNear_11_s, hi_e h1, lo_e h2, i2]
    refine ok_itn (by rw [oN_lt (by omega) (by omega)]; omega) (ok_pl (ok_ob2 (ok_lpG (lp := fun m (p : Int32 × Int32) => lp_X0_rightNear_33 G (oN w) (oN (s - 1 + k)) m p.1 p.2) (fun j p => p.1 = sA (fun b => q (11 * (s - 1 + k) + b)) (w - 1) x j ∧ p.2 = oN (w - 1 + j)) (Q := fun r => r.1 = sA (fun b => q (11 * (s - 1 + k) + b)) (w - 1) x (min 10 (w + 1) + 1 - (w - 1))) (min 10 (w + 1) + 1 - (w - 1)) ?_ ?_ (min 10 (w + 1) + 1 - (w - 1)) 300 0 (x, oN (w - 1)) (by omega) (by omega) ⟨rfl, rfl⟩) (fun y z hy => ih (y, _) ⟨?_, ?_⟩)))
    · intro m j p hj hI ih
      obtain ⟨x2, b⟩ := p
      obtain ⟨j1, j2⟩ := hI
      have j1 : x2 = _ := j1
      have j2 : b = _ := j2
      show Ok (lp_X0_rightNear_33 G (oN w) (oN (s - 1 + k)) (m + 1) x2 b) _
      rw [lp_X0_rightNear_33_s, hi_e h2, j2, oN_n (show w - 1 + j < 2147483648 by omega), oN_n (show s - 1 + k < 2147483648 by omega), hab _ _ (by omega) (by omega)]
      refine ok_itn (by rw [oN_lt (by omega) (by omega)]; omega) (ok_og (oN_vp (by omega) (by omega)) (ok_og (oN_vp (by omega) (by omega)) (ok_pl (ih (_, _) ⟨?_, ?_⟩))))
      · show x2 + _ = sA _ _ _ _ + _
        rw [j1]
      · show oN (w - 1 + j) + 1 = _
        rw [oN_1]
        rfl
    · intro m p hI
      obtain ⟨x2, b⟩ := p
      obtain ⟨j1, j2⟩ := hI
      have j2 : b = _ := j2
      show Ok (lp_X0_rightNear_33 G (oN w) (oN (s - 1 + k)) (m + 1) x2 b) _
      rw [lp_X0_rightNear_33_s, hi_e h2, j2]
      exact ok_itp (by rw [oN_lt (by omega) (by omega)]; omega) (ok_some j1)
    · have hy : y = _ := hy
      show y = sA _ _ _ _
      rw [hy, i1]
    · show oN (s - 1 + k) + 1 = _
      rw [oN_1]
      rfl
  · intro m p hI
    obtain ⟨x, a⟩ := p
    obtain ⟨i1, i2⟩ := hI
    have i2 : a = _ := i2
    show Ok (lp_X0_rightNear_11 G (oN s) (oN w) (m + 1) x a) _
    rw [lp_X0_rightNear_11_s, hi_e h1, i2]
    exact ok_itp (by rw [oN_lt (by omega) (by omega)]; omega) (ok_some i1)
theorem m_near {G : St} {q : Nat → Int32} (hG : ∀ u, u < 121 → G 46 0 0 u = q u) {v : Nat} (hv : v < 121) : Ok (lp_X8_broad_36 G (oN v) 300 0 0) (fun r => r.1 = mA q (v / 11) (v % 11) 9) := by
  have e11 := md11 v (by omega)
  have d3 : ∀ j, j < 9 → oN j / 3 = oN (j / 3) ∧ oN j - oN j / 3 * 3 = oN (j % 3) := by decide
  have inr : ∀ x, x ≤ 12 → (((0 : Int32) ≤ oN x - 1 ∧ oN x - 1 ≤ 10) ↔ (1 ≤ x ∧ x ≤ 11)) := by decide
  refine ok_lpA (lp := lp_X8_broad_36 G (oN v)) (I := fun j x => x = mA q (v / 11) (v % 11) j) 0 9 (by omega) (by omega) ?_ ?_ rfl
  · intro n j x hj _ hx ih
    rw [lp_X8_broad_36_s, e11.1, e11.2, (d3 j hj).2, (d3 j hj).1, oN_add, oN_add]
    refine ok_itn (nle (a := 9) hj (by omega)) (ok_pl (ok_pl ?_))
    rw [in_e, ob_s, in_e, ob_s]
    refine ok_ob (P := fun y => y = mAt q (v / 11) (v % 11) j) ?_ (fun y hy => ok_pl (ih _ ?_))
    · by_cases c1 : 1 ≤ v / 11 + j / 3 ∧ v / 11 + j / 3 ≤ 11
      · rw [if_pos ((inr _ (by omega)).mpr c1)]
        refine ok_itn n10 ?_
        by_cases c2 : 1 ≤ v % 11 + j % 3 ∧ v % 11 + j % 3 ≤ 11
        · rw [if_pos ((inr _ (by omega)).mpr c2)]
          have e1 : (11 : Int32) * (oN (v / 11 + j / 3) - 1) + (oN (v % 11 + j % 3) - 1) = oN (11 * (v / 11 + j / 3 - 1) + (v % 11 + j % 3 - 1)) := by
            rw [show oN (v / 11 + j / 3) - 1 = oN (v / 11 + j / 3 - 1) from (Int32.ofNat_sub _ 1 c1.1).symm, show oN (v % 11 + j % 3) - 1 = oN (v % 11 + j % 3 - 1) from (Int32.ofNat_sub _ 1 c2.1).symm, show (11 : Int32) * oN (v / 11 + j / 3 - 1) = oN (11 * (v / 11 + j / 3 - 1)) from (Int32.ofNat_mul 11 _).symm, oN_add]
          rw [e1, oN_n (show 11 * (v / 11 + j / 3 - 1) + (v % 11 + j % 3 - 1) < 2147483648 by omega), hG _ (by omega)]
          exact ok_itn n10 (ok_og (oN_vp (by omega) (by omega)) (ok_some (by unfold mAt; rw [if_pos ⟨c1, c2⟩])))
        · rw [if_neg (fun z => c2 ((inr _ (by omega)).mp z))]
          exact ok_itp z00 (ok_some (by unfold mAt; rw [if_neg (fun z => c2 z.2)]))
      · rw [if_neg (fun z => c1 ((inr (v / 11 + j / 3) (by omega)).mp z))]
        exact ok_itp z00 (ok_some (by unfold mAt; rw [if_neg (fun z => c1 z.1)]))
    · rw [hx, hy]
      rfl
  · intro n x hx
    rw [lp_X8_broad_36_s]
    exact ok_itp (yle (a := 9) (Nat.le_refl _) (by omega)) (ok_some hx)
theorem bo_broad (p : Int32) : Bo (fun F => fn_X0_broad F p) (fun F => fn_X8_broad F p) := by
  intro F hr
  obtain ⟨T, hT1, hT2, hT3, hT4, -, -⟩ := hr.cbr
  obtain ⟨⟨hp, hq, ⟨e8, e9, e10, -⟩, -, h5, h6, -⟩, -⟩ := id hr
  have hmu : 0 ≤ (F 30 11 0 0).toInt ∧ (F 30 11 0 0).toInt ≤ 20 := by omega
  have hwv : ∀ v, 0 ≤ (oN (10 * (v % 11))).toInt ∧ (oN (10 * (v % 11))).toInt ≤ 100 := fun v => by
    rw [oN_i (by omega)]
    omega
  generalize hqv : qvS F T = q
  have hq01 : ∀ v, q v = 0 ∨ q v = 1 := fun v => by
    rw [← hqv]
    unfold qvS
    split
    · exact Or.inr rfl
    · exact Or.inl rfl
  have hnb : ∀ v, v < 121 → 0 ≤ (nrS q v).toInt := fun v hv => by
    rw [nr_m q v hv]
    exact (mA_b hq01 _ _ 9 (by omega)).1
  have e10v : ∀ v, (10 : Int32) * oN (v % 11) = oN (10 * (v % 11)) := fun v => (Int32.ofNat_mul 10 _).symm
  show Ok (fn_X0_broad F p) _
  unfold fn_X0_broad
  rw [isIn_l F p 0 2 (l2 := 0) (h2 := 2) rfl rfl, ob_s]
  by_cases h : (0 : Int32) ≤ p ∧ p ≤ 2
  · rw [if_pos h]
    refine ok_itn n10 ?_
    unfold fn_X7_lay
    refine ok_ob (P := fun F1 => Try F F1 ∧ F1 20 3 0 0 = F 30 11 0 0) (ok_pl (ok_pl (ok_pl (ok_some ⟨(((Try.refl hr).fu (by omega)).fu (by omega)).fu (by omega), by rw [fu_s, fu_n _ _ _ _ _ _ (by omega), fu_n _ _ _ _ _ _ (by omega), e10]⟩)))) (fun F4 h4 => ?_)
    refine ok_ob2 (P := fun r => Try F r.1 ∧ ∀ u, u < 121 → r.1 22 0 (u / 11) (u % 11) = q u) (ok_lpF (lp := lp_X0_broad_24) (I := fun v G => Try F G ∧ G 20 3 0 0 = F 30 11 0 0 ∧ ∀ u, u < v → G 22 0 (u / 11) (u % 11) = q u) 121 (by omega) ?_ ?_ ⟨h4.1, h4.2, fun u hu => absurd hu (by omega)⟩) (fun F8 _ h8 => ?_)
    · intro n v G hv hI ih
      obtain ⟨i1, i2, i3⟩ := hI
      have e11 := md11 v (by omega)
      rw [lp_X0_broad_24_s, e11.1, e11.2, e10v, oN_n (show v / 11 < 2147483648 by omega), oN_n (show v % 11 < 2147483648 by omega)]
      refine ok_itn (nle (a := 121) hv (by omega)) (ok_pl (ok_pl (ok_og (oN_vp (by omega) (by omega)) ?_)))
      have hG2 := (i1.fu (k := 20) (p := 1) (y := 0) (j := 0) (v := oN (v / 11)) (by omega)).fu (k := 20) (p := 2) (y := 0) (j := 0) (v := oN (10 * (v % 11))) (by omega)
      have f3 : fu (fu G 20 1 0 0 (oN (v / 11))) 20 2 0 0 (oN (10 * (v % 11))) 20 3 0 0 = F 30 11 0 0 := by rw [fu_n _ _ _ _ _ _ (by omega), fu_n _ _ _ _ _ _ (by omega)]; exact i2
      have f2 : fu (fu G 20 1 0 0 (oN (v / 11))) 20 2 0 0 (oN (10 * (v % 11))) 20 2 0 0 = oN (10 * (v % 11)) := fu_s _ _ _ _ _ _
      have f1 : fu (fu G 20 1 0 0 (oN (v / 11))) 20 2 0 0 (oN (10 * (v % 11))) 20 1 0 0 = oN (v / 11) := by rw [fu_n _ _ _ _ _ _ (by omega), fu_s]
      have f22 : ∀ a b, fu (fu G 20 1 0 0 (oN (v / 11))) 20 2 0 0 (oN (10 * (v % 11))) 22 0 a b = G 22 0 a b := fun a b => by rw [fu_n _ _ _ _ _ _ (by omega), fu_n _ _ _ _ _ _ (by omega)]
      generalize fu (fu G 20 1 0 0 (oN (v / 11))) 20 2 0 0 (oN (10 * (v % 11))) = G2 at *
      have htr := c_try hr hG2 hT4 hT2 (by rw [f3]; exact hmu) (by rw [f2]; exact hwv v)
      rw [f1, f2, f3] at htr
      refine ok_ob2 htr (fun G3 r3 h3 => ok_obi (ok_og (oN_vp (by omega) (by omega)) (ok_pl (ih _ ?_))))
      obtain ⟨u1, u2, u3⟩ := h3
      have u1 : Try F G3 := u1
      have u2 : ∀ k p y j, ¬ bl 3 k y → G3 k p y j = G2 k p y j := u2
      have u3 : r3 = _ := u3
      refine ⟨u1.fu (by omega), by rw [fu_n _ _ _ _ _ _ (by omega), u2 20 3 0 0 (by unfold bl; omega)]; exact f3, fun u hu => ?_⟩
      rw [fu_a]
      by_cases huv : u = v
      · subst huv
        rw [if_pos ⟨rfl, rfl, rfl, rfl⟩, ← hqv, u3]
        rfl
      · rw [if_neg (fun z => huv (by omega)), u2 22 0 _ _ (by unfold bl; omega), f22]
        exact i3 u (by omega)
    · intro n G hI
      rw [lp_X0_broad_24_s]
      exact ok_itp (yle (a := 121) (Nat.le_refl _) (by omega)) (ok_some ⟨hI.1, hI.2.2⟩)
    · obtain ⟨i1, i3⟩ := h8
      have i1 : Try F F8 := i1
      have i3 : ∀ u, u < 121 → F8 22 0 (u / 11) (u % 11) = q u := i3
      have hB : btS q 121 < 121 := by
        have h9 : btS q 121 ≤ 120 := bt_lt q 120
        omega
      refine ok_ob2 (P := fun r => r.1 = oN (btS q 121)) (ok_lpA (lp := lp_X0_broad_94 F8) (I := fun v x => x = oN (btS q v)) 1 121 (by omega) (by omega) ?_ ?_ rfl) (fun x32 x33 hx => ?_)
      · intro n v x hv hv1 hx ih
        have hb : btS q v ≤ v - 1 := by
          have := bt_lt q (v - 1)
          rwa [show v - 1 + 1 = v by omega] at this
        rw [lp_X0_broad_94_s, hx, c_near i3 hv, ob_s, c_near i3 (show btS q v < 121 by omega), ob_s]
        refine ok_itn (nle (a := 121) hv (by omega)) (ok_obi (ih _ ?_))
        show _ = oN (if v = 0 then 0 else if nrS q v ≤ nrS q (btS q v) then btS q v else v)
        rw [if_neg (show ¬ v = 0 by omega)]
        split <;> rfl
      · intro n x hx
        rw [lp_X0_broad_94_s]
        exact ok_itp (yle (a := 121) (Nat.le_refl _) (by omega)) (ok_some hx)
      · have hx : x32 = oN (btS q 121) := hx
        have key : ∀ rv, (∀ H : St, Ok (if p = 0 then some (H, nrS q (btS q 121)) else if p = (1 : Int32) then some (H, (oN (btS q 121) / (11 : Int32))) else some (H, ((10 : Int32) * (oN (btS q 121) - oN (btS q 121) / (11 : Int32) * (11 : Int32))))) (fun z => z = (H, rv))) → Ok (fn_X8_broad F8 p) (fun z => z.2 = rv ∧ Rel z.1) := by
          intro rv hrv
          obtain ⟨hpG, cG⟩ := try_par hr i1
          have hs := MT.start F8
          rw [cG 4, cG 10, cG 11] at hs
          unfold fn_X8_broad
          rw [in_e, ob_s, if_pos h]
          refine ok_itn n10 ?_
          unfold fn_X8_layRights
          refine ok_ob (P := fun H => MT F8 H (F 30 4 0 0) (F 30 10 0 0) (F 30 11 0 0) ∧ ∀ u, u < 121 → H 46 0 0 u = q u) (ok_pl (ok_pl (ok_ob2 (P := fun r => (∃ st wm, MT F8 r.1 st wm (F 30 11 0 0)) ∧ ∀ u, u < 121 → r.1 46 0 0 u = q u) (ok_lpF (lp := lp_X8_layRights_12) (I := fun v H => (∃ st wm, MT F8 H st wm (F 30 11 0 0)) ∧ ∀ u, u < v → H 46 0 0 u = q u) 121 (by omega) ?_ ?_ ⟨⟨_, _, hs⟩, fun u hu => absurd hu (by omega)⟩) (fun H _ hH => ok_pl (ok_pl (ok_some ?_)))))) (fun H4 hH4 => ?_)
          · intro n v H hv hI ih
            obtain ⟨⟨st, wm, i1'⟩, i2'⟩ := hI
            have e11 := md11 v (by omega)
            rw [lp_X8_layRights_12_s, e11.1, e11.2, e10v, oN_n (show v < 2147483648 by omega)]
            refine ok_itn (nle (a := 121) hv (by omega)) (ok_pl (ok_pl ?_))
            have hM2 := (i1'.fu4 (oN (v / 11))).fu10 (oN (10 * (v % 11)))
            have f46 : ∀ u, fu (fu H 30 4 0 0 (oN (v / 11))) 30 10 0 0 (oN (10 * (v % 11))) 46 0 0 u = H 46 0 0 u := fun u => by rw [fu_n _ _ _ _ _ _ (by omega), fu_n _ _ _ _ _ _ (by omega)]
            have htr := m_try hpG (by rw [cG 16]; exact hT3) hT2 hM2 hmu (hwv v)
            rw [tst_c i1.agr i1.h37] at htr
            refine ok_ob2 htr (fun H2 r2 h2 => ok_obi (ok_og (oN_vp (by omega) (by omega)) (ok_pl (ih _ ⟨⟨_, _, h2.1.fur (by omega)⟩, fun u hu => ?_⟩))))
            obtain ⟨-, u2, u3⟩ := h2
            have u2 : ∀ k j, k = 45 ∨ k = 46 → H2 k 0 0 j = _ := u2
            have u3 : r2 = _ := u3
            rw [fu_a]
            by_cases huv : u = v
            · subst huv
              rw [if_pos ⟨rfl, rfl, rfl, rfl⟩, ← hqv, u3]
              rfl
            · rw [if_neg (fun z => huv z.2.2.2), u2 46 u (by omega), f46]
              exact i2' u (by omega)
          · intro n H hI
            rw [lp_X8_layRights_12_s]
            exact ok_itp (yle (a := 121) (Nat.le_refl _) (by omega)) (ok_some hI)
          · obtain ⟨⟨st, wm, j1⟩, j2⟩ := hH
            have j1 : MT F8 H st wm (F 30 11 0 0) := j1
            have hM := (j1.fu4 (F8 30 4 0 0)).fu10 (F8 30 10 0 0)
            rw [cG 4, cG 10] at hM ⊢
            refine ⟨hM, fun u hu => ?_⟩
            rw [fu_n _ _ _ _ _ _ (by omega), fu_n _ _ _ _ _ _ (by omega)]
            exact j2 u hu
          · obtain ⟨j1, j2⟩ := hH4
            rw [← cG 4, ← cG 10, ← cG 11] at j1
            have hrel : Rel H4 := Rel_sm hr (sm_try i1 j1.end)
            refine ok_ob3 (P := fun r => r.1 = oN (btS q 121) ∧ r.2.1 = nrS q (btS q 121)) (ok_lpA (lp := fun n (s : Int32 × Int32) x => lp_X8_broad_23 H4 n s.1 s.2 x) (I := fun k s => (k = 0 ∧ s.1 = 0 ∧ s.2 = -1) ∨ (1 ≤ k ∧ s.1 = oN (btS q k) ∧ s.2 = nrS q (btS q k))) (a := (0, -1)) 0 121 (by omega) (by omega) ?_ ?_ (Or.inl ⟨rfl, rfl, rfl⟩)) (fun x9 x10 x11 hx9 => ?_)
            · intro n k s hk _ hI ih
              obtain ⟨bs, ms⟩ := s
              show Ok (lp_X8_broad_23 H4 (n + 1) bs ms (oN k)) _
              rw [lp_X8_broad_23_s]
              refine ok_itn (nle (a := 121) hk (by omega)) (ok_ob2 (m_near j2 hk) (fun x17 x18 h17 => ?_))
              have h17 : x17 = _ := h17
              rw [← nr_m q k hk] at h17
              refine ok_obi (ok_obi (ih (_, _) (Or.inr ⟨by omega, ?_, ?_⟩)))
              · show (if x17 ≤ ms then bs else oN k) = oN (if k = 0 then 0 else if nrS q k ≤ nrS q (btS q k) then btS q k else k)
                rcases hI with ⟨z1, z2, z3⟩ | ⟨z1, z2, z3⟩
                · have z3 : ms = -1 := z3
                  rw [if_pos z1, if_neg, z1]
                  rw [z3, h17, le_i]
                  have := hnb k hk
                  have k1 : (-1 : Int32).toInt = -1 := rfl
                  omega
                · have z2 : bs = _ := z2
                  have z3 : ms = _ := z3
                  rw [if_neg (show ¬ k = 0 by omega), h17, z2, z3]
                  split <;> rfl
              · show (if x17 ≤ ms then ms else x17) = nrS q (if k = 0 then 0 else if nrS q k ≤ nrS q (btS q k) then btS q k else k)
                rcases hI with ⟨z1, z2, z3⟩ | ⟨z1, z2, z3⟩
                · have z3 : ms = -1 := z3
                  rw [if_pos z1, if_neg, h17, z1]
                  rw [z3, h17, le_i]
                  have := hnb k hk
                  have k1 : (-1 : Int32).toInt = -1 := rfl
                  omega
                · have z3 : ms = _ := z3
                  rw [if_neg (show ¬ k = 0 by omega), h17, z3]
                  split <;> rfl
            · intro n s hI
              obtain ⟨bs, ms⟩ := s
              show Ok (lp_X8_broad_23 H4 (n + 1) bs ms (oN 121)) _
              rw [lp_X8_broad_23_s]
              refine ok_itp (yle (a := 121) (Nat.le_refl _) (by omega)) (ok_some ?_)
              rcases hI with ⟨z1, -⟩ | ⟨-, z2, z3⟩
              · omega
              · exact ⟨z2, z3⟩
            · have e1 : x9 = _ := hx9.1
              have e2 : x10 = _ := hx9.2
              rw [e1, e2]
              refine ok_mono (hrv H4) (fun z hz => ?_)
              rw [hz]
              exact ⟨rfl, hrel⟩
        rw [hx, c_near i3 hB, ob_s]
        refine ok_ite (fun z => ok_some (key _ (fun H => ok_itp z (ok_some rfl)))) (fun z => ok_ite (fun z2 => ok_some (key _ (fun H => ok_itn z (ok_itp z2 (ok_some rfl))))) (fun z2 => ok_some (key _ (fun H => ok_itn z (ok_itn z2 (ok_some rfl))))))
  · rw [if_neg h]
    refine ok_itp z00 (ok_some ?_)
    show Ok (fn_X8_broad F p) _
    unfold fn_X8_broad
    rw [in_e, ob_s, if_neg h]
    exact ok_itp z00 (ok_some ⟨rfl, hr⟩)
end BR
