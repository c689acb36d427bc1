/-! PURE: blind -/
set_option maxRecDepth 100000
def Fz0 : St := fun _ _ _ _ => 0
def blb (n : Nat) : Bool := (List.range (n + 1)).all fun k => (List.range 11).all fun p => (List.range 2).all fun t => match fn_X0_blind Fz0 (oN n) (oN k) (oN p) (oN t), fn_X8_blind Fz0 (oN n) (oN k) (oN p) (oN t) with
  | some a, some b => a == b
  | _, _ => false
theorem blb_1 : blb 1 = true := by decide +kernel
theorem blb_2 : blb 2 = true := by decide +kernel
theorem blb_3 : blb 3 = true := by decide +kernel
theorem blb_4 : blb 4 = true := by decide +kernel
theorem blb_5 : blb 5 = true := by decide +kernel
theorem blb_6 : blb 6 = true := by decide +kernel
theorem blb_7 : blb 7 = true := by decide +kernel
theorem blb_8 : blb 8 = true := by decide +kernel
theorem blb_9 : blb 9 = true := by decide +kernel
theorem blb_10 : blb 10 = true := by decide +kernel
theorem pow_f (F : St) (a b : Int32) : fn_X0_power F a b = fn_X0_power Fz0 a b := rfl
theorem bl59_f (F : St) (p1 p2 p3 : Int32) : ∀ n x y z, lp_X0_blind_59 F p1 p2 p3 n x y z = lp_X0_blind_59 Fz0 p1 p2 p3 n x y z
  | 0, _, _, _ => rfl
  | n + 1, x, y, z => by
    rw [lp_X0_blind_59_s, lp_X0_blind_59_s]
    have e : ∀ x y z, lp_X0_blind_59 F p1 p2 p3 n x y z = lp_X0_blind_59 Fz0 p1 p2 p3 n x y z := bl59_f F p1 p2 p3 n
    have e2 : lp_X0_blind_59 F p1 p2 p3 n = lp_X0_blind_59 Fz0 p1 p2 p3 n := by
      funext a b c
      exact e a b c
    rw [e2]
    rfl
theorem bl0_f (F : St) (p1 p2 p3 p4 : Int32) : fn_X0_blind F p1 p2 p3 p4 = fn_X0_blind Fz0 p1 p2 p3 p4 := by
  unfold fn_X0_blind
  rw [bl59_f F]
  rfl
theorem bl8_f (F : St) (p1 p2 p3 p4 : Int32) : fn_X8_blind F p1 p2 p3 p4 = fn_X8_blind Fz0 p1 p2 p3 p4 := rfl
theorem bl_in {n k p t : Nat} (h : blb n = true) (hk : k ≤ n) (hp : p < 11) (ht : t < 2) : ∃ r, fn_X0_blind Fz0 (oN n) (oN k) (oN p) (oN t) = some r ∧ fn_X8_blind Fz0 (oN n) (oN k) (oN p) (oN t) = some r := by
  have h1 := List.all_eq_true.mp h k (List.mem_range.mpr (by omega))
  have h2 := List.all_eq_true.mp h1 p (List.mem_range.mpr hp)
  have h3 := List.all_eq_true.mp h2 t (List.mem_range.mpr ht)
  cases ha : fn_X0_blind Fz0 (oN n) (oN k) (oN p) (oN t) with
  | none => rw [ha] at h3; cases h3
  | some a =>
    cases hb : fn_X8_blind Fz0 (oN n) (oN k) (oN p) (oN t) with
    | none => rw [ha, hb] at h3; cases h3
    | some b =>
      rw [ha, hb] at h3
      have h3 : (a == b) = true := h3
      have e := eq_of_beq h3
      exact ⟨a, rfl, by rw [e]⟩
theorem ro_blind (F : St) (p1 p2 p3 p4 : Int32) : ∃ r, fn_X0_blind F p1 p2 p3 p4 = some r ∧ fn_X8_blind F p1 p2 p3 p4 = some r := by
  rw [bl0_f F, bl8_f F]
  by_cases h1 : (1 : Int32) ≤ p1 ∧ p1 ≤ 10
  · obtain ⟨n, n1, n2, rfl⟩ := rng (l := 1) (h := 10) (by omega) (by omega) h1
    by_cases h2 : (0 : Int32) ≤ p2 ∧ p2 ≤ oN n
    · obtain ⟨k, -, k2, rfl⟩ := rng (l := 0) (h := n) (by omega) (by omega) h2
      by_cases h3 : (0 : Int32) ≤ p3 ∧ p3 ≤ 10
      · obtain ⟨p, -, p2, rfl⟩ := rng (l := 0) (h := 10) (by omega) (by omega) h3
        by_cases h4 : (0 : Int32) ≤ p4 ∧ p4 ≤ 1
        · obtain ⟨t, -, t2, rfl⟩ := rng (l := 0) (h := 1) (by omega) (by omega) h4
          have hb : blb n = true := by
            rcases (show n = 1 ∨ n = 2 ∨ n = 3 ∨ n = 4 ∨ n = 5 ∨ n = 6 ∨ n = 7 ∨ n = 8 ∨ n = 9 ∨ n = 10 by omega) with q | q | q | q | q | q | q | q | q | q <;> subst q
            · exact blb_1
            · exact blb_2
            · exact blb_3
            · exact blb_4
            · exact blb_5
            · exact blb_6
            · exact blb_7
            · exact blb_8
            · exact blb_9
            · exact blb_10
          exact bl_in hb k2 (by omega) (by omega)
        · unfold fn_X0_blind fn_X8_blind
          rw [isIn_l Fz0 _ 1 10 (l2 := 1) (h2 := 10) rfl rfl, in_e, ob_s, ob_s]
          simp only [if_pos h1, if_neg n10]
          rw [isIn_l Fz0 _ 0 (oN n) (l2 := 0) rfl rfl, in_e, ob_s, ob_s]
          simp only [if_pos h2, if_neg n10]
          rw [isIn_l Fz0 _ 0 10 (l2 := 0) (h2 := 10) rfl rfl, in_e, ob_s, ob_s]
          simp only [if_pos h3, if_neg n10]
          rw [isIn_l Fz0 _ 0 1 (l2 := 0) (h2 := 1) rfl rfl, in_e, ob_s, ob_s]
          simp only [if_neg h4, if_pos z00]
          exact ⟨_, rfl, rfl⟩
      · unfold fn_X0_blind fn_X8_blind
        rw [isIn_l Fz0 _ 1 10 (l2 := 1) (h2 := 10) rfl rfl, in_e, ob_s, ob_s]
        simp only [if_pos h1, if_neg n10]
        rw [isIn_l Fz0 _ 0 (oN n) (l2 := 0) rfl rfl, in_e, ob_s, ob_s]
        simp only [if_pos h2, if_neg n10]
        rw [isIn_l Fz0 _ 0 10 (l2 := 0) (h2 := 10) rfl rfl, in_e, ob_s, ob_s]
        simp only [if_neg h3, if_pos z00]
        exact ⟨_, rfl, rfl⟩
    · unfold fn_X0_blind fn_X8_blind
      rw [isIn_l Fz0 _ 1 10 (l2 := 1) (h2 := 10) rfl rfl, in_e, ob_s, ob_s]
      simp only [if_pos h1, if_neg n10]
      rw [isIn_l Fz0 _ 0 (oN n) (l2 := 0) rfl rfl, in_e, ob_s, ob_s]
      simp only [if_neg h2, if_pos z00]
      exact ⟨_, rfl, rfl⟩
  · unfold fn_X0_blind fn_X8_blind
    rw [isIn_l Fz0 _ 1 10 (l2 := 1) (h2 := 10) rfl rfl, in_e, ob_s, ob_s]
    simp only [if_neg h1, if_pos z00]
    exact ⟨_, rfl, rfl⟩
