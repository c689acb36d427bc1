/-! PURE: what both tell without a change -/
set_option maxRecDepth 100000
theorem rng {p : Int32} {l h : Nat} (hh : h < 2147483648) (hl : l ≤ h) (q : oN l ≤ p ∧ p ≤ oN h) : ∃ k, l ≤ k ∧ k ≤ h ∧ p = oN k := by
  have h1 := le_i.mp q.1
  have h2 := le_i.mp q.2
  rw [oN_i (by omega)] at h1 h2
  refine ⟨p.toNatClampNeg, ?_, ?_, oN_of (by omega)⟩
  · have := cn_i (x := p) (by omega)
    omega
  · have := cn_i (x := p) (by omega)
    omega
theorem rngI {p : Int32} {h : Nat} (q : ¬ (p.toInt < 0 ∨ (h : Int) < p.toInt)) : ∃ k, k ≤ h ∧ p = oN k := by
  refine ⟨p.toNatClampNeg, ?_, oN_of (by omega)⟩
  have := cn_i (x := p) (by omega)
  omega
theorem n10 : ¬ ((1 : Int32) = 0) := by decide
theorem z00 : (0 : Int32) = 0 := rfl
section RO
variable {F : St}
theorem ro_count (hr : Rel F) (p : Int32) : ∃ r, fn_X0_count F p = some r ∧ fn_X8_count F p = some r := by
  obtain ⟨⟨hp, hq, ⟨e8, e9, e10, e11, -⟩, -⟩, -, -, -, ⟨n, -, t1, t2, -⟩⟩ := hr
  obtain ⟨q0, q1, q6, q7, q14, -⟩ := hq
  by_cases h : p.toInt < 0 ∨ (9 : Int) < p.toInt
  · exact ⟨-3, if_pos h, if_pos h⟩
  · obtain ⟨k, hk, rfl⟩ := rngI (h := 9) h
    rcases (show k = 0 ∨ k = 1 ∨ k = 2 ∨ k = 3 ∨ k = 4 ∨ k = 5 ∨ k = 6 ∨ k = 7 ∨ k = 8 ∨ k = 9 by omega) with q | q | q | q | q | q | q | q | q | q <;> subst q
    · exact ⟨F 30 0 0 0, congrArg some q0, rfl⟩
    · exact ⟨F 30 1 0 0, congrArg some q1, rfl⟩
    · exact ⟨F 30 4 0 0, congrArg some e8, rfl⟩
    · exact ⟨F 30 10 0 0, congrArg some e9, rfl⟩
    · exact ⟨F 30 11 0 0, congrArg some e10, rfl⟩
    · exact ⟨F 30 16 0 0, congrArg some e11, rfl⟩
    · exact ⟨F 30 12 0 0, congrArg some q14, rfl⟩
    · exact ⟨F 30 18 0 0, congrArg some (t1.trans t2.symm), rfl⟩
    · exact ⟨F 30 8 0 0, congrArg some q6, rfl⟩
    · exact ⟨F 30 9 0 0, congrArg some q7, rfl⟩
theorem ro_stuff (hr : Rel F) (p1 p2 : Int32) : ∃ r, fn_X0_stuff F p1 p2 = some r ∧ fn_X8_stuff F p1 p2 = some r := by
  obtain ⟨⟨hp, hq, -⟩, -⟩ := hr
  obtain ⟨-, -, -, -, -, q23, q24, -⟩ := hq
  unfold fn_X0_stuff fn_X8_stuff
  rw [isIn_l F p1 0 2 (l2 := 0) (h2 := 2) rfl rfl, in_e, ob_s, ob_s]
  by_cases h : (0 : Int32) ≤ p1 ∧ p1 ≤ 2
  · obtain ⟨k, hk0, hk, rfl⟩ := rng (l := 0) (h := 2) (by omega) (by omega) h
    simp only [if_pos h, if_neg n10]
    rw [oN_n (show k < 2147483648 by omega), q23 k (by omega)]
    by_cases h0 : p2 = 0
    · rw [if_pos h0, if_pos h0]
      exact ⟨_, og_t (oN_vp (by omega) (by omega)), og_t (oN_vp (by omega) (by omega))⟩
    · rw [if_neg h0, if_neg h0]
      by_cases h1 : p2 = 1
      · rw [if_pos h1, if_pos h1, q24 k (by omega)]
        exact ⟨_, og_t (oN_vp (by omega) (by omega)), og_t (oN_vp (by omega) (by omega))⟩
      · rw [if_neg h1, if_neg h1]
        exact ⟨_, rfl, rfl⟩
  · simp only [if_neg h, if_pos z00]
    exact ⟨_, rfl, rfl⟩
theorem ro_pour (hr : Rel F) (p1 p2 : Int32) : ∃ r, fn_X0_pour F p1 p2 = some r ∧ fn_X8_pour F p1 p2 = some r := by
  obtain ⟨⟨hp, hq, -⟩, -⟩ := hr
  obtain ⟨n, hn, hn2, -⟩ := hp.2.2.2.1
  obtain ⟨-, -, -, -, q14, -, -, -, -, -, q13⟩ := hq
  unfold fn_X0_pour fn_X8_pour
  by_cases h0 : p1 < 0
  · rw [if_pos h0, if_pos h0]
    exact ⟨_, rfl, rfl⟩
  · rw [if_neg h0, if_neg h0, isIn_l F p2 0 2 (l2 := 0) (h2 := 2) rfl rfl, in_e, ob_s, ob_s, q14, hn2]
    by_cases h : (0 : Int32) ≤ p2 ∧ p2 ≤ 2
    · simp only [if_pos h, if_neg n10]
      by_cases h1 : p1 < oN n
      · have k0 : 0 ≤ p1.toInt := by
          rw [lt_i] at h0
          have : (0 : Int32).toInt = 0 := rfl
          omega
        have k1 := lt_i.mp h1
        rw [oN_i (by omega)] at k1
        have k2 := cn_i k0
        obtain ⟨p0, p01, p02⟩ := q13 p1.toNatClampNeg (by omega)
        rw [if_neg (Int32.not_le.mpr h1), if_pos h1, og_t (vpb_t k0 (by omega))]
        obtain ⟨k, hk0, hk, rfl⟩ := rng (l := 0) (h := 2) (by omega) (by omega) h
        rw [og_t (oN_vp (by omega) (by omega)), oN_n (show k < 2147483648 by omega)]
        rcases (show k = 0 ∨ k = 1 ∨ k = 2 by omega) with q | q | q <;> subst q
        · rw [if_pos (by decide), og_t (vpb_t k0 (by omega)), p0]
          exact ⟨_, rfl, rfl⟩
        · rw [if_neg (by decide), if_pos (by decide), og_t (vpb_t k0 (by omega)), p01]
          exact ⟨_, rfl, rfl⟩
        · rw [if_neg (by decide), if_neg (by decide), og_t (vpb_t k0 (by omega)), p02]
          exact ⟨_, rfl, rfl⟩
      · rw [if_pos (Int32.not_lt.mp h1), if_neg h1]
        exact ⟨_, rfl, rfl⟩
    · simp only [if_neg h, if_pos z00]
      exact ⟨_, rfl, rfl⟩
/-- the brew as the model has it -/
theorem RD.mh (h : RD F 0 40 0) : ∃ t b, Inv F (F 30 11 0 0) t b ∧ RB 0 F F b ∧ Mh F F b (fun g x => F 44 0 0 (16 * g + x)) := by
  obtain ⟨t, b, h1, h2, h3⟩ := h
  exact ⟨t, b, h1, h2, fun _ _ _ _ _ _ => rfl, fun g x hx => by rw [← h3 g x hx, Nat.zero_add], fun _ _ _ _ => rfl⟩
theorem ro_cup (hr : Rel F) (p : Int32) : ∃ r, fn_X0_cup F p = some r ∧ fn_X8_cup F p = some r := by
  obtain ⟨⟨hp, hq, ⟨-, -, e10, -⟩, -, -, h6, -⟩, hd, -⟩ := hr
  obtain ⟨t, b, hv, hb, hm⟩ := hd.mh
  have hmu : 0 ≤ (F 30 11 0 0).toInt ∧ (F 30 11 0 0).toInt ≤ 20 := by omega
  by_cases h : p.toInt < 0 ∨ (7 : Int) < p.toInt
  · exact ⟨-3, if_pos h, if_pos h⟩
  · obtain ⟨k, hk, rfl⟩ := rngI (h := 7) h
    have c8 : ∀ x, x < 5 → vb F 8 x := fun x hx => Or.inr (Or.inl ⟨rfl, hx⟩)
    rcases (show k = 0 ∨ k = 1 ∨ k = 2 ∨ k = 3 ∨ k = 4 ∨ k = 5 ∨ k = 6 ∨ k = 7 by omega) with q | q | q | q | q | q | q | q <;> subst q
    · exact ⟨b 8 0, congrArg some (hb.rb (k := 2) (p := 1) (y := 64) (j := 0) 8 0 rfl (c8 0 (by omega)) (by decide)), congrArg some (hm.rb (j := 128) 8 0 (by omega) ⟨by omega, by omega⟩)⟩
    · exact ⟨b 8 1, congrArg some (hb.rb (k := 4) (p := 1) (y := 64) (j := 0) 8 1 rfl (c8 1 (by omega)) (by decide)), congrArg some (hm.rb (j := 129) 8 1 (by omega) ⟨by omega, by omega⟩)⟩
    · exact ⟨b 8 2, congrArg some (hb.rb (k := 4) (p := 1) (y := 64) (j := 1) 8 2 rfl (c8 2 (by omega)) (by decide)), congrArg some (hm.rb (j := 130) 8 2 (by omega) ⟨by omega, by omega⟩)⟩
    · exact ⟨b 8 3, congrArg some (hb.rb (k := 4) (p := 1) (y := 64) (j := 2) 8 3 rfl (c8 3 (by omega)) (by decide)), congrArg some (hm.rb (j := 131) 8 3 (by omega) ⟨by omega, by omega⟩)⟩
    · refine ⟨strS b, ?_, ?_⟩
      · show ob (fn_X1_strong F 0) (fun r13 => some r13) = _
        rw [c_strong hb, ob_s]
      · show ob (fn_X8_strong F) (fun r13 => some r13) = _
        rw [m_strong hm hv, ob_s]
    · refine ⟨outS F (F 30 11 0 0) b, ?_, ?_⟩
      · show ob (fn_X1_out F 0 (F 0 10 0 0)) (fun r13 => some r13) = _
        rw [e10, c_out hq hb, ob_s]
      · show ob (fn_X8_out F) (fun r13 => some r13) = _
        rw [m_out hp hmu hm hv, ob_s]
    · refine ⟨unS F (F 30 11 0 0) b, ?_, ?_⟩
      · show ob (fn_X1_uneven F 0 (F 0 10 0 0)) (fun r13 => some r13) = _
        rw [e10, c_uneven hp hq hb, ob_s]
      · show ob (fn_X8_uneven F) (fun r13 => some r13) = _
        rw [m_uneven hp hmu hm hv, ob_s]
    · exact ⟨b 8 4, congrArg some (hb.rb (k := 1) (p := 2) (y := 0) (j := 0) 8 4 rfl (c8 4 (by omega)) (by decide)), congrArg some (hm.rb (j := 132) 8 4 (by omega) ⟨by omega, by omega⟩)⟩
theorem ro_cell (hr : Rel F) (p1 p2 p3 : Int32) : ∃ r, fn_X0_cell F p1 p2 p3 = some r ∧ fn_X8_cell F p1 p2 p3 = some r := by
  obtain ⟨⟨hp, hq, ⟨e8, -⟩, -⟩, hd, -⟩ := hr
  obtain ⟨⟨r1, r2, r3⟩, ⟨l1, l2, l3⟩, -⟩ := id hp
  obtain ⟨t, b, hv, hb, hm⟩ := hd.mh
  have eR : oN (Rg F) - 1 = oN (Rg F - 1) := (Int32.ofNat_sub (Rg F) 1 (by omega)).symm
  have eL : oN (Ly F) - 1 = oN (Ly F - 1) := (Int32.ofNat_sub (Ly F) 1 (by omega)).symm
  unfold fn_X0_cell fn_X8_cell
  rw [hq.1, hq.2.1, r1, l1, eR, eL, isIn_l F p1 0 (oN (Rg F - 1)) (l2 := 0) rfl rfl, in_e, ob_s, ob_s]
  by_cases h1 : (0 : Int32) ≤ p1 ∧ p1 ≤ oN (Rg F - 1)
  · simp only [if_pos h1, if_neg n10]
    rw [isIn_l F p2 0 (oN (Ly F - 1)) (l2 := 0) rfl rfl, in_e, ob_s, ob_s]
    obtain ⟨c, -, hc, rfl⟩ := rng (l := 0) (by omega) (by omega) h1
    by_cases h2 : (0 : Int32) ≤ p2 ∧ p2 ≤ oN (Ly F - 1)
    · simp only [if_pos h2, if_neg n10]
      rw [pl_s]
      obtain ⟨l, -, hl, rfl⟩ := rng (l := 0) (by omega) (by omega) h2
      have hcc : cel F (4 * l + c) = true := (cel_c (by omega)).mpr ⟨by omega, by omega⟩
      have hcv : ∀ g, g < 8 → vb F g (4 * l + c) := fun g hg => Or.inl ⟨hg, hcc, by omega⟩
      have hci : ∀ g, g < 8 → ix g (4 * l + c) := fun g hg => ⟨by omega, Or.inl hg⟩
      rw [show (4 : Int32) * oN l + oN c = oN (4 * l + c) from by rw [show (4 : Int32) * oN l = oN (4 * l) from (Int32.ofNat_mul 4 l).symm, oN_add], oN_n (show c < 2147483648 by omega), oN_n (show l < 2147483648 by omega), hx_e (show c < 4 by omega), og_t (oN_vp (by omega) (by omega)), og_t (oN_vp (by omega) (by omega))]
      by_cases h3 : p3.toInt < 0 ∨ (8 : Int) < p3.toInt
      · have hn : ¬ ((3 : Int32) ≤ p3 ∧ p3 ≤ 8) := fun q => by
          have a1 := le_i.mp q.1
          have a2 := le_i.mp q.2
          have k3 : (3 : Int32).toInt = 3 := rfl
          have k8 : (8 : Int32).toInt = 8 := rfl
          omega
        rw [isIn_l F p3 3 8 (l2 := 3) (h2 := 8) rfl rfl, ob_s, if_neg hn, if_pos z00, if_pos (by omega), if_pos h3]
        exact ⟨_, rfl, rfl⟩
      · obtain ⟨k, hk, rfl⟩ := rngI (h := 8) h3
        rw [isIn_l F (oN k) 3 8 (l2 := 3) (h2 := 8) rfl rfl, ob_s]
        have el : ∀ p4, fn_X1_looseOf F 0 (oN c) (oN l) (F 0 8 0 0) p4 = some (loS F (F 30 4 0 0) (4 * l + c) (if p4 = 0 then 0 else b 1 (4 * l + c))) := fun p4 => by
          obtain ⟨b', g1, g2⟩ := hb
          rw [c_loose hp hq g1 (by omega) (by omega), g2 1 (by decide), e8]
        rcases (show k = 0 ∨ k = 1 ∨ k = 2 ∨ k = 3 ∨ k = 4 ∨ k = 5 ∨ k = 6 ∨ k = 7 ∨ k = 8 by omega) with q | q | q | q | q | q | q | q | q <;> subst q
        · refine ⟨b 0 (4 * l + c), congrArg some (hb.rb 0 (4 * l + c) rfl (hcv 0 (by omega)) (by decide)), ?_⟩
          show og (vpb (oN (4 * l + c)) 138) (some (F 40 0 0 (oN (4 * l + c)).toNatClampNeg)) = _
          rw [og_t (oN_vp (by omega) (by omega)), oN_n (show 4 * l + c < 2147483648 by omega), hm.rb 0 (4 * l + c) (by omega) (hci 0 (by omega))]
        · refine ⟨loS F (F 30 4 0 0) (4 * l + c) (b 1 (4 * l + c)), ?_, ?_⟩
          · show ob (fn_X1_looseOf F 0 (oN c) (oN l) (F 0 8 0 0) (1 : Int32)) (fun r17 => some r17) = _
            rw [el, ob_s, if_neg (by decide)]
          · show og (vpb ((16 : Int32) + oN (4 * l + c)) 138) (ob (fn_X8_looseOf F (oN (4 * l + c)) (F 40 0 0 ((16 : Int32) + oN (4 * l + c)).toNatClampNeg)) (fun r14 => some r14)) = _
            rw [l16, og_t (oN_vp (by omega) (by omega)), oN_n (show 16 + (4 * l + c) < 2147483648 by omega), hm.rb 1 (4 * l + c) (by omega) (hci 1 (by omega)), m_loose hm (by omega), ob_s]
        · refine ⟨b 1 (4 * l + c), congrArg some (hb.rb 1 (4 * l + c) rfl (hcv 1 (by omega)) (by decide)), ?_⟩
          show og (vpb ((16 : Int32) + oN (4 * l + c)) 138) (some (F 40 0 0 ((16 : Int32) + oN (4 * l + c)).toNatClampNeg)) = _
          rw [l16, og_t (oN_vp (by omega) (by omega)), oN_n (show 16 + (4 * l + c) < 2147483648 by omega), hm.rb 1 (4 * l + c) (by omega) (hci 1 (by omega))]
        · refine ⟨b 2 (4 * l + c), congrArg some (hb.rb (j := 0) 2 (4 * l + c) rfl (hcv 2 (by omega)) (by decide)), ?_⟩
          show og (vpb ((32 : Int32) + oN (4 * l + c)) 138) (some (F 40 0 0 ((32 : Int32) + oN (4 * l + c)).toNatClampNeg)) = _
          rw [l32, og_t (oN_vp (by omega) (by omega)), oN_n (show 32 + (4 * l + c) < 2147483648 by omega), hm.rb 2 (4 * l + c) (by omega) (hci 2 (by omega))]
        · refine ⟨b 3 (4 * l + c), congrArg some (hb.rb (j := 1) 3 (4 * l + c) rfl (hcv 3 (by omega)) (by decide)), ?_⟩
          show og (vpb ((48 : Int32) + oN (4 * l + c)) 138) (some (F 40 0 0 ((48 : Int32) + oN (4 * l + c)).toNatClampNeg)) = _
          rw [l48, og_t (oN_vp (by omega) (by omega)), oN_n (show 48 + (4 * l + c) < 2147483648 by omega), hm.rb 3 (4 * l + c) (by omega) (hci 3 (by omega))]
        · refine ⟨b 4 (4 * l + c), congrArg some (hb.rb (j := 2) 4 (4 * l + c) rfl (hcv 4 (by omega)) (by decide)), ?_⟩
          show og (vpb ((64 : Int32) + oN (4 * l + c)) 138) (some (F 40 0 0 ((64 : Int32) + oN (4 * l + c)).toNatClampNeg)) = _
          rw [l64, og_t (oN_vp (by omega) (by omega)), oN_n (show 64 + (4 * l + c) < 2147483648 by omega), hm.rb 4 (4 * l + c) (by omega) (hci 4 (by omega))]
        · refine ⟨b 5 (4 * l + c), congrArg some (hb.rb (j := 0) 5 (4 * l + c) rfl (hcv 5 (by omega)) (by decide)), ?_⟩
          show og (vpb ((80 : Int32) + oN (4 * l + c)) 138) (some (F 40 0 0 ((80 : Int32) + oN (4 * l + c)).toNatClampNeg)) = _
          rw [l80, og_t (oN_vp (by omega) (by omega)), oN_n (show 80 + (4 * l + c) < 2147483648 by omega), hm.rb 5 (4 * l + c) (by omega) (hci 5 (by omega))]
        · refine ⟨b 6 (4 * l + c), congrArg some (hb.rb (j := 1) 6 (4 * l + c) rfl (hcv 6 (by omega)) (by decide)), ?_⟩
          show og (vpb ((96 : Int32) + oN (4 * l + c)) 138) (some (F 40 0 0 ((96 : Int32) + oN (4 * l + c)).toNatClampNeg)) = _
          rw [l96, og_t (oN_vp (by omega) (by omega)), oN_n (show 96 + (4 * l + c) < 2147483648 by omega), hm.rb 6 (4 * l + c) (by omega) (hci 6 (by omega))]
        · refine ⟨b 7 (4 * l + c), congrArg some (hb.rb (j := 2) 7 (4 * l + c) rfl (hcv 7 (by omega)) (by decide)), ?_⟩
          show og (vpb ((112 : Int32) + oN (4 * l + c)) 138) (some (F 40 0 0 ((112 : Int32) + oN (4 * l + c)).toNatClampNeg)) = _
          rw [l112, og_t (oN_vp (by omega) (by omega)), oN_n (show 112 + (4 * l + c) < 2147483648 by omega), hm.rb 7 (4 * l + c) (by omega) (hci 7 (by omega))]
    · simp only [if_neg h2, if_pos z00]
      exact ⟨_, rfl, rfl⟩
  · simp only [if_neg h1, if_pos z00]
    exact ⟨_, rfl, rfl⟩
end RO
