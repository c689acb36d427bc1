/-! PURE: the class' goings down, and its tick -/
set_option maxRecDepth 100000
theorem clamp_e (v : Int32) : (if (1 : Int32) < (if v < (95 : Int32) then v else (95 : Int32)) then (if v < (95 : Int32) then v else (95 : Int32)) else (1 : Int32)) = (if 1 ≤ v then (if v ≤ 95 then v else 95) else 1) := by
  have a : (95 : Int32).toInt = 95 := rfl
  have c : (1 : Int32).toInt = 1 := rfl
  by_cases h1 : v < 95
  · rw [if_pos h1]
    have k1 := lt_i.mp h1
    by_cases h2 : 1 < v
    · have k2 := lt_i.mp h2
      rw [if_pos h2, if_pos (by rw [le_i]; omega), if_pos (by rw [le_i]; omega)]
    · rw [lt_i] at h2
      rw [if_neg (by rw [lt_i]; exact h2)]
      by_cases h3 : 1 ≤ v
      · rw [if_pos h3, if_pos (by rw [le_i]; omega)]
        rw [le_i] at h3
        exact Int32.toInt_inj.mp (by omega)
      · rw [if_neg h3]
  · rw [if_neg h1, if_pos (by decide)]
    rw [lt_i] at h1
    rw [if_pos (by rw [le_i]; omega)]
    by_cases h3 : v ≤ 95
    · rw [if_pos h3]
      rw [le_i] at h3
      exact Int32.toInt_inj.mp (by omega)
    · rw [if_neg h3]
theorem lo_b (F : St) (st : Int32) (x : Nat) (k : Int32) : 1 ≤ (loS F st x k).toInt ∧ (loS F st x k).toInt ≤ 95 := by
  have a : (95 : Int32).toInt = 95 := rfl
  have c : (1 : Int32).toInt = 1 := rfl
  unfold loS
  split
  · rename_i h1
    rw [le_i] at h1
    split
    · rename_i h2
      rw [le_i] at h2
      omega
    · rw [a]; omega
  · rw [c]; omega
theorem mu_e {F : St} {st : Int32} {b : Bt} {x : Nat} (hw : 0 ≤ (b 0 x).toInt ∧ (b 0 x).toInt ≤ 400000) : (muS F st b x).toInt = ((b 0 x).toInt * (loS F st x (b 1 x)).toInt) / 100 ∧ 0 ≤ (b 0 x).toInt * (loS F st x (b 1 x)).toInt := by
  have hl := lo_b F st x (b 1 x)
  have p1 : 0 ≤ (b 0 x).toInt * (loS F st x (b 1 x)).toInt := Int.mul_nonneg hw.1 (by omega)
  have p2 : (b 0 x).toInt * (loS F st x (b 1 x)).toInt ≤ 400000 * 95 := Int.mul_le_mul hw.2 hl.2 (by omega) (by omega)
  have e2 : (b 0 x * loS F st x (b 1 x)).toInt = (b 0 x).toInt * (loS F st x (b 1 x)).toInt := i_mul (by omega) (by omega)
  refine ⟨?_, p1⟩
  unfold muS
  rw [i_div (by decide) (by rw [e2]; exact p1), e2]
  rfl
theorem mu_n {F : St} {st : Int32} {b : Bt} {x : Nat} (hw : 0 ≤ (b 0 x).toInt ∧ (b 0 x).toInt ≤ 400000) : muS F st b x = 0 ∨ (¬ muS F st b x ≤ 0 ∧ b 0 x ≠ 0) := by
  obtain ⟨e, p⟩ := mu_e (F := F) (st := st) hw
  rcases zero_or (m := muS F st b x) (by rw [e]; exact Int.ediv_nonneg p (by omega)) with q | q
  · exact Or.inl q
  · refine Or.inr ⟨q, fun h0 => q ?_⟩
    unfold muS
    rw [h0, Int32.zero_mul]
    decide
section CH5
variable {F F' : St} {b m : Bt} {ρ : Type} {Q : ρ → Prop} {i : Nat}
theorem c_loose (hp : PB F) (hq : Par F) (h : Ch i F F' b m) {c l : Nat} (hc : c < Rg F) (hl : l < Ly F) (st p4 : Int32) : fn_X1_looseOf F' i (oN c) (oN l) st p4 = some (loS F st (4 * l + c) (if p4 = 0 then 0 else b 1 (4 * l + c))) := by
  have r3 := hp.1.2.2
  have l3 := hp.2.1.2.2
  have hcc : cel F (4 * l + c) = true := (cel_c (by omega)).mpr ⟨hc, hl⟩
  obtain ⟨-, -, -, -, -, -, -, q25, q26, q11, -⟩ := hq
  unfold fn_X1_looseOf
  rw [og_t (oN_vp (by omega) (by omega)), og_t (oN_vp (by omega) (by omega)), ob_ite, pl_s, clamp_e, oN_n (show c < 2147483648 by omega), oN_n (show l < 2147483648 by omega), hx_e (show c < 4 by omega), h.rb 1 (4 * l + c) rfl (Or.inl ⟨by omega, hcc, by omega⟩), h.o (k := 25) (j := 0) (by decide), h.o (k := 25) (j := 1) (by decide), h.o (k := 11) (by decide), q25, q26, q11 c l (by omega) (by omega)]
  rfl
theorem c_down (hi : i < 4) (hp : PB F) (hq : Par F) (hw : WB F b) (h : Ch i F F' b (fun _ _ => 0)) (st : Int32) : Ok (fn_X1_goDown F' i st) (fun r => Ch i F r (fun g x => if g = 9 then (if cel F x = true then crS F (muS F st b x) else b 9 x) else if g = 8 ∧ x = 4 then b 8 4 else downS F st b g x) (fun _ _ => 0)) := by
  obtain ⟨⟨r1, r2, r3⟩, ⟨l1, l2, l3⟩, -⟩ := id hp
  unfold fn_X1_goDown
  refine ok_ob2 (ok_nest (lo := lp_X1_goDown_2 i st) (li := lp_X1_goDown_15 i st) (Rg F) (Ly F) r3 l3 (fun c l F' => Ch i F F' (fun g x => if g = 9 ∧ pr c l x = true ∧ cel F x = true then crS F (muS F st b x) else b g x) (fun g z => if z = 16 then cS F st b g (if l < Ly F then c else c + 1) else tD F st b (pr c l) g z)) ?_ ?_ ?_ ?_ ?_ ?_) (fun F1 _ h1 => ?_)
  · intro c l n F' hc hl h Q ih
    have hcc : cel F (4 * l + c) = true := (cel_c (by omega)).mpr ⟨hc, hl⟩
    have hm := mu_n (F := F) (st := st) (hw _ hcc)
    have hee : ∀ g, g < 4 → e0 (fun g x => if g = 9 ∧ pr c l x = true ∧ cel F x = true then crS F (muS F st b x) else b g x) g (4 * l + c) (muS F st b (4 * l + c)) = dS F st b g (4 * l + c) := fun g hg => by
      rw [e0_c (b := b) (if_neg (by omega)) (fun g h1 h2 => if_neg (by omega)) hg]
      exact (if_pos hcc).symm
    rw [lp_X1_goDown_15_s, h.o (k := 0) (p := 1) (by decide), hq.2.1, l1, oN_n (show c < 2147483648 by omega), oN_n (show l < 2147483648 by omega), c_loose hp hq h hc hl, hx_e (i := i) (l := l) (show c < 4 by omega), h.rb 0 (4 * l + c) rfl (Or.inl ⟨by omega, hcc, by omega⟩), show oN (Ly F) - 1 = oN (Ly F - 1) from (Int32.ofNat_sub (Ly F) 1 (by omega)).symm, oN_1 l, oN_n (show l + 1 < 2147483648 by omega), if_neg (show ¬ ((1 : Int32) = 0) by decide), if_neg (show ¬ ((1 : Nat) = 9 ∧ pr c l (4 * l + c) = true ∧ cel F (4 * l + c) = true) by omega), if_neg (show ¬ ((0 : Nat) = 9 ∧ pr c l (4 * l + c) = true ∧ cel F (4 * l + c) = true) by omega)]
    refine ok_itn (nle hl (by omega)) (ok_og (oN_vp (by omega) (by omega)) (ok_og (oN_vp (by omega) (by omega)) (ok_ob (P := fun y => y = hy i (if l = Ly F - 1 then 16 else 4 * (l + 1) + c)) ?_ (fun y hy1 => ?_))))
    · by_cases hb : l = Ly F - 1
      · refine ok_itp (by rw [← hb]) (ok_some ?_)
        rw [if_pos hb, hy_k]
      · refine ok_itn (by rw [oN_eq (by omega) (by omega)]; exact hb) (ok_og (oN_vp (by omega) (by omega)) (ok_some ?_))
        rw [if_neg hb, hy_c (by omega), hx_e (show c < 4 by omega)]
    · subst hy1
      refine ok_ob (ok_some (Q := fun r => r = loS F st (4 * l + c) (b 1 (4 * l + c))) rfl) (fun r hr => ?_)
      subst hr
      refine ok_ple (y := muS F st b (4 * l + c)) rfl ?_
      have hz16 : (if l = Ly F - 1 then 16 else 4 * (l + 1) + c) ≤ 16 := by split <;> omega
      refine ok_ob (c_note hi h hz16 hcc (by omega) (hm.imp id (fun q => ⟨q.1, by rw [if_neg (by omega)]; exact q.2⟩))) (fun F2 h2 => ?_)
      have h2 : Ch i F F2 _ _ := h2
      have hn := c_note hi h2 (z := 4 * l + c) (by omega) hcc (by omega) (sg := -1) (hm.imp id (fun q => ⟨q.1, by rw [if_neg (by omega)]; exact q.2⟩))
      rw [hy_c (i := i) (show 4 * l + c < 16 by omega)] at hn
      refine ok_ob hn (fun F3 h3 => ?_)
      have h3 : Ch i F F3 _ _ := h3
      have hcr : ∀ {f : Int32 → Option (St × Int32)} {Q : St × Int32 → Prop}, Ok (f (crS F (muS F st b (4 * l + c)))) Q → Ok (ob (if F3 0 7 0 0 ≤ 0 then some (0 : Int32) else if muS F st b (4 * l + c) ≤ F3 0 7 0 0 then some (0 : Int32) else some (1 : Int32)) f) Q := by
        intro f Q hf
        rw [h3.o (k := 0) (by decide), hq.2.2.2.1]
        unfold crS at hf
        split
        · rename_i q1
          rw [if_pos q1] at hf; exact hf
        · rename_i q1
          rw [if_neg q1] at hf
          split
          · rename_i q2
            rw [if_pos q2] at hf; exact hf
          · rename_i q2
            rw [if_neg q2] at hf; exact hf
      refine hcr ?_
      have e9 : lb i 9 (4 * l + c) = (9, 0, 4 * i + c, l) := by
        unfold lb
        simp
        omega
      refine h3.pb hi 9 (4 * l + c) e9 (Or.inr (Or.inr ⟨rfl, by omega⟩)) (fun F4 h4 => ?_)
      rw [← oN_1 l]
      refine ih F4 (h4.eqb (fun g x hv => ?_) (fun g x hg hx => ?_))
      · by_cases hg : g = 9
        · subst hg
          by_cases hx : x = 4 * l + c
          · subst hx
            rw [bu_eq, if_pos ⟨rfl, pr_i.mpr (by omega), hcc⟩]
          · have e1 : pr c (l + 1) x = pr c l x := by
              rw [pr_add (by omega)]
              have : (x == 4 * l + c) = false := by simpa using hx
              rw [this, Bool.or_false]
            rw [bu_nx hx, e1]
        · rw [bu_ne hg, if_neg (fun q => hg q.1), if_neg (fun q => hg q.1)]
      · rw [hee g hg, neg1, one_m]
        by_cases hb : l = Ly F - 1
        · have hcn : ¬ (x = 4 * l + c + 4 ∧ cel F x = true) := fun q => by
            have := cel_i.mp q.2
            have := q.1
            omega
          rw [if_pos hl, if_neg (show ¬ l + 1 < Ly F by omega), if_pos hb]
          by_cases hx16 : x = 16
          · rw [if_pos hx16, if_pos hx16, if_pos hx16, if_neg (by omega)]
            show cS F st b g c + dS F st b g (4 * l + c) + 0 = cS F st b g c + dS F st b g (4 * (Ly F - 1) + c)
            rw [Int32.add_zero, hb]
          · rw [if_neg hx16, if_neg hx16, if_neg hx16, tD_add F st b (pr_add (by omega)) (pr_no (by omega)) g x, if_neg hcn, Int32.add_zero, Int32.add_zero]
        · have hcn : (x = 4 * l + c + 4 ∧ cel F x = true) ↔ x = 4 * (l + 1) + c := ⟨fun q => by omega, fun q => ⟨by omega, by rw [q]; exact (cel_c (by omega)).mpr ⟨hc, by omega⟩⟩⟩
          rw [if_pos hl, if_pos (show l + 1 < Ly F by omega), if_neg hb]
          by_cases hx16 : x = 16
          · rw [if_pos hx16, if_pos hx16, if_neg (by omega), if_neg (by omega), Int32.add_zero, Int32.add_zero]
          · rw [if_neg hx16, if_neg hx16, tD_add F st b (pr_add (by omega)) (pr_no (by omega)) g x]
            simp only [hcn]
            by_cases hx1 : x = 4 * l + c
            · have hx2 : ¬ x = 4 * (l + 1) + c := by omega
              simp only [if_pos hx1, if_neg hx2, Int32.add_zero]
            · simp only [if_neg hx1, Int32.add_zero]
  · intro c n F' hc h
    rw [lp_X1_goDown_15_s, h.o (by decide), hq.2.1, l1, if_pos (yle (Nat.le_refl _) (by omega))]
  · intro c n F' hc h
    rw [lp_X1_goDown_2_s, h.o (by decide), hq.1, r1, if_neg (nle hc (by omega))]
  · intro n F' h
    rw [lp_X1_goDown_2_s, h.o (by decide), hq.1, r1, if_pos (yle (Nat.le_refl _) (by omega))]
  · intro c F' hc h
    have kp : ∀ y, cel F y = true → pr (c + 1) 0 y = pr c (Ly F) y := fun y hcy => by
      have hcy := cel_i.mp hcy
      rw [Bool.eq_iff_iff, pr_i, pr_i]
      omega
    refine h.eqb (fun g x hv => ?_) (fun g x hg hx => ?_)
    · by_cases hcx : cel F x = true
      · rw [kp x hcx]
      · rw [if_neg (fun q => hcx q.2.2), if_neg (fun q => hcx q.2.2)]
    · by_cases hx16 : x = 16
      · rw [if_pos hx16, if_pos hx16, if_neg (Nat.lt_irrefl _), if_pos (by omega)]
      · rw [if_neg hx16, if_neg hx16]
        have k1 : ∀ y, dS F st b g y ≠ 0 → pr (c + 1) 0 y = pr c (Ly F) y := fun y hne => by
          by_cases hcy : cel F y = true
          · exact kp y hcy
          · exact absurd (dS_z hcy) hne
        unfold tD
        by_cases z1 : dS F st b g x = 0
        · by_cases z2 : dS F st b g (x - 4) = 0
          · rw [z1, z2]; simp
          · rw [z1, k1 _ z2]; simp
        · by_cases z2 : dS F st b g (x - 4) = 0
          · rw [z2, k1 _ z1]; simp
          · rw [k1 _ z1, k1 _ z2]
  · refine h.eqb (fun g x hv => ?_) (fun g x hg hx => ?_)
    · rw [if_neg (fun q => by have := pr_i.mp q.2.1; omega)]
    · by_cases hx16 : x = 16
      · rw [if_pos hx16, if_pos (by omega)]
        rfl
      · have e : pr 0 0 = (fun _ : Nat => false) := by
          funext y
          rw [← Bool.not_eq_true, pr_i]
          omega
        rw [if_neg hx16, e, tD_none]
  · have h1 : Ch i F F1 _ _ := h1
    have hall : ∀ y, cel F y = true → pr (Rg F) 0 y = true := fun y hy => pr_i.mpr (Or.inl (cel_i.mp hy).1)
    have h2 : Ch i F F1 (fun g x => if g = 9 ∧ cel F x = true then crS F (muS F st b x) else b g x) (fun g z => if z = 16 then cS F st b g (Rg F) else tD F st b (fun _ => true) g z) := h1.eqb (fun g x _ => by
      by_cases hcx : cel F x = true
      · simp only [hall x hcx, true_and]
      · rw [if_neg (fun q => hcx q.2.2), if_neg (fun q => hcx q.2)]) (fun g x _ _ => by
      by_cases hx16 : x = 16
      · rw [if_pos hx16, if_pos hx16, if_pos (by omega)]
      · rw [if_neg hx16, if_neg hx16]
        exact tD_all hall g x)
    refine ok_ob (c_settleAll hi hp hq h2 (fun g x _ hx hz => by rw [if_neg (by omega)]; exact tD_z hz)) (fun F2 h3 => ?_)
    have h3 : Ch i F F2 _ _ := h3
    refine ok_ob2 (c_cells hp (lo := lp_X1_goDown_160 i) (li := lp_X1_goDown_173 i) (fun g x => if g = 9 then (if cel F x = true then crS F (muS F st b x) else b 9 x) else if g = 8 ∧ x = 4 then b 8 4 else downS F st b g x) ?_ ?_ ?_ ?_ ?_ h3) (fun F3 _ h4 => ok_some h4)
    · intro g x hg
      by_cases hg9 : g = 9
      · subst hg9
        by_cases hcx : cel F x = true
        · rw [if_pos rfl, if_pos hcx, if_neg (by omega), if_neg (by omega), if_pos ⟨rfl, hcx⟩]
        · rw [if_pos rfl, if_neg hcx, if_neg (by omega), if_neg (by omega), if_neg (fun q => hcx q.2)]
      · rw [if_neg hg9]
        by_cases hg8 : g = 8
        · subst hg8
          by_cases hx4 : x < 4
          · unfold downS
            rw [if_neg (by omega), if_pos ⟨rfl, hx4⟩, if_pos ⟨rfl, hx4⟩, if_neg (by omega), if_pos rfl]
          · by_cases hx5 : x = 4
            · rw [if_pos ⟨rfl, hx5⟩, if_neg (by omega), if_neg (by omega), if_neg (by omega), hx5]
            · unfold downS addS
              rw [if_neg (by omega), if_neg (by omega), if_neg (by omega), if_neg (by omega), if_neg (by omega), if_neg (by omega), if_neg (by omega), if_neg (by omega), if_neg (by omega)]
        · unfold downS addS
          rw [if_neg (by omega), if_neg (by omega), if_neg (by omega), if_neg (by omega), if_neg (by omega), if_neg (by omega), if_neg (by omega), if_neg (by omega), if_neg (by omega)]
    · intro c l n F' b' hc hl h hb Q ih
      have hcc : cel F (4 * l + c) = true := (cel_c (by omega)).mpr ⟨hc, hl⟩
      have e9 : lb i 9 (4 * l + c) = (9, 0, 4 * i + c, l) := by
        unfold lb
        simp
        omega
      rw [lp_X1_goDown_173_s, h.o (by decide), hq.2.1, l1, oN_n (show c < 2147483648 by omega), oN_n (show l < 2147483648 by omega), hx_e (show c < 4 by omega), h.rb 1 (4 * l + c) rfl (Or.inl ⟨by omega, hcc, by omega⟩), h.rb 9 (4 * l + c) e9 (Or.inr (Or.inr ⟨rfl, by omega⟩))]
      refine ok_itn (nle hl (by omega)) (ok_og (oN_vp (by omega) (by omega)) (ok_og (oN_vp (by omega) (by omega)) (h.pb hi 1 (4 * l + c) rfl (Or.inl ⟨by omega, hcc, by omega⟩) (fun F4 h4 => ih F4 (h4.eqb (fun g x hv => ?_) (fun _ _ _ _ => rfl))))))
      by_cases hx : x = 4 * l + c
      · subst hx
        by_cases hg : g < 8
        · rw [if_pos ⟨rfl, hg⟩, if_neg (by omega), if_neg (by omega)]
          by_cases hg1 : g = 1
          · subst hg1
            rw [bu_eq, hb, hb]
            unfold downS addS
            simp [hcc]
          · rw [bu_ne hg1, hb]
            unfold downS
            rw [if_neg (by omega), if_pos hg, if_neg (by omega), if_neg (by omega), if_neg (by omega)]
            unfold addS
            simp [hcc, show ¬ g = 9 by omega, show ¬ 4 * l + c = 16 by omega]
        · rw [if_neg (fun q => hg q.2), bu_ne (by omega)]
      · rw [bu_nx hx, if_neg (fun q => hx q.1)]
    · intro c n F' b' hc h
      rw [lp_X1_goDown_173_s, h.o (by decide), hq.2.1, l1, if_pos (yle (Nat.le_refl _) (by omega))]
    · intro c n F' b' hc h
      rw [lp_X1_goDown_160_s, h.o (by decide), hq.1, r1, if_neg (nle hc (by omega))]
    · intro n F' b' h
      rw [lp_X1_goDown_160_s, h.o (by decide), hq.1, r1, if_pos (yle (Nat.le_refl _) (by omega))]
theorem c_tick (hi : i < 4) (hp : PB F) (hq : Par F) {st wm : Int32} (hw1 : WB F (pourS F b)) (hw2 : WB F (sideS F (takeS F wm (pourS F b)))) (h : Ch i F F' b (fun _ _ => 0)) : Ok (fn_X1_go F' i st wm) (fun r => ∃ k : Nat → Int32, Ch i F r (fun g x => if g = 9 then k x else tickS F st wm b g x) (fun _ _ => 0)) := by
  have hw3 : WB F (takeS F wm (pourS F b)) := fun x hx => by
    unfold takeS
    rw [if_neg (by omega), if_neg (by omega)]
    exact hw1 x hx
  unfold fn_X1_go
  refine ok_ob (c_pour hi hp hq h) (fun F1 h1 => ok_ob2 (c_take hi hp hq h1 wm) (fun F2 _ h2 => ok_ob (c_side hi hp hq hw3 h2) (fun F3 h3 => ok_ob (c_down hi hp hq hw2 h3 st) (fun F4 h4 => ?_))))
  have h4 : Ch i F F4 _ _ := h4
  rw [h4.rb 8 4 rfl (Or.inr (Or.inl ⟨rfl, by omega⟩))]
  refine h4.pb hi 8 4 rfl (Or.inr (Or.inl ⟨rfl, by omega⟩)) (fun F5 h5 => ok_some ⟨fun x => (if cel F x = true then crS F (muS F st (sideS F (takeS F wm (pourS F b))) x) else sideS F (takeS F wm (pourS F b)) 9 x), h5.eqb (fun g x hv => ?_) (fun _ _ _ _ => rfl)⟩)
  by_cases hg9 : g = 9
  · rw [bu_ne (by omega), if_pos hg9, if_pos hg9]
  · rw [if_neg hg9]
    by_cases h84 : g = 8 ∧ x = 4
    · obtain ⟨rfl, rfl⟩ := h84
      rw [bu_eq, if_neg (by omega), if_pos ⟨rfl, rfl⟩]
      unfold tickS downS
      rw [if_neg (by omega), if_pos ⟨rfl, rfl⟩]
    · unfold bu
      rw [if_neg h84]
      refine (if_neg hg9).trans ((if_neg h84).trans rfl)
end CH5
