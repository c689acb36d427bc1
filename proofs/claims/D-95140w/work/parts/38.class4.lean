/-! PURE: the class' goings to the sides -/
set_option maxRecDepth 100000
/-- how much water is in the cells -/
def WB (F : St) (b : Bt) : Prop := ∀ x, cel F x = true → 0 ≤ (b 0 x).toInt ∧ (b 0 x).toInt ≤ 400000
section CH4
variable {F F' : St} {b m : Bt} {ρ : Type} {Q : ρ → Prop} {i : Nat}
theorem neg1 (v : Int32) : (-1 : Int32) * v = - v := by grind
theorem one_m (v : Int32) : (1 : Int32) * v = v := by grind
/-- from cell (c, l) to its neighbour (d, l) -/
theorem c_flow (hi : i < 4) (hp : PB F) (hq : Par F) (hw : WB F b) (h : Ch i F F' b m) {c d l : Nat} (hc : c < Rg F) (hd : d < Rg F) (hl : l < Ly F) (hcd : c ≠ d) :
    Ok (og (vpb (oN d) 4) (og (vpb (oN l) 4) (og (vpb (oN c) 4) (if (F' 2 1 (4 * (4 * i + (oN c).toNatClampNeg) + (oN l).toNatClampNeg) 0) ≤ (F' 2 1 (4 * (4 * i + (oN d).toNatClampNeg) + (oN l).toNatClampNeg) 0) then some F' else pl ((((F' 2 1 (4 * (4 * i + (oN c).toNatClampNeg) + (oN l).toNatClampNeg) 0) - (F' 2 1 (4 * (4 * i + (oN d).toNatClampNeg) + (oN l).toNatClampNeg) 0)) * (F' 0 6 0 0)) / (100 : Int32)) (fun x42 => ob (fn_X2_note F' (4 * (4 * i + (oN d).toNatClampNeg) + (oN l).toNatClampNeg) (4 * (4 * i + (oN c).toNatClampNeg) + (oN l).toNatClampNeg) x42 (1 : Int32)) (fun F46 => ob (fn_X2_note F46 (4 * (4 * i + (oN c).toNatClampNeg) + (oN l).toNatClampNeg) (4 * (4 * i + (oN c).toNatClampNeg) + (oN l).toNatClampNeg) x42 (-1 : Int32)) (fun F48 => some F48)))))))
      (fun r => Ch i F r b (fun g z => m g z + (if z = 4 * l + c then - oS F b g (4 * l + c) (4 * l + d) else 0) + (if z = 4 * l + d then oS F b g (4 * l + c) (4 * l + d) else 0))) := by
  have r3 := hp.1.2.2
  have l3 := hp.2.1.2.2
  have hcc : cel F (4 * l + c) = true := (cel_c (by omega)).mpr ⟨hc, hl⟩
  have hcd2 : cel F (4 * l + d) = true := (cel_c (by omega)).mpr ⟨hd, hl⟩
  rw [oN_n (show c < 2147483648 by omega), oN_n (show l < 2147483648 by omega), oN_n (show d < 2147483648 by omega), hx_e (show c < 4 by omega), hx_e (show d < 4 by omega), h.o (k := 0) (by decide), hq.2.2.1, h.rb 0 (4 * l + c) rfl (Or.inl ⟨by omega, hcc, by omega⟩), h.rb 0 (4 * l + d) rfl (Or.inl ⟨by omega, hcd2, by omega⟩)]
  refine ok_og (oN_vp (by omega) (by omega)) (ok_og (oN_vp (by omega) (by omega)) (ok_og (oN_vp (by omega) (by omega)) ?_))
  by_cases hle : b 0 (4 * l + c) ≤ b 0 (4 * l + d)
  · refine ok_itp hle (ok_some (h.eqb (fun _ _ _ => rfl) (fun g x _ _ => ?_)))
    rw [oS_z (fun q => Int32.not_lt.mpr hle q.2.2)]
    simp
  · have hlt : b 0 (4 * l + d) < b 0 (4 * l + c) := Int32.not_le.mp hle
    have e1 := side_m (hw _ hcc) (hw _ hcd2) hp.2.2.1 hlt
    have e2 : 0 ≤ (((b 0 (4 * l + c) - b 0 (4 * l + d)) * F 30 8 0 0) / 100).toInt := by
      rw [e1]
      have h1 := lt_i.mp hlt
      exact Int.ediv_nonneg (Int.mul_nonneg (by omega) hp.2.2.1.1) (by omega)
    have hnz : b 0 (4 * l + c) ≠ 0 := fun q => by
      rw [q] at hlt
      have h1 := lt_i.mp hlt
      have h2 := (hw _ hcd2).1
      have h3 : (0 : Int32).toInt = 0 := rfl
      omega
    have hm : (((b 0 (4 * l + c) - b 0 (4 * l + d)) * F 30 8 0 0) / 100) = 0 ∨ (¬ (((b 0 (4 * l + c) - b 0 (4 * l + d)) * F 30 8 0 0) / 100) ≤ 0 ∧ b 0 (4 * l + c) ≠ 0) := by
      rcases zero_or e2 with q | q
      · exact Or.inl q
      · exact Or.inr ⟨q, hnz⟩
    refine ok_itn hle (ok_pl ?_)
    rw [← hy_c (i := i) (show 4 * l + d < 16 by omega)]
    refine ok_ob (c_note hi h (z := 4 * l + d) (by omega) hcc (by omega) hm) (fun F2 h2 => ?_)
    have h2 : Ch i F F2 b _ := h2
    have hn := c_note hi h2 (z := 4 * l + c) (by omega) hcc (by omega) (sg := -1) hm
    rw [hy_c (i := i) (show 4 * l + c < 16 by omega)] at hn
    refine ok_ob hn (fun F3 h3 => ok_some (h3.eqb (fun _ _ _ => rfl) (fun g x _ _ => ?_)))
    have e : oS F b g (4 * l + c) (4 * l + d) = e0 b g (4 * l + c) (((b 0 (4 * l + c) - b 0 (4 * l + d)) * F 30 8 0 0) / 100) := if_pos ⟨hcc, hcd2, hlt⟩
    rw [e, neg1, one_m]
    by_cases hx1 : x = 4 * l + c
    · have hx2 : ¬ x = 4 * l + d := by omega
      simp only [if_pos hx1, if_neg hx2, Int32.add_zero]
    · simp only [if_neg hx1, Int32.add_zero]
theorem c_side1 (hi : i < 4) (hp : PB F) (hq : Par F) (hw : WB F b) (h : Ch i F F' b m) {c l : Nat} (hc : c < Rg F) (hl : l < Ly F) : Ok (lp_X1_goSideways_30 i (oN c) (oN l) 300 F' (oN c - 1)) (fun r => Ch i F r.1 b (fun g z => m g z + (if z = 4 * l + c ∧ 0 < (4 * l + c) % 4 then - oS F b g (4 * l + c) (4 * l + c - 1) else 0) + (if z + 1 = 4 * l + c ∧ 0 < (4 * l + c) % 4 then oS F b g (4 * l + c) (4 * l + c - 1) else 0) + (if z = 4 * l + c ∧ (4 * l + c) % 4 < 3 then - oS F b g (4 * l + c) (4 * l + c + 1) else 0) + (if z = 4 * l + c + 1 ∧ (4 * l + c) % 4 < 3 then oS F b g (4 * l + c) (4 * l + c + 1) else 0))) := by
  obtain ⟨⟨r1, r2, r3⟩, ⟨l1, l2, l3⟩, -⟩ := id hp
  have hm4 : (4 * l + c) % 4 = c := by omega
  have hRm : oN (Rg F) - 1 = oN (Rg F - 1) := (Int32.ofNat_sub (Rg F) 1 (by omega)).symm
  show Ok (lp_X1_goSideways_30 i (oN c) (oN l) (299 + 1) F' (oN c - 1)) _
  rw [lp_X1_goSideways_30_s, h.o (k := 0) (p := 0) (by decide), hq.1, r1, hRm, show (0 : Int64) = (0 : Int32).toInt64 from rfl, isIn_e, ob_s]
  have hlt1 : ¬ (oN c + (1 : Int32) < oN c - 1) := by
    rw [oN_1 c]
    by_cases h0 : c = 0
    · subst h0; decide
    · rw [show oN c - 1 = oN (c - 1) from (Int32.ofNat_sub c 1 (by omega)).symm, oN_lt (by omega) (by omega)]
      omega
  refine ok_itn hlt1 (ok_ob (P := fun r => Ch i F r b (fun g z => m g z + (if z = 4 * l + c ∧ 0 < (4 * l + c) % 4 then - oS F b g (4 * l + c) (4 * l + c - 1) else 0) + (if z + 1 = 4 * l + c ∧ 0 < (4 * l + c) % 4 then oS F b g (4 * l + c) (4 * l + c - 1) else 0))) ?_ (fun F2 h2 => ?_))
  · by_cases h0 : c = 0
    · subst h0
      rw [if_neg (show ¬ ((0 : Int32) ≤ oN 0 - 1 ∧ oN 0 - 1 ≤ oN (Rg F - 1)) from fun q => absurd q.1 (by decide))]
      refine ok_itp rfl (ok_some (h.eqb (fun _ _ _ => rfl) (fun g x _ _ => ?_)))
      rw [if_neg (by omega), if_neg (by omega)]
      simp
    · rw [show oN c - 1 = oN (c - 1) from (Int32.ofNat_sub c 1 (by omega)).symm, if_pos (show (0 : Int32) ≤ oN (c - 1) ∧ oN (c - 1) ≤ oN (Rg F - 1) from ⟨yle (a := 0) (by omega) (by omega), yle (by omega) (by omega)⟩)]
      refine ok_itn (by decide) (ok_mono (c_flow hi hp hq hw h hc (d := c - 1) (by omega) hl (by omega)) (fun r hr => hr.eqb (fun _ _ _ => rfl) (fun g x _ _ => ?_)))
      rw [show 4 * l + (c - 1) = 4 * l + c - 1 by omega]
      have q1 : 0 < (4 * l + c) % 4 := by omega
      have q2 : (x = 4 * l + c - 1) ↔ (x + 1 = 4 * l + c) := by omega
      simp only [q1, and_true, q2]
  · have e2 : oN c - 1 + 2 = oN (c + 1) := by
      by_cases h0 : c = 0
      · subst h0; decide
      · rw [show oN c - 1 = oN (c - 1) from (Int32.ofNat_sub c 1 (by omega)).symm, show oN (c - 1) + 2 = oN (c - 1 + 2) from oN_add (c - 1) 2]
        congr 1
        omega
    rw [e2]
    show Ok (lp_X1_goSideways_30 i (oN c) (oN l) (298 + 1) F2 (oN (c + 1))) _
    rw [lp_X1_goSideways_30_s, h2.o (k := 0) (p := 0) (by decide), hq.1, r1, hRm, show (0 : Int64) = (0 : Int32).toInt64 from rfl, isIn_e, ob_s]
    refine ok_itn (by rw [oN_1 c, oN_lt (by omega) (by omega)]; omega) (ok_ob (P := fun r => Ch i F r b (fun g z => m g z + (if z = 4 * l + c ∧ 0 < (4 * l + c) % 4 then - oS F b g (4 * l + c) (4 * l + c - 1) else 0) + (if z + 1 = 4 * l + c ∧ 0 < (4 * l + c) % 4 then oS F b g (4 * l + c) (4 * l + c - 1) else 0) + (if z = 4 * l + c ∧ (4 * l + c) % 4 < 3 then - oS F b g (4 * l + c) (4 * l + c + 1) else 0) + (if z = 4 * l + c + 1 ∧ (4 * l + c) % 4 < 3 then oS F b g (4 * l + c) (4 * l + c + 1) else 0))) ?_ (fun F3 h3 => ?_))
    · by_cases h0 : c + 1 < Rg F
      · rw [if_pos (show (0 : Int32) ≤ oN (c + 1) ∧ oN (c + 1) ≤ oN (Rg F - 1) from ⟨yle (a := 0) (by omega) (by omega), yle (by omega) (by omega)⟩)]
        refine ok_itn (by decide) (ok_mono (c_flow hi hp hq hw h2 hc (d := c + 1) (by omega) hl (by omega)) (fun r hr => hr.eqb (fun _ _ _ => rfl) (fun g x _ _ => ?_)))
        rw [show 4 * l + (c + 1) = 4 * l + c + 1 by omega]
        have q1 : (4 * l + c) % 4 < 3 := by omega
        simp only [q1, and_true]
      · rw [if_neg (show ¬ ((0 : Int32) ≤ oN (c + 1) ∧ oN (c + 1) ≤ oN (Rg F - 1)) from fun q => nle (a := c + 1) (k := Rg F - 1) (by omega) (by omega) q.2)]
        refine ok_itp rfl (ok_some (h2.eqb (fun _ _ _ => rfl) (fun g x _ _ => ?_)))
        have hz : ∀ q, q = 4 * l + c + 1 → (4 * l + c) % 4 < 3 → ¬ cel F q = true := fun q e1 e3 e4 => by
          have := cel_i.mp e4
          omega
        by_cases q3 : (4 * l + c) % 4 < 3
        · rw [oS_z (y := 4 * l + c + 1) (fun q => hz _ rfl q3 q.2.1)]
          simp
        · rw [if_neg (show ¬ (x = 4 * l + c ∧ (4 * l + c) % 4 < 3) from fun q => q3 q.2), if_neg (show ¬ (x = 4 * l + c + 1 ∧ (4 * l + c) % 4 < 3) from fun q => q3 q.2)]
          simp only [Int32.add_zero]
    · rw [show oN (c + 1) + 2 = oN (c + 1 + 2) from oN_add (c + 1) 2]
      show Ok (lp_X1_goSideways_30 i (oN c) (oN l) (297 + 1) F3 (oN (c + 1 + 2))) _
      rw [lp_X1_goSideways_30_s]
      exact ok_itp (by rw [oN_1 c, oN_lt (by omega) (by omega)]; omega) (ok_some h3)
theorem tS_16 {S : Nat → Bool} {g : Nat} (hp : PB F) : tS F b S g 16 = 0 := by
  have hn : ¬ cel F 16 = true := fun q => by
    have := cel_lt hp q
    omega
  unfold tS
  rw [oS_z (x := 16) (fun q => hn q.1), oS_z (x := 16) (fun q => hn q.1), oS_z (y := 16) (fun q => hn q.2.1), oS_z (y := 16) (fun q => hn q.2.1)]
  simp
theorem c_side (hi : i < 4) (hp : PB F) (hq : Par F) (hw : WB F b) (h : Ch i F F' b (fun _ _ => 0)) : Ok (fn_X1_goSideways F' i) (fun r => Ch i F r (sideS F b) (fun _ _ => 0)) := by
  obtain ⟨⟨r1, r2, r3⟩, ⟨l1, l2, l3⟩, -⟩ := id hp
  unfold fn_X1_goSideways
  refine ok_ob2 (ok_nest (lo := lp_X1_goSideways_2 i) (li := lp_X1_goSideways_15 i) (Rg F) (Ly F) r3 l3 (fun c l F' => Ch i F F' b (tS F b (pr c l))) ?_ ?_ ?_ ?_ ?_ ?_) (fun F1 _ h1 => ?_)
  · intro c l n F' hc hl h Q ih
    rw [lp_X1_goSideways_15_s, h.o (by decide), hq.2.1, l1]
    refine ok_itn (nle hl (by omega)) (ok_pl (ok_ob2 (c_side1 hi hp hq hw h hc hl) (fun F2 _ h2 => ih F2 (h2.eqb (fun _ _ _ => rfl) (fun g x _ _ => ?_)))))
    rw [tS_add F b (pr_add (by omega)) (pr_no (by omega)) g x]
  · intro c n F' hc h
    rw [lp_X1_goSideways_15_s, h.o (by decide), hq.2.1, l1, if_pos (yle (Nat.le_refl _) (by omega))]
  · intro c n F' hc h
    rw [lp_X1_goSideways_2_s, h.o (by decide), hq.1, r1, if_neg (nle hc (by omega))]
  · intro n F' h
    rw [lp_X1_goSideways_2_s, h.o (by decide), hq.1, r1, if_pos (yle (Nat.le_refl _) (by omega))]
  · intro c F' hc h
    refine h.eqb (fun _ _ _ => rfl) (fun g x hg hx => ?_)
    have k : ∀ y z, oS F b g y z ≠ 0 → pr (c + 1) 0 y = pr c (Ly F) y := fun y z hne => by
      by_cases hcy : cel F y = true
      · have hcy := cel_i.mp hcy
        rw [Bool.eq_iff_iff, pr_i, pr_i]
        omega
      · exact absurd (oS_z (fun q => hcy q.1)) hne
    have k2 : ∀ (y z : Nat) (v : Int32) (p : Prop) [Decidable p], (oS F b g y z = 0 → v = 0) → (if pr c (Ly F) y = true ∧ p then v else 0) = (if pr (c + 1) 0 y = true ∧ p then v else 0) := by
      intro y z v p _ hv
      by_cases h0 : oS F b g y z = 0
      · rw [hv h0]; simp
      · rw [k y z h0]
    have k3 : ∀ (y z : Nat) (v : Int32) (p : Prop) [Decidable p], (oS F b g y z = 0 → v = 0) → (if p ∧ pr c (Ly F) y = true then v else 0) = (if p ∧ pr (c + 1) 0 y = true then v else 0) := by
      intro y z v p _ hv
      by_cases h0 : oS F b g y z = 0
      · rw [hv h0]; simp
      · rw [k y z h0]
    unfold tS
    rw [k2 x (x - 1) _ _ (fun q => by rw [q]; rfl), k2 x (x + 1) _ _ (fun q => by rw [q]; rfl), k3 (x + 1) x _ _ (fun q => q), k3 (x - 1) x _ _ (fun q => q)]
  · refine h.eqb (fun _ _ _ => rfl) (fun g x hg hx => ?_)
    have e : pr 0 0 = (fun _ : Nat => false) := by
      funext y
      rw [← Bool.not_eq_true, pr_i]
      omega
    rw [e, tS_none]
  · have h1 : Ch i F F1 b _ := h1
    have hall : ∀ y, cel F y = true → pr (Rg F) 0 y = true := fun y hy => pr_i.mpr (Or.inl (cel_i.mp hy).1)
    have h2 : Ch i F F1 b (mS F b) := h1.eqb (fun _ _ _ => rfl) (fun g x _ _ => tS_all hall g x)
    refine ok_ob (c_settleAll hi hp hq h2 (fun g x _ _ hz => mS_z hz)) (fun F2 h3 => ok_some (h3.eqb (fun g x hv => ?_) (fun _ _ _ _ => rfl)))
    have e16 : ∀ g, mS F b g 16 = 0 := fun g => tS_16 hp
    unfold sideS
    by_cases hg8 : g = 8 ∧ x < 4
    · rw [if_pos hg8, e16, Int32.add_zero, hg8.1]
      unfold addS
      simp
    · rw [if_neg hg8]
      by_cases hg : g < 8
      · rw [if_pos hg]
      · rw [if_neg hg]
        unfold addS
        rw [if_neg (by omega), if_neg (by omega)]
end CH4
