/-! PURE: the class' pours, takings, goings to the sides -/
set_option maxRecDepth 100000
/-- arithmetic without overflow -/
theorem bm32 {n : Int} (h1 : -2147483648 ≤ n) (h2 : n < 2147483648) : n.bmod (2 ^ 32) = n := Int.bmod_eq_of_le (by omega) (by omega)
theorem i_add {a b : Int32} (h1 : -2147483648 ≤ a.toInt + b.toInt) (h2 : a.toInt + b.toInt < 2147483648) : (a + b).toInt = a.toInt + b.toInt := by rw [Int32.toInt_add, bm32 h1 h2]
theorem i_sub {a b : Int32} (h1 : -2147483648 ≤ a.toInt - b.toInt) (h2 : a.toInt - b.toInt < 2147483648) : (a - b).toInt = a.toInt - b.toInt := by rw [Int32.toInt_sub, bm32 h1 h2]
theorem i_mul {a b : Int32} (h1 : -2147483648 ≤ a.toInt * b.toInt) (h2 : a.toInt * b.toInt < 2147483648) : (a * b).toInt = a.toInt * b.toInt := by rw [Int32.toInt_mul, bm32 h1 h2]
theorem i_div {a b : Int32} (hb : b ≠ -1) (ha : 0 ≤ a.toInt) : (a / b).toInt = a.toInt / b.toInt := by rw [Int32.toInt_div_of_ne_right a b hb, Int.tdiv_eq_ediv_of_nonneg ha]
theorem i_z {a : Int32} (h : a.toInt = 0) : a = 0 := Int32.toInt_inj.mp h
theorem le_i {a b : Int32} : a ≤ b ↔ a.toInt ≤ b.toInt := Int32.le_iff_toInt_le
theorem lt_i {a b : Int32} : a < b ↔ a.toInt < b.toInt := Int32.lt_iff_toInt_lt
/-- so much to a side -/
theorem side_m {x y s : Int32} (hx : 0 ≤ x.toInt ∧ x.toInt ≤ 400000) (hy : 0 ≤ y.toInt ∧ y.toInt ≤ 400000) (hs : 0 ≤ s.toInt ∧ s.toInt ≤ 20) (h : y < x) : (((x - y) * s) / 100).toInt = ((x.toInt - y.toInt) * s.toInt) / 100 := by
  have h1 := lt_i.mp h
  have e1 : (x - y).toInt = x.toInt - y.toInt := i_sub (by omega) (by omega)
  have p1 : 0 ≤ (x.toInt - y.toInt) * s.toInt := Int.mul_nonneg (by omega) hs.1
  have p2 : (x.toInt - y.toInt) * s.toInt ≤ 400000 * 20 := Int.mul_le_mul (by omega) hs.2 hs.1 (by omega)
  have e2 : ((x - y) * s).toInt = (x.toInt - y.toInt) * s.toInt := by rw [i_mul, e1] <;> rw [e1] <;> omega
  rw [i_div (by decide) (by rw [e2]; exact p1), e2]
  rfl
theorem zero_or {m : Int32} (h : 0 ≤ m.toInt) : m = 0 ∨ ¬ m ≤ 0 := by
  by_cases h1 : m.toInt = 0
  · exact Or.inl (i_z h1)
  · refine Or.inr (fun q => ?_)
    have h2 := le_i.mp q
    have h3 : (0 : Int32).toInt = 0 := rfl
    omega
theorem isIn_e (F : St) (a l h : Int32) : fn_X0_isIn F a.toInt64 l.toInt64 h.toInt64 = some (if l ≤ a ∧ a ≤ h then 1 else 0) := by
  unfold fn_X0_isIn lg_cmp
  by_cases h1 : a < l
  · have e1 : a.toInt64 < l.toInt64 := Int32.toInt64_lt.mpr h1
    have n1 : ¬ (a.toInt64 > l.toInt64) := fun q => by
      have h3 : l < a := Int32.toInt64_lt.mp q
      rw [lt_i] at h1 h3
      omega
    have n2 : ¬ (a.toInt64 = l.toInt64) := fun q => by rw [q] at e1; exact absurd e1 (Int64.lt_irrefl)
    rw [if_neg n1, if_neg n2, if_pos (by decide), if_neg (fun q => by rw [le_i] at q; rw [lt_i] at h1; omega)]
  · have g1 : ¬ ((if a.toInt64 > l.toInt64 then (1 : Int32) else if a.toInt64 = l.toInt64 then 0 else -1) < 0) := by
      by_cases h2 : a.toInt64 > l.toInt64
      · rw [if_pos h2]; decide
      · by_cases h3 : a.toInt64 = l.toInt64
        · rw [if_neg h2, if_pos h3]; decide
        · exfalso
          have h4 : ¬ l < a := fun q => h2 (Int32.toInt64_lt.mpr q)
          have h5 : ¬ a = l := fun q => h3 (by rw [q])
          rw [lt_i] at h1 h4
          exact h5 (Int32.toInt_inj.mp (by omega))
    rw [if_neg g1]
    by_cases h6 : h < a
    · have e1 : a.toInt64 > h.toInt64 := Int32.toInt64_lt.mpr h6
      rw [if_pos e1, if_pos (by decide), if_neg (fun q => by have := q.2; rw [le_i] at this; rw [lt_i] at h6; omega)]
    · have e1 : ¬ a.toInt64 > h.toInt64 := fun q => h6 (Int32.toInt64_lt.mp q)
      rw [if_neg e1, if_neg (by split <;> decide), if_pos ⟨by rw [le_i]; rw [lt_i] at h1; omega, by rw [le_i]; rw [lt_i] at h6; omega⟩]
theorem min100 (a : Int32) : (if a < 100 then a else 100) = (if a ≤ 100 then a else (100 : Int32)) := by
  by_cases h : a < 100
  · rw [if_pos h, if_pos (by rw [le_i]; rw [lt_i] at h; omega)]
  · rw [if_neg h]
    by_cases h2 : a ≤ 100
    · rw [if_pos h2]
      rw [lt_i] at h
      rw [le_i] at h2
      exact (Int32.toInt_inj.mp (by omega)).symm
    · rw [if_neg h2]
section CH3
variable {F F' : St} {b m : Bt} {ρ : Type} {Q : ρ → Prop} {i : Nat}
theorem c_pour (hi : i < 4) (hp : PB F) (hq : Par F) (h : Ch i F F' b m) : Ok (fn_X1_pourAll F' i) (fun r => Ch i F r (pourS F b) m) := by
  have hR := hp.1.2
  have hL := hp.2.1.2
  obtain ⟨n, hn, hn2, hn3⟩ := hp.2.2.2.1
  have hcn : (F 30 12 0 0).toNatClampNeg = n := by rw [hn2, oN_n (by omega)]
  unfold fn_X1_pourAll
  refine ok_ob2 (ok_lpF (lp := lp_X1_pourAll_2 i) (I := fun k F' => Ch i F F' (fun g x => if g = 0 ∧ x < 16 then pS F (b 8 4) k (b 0) x else b g x) m) (Q := fun r => Ch i F r.1 (pourS F b) m) n (by omega) ?_ ?_ ?_) (fun F1 _ h1 => ok_some h1)
  · intro q k F' hk h ih
    have hr := (hn3 k hk).1
    obtain ⟨p0, p1, p2⟩ := hq.2.2.2.2.2.2.2.2.2.2 k (by omega)
    have hrn : (F 35 0 0 k).toNatClampNeg < Rg F := by
      have := cn_i hr.1
      omega
    rw [lp_X1_pourAll_2_s, oN_n (show k < 2147483648 by omega), h.o (k := 0) (by decide), hq.2.2.2.2.1, hn2, h.o (k := 13) (j := 0) (by decide), h.o (k := 13) (j := 1) (by decide), h.o (k := 13) (j := 2) (by decide), p0, p1, p2, hx_e (show (F 35 0 0 k).toNatClampNeg < 4 by omega)]
    have hc : cel F (4 * 0 + (F 35 0 0 k).toNatClampNeg) = true := (cel_c (by omega)).mpr ⟨hrn, by omega⟩
    refine ok_itn (nle hk (by omega)) (ok_og (oN_vp (by omega) (by omega)) (ok_og (vpb_t hr.1 (by omega)) (ok_obi ?_)))
    rw [h.rb 8 4 rfl (Or.inr (Or.inl ⟨rfl, by omega⟩)), h.rb 0 (4 * 0 + (F 35 0 0 k).toNatClampNeg) rfl (Or.inl ⟨by omega, hc, by omega⟩)]
    refine h.pb hi 0 (4 * 0 + (F 35 0 0 k).toNatClampNeg) rfl (Or.inl ⟨by omega, hc, by omega⟩) (fun F'' h2 => ih F'' (h2.eqb (fun g x hx => ?_) (fun _ _ _ _ => rfl)))
    rw [show 4 * 0 + (F 35 0 0 k).toNatClampNeg = (F 35 0 0 k).toNatClampNeg by omega]
    unfold bu
    by_cases hg : g = 0
    · subst hg
      have hx16 : x < 16 := by
        unfold vb at hx
        omega
      by_cases he : x = (F 35 0 0 k).toNatClampNeg
      · subst he
        simp only [true_and, if_pos rfl, hx16, if_true, pS]
        simp
      · simp only [true_and, he, if_false, hx16, if_true, pS]
    · simp only [hg, false_and, if_false]
  · intro q F' h
    rw [lp_X1_pourAll_2_s, h.o (k := 0) (by decide), hq.2.2.2.2.1, hn2]
    exact ok_itp (yle (Nat.le_refl _) (by omega)) (ok_some (by unfold pourS; rw [hcn]; exact h))
  · exact h.eqb (fun g x hx => by
      by_cases hg : g = 0
      · subst hg
        have hx16 : x < 16 := by
          unfold vb at hx
          omega
        simp only [true_and, hx16, if_true, pS]
      · simp only [hg, false_and, if_false]) (fun _ _ _ _ => rfl)
theorem c_take1 (hi : i < 4) (hq : Par F) (h : Ch i F F' b m) {z : Nat} (hc : cel F z = true) (hz : z < 16) (wm : Int32) : Ok (fn_X1_take F' i (hx i z) wm) (fun r => Ch i F r (bu (bu (bu (bu (bu (bu b 2 z (b 2 z - byS F wm b 0 z)) 5 z (b 5 z + byS F wm b 0 z)) 3 z (b 3 z - byS F wm b 1 z)) 6 z (b 6 z + byS F wm b 1 z)) 4 z (b 4 z - byS F wm b 2 z)) 7 z (b 7 z + byS F wm b 2 z)) m) := by
  have hv : ∀ g, g < 8 → vb F g z := fun g hg => Or.inl ⟨hg, hc, hz⟩
  have ht := hq.2.2.2.2.2.2.1
  unfold fn_X1_take
  rw [min100, h.rb 0 z rfl (hv 0 (by omega)), h.rb 2 z rfl (hv 2 (by omega)), h.o (k := 24) (by decide), ht 0 (by omega)]
  refine ok_ple (y := byS F wm b 0 z) rfl (h.pb hi 2 z rfl (hv 2 (by omega)) (fun F1 h1 => ?_))
  rw [h1.rb 5 z rfl (hv 5 (by omega)), bu_ne (by decide)]
  refine h1.pb hi 5 z rfl (hv 5 (by omega)) (fun F2 h2 => ?_)
  rw [min100, h2.rb 0 z rfl (hv 0 (by omega)), h2.rb 3 z rfl (hv 3 (by omega)), h2.o (k := 24) (by decide), ht 1 (by omega)]
  simp only [bu_ne (show (0 : Nat) ≠ 5 by decide), bu_ne (show (0 : Nat) ≠ 2 by decide), bu_ne (show (3 : Nat) ≠ 5 by decide), bu_ne (show (3 : Nat) ≠ 2 by decide)]
  refine ok_ple (y := byS F wm b 1 z) rfl (h2.pb hi 3 z rfl (hv 3 (by omega)) (fun F3 h3 => ?_))
  rw [h3.rb 6 z rfl (hv 6 (by omega)), bu_ne (by decide), bu_ne (by decide), bu_ne (by decide)]
  refine h3.pb hi 6 z rfl (hv 6 (by omega)) (fun F4 h4 => ?_)
  rw [min100, h4.rb 0 z rfl (hv 0 (by omega)), h4.rb 4 z rfl (hv 4 (by omega)), h4.o (k := 24) (by decide), ht 2 (by omega)]
  simp only [bu_ne (show (0 : Nat) ≠ 5 by decide), bu_ne (show (0 : Nat) ≠ 2 by decide), bu_ne (show (0 : Nat) ≠ 3 by decide), bu_ne (show (0 : Nat) ≠ 6 by decide), bu_ne (show (4 : Nat) ≠ 5 by decide), bu_ne (show (4 : Nat) ≠ 2 by decide), bu_ne (show (4 : Nat) ≠ 3 by decide), bu_ne (show (4 : Nat) ≠ 6 by decide)]
  refine ok_ple (y := byS F wm b 2 z) rfl (h4.pb hi 4 z rfl (hv 4 (by omega)) (fun F5 h5 => ?_))
  rw [h5.rb 7 z rfl (hv 7 (by omega)), bu_ne (by decide), bu_ne (by decide), bu_ne (by decide), bu_ne (by decide), bu_ne (by decide)]
  exact h5.pb hi 7 z rfl (hv 7 (by omega)) (fun F6 h6 => ok_some h6)
/-- loops over the cells, each by itself -/
theorem c_cells (hp : PB F) {lo : Nat → St → Int32 → Option (St × Int32)} {li : Int32 → Nat → St → Int32 → Option (St × Int32)} (b2 : Bt) (hb2 : ∀ g x, 8 ≤ g → b2 g x = b g x)
    (hsi : ∀ c l n F' b', c < Rg F → l < Ly F → Ch i F F' b' m → (∀ g, b' g (4 * l + c) = b g (4 * l + c)) → ∀ {Q : St × Int32 → Prop}, (∀ F'', Ch i F F'' (fun g x => if x = 4 * l + c ∧ g < 8 then b2 g x else b' g x) m → Ok (li (oN c) n F'' (oN l + 1)) Q) → Ok (li (oN c) (n + 1) F' (oN l)) Q)
    (hei : ∀ c n F' b', c < Rg F → Ch i F F' b' m → li (oN c) (n + 1) F' (oN (Ly F)) = some (F', oN (Ly F)))
    (hso : ∀ c n F' b', c < Rg F → Ch i F F' b' m → lo (n + 1) F' (oN c) = ob2 (li (oN c) 300 F' 0) (fun F'' _ => lo n F'' (oN c + 1)))
    (heo : ∀ n F' b', Ch i F F' b' m → lo (n + 1) F' (oN (Rg F)) = some (F', oN (Rg F)))
    (h : Ch i F F' b m) : Ok (lo 300 F' 0) (fun r => Ch i F r.1 b2 m) := by
  have r3 := hp.1.2.2
  have l3 := hp.2.1.2.2
  refine ok_mono (ok_nest (lo := lo) (li := li) (Rg F) (Ly F) r3 l3 (fun c l F' => Ch i F F' (fun g x => if pr c l x = true ∧ g < 8 then b2 g x else b g x) m) ?_ ?_ ?_ ?_ ?_ ?_) (fun r h => h.eqb (fun g x hv => ?_) (fun _ _ _ _ => rfl))
  · intro c l n F' hc hl h Q ih
    refine hsi c l n F' _ hc hl h (fun g => if_neg (fun q => by rw [pr_no (by omega)] at q; cases q.1)) (fun F2 h2 => ih F2 (h2.eqb (fun g x hv => ?_) (fun _ _ _ _ => rfl)))
    by_cases hx : x = 4 * l + c
    · subst hx
      have e1 : pr c (l + 1) (4 * l + c) = true := pr_i.mpr (by omega)
      by_cases hg : g < 8
      · rw [if_pos ⟨rfl, hg⟩, if_pos ⟨e1, hg⟩]
      · rw [if_neg (fun q => hg q.2), if_neg (fun q => hg q.2), if_neg (fun q => hg q.2)]
    · have e1 : pr c (l + 1) x = pr c l x := by
        rw [pr_add (by omega)]
        have : (x == 4 * l + c) = false := by simpa using hx
        rw [this, Bool.or_false]
      rw [if_neg (fun q => hx q.1), e1]
  · intro c n F' hc h
    exact hei c n F' _ hc h
  · intro c n F' hc h
    exact hso c n F' _ hc h
  · intro n F' h
    exact heo n F' _ h
  · intro c F' hc h
    refine h.eqb (fun g x hv => ?_) (fun _ _ _ _ => rfl)
    rcases hv with ⟨hg, hcx, hx⟩ | hg
    · have hcx := cel_i.mp hcx
      have e1 : pr (c + 1) 0 x = pr c (Ly F) x := by
        rw [Bool.eq_iff_iff, pr_i, pr_i]
        omega
      rw [e1]
    · rw [if_neg (by omega), if_neg (by omega)]
  · refine h.eqb (fun g x hv => ?_) (fun _ _ _ _ => rfl)
    rw [if_neg (fun q => by have := pr_i.mp q.1; omega)]
  · rcases hv with ⟨hg, hcx, hx⟩ | hg
    · have hcx := cel_i.mp hcx
      rw [if_pos ⟨pr_i.mpr (by omega), hg⟩]
    · rw [if_neg (by omega), hb2 g x (by omega)]
theorem c_take (hi : i < 4) (hp : PB F) (hq : Par F) (h : Ch i F F' b m) (wm : Int32) : Ok (lp_X1_go_6 i wm 300 F' 0) (fun r => Ch i F r.1 (takeS F wm b) m) := by
  obtain ⟨⟨r1, r2, r3⟩, ⟨l1, l2, l3⟩, -⟩ := id hp
  refine c_cells hp (lo := lp_X1_go_6 i wm) (li := lp_X1_go_20 i wm) (takeS F wm b) (fun g x hg => by unfold takeS; rw [if_neg (by omega), if_neg (by omega)]) ?_ ?_ ?_ ?_ h
  · intro c l n F' b' hc hl h hb Q ih
    have hcc : cel F (4 * l + c) = true := (cel_c (by omega)).mpr ⟨hc, hl⟩
    rw [lp_X1_go_20_s, h.o (by decide), hq.2.1, l1, oN_n (show c < 2147483648 by omega), oN_n (show l < 2147483648 by omega), hx_e (show c < 4 by omega)]
    refine ok_itn (nle hl (by omega)) (ok_og (oN_vp (by omega) (by omega)) (ok_og (oN_vp (by omega) (by omega)) (ok_ob (c_take1 hi hq h hcc (by omega) wm) (fun F2 h2 => ih F2 (h2.eqb (fun g x hv => ?_) (fun _ _ _ _ => rfl))))))
    rw [take6 F wm b hcc b' hb (fun s => by unfold byS; rw [hb, hb]) g x]
    by_cases hx : x = 4 * l + c
    · subst hx
      rw [if_pos rfl]
      by_cases hg : g < 8
      · rw [if_pos ⟨rfl, hg⟩]
      · rw [if_neg (fun q => hg q.2), hb]
        unfold takeS
        rw [if_neg (by omega), if_neg (by omega)]
    · rw [if_neg hx, if_neg (fun q => hx q.1)]
  · intro c n F' b' hc h
    rw [lp_X1_go_20_s, h.o (by decide), hq.2.1, l1, if_pos (yle (Nat.le_refl _) (by omega))]
  · intro c n F' b' hc h
    rw [lp_X1_go_6_s, h.o (by decide), hq.1, r1, if_neg (nle hc (by omega))]
  · intro n F' b' h
    rw [lp_X1_go_6_s, h.o (by decide), hq.1, r1, if_pos (yle (Nat.le_refl _) (by omega))]
end CH3
