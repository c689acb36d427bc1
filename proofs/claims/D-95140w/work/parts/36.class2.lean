/-! PURE: the class' goings -/
set_option maxRecDepth 100000
section CH2
variable {F F' : St} {b m : Bt} {ρ : Type} {Q : ρ → Prop} {i : Nat}
theorem hx_e {i c l : Nat} (hc : c < 4) : 4 * (4 * i + c) + l = hx i (4 * l + c) := by
  unfold hx
  omega
theorem hy_c {i x : Nat} (h : x < 16) : hy i x = hx i x := if_pos h
theorem hy_k {i : Nat} : hy i 16 = 64 + i := if_neg (by omega)
theorem cel_c {F : St} {c l : Nat} (hc : c < 4) : cel F (4 * l + c) = true ↔ c < Rg F ∧ l < Ly F := by
  rw [cel_i]
  omega
/-- a cell is settled -/
theorem c_settle (hi : i < 4) (h : Ch i F F' b m) {z : Nat} (hc : cel F z = true) (hz : z < 16) : Ok (fn_X2_settle F' (hx i z)) (fun r => Ch i F r (fun g x => if x = z ∧ g < 8 then addS F m b g x else b g x) (fun g x => if x = z then 0 else m g x)) := by
  have hv : ∀ g, g < 8 → vb F g z := fun g hg => Or.inl ⟨hg, hc, hz⟩
  have em : ∀ g, lm i (g + 1) z = (5, 0, hx i z, g) := fun g => by
    unfold lm
    rw [if_neg (by omega), hy_c hz]
    rfl
  have em0 : lm i 0 z = (2, 3, hx i z, 0) := by
    unfold lm
    rw [if_pos rfl, hy_c hz]
  unfold fn_X2_settle
  rw [h.rb 0 z rfl (hv 0 (by omega)), h.rm 0 z em0 (by omega) (by omega)]
  refine h.pb hi 0 z rfl (hv 0 (by omega)) (fun F1 h1 => h1.pm hi 0 z em0 (by omega) (by omega) (fun F2 h2 => ?_))
  rw [h2.rb 5 z rfl (hv 5 (by omega)), h2.rm 1 z (em 0) (by omega) (by omega)]
  refine h2.pb hi 5 z rfl (hv 5 (by omega)) (fun F3 h3 => h3.pm hi 1 z (em 0) (by omega) (by omega) (fun F4 h4 => ?_))
  rw [h4.rb 6 z rfl (hv 6 (by omega)), h4.rm 2 z (em 1) (by omega) (by omega)]
  refine h4.pb hi 6 z rfl (hv 6 (by omega)) (fun F5 h5 => h5.pm hi 2 z (em 1) (by omega) (by omega) (fun F6 h6 => ?_))
  rw [h6.rb 7 z rfl (hv 7 (by omega)), h6.rm 3 z (em 2) (by omega) (by omega)]
  refine h6.pb hi 7 z rfl (hv 7 (by omega)) (fun F7 h7 => h7.pm hi 3 z (em 2) (by omega) (by omega) (fun F8 h8 => ok_some (h8.eqb (fun g x hx => ?_) (fun g x hg hx => ?_))))
  · by_cases hxz : x = z
    · subst hxz
      unfold addS
      rcases (show g = 0 ∨ g = 5 ∨ g = 6 ∨ g = 7 ∨ (g ≠ 0 ∧ g ≠ 5 ∧ g ≠ 6 ∧ g ≠ 7) by omega) with q | q | q | q | q
      · subst q; simp [bu, hc]
      · subst q; simp [bu, hc]
      · subst q; simp [bu, hc]
      · subst q; simp [bu, hc]
      · rw [bu_ne q.2.2.2, bu_ne q.2.2.1, bu_ne q.2.1, bu_ne q.1]
        by_cases hg8 : g < 8
        · rw [if_pos ⟨rfl, hg8⟩, if_neg (by omega), if_neg (by omega)]
        · rw [if_neg (by omega)]
    · rw [bu_nx hxz, bu_nx hxz, bu_nx hxz, bu_nx hxz, if_neg (fun q => hxz q.1)]
  · by_cases hxz : x = z
    · subst hxz
      rcases (show g = 0 ∨ g = 1 ∨ g = 2 ∨ g = 3 by omega) with q | q | q | q <;> subst q <;> simp [bu]
    · rw [bu_nx hxz, bu_nx hxz, bu_nx hxz, bu_nx hxz, if_neg hxz]
theorem c_settleC (hi : i < 4) (h : Ch i F F' b m) : Ok (fn_X2_settle F' (64 + i)) (fun r => Ch i F r (fun g x => if g = 8 ∧ x < 4 then b 8 x + m x 16 else b g x) (fun g x => if x = 16 then 0 else m g x)) := by
  have hv : ∀ x, x < 5 → vb F 8 x := fun x hx => Or.inr (Or.inl ⟨rfl, hx⟩)
  unfold fn_X2_settle
  rw [h.rb 8 0 rfl (hv 0 (by omega)), h.rm 0 16 (show lm i 0 16 = (2, 3, 64 + i, 0) from rfl) (by omega) (by omega)]
  refine h.pb hi 8 0 rfl (hv 0 (by omega)) (fun F1 h1 => h1.pm hi 0 16 (show lm i 0 16 = (2, 3, 64 + i, 0) from rfl) (by omega) (by omega) (fun F2 h2 => ?_))
  rw [h2.rb 8 1 rfl (hv 1 (by omega)), h2.rm 1 16 (show lm i 1 16 = (5, 0, 64 + i, 0) from rfl) (by omega) (by omega)]
  refine h2.pb hi 8 1 rfl (hv 1 (by omega)) (fun F3 h3 => h3.pm hi 1 16 (show lm i 1 16 = (5, 0, 64 + i, 0) from rfl) (by omega) (by omega) (fun F4 h4 => ?_))
  rw [h4.rb 8 2 rfl (hv 2 (by omega)), h4.rm 2 16 (show lm i 2 16 = (5, 0, 64 + i, 1) from rfl) (by omega) (by omega)]
  refine h4.pb hi 8 2 rfl (hv 2 (by omega)) (fun F5 h5 => h5.pm hi 2 16 (show lm i 2 16 = (5, 0, 64 + i, 1) from rfl) (by omega) (by omega) (fun F6 h6 => ?_))
  rw [h6.rb 8 3 rfl (hv 3 (by omega)), h6.rm 3 16 (show lm i 3 16 = (5, 0, 64 + i, 2) from rfl) (by omega) (by omega)]
  refine h6.pb hi 8 3 rfl (hv 3 (by omega)) (fun F7 h7 => h7.pm hi 3 16 (show lm i 3 16 = (5, 0, 64 + i, 2) from rfl) (by omega) (by omega) (fun F8 h8 => ok_some (h8.eqb (fun g x hx => ?_) (fun g x hg hx => ?_))))
  · by_cases hg : g = 8
    · subst hg
      by_cases hx4 : x < 4
      · rcases (show x = 0 ∨ x = 1 ∨ x = 2 ∨ x = 3 by omega) with q | q | q | q <;> subst q <;> simp [bu]
      · rw [bu_nx (by omega), bu_nx (by omega), bu_nx (by omega), bu_nx (by omega), if_neg (by omega)]
    · rw [bu_ne hg, bu_ne hg, bu_ne hg, bu_ne hg, if_neg (fun q => hg q.1)]
  · by_cases hxz : x = 16
    · subst hxz
      rcases (show g = 0 ∨ g = 1 ∨ g = 2 ∨ g = 3 by omega) with q | q | q | q <;> subst q <;> simp [bu]
    · rw [bu_nx hxz, bu_nx hxz, bu_nx hxz, bu_nx hxz, if_neg hxz]
/-- the cells ahead of ring c, layer l -/
def pr (c l x : Nat) : Bool := decide (x % 4 < c) || (decide (x % 4 = c) && decide (x / 4 < l))
theorem pr_i {c l x : Nat} : pr c l x = true ↔ x % 4 < c ∨ (x % 4 = c ∧ x / 4 < l) := by simp [pr]
theorem pr_add {c l : Nat} (hc : c < 4) (z : Nat) : pr c (l + 1) z = (pr c l z || z == 4 * l + c) := by
  rw [Bool.eq_iff_iff, Bool.or_eq_true, pr_i, pr_i, beq_iff_eq]
  omega
theorem pr_no {c l : Nat} (hc : c < 4) : pr c l (4 * l + c) = false := by
  rw [← Bool.not_eq_true, pr_i]
  omega
/-- both loops over the cells: J at ring c, layer l -/
theorem ok_nest {lo : Nat → St → Int32 → Option (St × Int32)} {li : Int32 → Nat → St → Int32 → Option (St × Int32)} (R L : Nat) (hR : R ≤ 4) (hL : L ≤ 4) (J : Nat → Nat → St → Prop)
    (hsi : ∀ c l n F, c < R → l < L → J c l F → ∀ {Q : St × Int32 → Prop}, (∀ F', J c (l + 1) F' → Ok (li (oN c) n F' (oN l + 1)) Q) → Ok (li (oN c) (n + 1) F (oN l)) Q)
    (hei : ∀ c n F, c < R → J c L F → li (oN c) (n + 1) F (oN L) = some (F, oN L))
    (hso : ∀ c n F, c < R → J c 0 F → lo (n + 1) F (oN c) = ob2 (li (oN c) 300 F 0) (fun F' _ => lo n F' (oN c + 1)))
    (heo : ∀ n F, J R 0 F → lo (n + 1) F (oN R) = some (F, oN R))
    (hJ : ∀ c F, c < R → J c L F → J (c + 1) 0 F) {F : St} (h0 : J 0 0 F) : Ok (lo 300 F 0) (fun r => J R 0 r.1) := by
  refine ok_lpF (I := fun c F => J c 0 F) R (by omega) (fun n c F hc h ih => ?_) (fun n F h => ok_ofe (heo n F h) h) h0
  rw [hso c n F hc h]
  refine ok_ob2 (ok_lpF (lp := li (oN c)) (I := fun l F => J c l F) (Q := fun r => J c L r.1) L (by omega) (fun n l F hl h ih => hsi c l n F hc hl h ih) (fun n F h => ok_ofe (hei c n F hc h) h) h) (fun F' _ h2 => ih F' (hJ c F' hc h2))
theorem c_settleAll (hi : i < 4) (hp : PB F) (hq : Par F) (h : Ch i F F' b m) (hz : ∀ g x, g < 4 → x < 16 → ¬ cel F x = true → m g x = 0) : Ok (fn_X1_settleAll F' i) (fun r => Ch i F r (fun g x => if g = 8 ∧ x < 4 then b 8 x + m x 16 else if g < 8 then addS F m b g x else b g x) (fun _ _ => 0)) := by
  obtain ⟨⟨r1, r2, r3⟩, ⟨l1, l2, l3⟩, -⟩ := hp
  unfold fn_X1_settleAll
  refine ok_ob2 (ok_nest (lo := lp_X1_settleAll_2 i) (li := lp_X1_settleAll_15 i) (Rg F) (Ly F) r3 l3 (fun c l F' => Ch i F F' (fun g x => if pr c l x = true ∧ g < 8 then addS F m b g x else b g x) (fun g x => if pr c l x = true ∧ cel F x = true ∧ x < 16 then 0 else m g x)) ?_ ?_ ?_ ?_ ?_ ?_) (fun F1 _ h1 => ?_)
  · intro c l n F' hc hl h Q ih
    rw [lp_X1_settleAll_15_s, h.o (by decide), hq.2.1, l1, oN_n (show c < 2147483648 by omega), oN_n (show l < 2147483648 by omega), hx_e (show c < 4 by omega)]
    have hcc : cel F (4 * l + c) = true := (cel_c (by omega)).mpr ⟨hc, hl⟩
    refine ok_itn (nle hl (by omega)) (ok_og (oN_vp (by omega) (by omega)) (ok_og (oN_vp (by omega) (by omega)) (ok_ob (c_settle hi h hcc (by omega)) (fun F2 h2 => ih F2 (h2.eqb (fun g x hv => ?_) (fun g x hg hx => ?_))))))
    · by_cases hx : x = 4 * l + c
      · subst hx
        have e1 : pr c (l + 1) (4 * l + c) = true := pr_i.mpr (by omega)
        have e2 : pr c l (4 * l + c) = false := pr_no (by omega)
        by_cases hg : g < 8
        · rw [if_pos ⟨rfl, hg⟩, if_pos ⟨e1, hg⟩]
          unfold addS
          simp [e2, hcc]
        · rw [if_neg (fun q => hg q.2), if_neg (fun q => hg q.2), if_neg (fun q => hg q.2)]
      · have e1 : pr c (l + 1) x = pr c l x := by
          rw [pr_add (by omega)]
          have : (x == 4 * l + c) = false := by simpa using hx
          rw [this, Bool.or_false]
        rw [if_neg (fun q => hx q.1), e1]
    · by_cases hx2 : x = 4 * l + c
      · subst hx2
        have e1 : pr c (l + 1) (4 * l + c) = true := pr_i.mpr (by omega)
        rw [if_pos rfl, if_pos ⟨e1, hcc, by omega⟩]
      · have e1 : pr c (l + 1) x = pr c l x := by
          rw [pr_add (by omega)]
          have : (x == 4 * l + c) = false := by simpa using hx2
          rw [this, Bool.or_false]
        rw [if_neg hx2, e1]
  · intro c n F' hc h
    rw [lp_X1_settleAll_15_s, h.o (by decide), hq.2.1, l1, if_pos (yle (Nat.le_refl _) (by omega))]
  · intro c n F' hc h
    rw [lp_X1_settleAll_2_s, h.o (by decide), hq.1, r1, if_neg (nle hc (by omega))]
  · intro n F' h
    rw [lp_X1_settleAll_2_s, h.o (by decide), hq.1, r1, if_pos (yle (Nat.le_refl _) (by omega))]
  · intro c F' hc h
    refine h.eqb (fun g x hv => ?_) (fun g x hg hx => ?_)
    · rcases hv with ⟨hg, hcx, hx⟩ | hg
      · have hcx := cel_i.mp hcx
        have e1 : pr (c + 1) 0 x = pr c (Ly F) x := by
          rw [Bool.eq_iff_iff, pr_i, pr_i]
          omega
        rw [e1]
      · rw [if_neg (by omega), if_neg (by omega)]
    · by_cases hcx : cel F x = true
      · have hcx2 := cel_i.mp hcx
        have e1 : pr (c + 1) 0 x = pr c (Ly F) x := by
          rw [Bool.eq_iff_iff, pr_i, pr_i]
          omega
        rw [e1]
      · rw [if_neg (fun q => hcx q.2.1), if_neg (fun q => hcx q.2.1)]
  · refine h.eqb (fun g x hv => ?_) (fun g x hg hx => ?_)
    · rw [if_neg (fun q => by have := pr_i.mp q.1; omega)]
    · rw [if_neg (fun q => by have := pr_i.mp q.1; omega)]
  · have h1 : Ch i F F1 _ _ := h1
    refine ok_ob (c_settleC hi h1) (fun F2 h2 => ok_some (h2.eqb (fun g x hv => ?_) (fun g x hg hx => ?_)))
    · rcases hv with ⟨hg, hcx, hx⟩ | ⟨hg, hx⟩ | ⟨hg, hx⟩
      · have hcx := cel_i.mp hcx
        rw [if_neg (by omega), if_pos ⟨pr_i.mpr (by omega), hg⟩, if_neg (by omega), if_pos hg]
      · subst hg
        by_cases hx4 : x < 4
        · rw [if_pos ⟨rfl, hx4⟩, if_neg (by omega), if_neg (by omega), if_pos ⟨rfl, hx4⟩]
        · rw [if_neg (by omega), if_neg (by omega), if_neg (by omega), if_neg (by omega)]
      · rw [if_neg (by omega), if_neg (by omega), if_neg (by omega), if_neg (by omega)]
    · by_cases hx16 : x = 16
      · rw [if_pos hx16]
      · rw [if_neg hx16]
        by_cases hcx : cel F x = true
        · have hcx2 := cel_i.mp hcx
          rw [if_pos ⟨pr_i.mpr (by omega), hcx, by omega⟩]
        · rw [if_neg (fun q => hcx q.2.1)]
          exact hz g x hg (by omega) hcx
end CH2
