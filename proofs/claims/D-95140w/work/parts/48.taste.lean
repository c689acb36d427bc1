/-! PURE: a whole brew tasted, by both -/
set_option maxRecDepth 100000
def tvS (C : Nat → Int32) (o s u : Int32) : Int32 := if u ≤ C 4 then (if C 2 ≤ o then (if o ≤ C 3 then (if C 0 ≤ s then (if s ≤ C 1 then 0 else 4) else 3) else 2) else 1) else 5
def tstS (F : St) (st wm mu : Int32) (T : Nat) : Int32 := tvS (fun k => F 37 0 0 k) (outS F mu (runS F st wm mu T)) (strS (runS F st wm mu T)) (unS F mu (runS F st wm mu T))
def bsS (F : St) (b : Bt) : Nat → Nat
  | 0 => 0
  | c + 1 => if c = 0 then 0 else if lfS b (bsS F b c) (Ly F) ≤ lfS b c (Ly F) then bsS F b c else c
theorem bs_lt (F : St) (b : Bt) : ∀ c, bsS F b (c + 1) ≤ c
  | 0 => by simp [bsS]
  | c + 1 => by
    have h := bs_lt F b c
    show (if c + 1 = 0 then 0 else if lfS b (bsS F b (c + 1)) (Ly F) ≤ lfS b (c + 1) (Ly F) then bsS F b (c + 1) else c + 1) ≤ c + 1
    rw [if_neg (by omega)]
    split <;> omega
/-- bits -/
def orS (t : Nat → Int32) (S : Nat → Bool) : Nat → Int32
  | 0 => 0
  | n + 1 => orS t S n ||| (if S n = true then t n else 0)
theorem orS_c {t : Nat → Int32} {S S' : Nat → Bool} : ∀ {n : Nat}, (∀ x, x < n → (if S' x = true then t x else 0) = (if S x = true then t x else 0)) → orS t S' n = orS t S n
  | 0, _ => rfl
  | n + 1, h => by
    show orS t S' n ||| (if S' n = true then t n else 0) = orS t S n ||| (if S n = true then t n else 0)
    rw [orS_c (fun x hx => h x (by omega)), h n (by omega)]
theorem orS_add {t : Nat → Int32} {S S' : Nat → Bool} {x : Nat} (h : ∀ z, S' z = (S z || z == x)) (hx : S x = false) : ∀ {n : Nat}, x < n → orS t S' n = orS t S n ||| t x
  | 0, hn => absurd hn (by omega)
  | n + 1, hn => by
    show orS t S' n ||| (if S' n = true then t n else 0) = (orS t S n ||| (if S n = true then t n else 0)) ||| t x
    by_cases hxn : x = n
    · subst hxn
      have e1 : S' x = true := by rw [h]; simp
      rw [if_pos e1, hx, orS_c (S := S) (fun z hz => by
        have : (z == x) = false := by
          have : z ≠ x := by omega
          simpa using this
        rw [h, this, Bool.or_false])]
      simp
    · have e2 : S' n = S n := by
        have : (n == x) = false := by
          have : n ≠ x := fun q => hxn q.symm
          simpa using this
        rw [h, this, Bool.or_false]
      rw [orS_add h hx (n := n) (by omega), e2, Int32.or_assoc, Int32.or_assoc, Int32.or_comm (t x)]
def rbS (F : St) (st : Int32) (b : Bt) (x : Nat) : Int32 := if cel F x = true ∧ loS F st x (b 1 x) = 95 ∧ ¬ 95 ≤ loS F st x 0 then 1 <<< (oN x &&& 31) else 0
def rnS (F : St) (st : Int32) (b : Bt) : Int32 := orS (rbS F st b) (fun _ => true) 16
section TS
variable {F F' : St} {b m : Bt} {mu st wm : Int32} {t T i : Nat}
theorem chart_e (F1 : St) (C : Nat → Int32) (r5 r7 r11 : Int32) : (if r11 ≤ C 4 then if r5 < C 2 then if C 2 ≤ r5 then some (F1, (2 : Int32)) else some (F1, (1 : Int32)) else if r5 ≤ C 3 then if C 0 ≤ r7 then if r7 ≤ C 1 then some (F1, (0 : Int32)) else some (F1, (4 : Int32)) else some (F1, (3 : Int32)) else if C 2 ≤ r5 then some (F1, (2 : Int32)) else some (F1, (1 : Int32)) else some (F1, (5 : Int32))) = some (F1, tvS C r5 r7 r11) := by
  unfold tvS
  by_cases h1 : r11 ≤ C 4
  · rw [if_pos h1, if_pos h1]
    by_cases h2 : r5 < C 2
    · rw [if_pos h2, if_neg (Int32.not_le.mpr h2), if_neg (Int32.not_le.mpr h2)]
    · have h3 : C 2 ≤ r5 := Int32.not_lt.mp h2
      rw [if_neg h2, if_pos h3, if_pos h3]
      by_cases h4 : r5 ≤ C 3
      · rw [if_pos h4, if_pos h4]
        by_cases h5 : C 0 ≤ r7
        · rw [if_pos h5, if_pos h5]
          by_cases h6 : r7 ≤ C 1
          · rw [if_pos h6, if_pos h6]
          · rw [if_neg h6, if_neg h6]
        · rw [if_neg h5, if_neg h5]
      · rw [if_neg h4, if_neg h4]
  · rw [if_neg h1, if_neg h1]
/-- what a brew of the class needs -/
def Cbr (F : St) (mu st wm : Int32) (T : Nat) : Prop := PB F ∧ Par F ∧ (0 ≤ mu.toInt ∧ mu.toInt ≤ 20) ∧ (0 ≤ wm.toInt ∧ wm.toInt ≤ 100) ∧ (F 0 11 0 0 = oN T ∧ T ≤ 60) ∧ ∀ k, k < 5 → F 26 0 0 k = F 37 0 0 k
theorem c_run18 (h0 : Cbr F (F 0 10 0 0) (F 0 8 0 0) (F 0 9 0 0) T) (h : RB 3 F F' b) : Ok (fn_X5_run F') (fun r => RB 3 F r (runS F (F 0 8 0 0) (F 0 9 0 0) (F 0 10 0 0) T)) := by
  obtain ⟨hp, hq, hmu, hwm, ⟨hT, hT2⟩, -⟩ := h0
  unfold fn_X5_run fn_X5_much
  rw [ob_s, h.o (k := 0) (by decide)]
  exact ok_ob (h.begin (by omega) hp hq _) (fun F2 h2 => ok_ob (c_runlp hp hq hmu hwm hT hT2 (lp := lp_X5_run_14) (sp := fn_X5_step) (wp := fn_X5_warmth) (fun n F' => rfl) (fun F' hf => by unfold fn_X5_step; rw [hf 0 8 0 0 (by unfold bl; omega)]) (fun F' hf => by unfold fn_X5_warmth; rw [hf 0 9 0 0 (by unfold bl; omega)]) h2) (fun F3 h3 => ok_some h3))
theorem c_taste18 (h0 : Cbr F (F 0 10 0 0) (F 0 8 0 0) (F 0 9 0 0) T) (h : RB 3 F F' b) : Ok (fn_X5_taste F') (fun r => RB 3 F r.1 (runS F (F 0 8 0 0) (F 0 9 0 0) (F 0 10 0 0) T) ∧ r.2 = tstS F (F 0 8 0 0) (F 0 9 0 0) (F 0 10 0 0) T) := by
  have h00 := h0
  obtain ⟨hp, hq, hmu, hwm, -, hch⟩ := h0
  unfold fn_X5_taste
  refine ok_ob (c_run18 h00 h) (fun F2 h2 => ?_)
  unfold fn_X5_much
  rw [ob_s, h2.o (k := 0) (by decide), c_out hq h2, ob_s, c_strong h2, ob_s, ob_s, c_uneven hp hq h2, ob_s, h2.o (k := 26) (j := 0) (by decide), h2.o (k := 26) (j := 1) (by decide), h2.o (k := 26) (j := 2) (by decide), h2.o (k := 26) (j := 3) (by decide), h2.o (k := 26) (j := 4) (by decide), hch 0 (by omega), hch 1 (by omega), hch 2 (by omega), hch 3 (by omega), hch 4 (by omega)]
  exact ok_ofe (chart_e F2 (fun k => F 37 0 0 k) _ _ _) ⟨h2, rfl⟩
theorem fr_much {F' : St} (hf : Fr 3 F F') : fn_X6_much F' = some (F 0 10 0 0 + F 19 3 0 0) := by
  unfold fn_X6_much fn_X5_much_19
  rw [ob_s, hf 0 10 0 0 (by unfold bl; omega), hf 19 3 0 0 (by unfold bl; omega)]
theorem fr_step {F' : St} (hf : Fr 3 F F') : fn_X6_step F' = some (F 0 8 0 0 + F 19 1 0 0) := by
  unfold fn_X6_step fn_X5_step_19
  rw [ob_s, hf 0 8 0 0 (by unfold bl; omega), hf 19 1 0 0 (by unfold bl; omega)]
theorem fr_warm {F' : St} (hf : Fr 3 F F') : fn_X6_warmth F' = some (F 0 9 0 0 + F 19 2 0 0) := by
  unfold fn_X6_warmth fn_X5_warmth_19
  rw [ob_s, hf 0 9 0 0 (by unfold bl; omega), hf 19 2 0 0 (by unfold bl; omega)]
theorem c_taste19 (h0 : Cbr F (F 0 10 0 0 + F 19 3 0 0) (F 0 8 0 0 + F 19 1 0 0) (F 0 9 0 0 + F 19 2 0 0) T) (h : RB 3 F F' b) : Ok (fn_X5_taste_19 F') (fun r => RB 3 F r.1 (runS F (F 0 8 0 0 + F 19 1 0 0) (F 0 9 0 0 + F 19 2 0 0) (F 0 10 0 0 + F 19 3 0 0) T) ∧ r.2 = tstS F (F 0 8 0 0 + F 19 1 0 0) (F 0 9 0 0 + F 19 2 0 0) (F 0 10 0 0 + F 19 3 0 0) T) := by
  obtain ⟨hp, hq, hmu, hwm, ⟨hT, hT2⟩, hch⟩ := h0
  unfold fn_X5_taste_19 fn_X5_run_19
  rw [fr_much h.fr, ob_s]
  refine ok_ob (ok_ob (h.begin (by omega) hp hq _) (fun F2 h2 => ok_ob (c_runlp hp hq hmu hwm hT hT2 (lp := lp_X5_run_19_14) (sp := fn_X6_step) (wp := fn_X6_warmth) (fun n F' => rfl) (fun F' hf => fr_step hf) (fun F' hf => fr_warm hf) h2) (fun F3 h3 => ok_some h3))) (fun F2 h2 => ?_)
  have h2 : RB 3 F F2 _ := h2
  rw [fr_much h2.fr, ob_s, c_out hq h2, ob_s, c_strong h2, ob_s, ob_s, c_uneven hp hq h2, ob_s, h2.o (k := 26) (j := 0) (by decide), h2.o (k := 26) (j := 1) (by decide), h2.o (k := 26) (j := 2) (by decide), h2.o (k := 26) (j := 3) (by decide), h2.o (k := 26) (j := 4) (by decide), hch 0 (by omega), hch 1 (by omega), hch 2 (by omega), hch 3 (by omega), hch 4 (by omega)]
  exact ok_ofe (chart_e F2 (fun k => F 37 0 0 k) _ _ _) ⟨h2, rfl⟩
theorem fr_much20 {F' : St} (hf : Fr 3 F F') : fn_X7_much F' = some (F 20 3 0 0) := by
  unfold fn_X7_much
  rw [hf 20 3 0 0 (by unfold bl; omega)]
theorem fr_step20 {F' : St} (hf : Fr 3 F F') : fn_X7_step F' = some (F 20 1 0 0) := by
  unfold fn_X7_step
  rw [hf 20 1 0 0 (by unfold bl; omega)]
theorem fr_warm20 {F' : St} (hf : Fr 3 F F') : fn_X7_warmth F' = some (F 20 2 0 0) := by
  unfold fn_X7_warmth
  rw [hf 20 2 0 0 (by unfold bl; omega)]
theorem c_taste20 (h0 : Cbr F (F 20 3 0 0) (F 20 1 0 0) (F 20 2 0 0) T) (h : RB 3 F F' b) : Ok (fn_X5_taste_20 F') (fun r => RB 3 F r.1 (runS F (F 20 1 0 0) (F 20 2 0 0) (F 20 3 0 0) T) ∧ r.2 = tstS F (F 20 1 0 0) (F 20 2 0 0) (F 20 3 0 0) T) := by
  obtain ⟨hp, hq, hmu, hwm, ⟨hT, hT2⟩, hch⟩ := h0
  unfold fn_X5_taste_20 fn_X5_run_20
  rw [fr_much20 h.fr, ob_s]
  refine ok_ob (ok_ob (h.begin (by omega) hp hq _) (fun F2 h2 => ok_ob (c_runlp hp hq hmu hwm hT hT2 (lp := lp_X5_run_20_14) (sp := fn_X7_step) (wp := fn_X7_warmth) (fun n F' => rfl) (fun F' hf => fr_step20 hf) (fun F' hf => fr_warm20 hf) h2) (fun F3 h3 => ok_some h3))) (fun F2 h2 => ?_)
  have h2 : RB 3 F F2 _ := h2
  rw [fr_much20 h2.fr, ob_s, c_out hq h2, ob_s, c_strong h2, ob_s, ob_s, c_uneven hp hq h2, ob_s, h2.o (k := 26) (j := 0) (by decide), h2.o (k := 26) (j := 1) (by decide), h2.o (k := 26) (j := 2) (by decide), h2.o (k := 26) (j := 3) (by decide), h2.o (k := 26) (j := 4) (by decide), hch 0 (by omega), hch 1 (by omega), hch 2 (by omega), hch 3 (by omega), hch 4 (by omega)]
  exact ok_ofe (chart_e F2 (fun k => F 37 0 0 k) _ _ _) ⟨h2, rfl⟩
/-- which ring ran: the class -/
theorem c_ran (hp : PB F) (hq : Par F) (h : RB 3 F F' b) : Ok (lp_X0_ran_11 F' 300 0 1) (fun r => r.1 = oN (bsS F b (Rg F))) := by
  obtain ⟨⟨r1, r2, r3⟩, -⟩ := id hp
  refine ok_lpA (lp := lp_X0_ran_11 F') (I := fun c a => a = oN (bsS F b c)) 1 (Rg F) (by omega) (by omega) ?_ ?_ rfl
  · intro n c a hc hc1 ha ih
    subst ha
    have hb : bsS F b c ≤ c - 1 := by
      have := bs_lt F b (c - 1)
      rwa [show c - 1 + 1 = c by omega] at this
    rw [lp_X0_ran_11_s, h.o (k := 0) (by decide), hq.1, r1, c_leftIn hp hq h hc, ob_s, c_leftIn hp hq h (show bsS F b c < Rg F by omega), ob_s]
    refine ok_itn (nle hc (by omega)) (ok_obi (ih _ ?_))
    show _ = oN (if c = 0 then 0 else if lfS b (bsS F b c) (Ly F) ≤ lfS b c (Ly F) then bsS F b c else c)
    rw [if_neg (show ¬ c = 0 by omega)]
    split <;> rfl
  · intro n a ha
    rw [lp_X0_ran_11_s, h.o (k := 0) (by decide), hq.1, r1]
    exact ok_itp (yle (Nat.le_refl _) (by omega)) (ok_some ha)
theorem c_runs (hp : PB F) (hq : Par F) (h : RB 3 F F' b) : Ok (lp_X0_runs_11 F' 300 0 0) (fun r => r.1 = rnS F (F 0 8 0 0) b) := by
  obtain ⟨⟨r1, r2, r3⟩, ⟨l1, l2, l3⟩, -⟩ := id hp
  have hb : ∀ c l, c < Rg F → l < Ly F → ∀ p4, fn_X1_looseOf F' 3 (oN c) (oN l) (F 0 8 0 0) p4 = some (loS F (F 0 8 0 0) (4 * l + c) (if p4 = 0 then 0 else b 1 (4 * l + c))) := by
    intro c l hc hl p4
    obtain ⟨b', h1, h2⟩ := h
    rw [c_loose hp hq h1 hc hl, h2 1 (by decide)]
  refine ok_lpA (lp := lp_X0_runs_11 F') (I := fun c a => a = orS (rbS F (F 0 8 0 0) b) (pr c 0) 16) 0 (Rg F) (by omega) (by omega) ?_ ?_ ?_
  · intro n c a hc _ ha ih
    rw [lp_X0_runs_11_s, h.o (k := 0) (p := 0) (by decide), hq.1, r1]
    refine ok_itn (nle hc (by omega)) (ok_ob2 (ok_lpA (lp := lp_X0_runs_21 F' (oN c)) (I := fun l a => a = orS (rbS F (F 0 8 0 0) b) (pr c l) 16) (Q := fun r => r.1 = orS (rbS F (F 0 8 0 0) b) (pr c (Ly F)) 16) 0 (Ly F) (by omega) (by omega) ?_ ?_ ha) (fun y z hy => ih y ?_))
    · intro n l a hl _ ha ih
      rw [lp_X0_runs_21_s, h.o (k := 0) (p := 1) (by decide), hq.2.1, l1, h.o (k := 0) (p := 8) (by decide), hb c l hc hl, ob_s, hb c l hc hl, ob_s, if_neg (show ¬ ((1 : Int32) = 0) by decide), if_pos rfl]
      refine ok_itn (nle hl (by omega)) (ok_ob (P := fun y => y = if loS F (F 0 8 0 0) (4 * l + c) (b 1 (4 * l + c)) = 95 ∧ ¬ 95 ≤ loS F (F 0 8 0 0) (4 * l + c) 0 then 1 else 0) ?_ (fun y hy => ok_obi (ok_pl (ih _ ?_))))
      · by_cases h1 : loS F (F 0 8 0 0) (4 * l + c) (b 1 (4 * l + c)) = 95
        · rw [if_pos h1]
          by_cases h2 : 95 ≤ loS F (F 0 8 0 0) (4 * l + c) 0
          · exact ok_itp h2 (ok_some (by rw [if_neg (fun q => q.2 h2)]))
          · exact ok_itn h2 (ok_some (by rw [if_pos ⟨h1, h2⟩]))
        · rw [if_neg h1]
          exact ok_some (by rw [if_neg (fun q => h1 q.1)])
      · have hcc : cel F (4 * l + c) = true := (cel_c (by omega)).mpr ⟨hc, hl⟩
        rw [orS_add (pr_add (by omega)) (pr_no (by omega)) (by omega), ha]
        congr 1
        subst hy
        unfold rbS
        by_cases h1 : loS F (F 0 8 0 0) (4 * l + c) (b 1 (4 * l + c)) = 95 ∧ ¬ 95 ≤ loS F (F 0 8 0 0) (4 * l + c) 0
        · rw [if_pos h1, if_neg (by decide), if_pos ⟨hcc, h1⟩, show (4 : Int32) * oN l + oN c = oN (4 * l + c) from by
            rw [show (4 : Int32) * oN l = oN (4 * l) from (Int32.ofNat_mul 4 l).symm, oN_add]]
        · rw [if_neg h1, if_pos rfl, if_neg (fun q => h1 q.2)]
    · intro n a ha
      rw [lp_X0_runs_21_s, h.o (k := 0) (p := 1) (by decide), hq.2.1, l1]
      exact ok_itp (yle (Nat.le_refl _) (by omega)) (ok_some ha)
    · rw [show y = _ from hy]
      refine (orS_c (fun x hx => ?_)).symm
      by_cases hcx : cel F x = true
      · have hcx2 := cel_i.mp hcx
        have e1 : pr (c + 1) 0 x = pr c (Ly F) x := by
          rw [Bool.eq_iff_iff, pr_i, pr_i]
          omega
        rw [e1]
      · have e : rbS F (F 0 8 0 0) b x = 0 := if_neg (fun q => hcx q.1)
        rw [e]
        simp
  · intro n a ha
    rw [lp_X0_runs_11_s, h.o (k := 0) (p := 0) (by decide), hq.1, r1]
    refine ok_itp (yle (Nat.le_refl _) (by omega)) (ok_some ?_)
    show a = _
    rw [ha]
    refine orS_c (fun x hx => ?_)
    by_cases hcx : cel F x = true
    · have hcx2 := cel_i.mp hcx
      rw [if_pos (pr_i.mpr (by omega))]
      rfl
    · have e : rbS F (F 0 8 0 0) b x = 0 := if_neg (fun q => hcx q.1)
      rw [e]
      simp
  · have e : ∀ n, orS (rbS F (F 0 8 0 0) b) (pr 0 0) n = 0 := by
      intro n
      induction n with
      | zero => rfl
      | succ n ih =>
        show orS (rbS F (F 0 8 0 0) b) (pr 0 0) n ||| (if pr 0 0 n = true then _ else 0) = 0
        rw [ih, if_neg (fun q => by have := pr_i.mp q; omega)]
        rfl
    exact (e 16).symm
end TS
