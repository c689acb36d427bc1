/-! PURE: what is told of a bed: strong, out, left, uneven -/
set_option maxRecDepth 100000
theorem ok_lpA {α ρ : Type} {lp : Nat → α → Int32 → Option ρ} {Q : ρ → Prop} (I : Nat → α → Prop) (k0 B : Nat) (hB : B < 300) (hk : k0 ≤ B) (hs : ∀ n k a, k < B → k0 ≤ k → I k a → (∀ a', I (k + 1) a' → Ok (lp n a' (oN k + 1)) Q) → Ok (lp (n + 1) a (oN k)) Q) (he : ∀ n a, I B a → Ok (lp (n + 1) a (oN B)) Q) {a : α} (h0 : I k0 a) : Ok (lp 300 a (oN k0)) Q :=
  ok_lpG (lp := fun n (s : α × Int32) => lp n s.1 s.2) (fun k s => s.2 = oN k ∧ k0 ≤ k ∧ I k s.1) B
    (fun n k s hk hI ih => by
      obtain ⟨F, x⟩ := s
      obtain ⟨hx, hk0, hI⟩ := hI
      have hx : x = oN k := hx
      subst hx
      exact hs n k F hk hk0 hI (fun F' h => ih (F', oN k + 1) ⟨oN_1 k, by omega, h⟩))
    (fun n s hI => by
      obtain ⟨F, x⟩ := s
      obtain ⟨hx, hk0, hI⟩ := hI
      have hx : x = oN B := hx
      subst hx
      exact he n F hI) (B - k0) 300 k0 (a, oN k0) (by omega) (by omega) ⟨rfl, Nat.le_refl _, h0⟩
def inS (b : Bt) : Int32 := (b 8 1 + b 8 2) + b 8 3
def strS (b : Bt) : Int32 := if b 8 0 + inS b = 0 then 0 else (1000 * inS b) / (b 8 0 + inS b)
def outS (F : St) (mu : Int32) (b : Bt) : Int32 := if sumS F mu * F 30 1 0 0 * F 30 0 0 0 = 0 then 0 else (1000 * inS b) / (sumS F mu * F 30 1 0 0 * F 30 0 0 0)
def lfS (b : Bt) (c : Nat) : Nat → Int32
  | 0 => 0
  | n + 1 => lfS b c n + ((b 2 (4 * n + c) + b 3 (4 * n + c)) + b 4 (4 * n + c))
def byU (F : St) (mu : Int32) (b : Bt) (c : Nat) : Int32 := if sumS F mu * F 30 1 0 0 = 0 then 0 else (1000 * (sumS F mu * F 30 1 0 0 - lfS b c (Ly F))) / (sumS F mu * F 30 1 0 0)
def lsS (F : St) (mu : Int32) (b : Bt) : Nat → Int32
  | 0 => 1000
  | c + 1 => if byU F mu b c < lsS F mu b c then byU F mu b c else lsS F mu b c
def msS (F : St) (mu : Int32) (b : Bt) : Nat → Int32
  | 0 => 0
  | c + 1 => if msS F mu b c < byU F mu b c then byU F mu b c else msS F mu b c
def unS (F : St) (mu : Int32) (b : Bt) : Int32 := msS F mu b (Rg F) - lsS F mu b (Rg F)
/-- a thousandth part, by ints and by longs -/
theorem div_th {a d : Int32} (ha : 0 ≤ a.toInt ∧ a.toInt ≤ 2000000) (hd : 0 < d.toInt) : (1000 * a) / d = (((1000 : Int64) * a.toInt64) / d.toInt64).toInt32 ∧ ((1000 * a) / d).toInt = (1000 * a.toInt) / d.toInt := by
  have k : (1000 : Int32).toInt = 1000 := rfl
  have k2 : (1000 : Int64).toInt = 1000 := rfl
  have e1 : (1000 * a).toInt = 1000 * a.toInt := by
    have := i_mul (a := 1000) (b := a) (by rw [k]; omega) (by rw [k]; omega)
    rw [this, k]
  have hne : d ≠ -1 := fun q => by
    rw [q] at hd
    exact absurd hd (by decide)
  have hne2 : d.toInt64 ≠ -1 := Int32.toInt64_ne_neg_one d hne
  have e2 : ((1000 * a) / d).toInt = (1000 * a.toInt) / d.toInt := by rw [i_div hne (by rw [e1]; omega), e1]
  have e3 : ((1000 : Int64) * a.toInt64).toInt = 1000 * a.toInt := by
    have := j_mul (a := 1000) (b := a.toInt64) (by rw [k2, Int32.toInt_toInt64]; omega) (by rw [k2, Int32.toInt_toInt64]; omega)
    rw [this, k2, Int32.toInt_toInt64]
  have e4 : (((1000 : Int64) * a.toInt64) / d.toInt64).toInt = (1000 * a.toInt) / d.toInt := by rw [j_div hne2 (by rw [e3]; omega), e3, Int32.toInt_toInt64]
  have q1 : 0 ≤ (1000 * a.toInt) / d.toInt := Int.ediv_nonneg (by omega) (by omega)
  have q2 : (1000 * a.toInt) / d.toInt ≤ 1000 * a.toInt := Int.ediv_le_self _ (by omega)
  refine ⟨Int32.toInt_inj.mp ?_, e2⟩
  rw [e2, j_32 (by rw [e4]; omega) (by rw [e4]; omega), e4]
section TL
variable {F F' : St} {b m : Bt} {mu : Int32} {t i : Nat}
theorem in_b (h : Inv F mu t b) : (inS b).toInt = (b 8 1).toInt + (b 8 2).toInt + (b 8 3).toInt ∧ 0 ≤ (inS b).toInt ∧ (inS b).toInt ≤ 95040 := by
  have k : ∀ s, s < 3 → 0 ≤ (b 8 (1 + s)).toInt ∧ (b 8 (1 + s)).toInt ≤ 31680 := fun s hs => by
    have h1 := h.1.2.2.2 s hs
    have h2 := sm_nn (f := fun x => (b (2 + s) x).toInt + (b (5 + s) x).toInt) (n := 16) (fun x hx => by
      have := (h.1.2.1 x hx).2 s hs
      show 0 ≤ (b (2 + s) x).toInt + (b (5 + s) x).toInt
      omega)
    omega
  have k0 := k 0 (by omega)
  have k1 := k 1 (by omega)
  have k2 := k 2 (by omega)
  simp only [Nat.add_zero, Nat.reduceAdd] at k0 k1 k2
  have e1 : (b 8 1 + b 8 2).toInt = (b 8 1).toInt + (b 8 2).toInt := i_add (by omega) (by omega)
  have e2 : (inS b).toInt = (b 8 1 + b 8 2).toInt + (b 8 3).toInt := i_add (by omega) (by omega)
  rw [e2, e1]
  omega
theorem cup_b (h : Inv F mu t b) : 0 ≤ (b 8 0).toInt ∧ (b 8 0).toInt ≤ 360000 := by
  have h1 := h.1.2.2.1
  have h2 := sm_nn (f := fun x => (b 0 x).toInt) (n := 16) (fun x hx => (h.1.2.1 x hx).1)
  have h3 := h.2.1.2
  omega
/-- all that was there -/
theorem all_b (hp : PB F) (hmu : 0 ≤ mu.toInt ∧ mu.toInt ≤ 20) : (sumS F mu * F 30 1 0 0).toInt = ((F 31 0 0 0).toInt + (F 31 0 0 1).toInt + (F 31 0 0 2).toInt) * mu.toInt * Ly F ∧ 0 ≤ (sumS F mu * F 30 1 0 0).toInt ∧ (sumS F mu * F 30 1 0 0).toInt ≤ 23760 ∧ 0 ≤ (sumS F mu * F 30 1 0 0 * F 30 0 0 0).toInt := by
  obtain ⟨⟨r1, r2, r3⟩, ⟨l1, l2, l3⟩, -, -, hg31, -⟩ := id hp
  have g0 := hg31 0 (by omega)
  have g1 := hg31 1 (by omega)
  have g2 := hg31 2 (by omega)
  have e1 : (F 31 0 0 0 + F 31 0 0 1).toInt = (F 31 0 0 0).toInt + (F 31 0 0 1).toInt := i_add (by omega) (by omega)
  have e2 : (F 31 0 0 0 + F 31 0 0 1 + F 31 0 0 2).toInt = (F 31 0 0 0).toInt + (F 31 0 0 1).toInt + (F 31 0 0 2).toInt := by rw [i_add (by omega) (by omega), e1]
  have p1 : 0 ≤ ((F 31 0 0 0).toInt + (F 31 0 0 1).toInt + (F 31 0 0 2).toInt) * mu.toInt := Int.mul_nonneg (by omega) hmu.1
  have p2 : ((F 31 0 0 0).toInt + (F 31 0 0 1).toInt + (F 31 0 0 2).toInt) * mu.toInt ≤ 297 * 20 := Int.mul_le_mul (by omega) hmu.2 hmu.1 (by omega)
  have e3 : (sumS F mu).toInt = ((F 31 0 0 0).toInt + (F 31 0 0 1).toInt + (F 31 0 0 2).toInt) * mu.toInt := by
    unfold sumS
    rw [i_mul] <;> rw [e2] <;> omega
  have p3 : 0 ≤ ((F 31 0 0 0).toInt + (F 31 0 0 1).toInt + (F 31 0 0 2).toInt) * mu.toInt * Ly F := Int.mul_nonneg p1 (by omega)
  have p4 : ((F 31 0 0 0).toInt + (F 31 0 0 1).toInt + (F 31 0 0 2).toInt) * mu.toInt * Ly F ≤ 297 * 20 * 4 := Int.mul_le_mul p2 (by omega) (by omega) (by omega)
  have e4 : (sumS F mu * F 30 1 0 0).toInt = ((F 31 0 0 0).toInt + (F 31 0 0 1).toInt + (F 31 0 0 2).toInt) * mu.toInt * Ly F := by
    rw [l1, i_mul] <;> rw [e3, oN_i (by omega)] <;> omega
  have p5 : 0 ≤ ((F 31 0 0 0).toInt + (F 31 0 0 1).toInt + (F 31 0 0 2).toInt) * mu.toInt * Ly F * Rg F := Int.mul_nonneg p3 (by omega)
  have p6 : ((F 31 0 0 0).toInt + (F 31 0 0 1).toInt + (F 31 0 0 2).toInt) * mu.toInt * Ly F * Rg F ≤ 297 * 20 * 4 * 4 := Int.mul_le_mul p4 (by omega) (by omega) (by omega)
  have e5 : (sumS F mu * F 30 1 0 0 * F 30 0 0 0).toInt = ((F 31 0 0 0).toInt + (F 31 0 0 1).toInt + (F 31 0 0 2).toInt) * mu.toInt * Ly F * Rg F := by
    rw [r1, i_mul] <;> rw [e4, oN_i (by omega)] <;> omega
  exact ⟨e4, by rw [e4]; exact p3, by rw [e4]; omega, by rw [e5]; exact p5⟩
theorem lf_b (hp : PB F) (h : Inv F mu t b) {c : Nat} (hc : c < 4) : ∀ n, n ≤ 4 → 0 ≤ (lfS b c n).toInt ∧ (lfS b c n).toInt ≤ ((F 31 0 0 0).toInt + (F 31 0 0 1).toInt + (F 31 0 0 2).toInt) * mu.toInt * n ∧ (lfS b c n).toInt ≤ 31680 * 3 * n := by
  intro n
  induction n with
  | zero => exact fun _ => ⟨Int.le_refl _, by simp; exact Int.le_refl _, Int.le_refl _⟩
  | succ n ih =>
    intro hn
    obtain ⟨i1, i2, i3⟩ := ih (by omega)
    have hx : 4 * n + c < 16 := by omega
    have k0 := (h.1.2.1 _ hx).2 0 (by omega)
    have k1 := (h.1.2.1 _ hx).2 1 (by omega)
    have k2 := (h.1.2.1 _ hx).2 2 (by omega)
    have t0 := h.1.s hx (s := 0) (by omega)
    have t1 := h.1.s hx (s := 1) (by omega)
    have t2 := h.1.s hx (s := 2) (by omega)
    simp only [Nat.add_zero, Nat.reduceAdd] at k0 k1 k2 t0 t1 t2
    have e1 : (b 2 (4 * n + c) + b 3 (4 * n + c)).toInt = (b 2 (4 * n + c)).toInt + (b 3 (4 * n + c)).toInt := i_add (by omega) (by omega)
    have e2 : (b 2 (4 * n + c) + b 3 (4 * n + c) + b 4 (4 * n + c)).toInt = (b 2 (4 * n + c)).toInt + (b 3 (4 * n + c)).toInt + (b 4 (4 * n + c)).toInt := by rw [i_add (by omega) (by omega), e1]
    have e3 : (lfS b c (n + 1)).toInt = (lfS b c n).toInt + ((b 2 (4 * n + c)).toInt + (b 3 (4 * n + c)).toInt + (b 4 (4 * n + c)).toInt) := by
      show (lfS b c n + (b 2 (4 * n + c) + b 3 (4 * n + c) + b 4 (4 * n + c))).toInt = _
      rw [i_add (by omega) (by omega), e2]
    rw [e3]
    refine ⟨by omega, ?_, by omega⟩
    rw [show (((n + 1 : Nat) : Int)) = (n : Int) + 1 by omega, Int.mul_add, Int.mul_one]
    have e4 : ((F 31 0 0 0).toInt + (F 31 0 0 1).toInt + (F 31 0 0 2).toInt) * mu.toInt = (F 31 0 0 0).toInt * mu.toInt + (F 31 0 0 1).toInt * mu.toInt + (F 31 0 0 2).toInt * mu.toInt := by rw [Int.add_mul, Int.add_mul]
    omega
theorem lf_4 (hp : PB F) (h : Inv F mu t b) {c : Nat} (hc : c < 4) : lfS b c 4 = lfS b c (Ly F) := by
  have hL := hp.2.1.2
  have hz : ∀ n, n < 4 → Ly F ≤ n → lfS b c (n + 1) = lfS b c n := fun n hn hl => by
    show lfS b c n + ((b 2 (4 * n + c) + b 3 (4 * n + c)) + b 4 (4 * n + c)) = _
    have hcn : ¬ cel F (4 * n + c) = true := fun q => by
      have := cel_i.mp q
      omega
    rw [h.1.1 _ (by omega) hcn 2 (by omega), h.1.1 _ (by omega) hcn 3 (by omega), h.1.1 _ (by omega) hcn 4 (by omega)]
    exact Int32.add_zero _
  rcases (show Ly F = 1 ∨ Ly F = 2 ∨ Ly F = 3 ∨ Ly F = 4 by omega) with q | q | q | q
  · rw [q, hz 3 (by omega) (by omega), hz 2 (by omega) (by omega), hz 1 (by omega) (by omega)]
  · rw [q, hz 3 (by omega) (by omega), hz 2 (by omega) (by omega)]
  · rw [q, hz 3 (by omega) (by omega)]
  · rw [q]
theorem by_b (hp : PB F) (hmu : 0 ≤ mu.toInt ∧ mu.toInt ≤ 20) (h : Inv F mu t b) {c : Nat} (hc : c < 4) : (0 ≤ (byU F mu b c).toInt ∧ (byU F mu b c).toInt ≤ 1000) ∧ (¬ sumS F mu * F 30 1 0 0 = 0 → byU F mu b c = (((1000 : Int64) * (sumS F mu * F 30 1 0 0 - lfS b c (Ly F)).toInt64) / (sumS F mu * F 30 1 0 0).toInt64).toInt32) := by
  have hL := hp.2.1.2
  obtain ⟨a1, a2, a3, a4⟩ := all_b hp hmu
  obtain ⟨l1, l2, l3⟩ := lf_b hp h hc (Ly F) (by omega)
  rw [← a1] at l2
  have e00 : (0 : Int32).toInt = 0 := rfl
  unfold byU
  by_cases h0 : sumS F mu * F 30 1 0 0 = 0
  · rw [if_pos h0, e00]
    exact ⟨by omega, fun q => absurd h0 q⟩
  · have hpos : 0 < (sumS F mu * F 30 1 0 0).toInt := by
      rcases Int.lt_or_eq_of_le a2 with q | q
      · exact q
      · exact absurd (i_z q.symm) h0
    have e1 : (sumS F mu * F 30 1 0 0 - lfS b c (Ly F)).toInt = (sumS F mu * F 30 1 0 0).toInt - (lfS b c (Ly F)).toInt := i_sub (by omega) (by omega)
    obtain ⟨d1, d2⟩ := div_th (a := sumS F mu * F 30 1 0 0 - lfS b c (Ly F)) (d := sumS F mu * F 30 1 0 0) (by rw [e1]; omega) hpos
    rw [if_neg h0]
    refine ⟨?_, fun _ => d1⟩
    rw [d2, e1]
    refine ⟨Int.ediv_nonneg (by omega) (by omega), ?_⟩
    refine Int.ediv_le_of_le_mul hpos ?_
    have : 1000 * ((sumS F mu * F 30 1 0 0).toInt - (lfS b c (Ly F)).toInt) ≤ 1000 * (sumS F mu * F 30 1 0 0).toInt := by omega
    exact this
end TL
