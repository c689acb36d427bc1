/-! PURE: a tick, as numbers. b g x: water (g = 0), cracks (1), left (2..4), in water (5..7) of cell x = ring + 4 layer; b 8: the cup (0), its stuffs (1..3), ticks (4), all (5), in rings (6..9). The model holds it as F 40 0 0 (16 g + x) -/
set_option maxRecDepth 100000
abbrev Bt : Type := Nat → Nat → Int32
def Rg (F : St) : Nat := (F 30 0 0 0).toNatClampNeg
def Ly (F : St) : Nat := (F 30 1 0 0).toNatClampNeg
def cel (F : St) (x : Nat) : Bool := decide (x % 4 < Rg F) && decide (x / 4 < Ly F)
theorem cel_i {F : St} {x : Nat} : cel F x = true ↔ x % 4 < Rg F ∧ x / 4 < Ly F := by simp [cel]
/-- what is known of the numbers that were told -/
def PB (F : St) : Prop :=
  (F 30 0 0 0 = oN (Rg F) ∧ 1 ≤ Rg F ∧ Rg F ≤ 4) ∧ (F 30 1 0 0 = oN (Ly F) ∧ 1 ≤ Ly F ∧ Ly F ≤ 4) ∧
  (0 ≤ (F 30 8 0 0).toInt ∧ (F 30 8 0 0).toInt ≤ 20) ∧
  (∃ n, n ≤ 12 ∧ F 30 12 0 0 = oN n ∧ ∀ k, k < n → (0 ≤ (F 35 0 0 k).toInt ∧ (F 35 0 0 k).toInt < Rg F) ∧ 0 ≤ (F 36 0 0 k).toInt ∧ (F 36 0 0 k).toInt ≤ 500) ∧
  (∀ s, s < 3 → 0 ≤ (F 31 0 0 s).toInt ∧ (F 31 0 0 s).toInt ≤ 99) ∧ (∀ s, s < 3 → 0 ≤ (F 32 0 0 s).toInt ∧ (F 32 0 0 s).toInt ≤ 100)
theorem cel_lt {F : St} (h : PB F) {x : Nat} (hx : cel F x = true) : x < 16 := by
  have h1 := cel_i.mp hx
  have h2 := h.1.2.2
  have h3 := h.2.1.2.2
  omega
/-- pours -/
def pS (F : St) (t : Int32) : Nat → (Nat → Int32) → Nat → Int32
  | 0, w => w
  | n + 1, w => fun x => if x = (F 35 0 0 n).toNatClampNeg then pS F t n w x + (if F 34 0 0 n = t then F 36 0 0 n else 0) else pS F t n w x
def pourS (F : St) (b : Bt) : Bt := fun g x => if g = 0 ∧ x < 16 then pS F (b 8 4) (F 30 12 0 0).toNatClampNeg (b 0) x else b g x
/-- what is taken of stuff s in cell x -/
def byS (F : St) (wm : Int32) (b : Bt) (s x : Nat) : Int32 := ((((((b (2 + s) x).toInt64 * (F 32 0 0 s).toInt64) * wm.toInt64) * (if b 0 x ≤ 100 then b 0 x else 100).toInt64) / (1000000 : Int64)).toInt32)
def takeS (F : St) (wm : Int32) (b : Bt) : Bt := fun g x => if cel F x = true ∧ 2 ≤ g ∧ g < 5 then b g x - byS F wm b (g - 2) x else if cel F x = true ∧ 5 ≤ g ∧ g < 8 then b g x + byS F wm b (g - 5) x else b g x
/-- with m water out of x goes of g -/
def e0 (b : Bt) (g x : Nat) (m : Int32) : Int32 := if g = 0 then m else if m ≤ 0 then 0 else (((b (4 + g) x).toInt64 * m.toInt64) / (b 0 x).toInt64).toInt32
def oS (F : St) (b : Bt) (g x y : Nat) : Int32 := if cel F x = true ∧ cel F y = true ∧ b 0 y < b 0 x then e0 b g x (((b 0 x - b 0 y) * F 30 8 0 0) / 100) else 0
/-- goings to the sides, of the cells in S -/
def tS (F : St) (b : Bt) (S : Nat → Bool) (g z : Nat) : Int32 := (if S z = true ∧ 0 < z % 4 then - oS F b g z (z - 1) else 0) + (if S z = true ∧ z % 4 < 3 then - oS F b g z (z + 1) else 0) + (if z % 4 < 3 ∧ S (z + 1) = true then oS F b g (z + 1) z else 0) + (if 0 < z % 4 ∧ S (z - 1) = true then oS F b g (z - 1) z else 0)
def mS (F : St) (b : Bt) (g z : Nat) : Int32 := tS F b (fun _ => true) g z
/-- the goings m laid to what is there -/
def addS (F : St) (m : Bt) (b : Bt) : Bt := fun g x => if cel F x = true ∧ g = 0 then b g x + m 0 x else if cel F x = true ∧ 5 ≤ g ∧ g < 8 then b g x + m (g - 4) x else b g x
def sideS (F : St) (b : Bt) : Bt := addS F (mS F b) b
def loS (F : St) (st : Int32) (x : Nat) (k : Int32) : Int32 := if 1 ≤ F 30 5 0 0 + st * F 30 6 0 0 + F 33 0 0 x + k then (if F 30 5 0 0 + st * F 30 6 0 0 + F 33 0 0 x + k ≤ 95 then F 30 5 0 0 + st * F 30 6 0 0 + F 33 0 0 x + k else 95) else 1
def muS (F : St) (st : Int32) (b : Bt) (x : Nat) : Int32 := (b 0 x * loS F st x (b 1 x)) / 100
def dS (F : St) (st : Int32) (b : Bt) (g x : Nat) : Int32 := if cel F x = true then e0 b g x (muS F st b x) else 0
def tD (F : St) (st : Int32) (b : Bt) (S : Nat → Bool) (g z : Nat) : Int32 := (if S z = true then - dS F st b g z else 0) + (if 4 ≤ z ∧ cel F z = true ∧ S (z - 4) = true then dS F st b g (z - 4) else 0)
/-- into the cup, of the first n rings -/
def cS (F : St) (st : Int32) (b : Bt) (g : Nat) : Nat → Int32
  | 0 => 0
  | n + 1 => cS F st b g n + dS F st b g (4 * (Ly F - 1) + n)
def crS (F : St) (m : Int32) : Int32 := if F 30 9 0 0 ≤ 0 then 0 else if m ≤ F 30 9 0 0 then 0 else 1
def downS (F : St) (st : Int32) (b : Bt) : Bt := fun g x => if g = 8 ∧ x < 4 then b 8 x + cS F st b x (Rg F) else if g = 8 ∧ x = 4 then b 8 4 + 1 else if cel F x = true ∧ g = 1 then b 1 x + crS F (muS F st b x) else addS F (tD F st b (fun _ => true)) b g x
def tickS (F : St) (st wm : Int32) (b : Bt) : Bt := downS F st (sideS F (takeS F wm (pourS F b)))
/-- one cell more among the goers -/
theorem tS_add (F : St) (b : Bt) {S S' : Nat → Bool} {x : Nat} (h : ∀ z, S' z = (S z || z == x)) (hx : S x = false) (g z : Nat) : tS F b S' g z = tS F b S g z + (if z = x ∧ 0 < x % 4 then - oS F b g x (x - 1) else 0) + (if z + 1 = x ∧ 0 < x % 4 then oS F b g x (x - 1) else 0) + (if z = x ∧ x % 4 < 3 then - oS F b g x (x + 1) else 0) + (if z = x + 1 ∧ x % 4 < 3 then oS F b g x (x + 1) else 0) := by
  unfold tS
  rw [h z, h (z + 1), h (z - 1)]
  by_cases h1 : z = x
  · subst h1
    have e1 : (z + 1 == z) = false := by simp
    by_cases h0 : 0 < z % 4
    · have e2 : (z - 1 == z) = false := by
        have : z - 1 ≠ z := by omega
        simpa using this
      have e3 : ¬ (z + 1 = z ∧ 0 < z % 4) := by omega
      have e4 : ¬ (z = z + 1 ∧ z % 4 < 3) := by omega
      simp only [hx, e1, e2, Bool.or_false, Bool.false_or, beq_self_eq_true, true_and, h0, if_true, if_neg e3, if_neg e4, and_true, Bool.false_eq_true, false_and, if_false, Int32.add_zero, Int32.zero_add]
      grind
    · have e3 : ¬ (z + 1 = z ∧ 0 < z % 4) := by omega
      have e4 : ¬ (z = z + 1 ∧ z % 4 < 3) := by omega
      simp only [hx, e1, Bool.or_false, Bool.false_or, beq_self_eq_true, true_and, h0, if_false, if_neg e3, if_neg e4, and_true, and_false, Bool.false_eq_true, false_and, Int32.add_zero, Int32.zero_add]
      grind
  · have e0 : (z == x) = false := by simpa using h1
    by_cases h2 : z + 1 = x
    · subst h2
      have e5 : (z - 1 == z + 1) = false := by
        have : z - 1 ≠ z + 1 := by omega
        simpa using this
      have e6 : 0 < (z + 1) % 4 ↔ z % 4 < 3 := by omega
      have e7 : z + 1 - 1 = z := by omega
      have e8 : ¬ (z = z + 1 + 1 ∧ (z + 1) % 4 < 3) := by omega
      have e9 : ¬ (z = z + 1 ∧ (z + 1) % 4 < 3) := by omega
      have e10 : ¬ (z = z + 1 ∧ 0 < (z + 1) % 4) := by omega
      simp only [hx, e0, e5, e7, Bool.or_false, Bool.false_or, beq_self_eq_true, true_and, and_true, if_neg e8, if_neg e9, if_neg e10, Int32.add_zero, e6, Bool.false_eq_true, and_false, if_false]
      grind
    · have e11 : (z + 1 == x) = false := by simpa using h2
      by_cases h3 : z = x + 1
      · subst h3
        have e12 : (x + 1 - 1) = x := by omega
        have e13 : 0 < (x + 1) % 4 ↔ x % 4 < 3 := by omega
        simp only [hx, e0, e11, e12, e13, h1, h2, Bool.or_false, Bool.false_or, beq_self_eq_true, true_and, and_true, false_and, if_false, Int32.add_zero, Bool.false_eq_true, and_false]
      · have e14 : 0 < z % 4 → (z - 1 == x) = false := fun q => by
          have : z - 1 ≠ x := by omega
          simpa using this
        by_cases h0 : 0 < z % 4
        · simp only [e0, e11, e14 h0, h1, h2, h3, Bool.or_false, false_and, if_false, Int32.add_zero]
        · simp only [e0, e11, h0, h1, h2, h3, Bool.or_false, false_and, and_false, if_false, Int32.add_zero]
theorem oS_z {F : St} {b : Bt} {g x y : Nat} (h : ¬ (cel F x = true ∧ cel F y = true ∧ b 0 y < b 0 x)) : oS F b g x y = 0 := if_neg h
/-- all cells in S: all goings -/
theorem tS_all {F : St} {b : Bt} {S : Nat → Bool} (hS : ∀ x, cel F x = true → S x = true) (g z : Nat) : tS F b S g z = mS F b g z := by
  have h1 : ∀ x y, S x = false → oS F b g x y = 0 := fun x y h => oS_z (fun q => by rw [hS x q.1] at h; cases h)
  have k : ∀ (x : Nat) (v : Int32) (c : Prop) [Decidable c], (S x = false → v = 0) → (if S x = true ∧ c then v else 0) = (if c then v else 0) := by
    intro x v c _ h
    cases hb : S x with
    | true => simp
    | false => simp [h hb]
  have k2 : ∀ (x : Nat) (v : Int32) (c : Prop) [Decidable c], (S x = false → v = 0) → (if c ∧ S x = true then v else 0) = (if c then v else 0) := by
    intro x v c _ h
    cases hb : S x with
    | true => simp
    | false => simp [h hb]
  unfold mS tS
  rw [k z _ _ (fun h => by rw [h1 _ _ h]; rfl), k z _ _ (fun h => by rw [h1 _ _ h]; rfl), k2 (z + 1) _ _ (fun h => h1 _ _ h), k2 (z - 1) _ _ (fun h => h1 _ _ h)]
  simp
theorem tS_none (F : St) (b : Bt) (g z : Nat) : tS F b (fun _ => false) g z = 0 := by
  unfold tS
  simp
theorem dS_z {F : St} {st : Int32} {b : Bt} {g x : Nat} (h : ¬ cel F x = true) : dS F st b g x = 0 := if_neg h
theorem tD_none (F : St) (st : Int32) (b : Bt) (g z : Nat) : tD F st b (fun _ => false) g z = 0 := by
  unfold tD
  simp
theorem tD_all {F : St} {st : Int32} {b : Bt} {S : Nat → Bool} (hS : ∀ x, cel F x = true → S x = true) (g z : Nat) : tD F st b S g z = tD F st b (fun _ => true) g z := by
  have h1 : ∀ x, S x = false → dS F st b g x = 0 := fun x h => dS_z (fun q => by rw [hS x q] at h; cases h)
  unfold tD
  cases hb : S z with
  | true =>
    cases hb2 : S (z - 4) with
    | true => simp
    | false => simp [h1 _ hb2]
  | false =>
    cases hb2 : S (z - 4) with
    | true => simp [h1 _ hb]
    | false => simp [h1 _ hb, h1 _ hb2]
theorem tD_add (F : St) (st : Int32) (b : Bt) {S S' : Nat → Bool} {x : Nat} (h : ∀ z, S' z = (S z || z == x)) (hx : S x = false) (g z : Nat) : tD F st b S' g z = tD F st b S g z + (if z = x then - dS F st b g x else 0) + (if z = x + 4 ∧ cel F z = true then dS F st b g x else 0) := by
  unfold tD
  rw [h z, h (z - 4)]
  by_cases h1 : z = x
  · subst h1
    have e2 : ¬ (z = z + 4 ∧ cel F z = true) := by omega
    by_cases h4 : 4 ≤ z
    · have e1 : (z - 4 == z) = false := by
        have : z - 4 ≠ z := by omega
        simpa using this
      simp only [hx, e1, if_neg e2, Bool.or_false, Bool.false_or, beq_self_eq_true, if_true, Bool.false_eq_true, if_false, Int32.add_zero, Int32.zero_add]
      grind
    · simp only [hx, h4, false_and, if_neg e2, Bool.false_or, beq_self_eq_true, if_true, Bool.false_eq_true, if_false, Int32.add_zero, Int32.zero_add]
  · have e0 : (z == x) = false := by simpa using h1
    by_cases h2 : z = x + 4
    · subst h2
      have e3 : x + 4 - 4 = x := by omega
      have e4 : 4 ≤ x + 4 := by omega
      simp only [e0, e3, e4, hx, h1, true_and, Bool.or_false, Bool.false_or, beq_self_eq_true, and_true, if_false, Int32.add_zero, Bool.false_eq_true, and_false]
    · by_cases h4 : 4 ≤ z
      · have e1 : (z - 4 == x) = false := by
          have : z - 4 ≠ x := by omega
          simpa using this
        simp only [e0, e1, h1, h2, Bool.or_false, false_and, if_false, Int32.add_zero]
      · simp only [e0, h1, h2, h4, Bool.or_false, false_and, if_false, Int32.add_zero]
