/-! PURE: nothing is lost, nothing overflows -/
set_option maxRecDepth 100000
def sm (f : Nat → Int) : Nat → Int
  | 0 => 0
  | n + 1 => sm f n + f n
theorem sm_nn {f : Nat → Int} : ∀ {n : Nat}, (∀ x, x < n → 0 ≤ f x) → 0 ≤ sm f n
  | 0, _ => Int.le_refl _
  | n + 1, h => Int.add_nonneg (sm_nn (fun x hx => h x (by omega))) (h n (by omega))
theorem sm_le {f : Nat → Int} {k : Nat} : ∀ {n : Nat}, (∀ x, x < n → 0 ≤ f x) → k < n → f k ≤ sm f n
  | 0, _, hk => absurd hk (by omega)
  | n + 1, h, hk => by
    show f k ≤ sm f n + f n
    by_cases hkn : k = n
    · subst hkn
      have := sm_nn (f := f) (n := k) (fun x hx => h x (by omega))
      omega
    · have := sm_le (f := f) (k := k) (n := n) (fun x hx => h x (by omega)) (by omega)
      have := h n (by omega)
      omega
theorem sm_c {f g : Nat → Int} : ∀ {n : Nat}, (∀ x, x < n → f x = g x) → sm f n = sm g n
  | 0, _ => rfl
  | n + 1, h => by
    show sm f n + f n = sm g n + g n
    rw [sm_c (fun x hx => h x (by omega)), h n (by omega)]
theorem sm_a (f g : Nat → Int) : ∀ n : Nat, sm (fun x => f x + g x) n = sm f n + sm g n
  | 0 => rfl
  | n + 1 => by
    show sm (fun x => f x + g x) n + (f n + g n) = (sm f n + f n) + (sm g n + g n)
    rw [sm_a f g n]
    omega
theorem sm_u {f : Nat → Int} {r : Nat} {d : Int} : ∀ {n : Nat}, sm (fun x => if x = r then f x + d else f x) n = sm f n + (if r < n then d else 0)
  | 0 => by simp [sm]
  | n + 1 => by
    show sm (fun x => if x = r then f x + d else f x) n + (if n = r then f n + d else f n) = sm f n + f n + _
    rw [sm_u]
    by_cases h : n = r
    · subst h
      rw [if_pos rfl, if_neg (by omega), if_pos (by omega)]
      omega
    · rw [if_neg h]
      by_cases h2 : r < n
      · rw [if_pos h2, if_pos (by omega)]
        omega
      · rw [if_neg h2, if_neg (by omega)]
        omega
/-- sixty-four bits -/
theorem bm64 {n : Int} (h1 : -9223372036854775808 ≤ n) (h2 : n < 9223372036854775808) : n.bmod (2 ^ 64) = n := Int.bmod_eq_of_le (by omega) (by omega)
theorem j_mul {a b : Int64} (h1 : -9223372036854775808 ≤ a.toInt * b.toInt) (h2 : a.toInt * b.toInt < 9223372036854775808) : (a * b).toInt = a.toInt * b.toInt := by rw [Int64.toInt_mul, bm64 h1 h2]
theorem j_div {a b : Int64} (hb : b ≠ -1) (ha : 0 ≤ a.toInt) : (a / b).toInt = a.toInt / b.toInt := by rw [Int64.toInt_div_of_ne_right a b hb, Int.tdiv_eq_ediv_of_nonneg ha]
theorem j_32 {a : Int64} (h1 : -2147483648 ≤ a.toInt) (h2 : a.toInt < 2147483648) : a.toInt32.toInt = a.toInt := by rw [Int64.toInt_toInt32, bm32 h1 h2]
/-- out of a: v with m of w -/
theorem e0_I {b : Bt} {s x : Nat} {m : Int32} (hin : 0 ≤ (b (5 + s) x).toInt ∧ (b (5 + s) x).toInt ≤ 100000) (hm : 0 ≤ m.toInt) (hmw : m.toInt ≤ (b 0 x).toInt) (hw : (b 0 x).toInt ≤ 400000) : 0 ≤ (e0 b (1 + s) x m).toInt ∧ (e0 b (1 + s) x m).toInt * (b 0 x).toInt ≤ (b (5 + s) x).toInt * m.toInt ∧ (m.toInt = 0 → (e0 b (1 + s) x m).toInt = 0) := by
  unfold e0
  rw [if_neg (show ¬ 1 + s = 0 by omega), show 4 + (1 + s) = 5 + s by omega]
  rcases zero_or hm with h0 | h0
  · subst h0
    rw [if_pos (by decide : (0 : Int32) ≤ 0)]
    have e : (0 : Int32).toInt = 0 := rfl
    rw [e]
    simp
  · rw [if_neg h0]
    have hm1 : m.toInt ≠ 0 := fun q => h0 (by rw [i_z q]; decide)
    have p1 : 0 ≤ (b (5 + s) x).toInt * m.toInt := Int.mul_nonneg hin.1 hm
    have p2 : (b (5 + s) x).toInt * m.toInt ≤ 100000 * 400000 := Int.mul_le_mul hin.2 (by omega) hm (by omega)
    have e1 : ((b (5 + s) x).toInt64 * m.toInt64).toInt = (b (5 + s) x).toInt * m.toInt := by
      rw [j_mul] <;> rw [Int32.toInt_toInt64, Int32.toInt_toInt64] <;> omega
    have hne : (b 0 x).toInt64 ≠ -1 := fun q => by
      have := congrArg Int64.toInt q
      rw [Int32.toInt_toInt64] at this
      have h3 : (-1 : Int64).toInt = -1 := rfl
      omega
    have e2 : (((b (5 + s) x).toInt64 * m.toInt64) / (b 0 x).toInt64).toInt = ((b (5 + s) x).toInt * m.toInt) / (b 0 x).toInt := by
      rw [j_div hne (by rw [e1]; exact p1), e1, Int32.toInt_toInt64]
    have q1 : 0 ≤ ((b (5 + s) x).toInt * m.toInt) / (b 0 x).toInt := Int.ediv_nonneg p1 (by omega)
    have q2 : ((b (5 + s) x).toInt * m.toInt) / (b 0 x).toInt ≤ (b (5 + s) x).toInt * m.toInt := Int.ediv_le_self _ p1
    have q3 : ((b (5 + s) x).toInt * m.toInt) / (b 0 x).toInt * (b 0 x).toInt ≤ (b (5 + s) x).toInt * m.toInt := Int.ediv_mul_le _ (by omega)
    have q4 : ((b (5 + s) x).toInt * m.toInt) / (b 0 x).toInt ≤ (b (5 + s) x).toInt := by
      refine Int.le_of_mul_le_mul_right (Int.le_trans q3 ?_) (show (0 : Int) < (b 0 x).toInt by omega)
      exact Int.mul_le_mul_of_nonneg_left hmw hin.1
    have e3 : ((((b (5 + s) x).toInt64 * m.toInt64) / (b 0 x).toInt64).toInt32).toInt = ((b (5 + s) x).toInt * m.toInt) / (b 0 x).toInt := by
      rw [j_32] <;> rw [e2] <;> omega
    rw [e3]
    exact ⟨q1, q3, fun q => absurd q hm1⟩
/-- two goings out of one cell leave no less than nothing -/
theorem two_out {v1 v2 i m1 m2 w : Int} (h1 : v1 * w ≤ i * m1) (h2 : v2 * w ≤ i * m2) (hi : 0 ≤ i) (hm1 : 0 ≤ m1) (hm2 : 0 ≤ m2) (h : m1 + m2 ≤ w) (z1 : m1 = 0 → v1 = 0) (z2 : m2 = 0 → v2 = 0) : v1 + v2 ≤ i := by
  by_cases hw : w = 0
  · rw [z1 (by omega), z2 (by omega)]
    omega
  · refine Int.le_of_mul_le_mul_right (a := w) ?_ (by omega)
    rw [Int.add_mul]
    refine Int.le_trans (Int.add_le_add h1 h2) ?_
    rw [← Int.mul_add]
    exact Int.mul_le_mul_of_nonneg_left h hi
/-- what is taken -/
theorem by_I {F : St} {wm : Int32} {b : Bt} {s x : Nat} (hl : 0 ≤ (b (2 + s) x).toInt ∧ (b (2 + s) x).toInt ≤ 2000) (hr : 0 ≤ (F 32 0 0 s).toInt ∧ (F 32 0 0 s).toInt ≤ 100) (hwm : 0 ≤ wm.toInt ∧ wm.toInt ≤ 100) (hw : 0 ≤ (b 0 x).toInt) : 0 ≤ (byS F wm b s x).toInt ∧ (byS F wm b s x).toInt ≤ (b (2 + s) x).toInt := by
  have hmn : 0 ≤ (if b 0 x ≤ 100 then b 0 x else 100).toInt ∧ (if b 0 x ≤ 100 then b 0 x else 100).toInt ≤ 100 := by
    have a : (100 : Int32).toInt = 100 := rfl
    split
    · rename_i h
      rw [le_i] at h
      omega
    · rw [a]; omega
  unfold byS
  generalize (if b 0 x ≤ 100 then b 0 x else 100) = mn at hmn
  generalize b (2 + s) x = l at hl
  generalize F 32 0 0 s = r at hr
  have a1 : 0 ≤ l.toInt * r.toInt := Int.mul_nonneg hl.1 hr.1
  have a2 : l.toInt * r.toInt ≤ l.toInt * 100 := Int.mul_le_mul_of_nonneg_left hr.2 hl.1
  have b1 : 0 ≤ l.toInt * r.toInt * wm.toInt := Int.mul_nonneg a1 hwm.1
  have b2 : l.toInt * r.toInt * wm.toInt ≤ l.toInt * 100 * 100 := Int.mul_le_mul a2 hwm.2 hwm.1 (by omega)
  have c1 : 0 ≤ l.toInt * r.toInt * wm.toInt * mn.toInt := Int.mul_nonneg b1 hmn.1
  have c2 : l.toInt * r.toInt * wm.toInt * mn.toInt ≤ l.toInt * 100 * 100 * 100 := Int.mul_le_mul b2 hmn.2 hmn.1 (by omega)
  have e1 : (l.toInt64 * r.toInt64).toInt = l.toInt * r.toInt := by rw [j_mul] <;> rw [Int32.toInt_toInt64, Int32.toInt_toInt64] <;> omega
  have e2 : (l.toInt64 * r.toInt64 * wm.toInt64).toInt = l.toInt * r.toInt * wm.toInt := by rw [j_mul] <;> rw [e1, Int32.toInt_toInt64] <;> omega
  have e3 : (l.toInt64 * r.toInt64 * wm.toInt64 * mn.toInt64).toInt = l.toInt * r.toInt * wm.toInt * mn.toInt := by rw [j_mul] <;> rw [e2, Int32.toInt_toInt64] <;> omega
  have e4 : (l.toInt64 * r.toInt64 * wm.toInt64 * mn.toInt64 / 1000000).toInt = l.toInt * r.toInt * wm.toInt * mn.toInt / 1000000 := by
    rw [j_div (by decide) (by rw [e3]; exact c1), e3]
    rfl
  have e5 : (l.toInt64 * r.toInt64 * wm.toInt64 * mn.toInt64 / 1000000).toInt32.toInt = l.toInt * r.toInt * wm.toInt * mn.toInt / 1000000 := by
    rw [j_32] <;> rw [e4] <;> omega
  rw [e5]
  omega
/-- exact sums of goings -/
def mI (q : Nat → Nat → Int) (z : Nat) : Int := (if 0 < z % 4 then - q z (z - 1) else 0) + (if z % 4 < 3 then - q z (z + 1) else 0) + (if z % 4 < 3 then q (z + 1) z else 0) + (if 0 < z % 4 then q (z - 1) z else 0)
theorem mI_0 (q : Nat → Nat → Int) : sm (mI q) 16 = 0 := by
  simp [sm, mI]
  omega
theorem oi_n (a : Int32) : Int32.ofInt (- a.toInt) = - a := by rw [Int32.ofInt_neg, Int32.ofInt_toInt]
theorem mS_I (F : St) (b : Bt) (g z : Nat) : mS F b g z = Int32.ofInt (mI (fun x y => (oS F b g x y).toInt) z) := by
  unfold mS tS mI
  simp only [true_and, and_true]
  rw [Int32.ofInt_add, Int32.ofInt_add, Int32.ofInt_add]
  congr 1
  · congr 1
    · congr 1
      · split
        · rw [oi_n]
        · rfl
      · split
        · rw [oi_n]
        · rfl
    · split
      · rw [Int32.ofInt_toInt]
      · rfl
  · split
    · rw [Int32.ofInt_toInt]
    · rfl
theorem oi_i {n : Int} (h1 : -2147483648 ≤ n) (h2 : n < 2147483648) : (Int32.ofInt n).toInt = n := Int32.toInt_ofInt_of_le (by omega) (by omega)
theorem addI (a : Int32) (n : Int) : a + Int32.ofInt n = Int32.ofInt (a.toInt + n) := by rw [Int32.ofInt_add, Int32.ofInt_toInt]
def tI (C : Nat → Bool) (d : Nat → Int) (z : Nat) : Int := - d z + (if 4 ≤ z ∧ C z = true then d (z - 4) else 0)
theorem tD_I (F : St) (st : Int32) (b : Bt) (g z : Nat) : tD F st b (fun _ => true) g z = Int32.ofInt (tI (cel F) (fun x => (dS F st b g x).toInt) z) := by
  unfold tD tI
  simp only [if_true, and_true]
  rw [Int32.ofInt_add, oi_n]
  congr 1
  split
  · rw [Int32.ofInt_toInt]
  · rfl
theorem cS_I (F : St) (st : Int32) (b : Bt) (g : Nat) : ∀ n, cS F st b g n = Int32.ofInt (sm (fun c => (dS F st b g (4 * (Ly F - 1) + c)).toInt) n)
  | 0 => rfl
  | n + 1 => by
    show cS F st b g n + dS F st b g (4 * (Ly F - 1) + n) = Int32.ofInt (sm _ n + (dS F st b g (4 * (Ly F - 1) + n)).toInt)
    rw [cS_I F st b g n, Int32.ofInt_add, Int32.ofInt_toInt]
/-- what goes down: out of the cells, into the cup -/
theorem tI_0 {F : St} (hp : PB F) {d : Nat → Int} (hd : ∀ x, x < 16 → ¬ cel F x = true → d x = 0) : sm (tI (cel F) d) 16 + sm (fun c => d (4 * (Ly F - 1) + c)) (Rg F) = 0 := by
  have hR := hp.1.2
  have hL := hp.2.1.2
  have hd2 : ∀ x, x < 16 → (x % 4 < Rg F ∧ x / 4 < Ly F) ∨ d x = 0 := fun x hx => by
    by_cases h : cel F x = true
    · exact Or.inl (cel_i.mp h)
    · exact Or.inr (hd x hx h)
  have hc : ∀ x, cel F x = (decide (x % 4 < Rg F) && decide (x / 4 < Ly F)) := fun x => rfl
  have hcf : cel F = fun x => (decide (x % 4 < Rg F) && decide (x / 4 < Ly F)) := funext hc
  rw [hcf]
  clear hc hcf hd hp
  generalize Rg F = R at *
  generalize Ly F = L at *
  have z0 := hd2 0 (by omega)
  have z1 := hd2 1 (by omega)
  have z2 := hd2 2 (by omega)
  have z3 := hd2 3 (by omega)
  have z4 := hd2 4 (by omega)
  have z5 := hd2 5 (by omega)
  have z6 := hd2 6 (by omega)
  have z7 := hd2 7 (by omega)
  have z8 := hd2 8 (by omega)
  have z9 := hd2 9 (by omega)
  have z10 := hd2 10 (by omega)
  have z11 := hd2 11 (by omega)
  have z12 := hd2 12 (by omega)
  have z13 := hd2 13 (by omega)
  have z14 := hd2 14 (by omega)
  have z15 := hd2 15 (by omega)
  clear hd2
  rcases (show R = 1 ∨ R = 2 ∨ R = 3 ∨ R = 4 by omega) with q | q | q | q <;> rcases (show L = 1 ∨ L = 2 ∨ L = 3 ∨ L = 4 by omega) with q2 | q2 | q2 | q2 <;> subst q <;> subst q2 <;> simp [sm, tI] at * <;> omega
