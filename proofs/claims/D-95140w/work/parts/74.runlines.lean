/-! PURE: a line done by the class -/
set_option maxRecDepth 100000
def rnL (F : St) (i : Nat) : Nat := (F 27 5 i 0).toNatClampNeg
def z11 (F : St) : St := fun k p y j => if k = 11 ∧ p = 0 ∧ y < 4 ∧ j < 4 then 0 else F k p y j
/-- row i's numbers become those of kind k0 -/
def mvR (F : St) (i k0 m : Nat) : St := fun k p y j => if k = k0 ∧ p = 0 ∧ y = 0 ∧ j < m then F 28 0 i j else F k p y j
/-- row i's numbers are laid into pour c -/
def cpR (F : St) (i c m : Nat) : St := fun k p y j => if k = 13 ∧ p = 0 ∧ y = c ∧ j < m then F 28 0 i j else F k p y j
def rn_bed (F : St) (i : Nat) : Option St := og (vpb (0 : Int32) (rnL F i)) (pl (fu F 0 0 0 0 (F 28 0 i 0)) (fun F1 => og (vpb (1 : Int32) (rnL F i)) (pl (fu F1 0 1 0 0 (F1 28 0 i 1)) (fun F2 => pl (fu F2 0 14 0 0 0) (fun F3 => some (z11 F3))))))
def rn_row (F : St) (i : Nat) : Option St := if F 27 3 i 0 = 0 then og (decide (rnL F i = 3)) (some (mvR F i 23 3)) else if F 27 3 i 0 = 1 then og (decide (rnL F i = 3)) (some (mvR F i 24 3)) else if F 27 3 i 0 = 2 then og (decide (rnL F i = 2)) (some (mvR F i 25 2)) else if F 27 3 i 0 = 3 then og (decide (rnL F i = 5)) (some (mvR F i 26 5)) else none
def rn_cell (F : St) (i : Nat) : Option St := og (vpb (0 : Int32) (rnL F i)) (og (vpb (F 28 0 i 0) 4) (og (vpb (1 : Int32) (rnL F i)) (og (vpb (2 : Int32) (rnL F i)) (og (vpb (F 28 0 i 1) 4) (some (fu F 11 0 (F 28 0 i 0).toNatClampNeg (F 28 0 i 1).toNatClampNeg (F 27 3 i 0 * F 28 0 i 2)))))))
def rn_pour (F : St) (i : Nat) : Option St := if F 27 5 i 0 = 0 then some (fu F 0 14 0 0 0) else if (12 : Int32) ≤ F 0 14 0 0 then some F else og (vpb (F 0 14 0 0) 12) (og (decide (rnL F i = 3)) (pl (cpR F i (F 0 14 0 0).toNatClampNeg 3) (fun F1 => some (fu F1 0 14 0 0 (F1 0 14 0 0 + 1)))))
def rn_one (F : St) (i : Nat) : Option St := og (vpb (0 : Int32) (rnL F i)) (pl (fu F 0 6 0 0 (if F 27 3 i 0 = 0 then F 28 0 i 0 else F 0 6 0 0)) (fun F1 => pl (fu F1 0 7 0 0 (if F1 27 3 i 0 = 1 then F1 28 0 i 0 else F1 0 7 0 0)) (fun F2 => pl (fu F2 0 8 0 0 (if F2 27 3 i 0 = 2 then F2 28 0 i 0 else F2 0 8 0 0)) (fun F3 => pl (fu F3 0 9 0 0 (if F3 27 3 i 0 = 3 then F3 28 0 i 0 else F3 0 9 0 0)) (fun F4 => pl (fu F4 0 10 0 0 (if F4 27 3 i 0 = 4 then F4 28 0 i 0 else F4 0 10 0 0)) (fun F5 => pl (fu F5 0 11 0 0 (if F5 27 3 i 0 = 5 then F5 28 0 i 0 else F5 0 11 0 0)) (fun F6 => some F6)))))))
def ln_run (F : St) (i : Nat) : Option St := og (decide (F 17 0 0 i = 1)) (if F 27 2 i 0 = 11 then rn_bed F i else if F 27 2 i 0 = 12 then rn_row F i else if F 27 2 i 0 = 13 then rn_cell F i else if F 27 2 i 0 = 14 then rn_pour F i else if F 27 2 i 0 = 15 then rn_one F i else none)
/-- the class' numbers (in C) are the model's (in M) -/
def ParX (C M : St) : Prop :=
  C 0 0 0 0 = M 30 0 0 0 ∧ C 0 1 0 0 = M 30 1 0 0 ∧ C 0 6 0 0 = M 30 8 0 0 ∧ C 0 7 0 0 = M 30 9 0 0 ∧ C 0 14 0 0 = M 30 12 0 0 ∧ (∀ s, s < 3 → C 23 0 0 s = M 31 0 0 s) ∧ (∀ s, s < 3 → C 24 0 0 s = M 32 0 0 s) ∧ C 25 0 0 0 = M 30 5 0 0 ∧ C 25 0 0 1 = M 30 6 0 0 ∧ (∀ c l, c < 4 → l < 4 → C 11 0 c l = M 33 0 0 (4 * l + c)) ∧ (∀ k, k < 12 → C 13 0 k 0 = M 34 0 0 k ∧ C 13 0 k 1 = M 35 0 0 k ∧ C 13 0 k 2 = M 36 0 0 k) ∧ C 0 8 0 0 = M 30 4 0 0 ∧ C 0 9 0 0 = M 30 10 0 0 ∧ C 0 10 0 0 = M 30 11 0 0 ∧ C 0 11 0 0 = M 30 16 0 0 ∧ (∀ k, k < 5 → C 26 0 0 k = M 37 0 0 k)
/-- only told numbers have changed -/
def Crn (C C2 : St) : Prop := ∀ k p y j, ¬ (k = 0 ∧ p < 15) → k ≠ 11 → k ≠ 13 → k ≠ 23 → k ≠ 24 → k ≠ 25 → k ≠ 26 → C2 k p y j = C k p y j
section CR
variable {C M : St} {rn ly i so : Nat} {t : Nat → Nat}
theorem one_c (hR : RC C i so t) (hs : so = 6 ∨ so = 7 ∨ so = 10 ∨ so = 11 ∨ so = 12 ∨ so = 13) : rn_one C i = some (fu C 0 (if so = 6 then 6 else if so = 7 then 7 else so - 2) 0 0 (oN (t 0))) := by
  obtain ⟨-, h3, h5, -, hj⟩ := hR
  have hl : rnL C i = 1 := by
    unfold rnL
    rw [h5]
    rcases hs with h | h | h | h | h | h <;> subst h <;> rfl
  have h0 : C 28 0 i 0 = oN (t 0) := hj 0 (by rcases hs with h | h | h | h | h | h <;> subst h <;> decide)
  have a : ∀ (F : St) (p : Nat) (v : Int32), fu F 0 p 0 0 v 27 3 i 0 = F 27 3 i 0 := fun F p v => fu_n _ _ _ _ _ _ (by omega)
  have b : ∀ (F : St) (p : Nat) (v : Int32), fu F 0 p 0 0 v 28 0 i 0 = F 28 0 i 0 := fun F p v => fu_n _ _ _ _ _ _ (by omega)
  unfold rn_one
  rw [hl, og_t (by decide)]
  simp only [pl_s, a, b, h3, h0]
  rcases hs with h | h | h | h | h | h <;> subst h

  · have e : ciS 6 = 0 := rfl
    rw [e]
    simp only [show ((0 : Int32) = 0) = True from by decide, show ((0 : Int32) = 1) = False from by decide, show ((0 : Int32) = 2) = False from by decide, show ((0 : Int32) = 3) = False from by decide, show ((0 : Int32) = 4) = False from by decide, show ((0 : Int32) = 5) = False from by decide, if_true, if_false, fu_id]
  · have e : ciS 7 = 1 := rfl
    rw [e]
    simp only [show ((1 : Int32) = 0) = False from by decide, show ((1 : Int32) = 1) = True from by decide, show ((1 : Int32) = 2) = False from by decide, show ((1 : Int32) = 3) = False from by decide, show ((1 : Int32) = 4) = False from by decide, show ((1 : Int32) = 5) = False from by decide, if_true, if_false, fu_id]
    rfl
  · have e : ciS 10 = 2 := rfl
    rw [e]
    simp only [show ((2 : Int32) = 0) = False from by decide, show ((2 : Int32) = 1) = False from by decide, show ((2 : Int32) = 2) = True from by decide, show ((2 : Int32) = 3) = False from by decide, show ((2 : Int32) = 4) = False from by decide, show ((2 : Int32) = 5) = False from by decide, if_true, if_false, fu_id]
    rfl
  · have e : ciS 11 = 3 := rfl
    rw [e]
    simp only [show ((3 : Int32) = 0) = False from by decide, show ((3 : Int32) = 1) = False from by decide, show ((3 : Int32) = 2) = False from by decide, show ((3 : Int32) = 3) = True from by decide, show ((3 : Int32) = 4) = False from by decide, show ((3 : Int32) = 5) = False from by decide, if_true, if_false, fu_id]
    rfl
  · have e : ciS 12 = 4 := rfl
    rw [e]
    simp only [show ((4 : Int32) = 0) = False from by decide, show ((4 : Int32) = 1) = False from by decide, show ((4 : Int32) = 2) = False from by decide, show ((4 : Int32) = 3) = False from by decide, show ((4 : Int32) = 4) = True from by decide, show ((4 : Int32) = 5) = False from by decide, if_true, if_false, fu_id]
    rfl
  · have e : ciS 13 = 5 := rfl
    rw [e]
    simp only [show ((5 : Int32) = 0) = False from by decide, show ((5 : Int32) = 1) = False from by decide, show ((5 : Int32) = 2) = False from by decide, show ((5 : Int32) = 3) = False from by decide, show ((5 : Int32) = 4) = False from by decide, show ((5 : Int32) = 5) = True from by decide, if_true, if_false, fu_id]
    rfl
end CR
