/-! PURE: lines are done, by the model -/
set_option maxRecDepth 100000
def z33 (F : St) (m : Nat) : St := fun k p y j => if k = 33 ∧ p = 0 ∧ y = 0 ∧ j < m then 0 else F k p y j
def c37 (F : St) (t : Nat → Nat) (m : Nat) : St := fun k p y j => if k = 37 ∧ p = 0 ∧ y = 0 ∧ j < m then oN (t j) else F k p y j
def pou (M : St) (t : Nat → Nat) : St := if (12 : Int32) ≤ M 30 12 0 0 then M else fu (fu (fu (fu M 34 0 0 (M 30 12 0 0).toNatClampNeg (oN (t 0))) 35 0 0 (M 30 12 0 0).toNatClampNeg (oN (t 1))) 36 0 0 (M 30 12 0 0).toNatClampNeg (oN (t 2))) 30 12 0 0 (M 30 12 0 0 + 1)
/-- a line done to the model's numbers -/
def updL (M : St) (so : Nat) (t : Nat → Nat) : St :=
  match so with
  | 0 => z33 (fu (fu (fu M 30 0 0 0 (oN (t 0))) 30 1 0 0 (oN (t 1))) 30 12 0 0 0) 16
  | 1 => fu (fu (fu M 31 0 0 0 (oN (t 0))) 31 0 0 1 (oN (t 1))) 31 0 0 2 (oN (t 2))
  | 2 => fu (fu (fu M 32 0 0 0 (oN (t 0))) 32 0 0 1 (oN (t 1))) 32 0 0 2 (oN (t 2))
  | 3 => fu (fu M 30 5 0 0 (oN (t 0))) 30 6 0 0 (oN (t 1))
  | 4 => fu M 33 0 0 (4 * t 1 + t 0) (oN (t 2))
  | 5 => fu M 33 0 0 (4 * t 1 + t 0) (-(oN (t 2)))
  | 6 => fu M 30 8 0 0 (oN (t 0))
  | 7 => fu M 30 9 0 0 (oN (t 0))
  | 8 => pou M t
  | 9 => fu M 30 12 0 0 0
  | 10 => fu M 30 4 0 0 (oN (t 0))
  | 11 => fu M 30 10 0 0 (oN (t 0))
  | 12 => fu M 30 11 0 0 (oN (t 0))
  | 13 => fu M 30 16 0 0 (oN (t 0))
  | 14 => c37 M t 5
  | _ => M
theorem fu_id (F : St) (k p i j : Nat) : fu F k p i j (F k p i j) = F := by
  funext k2 p2 i2 j2
  rw [fu_a]
  by_cases h : k2 = k ∧ p2 = p ∧ i2 = i ∧ j2 = j
  · rw [if_pos h, h.1, h.2.1, h.2.2.1, h.2.2.2]
  · rw [if_neg h]
theorem z33_s (F : St) (m : Nat) : fu (z33 F m) 33 0 0 m 0 = z33 F (m + 1) := by
  funext k p y j
  rw [fu_a]
  unfold z33
  by_cases h : k = 33 ∧ p = 0 ∧ y = 0 ∧ j = m
  · rw [if_pos h, if_pos ⟨h.1, h.2.1, h.2.2.1, by omega⟩]
  · rw [if_neg h]
    by_cases h2 : k = 33 ∧ p = 0 ∧ y = 0 ∧ j < m
    · rw [if_pos h2, if_pos ⟨h2.1, h2.2.1, h2.2.2.1, by omega⟩]
    · rw [if_neg h2, if_neg (by omega)]
theorem z33_0 (F : St) : z33 F 0 = F := by
  funext k p y j
  unfold z33
  rw [if_neg (by omega)]
theorem c37_s (F : St) (t : Nat → Nat) (m : Nat) : fu (c37 F t m) 37 0 0 m (oN (t m)) = c37 F t (m + 1) := by
  funext k p y j
  rw [fu_a]
  unfold c37
  by_cases h : k = 37 ∧ p = 0 ∧ y = 0 ∧ j = m
  · rw [if_pos h, if_pos ⟨h.1, h.2.1, h.2.2.1, by omega⟩, h.2.2.2]
  · rw [if_neg h]
    by_cases h2 : k = 37 ∧ p = 0 ∧ y = 0 ∧ j < m
    · rw [if_pos h2, if_pos ⟨h2.1, h2.2.1, h2.2.2.1, by omega⟩]
    · rw [if_neg h2, if_neg (by omega)]
theorem c37_0 (F : St) (t : Nat → Nat) : c37 F t 0 = F := by
  funext k p y j
  unfold c37
  rw [if_neg (by omega)]
section DO
variable {H : St} {rn ly i so : Nat} {t : Nat → Nat}
theorem do_one {v : Int32} (hs : so = 6 ∨ so = 7 ∨ so = 10 ∨ so = 11 ∨ so = 12 ∨ so = 13) (hv : v = oN (t 0)) : fn_X8_doOne H (oN so) v = some (updL H so t) := by
  subst hv
  have d : ∀ (a b : Nat) (x y : Int32), a < 100 → b < 100 → (if oN a = oN b then some x else some y) = some (if a = b then x else y) := fun a b x y ha hb => by
    by_cases h : a = b
    · rw [h, if_pos rfl, if_pos rfl]
    · rw [if_neg (fun q => h ((oN_eq (by omega) (by omega)).mp q)), if_neg h]
  unfold fn_X8_doOne
  rw [show (6 : Int32) = oN 6 from rfl, show (7 : Int32) = oN 7 from rfl, show (10 : Int32) = oN 10 from rfl, show (11 : Int32) = oN 11 from rfl, show (12 : Int32) = oN 12 from rfl, show (13 : Int32) = oN 13 from rfl]
  rcases hs with h | h | h | h | h | h <;> subst h
  all_goals simp only [d _ _ _ _ (show (6 : Nat) < 100 by omega) (show (6 : Nat) < 100 by omega), d _ _ _ _ (show (6 : Nat) < 100 by omega) (show (7 : Nat) < 100 by omega), d _ _ _ _ (show (6 : Nat) < 100 by omega) (show (10 : Nat) < 100 by omega), d _ _ _ _ (show (6 : Nat) < 100 by omega) (show (11 : Nat) < 100 by omega), d _ _ _ _ (show (6 : Nat) < 100 by omega) (show (12 : Nat) < 100 by omega), d _ _ _ _ (show (6 : Nat) < 100 by omega) (show (13 : Nat) < 100 by omega), d _ _ _ _ (show (7 : Nat) < 100 by omega) (show (6 : Nat) < 100 by omega), d _ _ _ _ (show (7 : Nat) < 100 by omega) (show (7 : Nat) < 100 by omega), d _ _ _ _ (show (7 : Nat) < 100 by omega) (show (10 : Nat) < 100 by omega), d _ _ _ _ (show (7 : Nat) < 100 by omega) (show (11 : Nat) < 100 by omega), d _ _ _ _ (show (7 : Nat) < 100 by omega) (show (12 : Nat) < 100 by omega), d _ _ _ _ (show (7 : Nat) < 100 by omega) (show (13 : Nat) < 100 by omega), d _ _ _ _ (show (10 : Nat) < 100 by omega) (show (6 : Nat) < 100 by omega), d _ _ _ _ (show (10 : Nat) < 100 by omega) (show (7 : Nat) < 100 by omega), d _ _ _ _ (show (10 : Nat) < 100 by omega) (show (10 : Nat) < 100 by omega), d _ _ _ _ (show (10 : Nat) < 100 by omega) (show (11 : Nat) < 100 by omega), d _ _ _ _ (show (10 : Nat) < 100 by omega) (show (12 : Nat) < 100 by omega), d _ _ _ _ (show (10 : Nat) < 100 by omega) (show (13 : Nat) < 100 by omega), d _ _ _ _ (show (11 : Nat) < 100 by omega) (show (6 : Nat) < 100 by omega), d _ _ _ _ (show (11 : Nat) < 100 by omega) (show (7 : Nat) < 100 by omega), d _ _ _ _ (show (11 : Nat) < 100 by omega) (show (10 : Nat) < 100 by omega), d _ _ _ _ (show (11 : Nat) < 100 by omega) (show (11 : Nat) < 100 by omega), d _ _ _ _ (show (11 : Nat) < 100 by omega) (show (12 : Nat) < 100 by omega), d _ _ _ _ (show (11 : Nat) < 100 by omega) (show (13 : Nat) < 100 by omega), d _ _ _ _ (show (12 : Nat) < 100 by omega) (show (6 : Nat) < 100 by omega), d _ _ _ _ (show (12 : Nat) < 100 by omega) (show (7 : Nat) < 100 by omega), d _ _ _ _ (show (12 : Nat) < 100 by omega) (show (10 : Nat) < 100 by omega), d _ _ _ _ (show (12 : Nat) < 100 by omega) (show (11 : Nat) < 100 by omega), d _ _ _ _ (show (12 : Nat) < 100 by omega) (show (12 : Nat) < 100 by omega), d _ _ _ _ (show (12 : Nat) < 100 by omega) (show (13 : Nat) < 100 by omega), d _ _ _ _ (show (13 : Nat) < 100 by omega) (show (6 : Nat) < 100 by omega), d _ _ _ _ (show (13 : Nat) < 100 by omega) (show (7 : Nat) < 100 by omega), d _ _ _ _ (show (13 : Nat) < 100 by omega) (show (10 : Nat) < 100 by omega), d _ _ _ _ (show (13 : Nat) < 100 by omega) (show (11 : Nat) < 100 by omega), d _ _ _ _ (show (13 : Nat) < 100 by omega) (show (12 : Nat) < 100 by omega), d _ _ _ _ (show (13 : Nat) < 100 by omega) (show (13 : Nat) < 100 by omega), ob_s, pl_s, reduceIte, Nat.reduceEqDiff, fu_id]
  all_goals rfl
end DO
