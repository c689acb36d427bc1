/-! PURE: knobs -/
set_option maxRecDepth 100000
abbrev T3 : Type := Int32 × Int32 × Int32
def sgn (k : Nat) : Int32 := if k % 2 = 0 then 1 else -1
def trn (k : Nat) (t : T3) : Option T3 := if k < 2 then (if 0 ≤ t.1 + sgn k ∧ t.1 + sgn k ≤ 10 then some (t.1 + sgn k, t.2.1, t.2.2) else none) else if k < 4 then (if 0 ≤ t.2.1 + 10 * sgn k ∧ t.2.1 + 10 * sgn k ≤ 100 then some (t.1, t.2.1 + 10 * sgn k, t.2.2) else none) else (if 1 ≤ t.2.2 + sgn k ∧ t.2.2 + sgn k ≤ 20 then some (t.1, t.2.1, t.2.2 + sgn k) else none)
def rg3 (t : T3) : Prop := ((0 : Int32) ≤ t.1 ∧ t.1 ≤ 10) ∧ ((0 : Int32) ≤ t.2.1 ∧ t.2.1 ≤ 100) ∧ ((1 : Int32) ≤ t.2.2 ∧ t.2.2 ≤ 20)
theorem trn_rg {k : Nat} {t t2 : T3} (h : rg3 t) (e : trn k t = some t2) : rg3 t2 := by
  unfold trn at e
  split at e
  · split at e
    · cases e; exact ⟨by assumption, h.2⟩
    · cases e
  · split at e
    · split at e
      · cases e; exact ⟨h.1, by assumption, h.2.2⟩
      · cases e
    · split at e
      · cases e; exact ⟨h.1, h.2.1, by assumption⟩
      · cases e
/-- where the class' knobs stand -/
def kn (G : St) : T3 := (G 0 8 0 0 + G 19 1 0 0, G 0 9 0 0 + G 19 2 0 0, G 0 10 0 0 + G 19 3 0 0)
theorem kn_warm (t : T3) (h : rg3 t) : 0 ≤ t.2.1.toInt ∧ t.2.1.toInt ≤ 100 := by
  have a1 := le_i.mp h.2.1.1
  have a2 := le_i.mp h.2.1.2
  have k0 : (0 : Int32).toInt = 0 := rfl
  have k1 : (100 : Int32).toInt = 100 := rfl
  omega
theorem kn_mu (t : T3) (h : rg3 t) : 0 ≤ t.2.2.toInt ∧ t.2.2.toInt ≤ 20 := by
  have a1 := le_i.mp h.2.2.1
  have a2 := le_i.mp h.2.2.2
  have k0 : (1 : Int32).toInt = 1 := rfl
  have k1 : (20 : Int32).toInt = 20 := rfl
  omega
section KN
variable {F G : St} {T : Nat}
theorem c_step6 (G : St) : fn_X6_step G = some (G 0 8 0 0 + G 19 1 0 0) := rfl
theorem c_warm6 (G : St) : fn_X6_warmth G = some (G 0 9 0 0 + G 19 2 0 0) := rfl
theorem c_much6 (G : St) : fn_X6_much G = some (G 0 10 0 0 + G 19 3 0 0) := rfl
/-- the class turns a knob -/
def tl6 (F21 : St) : Option (St × Int32) := ob (fn_X6_step F21) (fun r23 => ob (fn_X0_isIn F21 r23.toInt64 (0 : Int64) (10 : Int64)) (fun r25 => if r25 = 0 then some (F21, (0 : Int32)) else ob (fn_X6_warmth F21) (fun r28 => ob (fn_X0_isIn F21 r28.toInt64 (0 : Int64) (100 : Int64)) (fun r30 => if r30 = 0 then some (F21, (0 : Int32)) else ob (fn_X6_much F21) (fun r33 => ob (fn_X0_isIn F21 r33.toInt64 (1 : Int64) (20 : Int64)) (fun r35 => if r35 = 0 then some (F21, (0 : Int32)) else some (F21, (1 : Int32))))))))
theorem tl6_y (F21 : St) (h : rg3 (kn F21)) : tl6 F21 = some (F21, 1) := by
  have h1 : (0 : Int32) ≤ F21 0 8 0 0 + F21 19 1 0 0 ∧ F21 0 8 0 0 + F21 19 1 0 0 ≤ 10 := h.1
  have h2 : (0 : Int32) ≤ F21 0 9 0 0 + F21 19 2 0 0 ∧ F21 0 9 0 0 + F21 19 2 0 0 ≤ 100 := h.2.1
  have h3 : (1 : Int32) ≤ F21 0 10 0 0 + F21 19 3 0 0 ∧ F21 0 10 0 0 + F21 19 3 0 0 ≤ 20 := h.2.2
  unfold tl6
  rw [c_step6, ob_s, isIn_l F21 _ 0 10 (l2 := 0) (h2 := 10) rfl rfl, ob_s, if_pos h1, if_neg n10, c_warm6, ob_s, isIn_l F21 _ 0 100 (l2 := 0) (h2 := 100) rfl rfl, ob_s, if_pos h2, if_neg n10, c_much6, ob_s, isIn_l F21 _ 1 20 (l2 := 1) (h2 := 20) rfl rfl, ob_s, if_pos h3, if_neg n10]
theorem tl6_n (F21 : St) (h : ¬ rg3 (kn F21)) : tl6 F21 = some (F21, 0) := by
  unfold tl6
  rw [c_step6, ob_s, isIn_l F21 _ 0 10 (l2 := 0) (h2 := 10) rfl rfl, ob_s]
  by_cases h1 : (0 : Int32) ≤ F21 0 8 0 0 + F21 19 1 0 0 ∧ F21 0 8 0 0 + F21 19 1 0 0 ≤ 10
  · rw [if_pos h1, if_neg n10, c_warm6, ob_s, isIn_l F21 _ 0 100 (l2 := 0) (h2 := 100) rfl rfl, ob_s]
    by_cases h2 : (0 : Int32) ≤ F21 0 9 0 0 + F21 19 2 0 0 ∧ F21 0 9 0 0 + F21 19 2 0 0 ≤ 100
    · rw [if_pos h2, if_neg n10, c_much6, ob_s, isIn_l F21 _ 1 20 (l2 := 1) (h2 := 20) rfl rfl, ob_s, if_neg (show ¬ ((1 : Int32) ≤ F21 0 10 0 0 + F21 19 3 0 0 ∧ F21 0 10 0 0 + F21 19 3 0 0 ≤ 20) from fun h3 => h ⟨h1, h2, h3⟩), if_pos z00]
    · rw [if_neg h2, if_pos z00]
  · rw [if_neg h1, if_pos z00]
def K3 (G : St) (a b c : Int32) : St := fu (fu (fu G 19 1 0 0 (G 19 1 0 0 + a)) 19 2 0 0 ((fu G 19 1 0 0 (G 19 1 0 0 + a)) 19 2 0 0 + b)) 19 3 0 0 ((fu (fu G 19 1 0 0 (G 19 1 0 0 + a)) 19 2 0 0 ((fu G 19 1 0 0 (G 19 1 0 0 + a)) 19 2 0 0 + b)) 19 3 0 0 + c)
theorem K3_o (G : St) (a b c : Int32) {k p y j : Nat} (hk : k ≠ 19) : K3 G a b c k p y j = G k p y j := by
  unfold K3
  rw [fu_n _ _ _ _ _ _ (by omega), fu_n _ _ _ _ _ _ (by omega), fu_n _ _ _ _ _ _ (by omega)]
theorem K3_kn (G : St) (a b c : Int32) : kn (K3 G a b c) = ((kn G).1 + a, (kn G).2.1 + b, (kn G).2.2 + c) := by
  unfold kn
  rw [K3_o G a b c (k := 0) (by omega), K3_o G a b c (k := 0) (by omega), K3_o G a b c (k := 0) (by omega)]
  have e1 : K3 G a b c 19 1 0 0 = G 19 1 0 0 + a := by
    unfold K3
    rw [fu_n _ _ _ _ _ _ (by omega), fu_n _ _ _ _ _ _ (by omega), fu_s]
  have e2 : K3 G a b c 19 2 0 0 = G 19 2 0 0 + b := by
    unfold K3
    rw [fu_n _ _ _ _ _ _ (by omega), fu_s, fu_n _ _ _ _ _ _ (by omega)]
  have e3 : K3 G a b c 19 3 0 0 = G 19 3 0 0 + c := by
    unfold K3
    rw [fu_s, fu_n _ _ _ _ _ _ (by omega), fu_n _ _ _ _ _ _ (by omega)]
  rw [e1, e2, e3, Int32.add_assoc, Int32.add_assoc, Int32.add_assoc]
theorem kd : ∀ k, k < 6 → ((oN k - oN k / 2 * 2 = 0 ↔ k % 2 = 0) ∧ (oN k / 2 = 0 ↔ k / 2 = 0) ∧ (oN k / 2 = 1 ↔ k / 2 = 1) ∧ (oN k / 2 = 2 ↔ k / 2 = 2) ∧ (2 ≤ oN k ↔ 2 ≤ k) ∧ (oN k ≤ 3 ↔ k ≤ 3)) := by decide
theorem turn_e {k : Nat} (hk : k < 6) : fn_X6_turn G (oN k) = tl6 (K3 G (if k / 2 = 0 then sgn k else 0) (if k / 2 = 1 then 10 * sgn k else 0) (if k / 2 = 2 then sgn k else 0)) := by
  obtain ⟨d1, d2, d3, d4, -⟩ := kd k hk
  unfold fn_X6_turn
  rw [ob_ite, ob_ite, pl_s, ob_ite, pl_s, ob_ite, pl_s]
  simp only [d1, d2, d3, d4]
  rfl
theorem c_turn {k : Nat} (hk : k < 6) (hg : rg3 (kn G)) : ∃ a b c r, fn_X6_turn G (oN k) = some (K3 G a b c, r) ∧ ((∃ t, trn k (kn G) = some t ∧ kn (K3 G a b c) = t ∧ r = 1) ∨ (trn k (kn G) = none ∧ r = 0)) := by
  have key : ∀ a b c, fn_X6_turn G (oN k) = tl6 (K3 G a b c) → (rg3 ((kn G).1 + a, (kn G).2.1 + b, (kn G).2.2 + c) → trn k (kn G) = some ((kn G).1 + a, (kn G).2.1 + b, (kn G).2.2 + c)) → (¬ rg3 ((kn G).1 + a, (kn G).2.1 + b, (kn G).2.2 + c) → trn k (kn G) = none) → ∃ a b c r, fn_X6_turn G (oN k) = some (K3 G a b c, r) ∧ ((∃ t, trn k (kn G) = some t ∧ kn (K3 G a b c) = t ∧ r = 1) ∨ (trn k (kn G) = none ∧ r = 0)) := by
    intro a b c e h1 h2
    by_cases h : rg3 (kn (K3 G a b c))
    · refine ⟨a, b, c, 1, e.trans (tl6_y _ h), Or.inl ⟨_, ?_, rfl, rfl⟩⟩
      rw [K3_kn] at h ⊢
      exact h1 h
    · refine ⟨a, b, c, 0, e.trans (tl6_n _ h), Or.inr ⟨?_, rfl⟩⟩
      rw [K3_kn] at h
      exact h2 h
  have z : ∀ x : Int32, x + 0 = x := Int32.add_zero
  have e := turn_e (G := G) hk
  rcases (show k < 2 ∨ (2 ≤ k ∧ k < 4) ∨ 4 ≤ k by omega) with q | q | q
  · rw [if_pos (show k / 2 = 0 by omega), if_neg (show ¬ k / 2 = 1 by omega), if_neg (show ¬ k / 2 = 2 by omega)] at e
    refine key _ _ _ e (fun h => ?_) (fun h => ?_)
    · rw [z, z] at h ⊢
      unfold trn
      rw [if_pos q]
      exact if_pos h.1
    · rw [z, z] at h
      unfold trn
      rw [if_pos q]
      exact if_neg (fun q => h ⟨q, hg.2⟩)
  · rw [if_neg (show ¬ k / 2 = 0 by omega), if_pos (show k / 2 = 1 by omega), if_neg (show ¬ k / 2 = 2 by omega)] at e
    refine key _ _ _ e (fun h => ?_) (fun h => ?_)
    · rw [z, z] at h ⊢
      unfold trn
      rw [if_neg (show ¬ k < 2 by omega), if_pos q.2]
      exact if_pos h.2.1
    · rw [z, z] at h
      unfold trn
      rw [if_neg (show ¬ k < 2 by omega), if_pos q.2]
      exact if_neg (fun q => h ⟨hg.1, q, hg.2.2⟩)
  · rw [if_neg (show ¬ k / 2 = 0 by omega), if_neg (show ¬ k / 2 = 1 by omega), if_pos (show k / 2 = 2 by omega)] at e
    refine key _ _ _ e (fun h => ?_) (fun h => ?_)
    · rw [z, z] at h ⊢
      unfold trn
      rw [if_neg (show ¬ k < 2 by omega), if_neg (show ¬ k < 4 by omega)]
      exact if_pos h.2.2
    · rw [z, z] at h
      unfold trn
      rw [if_neg (show ¬ k < 2 by omega), if_neg (show ¬ k < 4 by omega)]
      exact if_neg (fun q => h ⟨hg.1, hg.2.1, q⟩)
/-- the model turns a knob -/
theorem isT_a {H : St} {k : Nat} (hk : k < 2) (p : Int32) : fn_X8_isTurned H (oN k) p = some (if 0 ≤ H 30 4 0 0 + (if k % 2 = 0 then p else -p) ∧ H 30 4 0 0 + (if k % 2 = 0 then p else -p) ≤ 10 then (fu H 30 4 0 0 (H 30 4 0 0 + (if k % 2 = 0 then p else -p)), 1) else (H, 0)) := by
  obtain ⟨d1, d2, d3, d4, d5, d6⟩ := kd k (by omega)
  unfold fn_X8_isTurned
  rw [ob_ite, if_neg (fun q => by have := d5.mp q; omega), in_e, ob_s]
  simp only [d1]
  generalize (if k % 2 = 0 then p else -p) = y
  by_cases c : 0 ≤ H 30 4 0 0 + y ∧ H 30 4 0 0 + y ≤ 10
  · rw [if_pos c, if_pos c, if_neg n10, pl_s]
  · rw [if_neg c, if_neg c, if_pos z00, if_neg (fun q => by have := d3.mp q; omega), if_pos (d6.mpr (by omega))]
theorem isT_b {H : St} {k : Nat} (hk : 2 ≤ k ∧ k < 4) (p : Int32) : fn_X8_isTurned H (oN k) p = some (if 0 ≤ H 30 10 0 0 + 10 * (if k % 2 = 0 then p else -p) ∧ H 30 10 0 0 + 10 * (if k % 2 = 0 then p else -p) ≤ 100 then (fu H 30 10 0 0 (H 30 10 0 0 + 10 * (if k % 2 = 0 then p else -p)), 1) else (H, 0)) := by
  obtain ⟨d1, d2, d3, d4, d5, d6⟩ := kd k (by omega)
  unfold fn_X8_isTurned
  rw [ob_ite, if_pos (d5.mpr hk.1), if_pos (d3.mpr (by omega)), in_e, ob_s]
  simp only [d1]
  generalize (if k % 2 = 0 then p else -p) = y
  by_cases c : 0 ≤ H 30 10 0 0 + 10 * y ∧ H 30 10 0 0 + 10 * y ≤ 100
  · rw [if_pos c, if_pos c, if_neg n10, pl_s]
  · rw [if_neg c, if_neg c, if_pos z00, if_pos (d6.mpr (by omega))]
theorem isT_c {H : St} {k : Nat} (hk : 4 ≤ k ∧ k < 6) (p : Int32) : fn_X8_isTurned H (oN k) p = some (if 1 ≤ H 30 11 0 0 + (if k % 2 = 0 then p else -p) ∧ H 30 11 0 0 + (if k % 2 = 0 then p else -p) ≤ 20 then (fu H 30 11 0 0 (H 30 11 0 0 + (if k % 2 = 0 then p else -p)), 1) else (H, 0)) := by
  obtain ⟨d1, d2, d3, d4, d5, d6⟩ := kd k (by omega)
  unfold fn_X8_isTurned
  rw [ob_ite, if_pos (d5.mpr (by omega)), if_neg (fun q => by have := d3.mp q; omega), if_neg (fun q => by have := d6.mp q; omega), in_e, ob_s]
  simp only [d1]
  generalize (if k % 2 = 0 then p else -p) = y
  by_cases c : 1 ≤ H 30 11 0 0 + y ∧ H 30 11 0 0 + y ≤ 20
  · rw [if_pos c, if_pos c, if_neg n10, pl_s]
  · rw [if_neg c, if_neg c, if_pos z00]
theorem m_turn {F1 H : St} {t : T3} (h : MT F1 H t.1 t.2.1 t.2.2) {k : Nat} (hk : k < 6) : ∃ H2 r, fn_X8_isTurned H (oN k) 1 = some (H2, r) ∧ (∀ q j, q = 45 ∨ q = 46 → H2 q 0 0 j = H q 0 0 j) ∧ ((∃ t2, trn k t = some t2 ∧ MT F1 H2 t2.1 t2.2.1 t2.2.2 ∧ r = 1) ∨ (trn k t = none ∧ MT F1 H2 t.1 t.2.1 t.2.2 ∧ r = 0)) := by
  obtain ⟨s, w, g⟩ := t
  have e4 : H 30 4 0 0 = s := h.2.2.1
  have e10 : H 30 10 0 0 = w := h.2.2.2.1
  have e11 : H 30 11 0 0 = g := h.2.2.2.2
  have es : (if k % 2 = 0 then (1 : Int32) else -1) = sgn k := rfl
  rcases (show k < 2 ∨ (2 ≤ k ∧ k < 4) ∨ (4 ≤ k ∧ k < 6) by omega) with q | q | q
  · have e := isT_a (H := H) q 1
    rw [e4, es] at e
    unfold trn
    rw [if_pos q]
    by_cases c : 0 ≤ s + sgn k ∧ s + sgn k ≤ 10
    · rw [if_pos c] at e
      exact ⟨_, _, e, fun q j hq => fu_n _ _ _ _ _ _ (by omega), Or.inl ⟨_, if_pos c, h.fu4 _, rfl⟩⟩
    · rw [if_neg c] at e
      exact ⟨_, _, e, fun _ _ _ => rfl, Or.inr ⟨if_neg c, h, rfl⟩⟩
  · have e := isT_b (H := H) q 1
    rw [e10, es] at e
    unfold trn
    rw [if_neg (show ¬ k < 2 by omega), if_pos q.2]
    by_cases c : 0 ≤ w + 10 * sgn k ∧ w + 10 * sgn k ≤ 100
    · rw [if_pos c] at e
      exact ⟨_, _, e, fun q j hq => fu_n _ _ _ _ _ _ (by omega), Or.inl ⟨_, if_pos c, h.fu10 _, rfl⟩⟩
    · rw [if_neg c] at e
      exact ⟨_, _, e, fun _ _ _ => rfl, Or.inr ⟨if_neg c, h, rfl⟩⟩
  · have e := isT_c (H := H) q 1
    rw [e11, es] at e
    unfold trn
    rw [if_neg (show ¬ k < 2 by omega), if_neg (show ¬ k < 4 by omega)]
    by_cases c : 1 ≤ g + sgn k ∧ g + sgn k ≤ 20
    · rw [if_pos c] at e
      exact ⟨_, _, e, fun q j hq => fu_n _ _ _ _ _ _ (by omega), Or.inl ⟨_, if_pos c, h.fu11 _, rfl⟩⟩
    · rw [if_neg c] at e
      exact ⟨_, _, e, fun _ _ _ => rfl, Or.inr ⟨if_neg c, h, rfl⟩⟩
theorem sgn_b (k : Nat) : (if k % 2 = 0 then (-1 : Int32) else - -1) = - sgn k := by
  unfold sgn
  split
  · rfl
  · decide
theorem un_a (x y : Int32) : x + y + -y = x := by grind
theorem un_b (x y : Int32) : x + 10 * y + 10 * -y = x := by grind
/-- .. and back -/
theorem m_back {F1 H : St} {t t2 : T3} {k : Nat} (hk : k < 6) (ht : rg3 t) (e : trn k t = some t2) (h : MT F1 H t2.1 t2.2.1 t2.2.2) : ∃ H2 r, fn_X8_isTurned H (oN k) (-1) = some (H2, r) ∧ (∀ q j, q = 45 ∨ q = 46 → H2 q 0 0 j = H q 0 0 j) ∧ MT F1 H2 t.1 t.2.1 t.2.2 := by
  obtain ⟨s, w, g⟩ := t
  have sp : ∀ {c : Prop} [Decidable c] {x y : T3}, (if c then some x else none) = some y → y = x := by
    intro c _ x y hh
    split at hh
    · cases hh; rfl
    · cases hh
  unfold trn at e
  rcases (show k < 2 ∨ (2 ≤ k ∧ k < 4) ∨ (4 ≤ k ∧ k < 6) by omega) with q | q | q
  · rw [if_pos q] at e
    have et := sp e
    subst et
    have e4 : H 30 4 0 0 = s + sgn k := h.2.2.1
    have e2 := isT_a (H := H) q (-1)
    rw [e4, sgn_b, un_a, if_pos ht.1] at e2
    exact ⟨_, _, e2, fun q j hq => fu_n _ _ _ _ _ _ (by omega), h.fu4 _⟩
  · rw [if_neg (show ¬ k < 2 by omega), if_pos q.2] at e
    have et := sp e
    subst et
    have e4 : H 30 10 0 0 = w + 10 * sgn k := h.2.2.2.1
    have e2 := isT_b (H := H) q (-1)
    rw [e4, sgn_b, un_b, if_pos ht.2.1] at e2
    exact ⟨_, _, e2, fun q j hq => fu_n _ _ _ _ _ _ (by omega), h.fu10 _⟩
  · rw [if_neg (show ¬ k < 2 by omega), if_neg (show ¬ k < 4 by omega)] at e
    have et := sp e
    subst et
    have e4 : H 30 11 0 0 = g + sgn k := h.2.2.2.2
    have e2 := isT_c (H := H) q (-1)
    rw [e4, sgn_b, un_a, if_pos ht.2.2] at e2
    exact ⟨_, _, e2, fun q j hq => fu_n _ _ _ _ _ _ (by omega), h.fu11 _⟩
/-- laid: the knobs stand as told -/
theorem lay_e (hr : Rel F) : ∃ G, fn_X6_lay F = some G ∧ Try F G ∧ kn G = (F 30 4 0 0, F 30 10 0 0, F 30 11 0 0) := by
  obtain ⟨⟨hp, hq, ⟨e8, e9, e10, -⟩, -⟩, -⟩ := id hr
  refine ⟨_, rfl, (((Try.refl hr).fu (by omega)).fu (by omega)).fu (by omega), ?_⟩
  simp [kn, fu, e8, e9, e10]
theorem lay_t {G0 : St} (hr : Rel F) (ht : Try F G0) : ∃ G, fn_X6_lay G0 = some G ∧ Try F G ∧ kn G = (F 30 4 0 0, F 30 10 0 0, F 30 11 0 0) := by
  obtain ⟨⟨hp, hq, ⟨e8, e9, e10, -⟩, -⟩, -⟩ := id hr
  have c : ∀ p, G0 0 p 0 0 = F 0 p 0 0 := fun p => ht.1 0 p 0 0 (by unfold bl; omega) (by omega) (by omega) (by omega)
  refine ⟨_, rfl, ((ht.fu (by omega)).fu (by omega)).fu (by omega), ?_⟩
  simp [kn, fu, c, e8, e9, e10]
theorem Try.K3 (h : Try F G) (a b c : Int32) : Try F (Jvm.Pilot.@@N@@.K3 G a b c) := ((h.fu (by omega)).fu (by omega)).fu (by omega)
theorem told_rg (hr : Rel F) : rg3 (F 30 4 0 0, F 30 10 0 0, F 30 11 0 0) := by
  obtain ⟨⟨-, -, -, h4, h5, h6, -⟩, -⟩ := hr
  have k0 : (0 : Int32).toInt = 0 := rfl
  have k1 : (1 : Int32).toInt = 1 := rfl
  have k10 : (10 : Int32).toInt = 10 := rfl
  have k20 : (20 : Int32).toInt = 20 := rfl
  have k100 : (100 : Int32).toInt = 100 := rfl
  exact ⟨⟨le_i.mpr (show (0 : Int32).toInt ≤ (F 30 4 0 0).toInt by omega), le_i.mpr (show (F 30 4 0 0).toInt ≤ (10 : Int32).toInt by omega)⟩, ⟨le_i.mpr (show (0 : Int32).toInt ≤ (F 30 10 0 0).toInt by omega), le_i.mpr (show (F 30 10 0 0).toInt ≤ (100 : Int32).toInt by omega)⟩, ⟨le_i.mpr (show (1 : Int32).toInt ≤ (F 30 11 0 0).toInt by omega), le_i.mpr (show (F 30 11 0 0).toInt ≤ (20 : Int32).toInt by omega)⟩⟩
/-- the class tastes where its knobs stand -/
theorem c_kn (hr : Rel F) (h : Try F G) (hT : F 0 11 0 0 = oN T) (hT2 : T ≤ 60) (hg : rg3 (kn G)) : Ok (fn_X5_taste_19 G) (fun r => Try F r.1 ∧ r.2 = tstS F (kn G).1 (kn G).2.1 (kn G).2.2 T) := by
  obtain ⟨b, hb⟩ := h.2
  refine ok_mono (c_taste19 (h.cbr hr hT hT2 (kn_mu _ hg) (kn_warm _ hg)) hb) (fun r hrr => ?_)
  obtain ⟨h1, h2⟩ := hrr
  exact ⟨h.next h1, by rw [h2, tst_c h.agr h.h37]; rfl⟩
theorem bo_knob (p : Int32) : Bo (fun F => fn_X0_knob F p) (fun F => fn_X8_knob F p) := by
  intro F hr
  obtain ⟨T, hT1, hT2, hT3, hT4, -, -⟩ := hr.cbr
  show Ok (fn_X0_knob F p) _
  unfold fn_X0_knob
  rw [isIn_l F p 0 5 (l2 := 0) (h2 := 5) rfl rfl, ob_s]
  by_cases h : (0 : Int32) ≤ p ∧ p ≤ 5
  · obtain ⟨k, -, hk, rfl⟩ := rng (l := 0) (h := 5) (by omega) (by omega) h
    rw [if_pos h]
    obtain ⟨G, g1, g2, g3⟩ := lay_e hr
    have hrg := told_rg hr
    rw [g1, ob_s]
    obtain ⟨a, b, c, r, t1, t2⟩ := c_turn (G := G) (k := k) (by omega) (by rw [g3]; exact hrg)
    rw [t1, ob2_s, g3] at *
    refine ok_itn n10 ?_
    have hG := g2.K3 a b c
    have mk : ∀ G1, Try F G1 → ∃ H2 r, fn_X8_isTurned G1 (oN k) 1 = some (H2, r) ∧ (∀ q j, q = 45 ∨ q = 46 → H2 q 0 0 j = G1 q 0 0 j) ∧ ((∃ t2, trn k (F 30 4 0 0, F 30 10 0 0, F 30 11 0 0) = some t2 ∧ MT G1 H2 t2.1 t2.2.1 t2.2.2 ∧ r = 1) ∨ (trn k (F 30 4 0 0, F 30 10 0 0, F 30 11 0 0) = none ∧ MT G1 H2 (F 30 4 0 0) (F 30 10 0 0) (F 30 11 0 0) ∧ r = 0)) := fun G1 hG1 => by
      have cG := (try_par hr hG1).2
      have hs := MT.start G1
      rw [cG 4, cG 10, cG 11] at hs
      exact m_turn (t := (F 30 4 0 0, F 30 10 0 0, F 30 11 0 0)) hs (by omega)
    rcases t2 with ⟨t, s1, s2, s3⟩ | ⟨s1, s3⟩
    · subst s3
      have hrt := trn_rg hrg s1
      refine ok_itn n10 (ok_ob2 (c_kn hr hG hT4 hT2 (by rw [s2]; exact hrt)) (fun G1 r1 h1 => ok_some ?_))
      obtain ⟨u1, u2⟩ := h1
      have u1 : Try F G1 := u1
      have u2 : r1 = _ := u2
      show Ok (fn_X8_knob G1 (oN k)) (fun q => q.2 = r1 ∧ Rel q.1)
      obtain ⟨hpG, cG⟩ := try_par hr u1
      obtain ⟨H2, rr, w1, -, w2⟩ := mk G1 u1
      unfold fn_X8_knob
      rw [in_e, ob_s, if_pos h, w1, ob2_s]
      rcases w2 with ⟨t2, v1, v2, v3⟩ | ⟨v1, -⟩
      · have et : t2 = t := Option.some.inj (v1.symm.trans s1)
        subst et
        subst v3
        refine ok_itn n10 (ok_itn n10 (ok_ob2 (m_try hpG (by rw [cG 16]; exact hT3) hT2 v2 (kn_mu _ hrt) (kn_warm _ hrt)) (fun H3 r3 h3 => ?_)))
        obtain ⟨x1, x2, x3⟩ := h3
        have x3 : r3 = _ := x3
        obtain ⟨H4, r4, y1, -, y2⟩ := m_back (F1 := G1) (H := H3) (k := k) (by omega) hrg s1 x1
        rw [y1, ob2_s]
        refine ok_some ⟨?_, ?_⟩
        · show r3 = r1
          rw [x3, u2, s2, tst_c u1.agr u1.h37]
        · have y2 : MT G1 H4 (F 30 4 0 0) (F 30 10 0 0) (F 30 11 0 0) := y2
          rw [← cG 4, ← cG 10, ← cG 11] at y2
          exact Rel_sm hr (sm_try u1 y2.end)
      · rw [s1] at v1; cases v1
    · subst s3
      refine ok_itp z00 (ok_some ?_)
      show Ok (fn_X8_knob (Jvm.Pilot.@@N@@.K3 G a b c) (oN k)) _
      obtain ⟨H2, rr, w1, -, w2⟩ := mk _ hG
      obtain ⟨hpG, cG⟩ := try_par hr hG
      unfold fn_X8_knob
      rw [in_e, ob_s, if_pos h, w1, ob2_s]
      rcases w2 with ⟨t2, v1, v2, v3⟩ | ⟨v1, v2, v3⟩
      · rw [s1] at v1; cases v1
      · subst v3
        rw [← cG 4, ← cG 10, ← cG 11] at v2
        exact ok_itn n10 (ok_itp z00 (ok_some ⟨rfl, Rel_sm hr (sm_try hG v2.end)⟩))
  · rw [if_neg h]
    refine ok_itp z00 (ok_some ?_)
    show Ok (fn_X8_knob F p) _
    unfold fn_X8_knob
    rw [in_e, ob_s, if_neg h]
    exact ok_itp z00 (ok_some ⟨rfl, hr⟩)
end KN
