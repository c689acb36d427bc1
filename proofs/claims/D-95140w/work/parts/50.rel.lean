/-! PURE: class and model side by side -/
set_option maxRecDepth 100000
def RP (F : St) : Prop := PB F ∧ Par F ∧ (F 0 8 0 0 = F 30 4 0 0 ∧ F 0 9 0 0 = F 30 10 0 0 ∧ F 0 10 0 0 = F 30 11 0 0 ∧ F 0 11 0 0 = F 30 16 0 0 ∧ ∀ k, k < 5 → F 26 0 0 k = F 37 0 0 k) ∧ (0 ≤ (F 30 4 0 0).toInt ∧ (F 30 4 0 0).toInt ≤ 10) ∧ (0 ≤ (F 30 10 0 0).toInt ∧ (F 30 10 0 0).toInt ≤ 100) ∧ (1 ≤ (F 30 11 0 0).toInt ∧ (F 30 11 0 0).toInt ≤ 20) ∧ ∃ T, 1 ≤ T ∧ T ≤ 60 ∧ F 30 16 0 0 = oN T
/-- a bed of the class, and where the model has it (kind k, from place d) -/
def RD (F : St) (i k d : Nat) : Prop := ∃ t b, Inv F (F 30 11 0 0) t b ∧ RB i F F b ∧ ∀ g x, ix g x → F k 0 0 (d + (16 * g + x)) = b g x
def RK (F : St) : Prop := (∃ k0 k1, k0 < 2 ∧ k1 < 2 ∧ F 0 17 0 0 = oN (k0 + 2 * k1) ∧ F 43 0 0 0 = oN k0 ∧ F 43 0 0 1 = oN k1) ∧ ∀ k, k < 2 → F 43 0 0 k ≠ 0 → RD F (1 + k) 42 (138 * k)
def RQ (F : St) : Prop := ∀ i, i < 4 → ∃ b, RB i F F b
def RT (F : St) : Prop := ∃ n, n ≤ 200 ∧ F 0 20 0 0 = oN n ∧ F 30 18 0 0 = oN n ∧ ∀ j, j < n → ∃ v, v < 256 ∧ F 38 0 0 j = oN v ∧ F 15 0 0 j = (oN v).toInt8.toInt32
def Rel (F : St) : Prop := RP F ∧ RD F 0 40 0 ∧ RK F ∧ RQ F ∧ RT F
theorem nf_inv (F : St) (mu : Int32) (t : Nat) (b : Bt) : Inv (nf F) mu t b = Inv F mu t b := rfl
theorem inv_c {F F2 : St} (h : agr F F2) {mu : Int32} {t : Nat} {b : Bt} (hv : Inv F mu t b) : Inv F2 mu t b := by
  rw [← nf_inv, nf_e h, nf_inv]
  exact hv
theorem cel_a {F F2 : St} (h : agr F F2) : cel F2 = cel F := by rw [← nf_cel F2, nf_e h, nf_cel]
theorem vb_a {F F2 : St} (h : agr F F2) {g x : Nat} (hv : vb F2 g x) : vb F g x := by
  unfold vb at hv ⊢
  rw [cel_a h] at hv
  exact hv
/-- a bed that stays where it is, over another base -/
theorem rb_c {F F1 F2 : St} {i : Nat} {b : Bt} (hi : i < 4) (h : RB i F F1 b) (ag : agr F F2) (hs : ∀ k p y j, bl i k y → F2 k p y j = F1 k p y j) : RB i F2 F2 b := by
  obtain ⟨b', h1, h2⟩ := h
  refine ⟨b', ⟨fun _ _ _ _ _ => rfl, fun g x hv => ?_, fun g x hg hx => ?_⟩, h2⟩
  · rw [← h1.2.1 g x (vb_a ag hv)]
    exact hs _ _ _ _ (lb_bl hi (vb_a ag hv))
  · rw [← h1.2.2 g x hg hx]
    exact hs _ _ _ _ (lm_bl hi)
def pk (k p : Nat) : Prop := (k = 0 ∧ p ≠ 17 ∧ p ≠ 20) ∨ k = 11 ∨ k = 13 ∨ k = 23 ∨ k = 24 ∨ k = 25 ∨ k = 26 ∨ (k = 30 ∧ p < 18) ∨ (31 ≤ k ∧ k ≤ 37)
theorem pk_agr {F F2 : St} (h : ∀ k p y j, pk k p → F2 k p y j = F k p y j) : agr F F2 := fun k p i j h1 h2 h3 => h k p i j (by unfold pk; omega)
theorem Par_c {F F2 : St} (h : ∀ k p y j, pk k p → F2 k p y j = F k p y j) (hq : Par F) : Par F2 := by
  have a : ∀ k p y j, pk k p → F2 k p y j = F k p y j := h
  obtain ⟨q1, q2, q3, q4, q5, q6, q7, q8, q9, q10, q11⟩ := hq
  unfold Par
  rw [a 0 0 0 0 (by unfold pk; omega), a 0 1 0 0 (by unfold pk; omega), a 0 6 0 0 (by unfold pk; omega), a 0 7 0 0 (by unfold pk; omega), a 0 14 0 0 (by unfold pk; omega), a 30 0 0 0 (by unfold pk; omega), a 30 1 0 0 (by unfold pk; omega), a 30 8 0 0 (by unfold pk; omega), a 30 9 0 0 (by unfold pk; omega), a 30 12 0 0 (by unfold pk; omega), a 25 0 0 0 (by unfold pk; omega), a 25 0 0 1 (by unfold pk; omega), a 30 5 0 0 (by unfold pk; omega), a 30 6 0 0 (by unfold pk; omega)]
  exact ⟨q1, q2, q3, q4, q5, fun s hs => by rw [a 23 0 0 s (by unfold pk; omega), a 31 0 0 s (by unfold pk; omega)]; exact q6 s hs, fun s hs => by rw [a 24 0 0 s (by unfold pk; omega), a 32 0 0 s (by unfold pk; omega)]; exact q7 s hs, q8, q9, fun c l hc hl => by rw [a 11 0 c l (by unfold pk; omega), a 33 0 0 _ (by unfold pk; omega)]; exact q10 c l hc hl, fun k hk => by rw [a 13 0 k 0 (by unfold pk; omega), a 13 0 k 1 (by unfold pk; omega), a 13 0 k 2 (by unfold pk; omega), a 34 0 0 k (by unfold pk; omega), a 35 0 0 k (by unfold pk; omega), a 36 0 0 k (by unfold pk; omega)]; exact q11 k hk⟩
theorem RP_c {F F2 : St} (h : ∀ k p y j, pk k p → F2 k p y j = F k p y j) (hq : RP F) : RP F2 := by
  have a : ∀ k p y j, pk k p → F2 k p y j = F k p y j := h
  obtain ⟨h1, h2, h3, h4, h5, h6, h7⟩ := hq
  unfold RP
  rw [a 0 8 0 0 (by unfold pk; omega), a 0 9 0 0 (by unfold pk; omega), a 0 10 0 0 (by unfold pk; omega), a 0 11 0 0 (by unfold pk; omega), a 30 4 0 0 (by unfold pk; omega), a 30 10 0 0 (by unfold pk; omega), a 30 11 0 0 (by unfold pk; omega), a 30 16 0 0 (by unfold pk; omega)]
  exact ⟨PB_c (pk_agr h) h1, Par_c h h2, ⟨h3.1, h3.2.1, h3.2.2.1, h3.2.2.2.1, fun k hk => by rw [a 26 0 0 k (by unfold pk; omega), a 37 0 0 k (by unfold pk; omega)]; exact h3.2.2.2.2 k hk⟩, h4, h5, h6, h7⟩
theorem RD_c {F F2 : St} {i k d : Nat} (hi : i < 4) (ag : agr F F2) (h11 : F2 30 11 0 0 = F 30 11 0 0) (hb : ∀ k p y j, bl i k y → F2 k p y j = F k p y j) (hm : ∀ j, d ≤ j → j < d + 138 → F2 k 0 0 j = F k 0 0 j) (h : RD F i k d) : RD F2 i k d := by
  obtain ⟨t, b, h1, h2, h3⟩ := h
  refine ⟨t, b, by rw [h11]; exact inv_c ag h1, rb_c hi h2 ag hb, fun g x hx => ?_⟩
  have := hx.1
  have := hx.2
  rw [hm _ (by omega) (by omega)]
  exact h3 g x hx
theorem RT_c {F F2 : St} (h1 : F2 0 20 0 0 = F 0 20 0 0) (h2 : F2 30 18 0 0 = F 30 18 0 0) (h3 : ∀ j, F2 38 0 0 j = F 38 0 0 j) (h4 : ∀ j, F2 15 0 0 j = F 15 0 0 j) (h : RT F) : RT F2 := by
  obtain ⟨n, a1, a2, a3, a4⟩ := h
  exact ⟨n, a1, by rw [h1]; exact a2, by rw [h2]; exact a3, fun j hj => by rw [h3, h4]; exact a4 j hj⟩
theorem RK_c {F F2 : St} (ag : agr F F2) (h11 : F2 30 11 0 0 = F 30 11 0 0) (h17 : F2 0 17 0 0 = F 0 17 0 0) (h43 : ∀ j, F2 43 0 0 j = F 43 0 0 j) (h42 : ∀ j, F2 42 0 0 j = F 42 0 0 j) (hb : ∀ i, i = 1 ∨ i = 2 → ∀ k p y j, bl i k y → F2 k p y j = F k p y j) (h : RK F) : RK F2 := by
  obtain ⟨⟨k0, k1, a1, a2, a3, a4, a5⟩, h2⟩ := h
  refine ⟨⟨k0, k1, a1, a2, by rw [h17]; exact a3, by rw [h43]; exact a4, by rw [h43]; exact a5⟩, fun k hk hne => ?_⟩
  rw [h43] at hne
  exact RD_c (by omega) ag h11 (hb (1 + k) (by omega)) (fun j _ _ => h42 j) (h2 k hk hne)
/-- nothing but scratch has changed -/
def scr (k p y : Nat) : Prop := bl 3 k y ∨ k = 16 ∨ k = 17 ∨ k = 19 ∨ k = 20 ∨ k = 22 ∨ k = 27 ∨ k = 28 ∨ k = 39 ∨ k = 40 ∨ k = 41 ∨ k = 44 ∨ k = 45 ∨ k = 46 ∨ (k = 30 ∧ 20 ≤ p)
def Sm (F F2 : St) : Prop := (∀ k p y j, ¬ scr k p y → F2 k p y j = F k p y j) ∧ (∀ j, j < 138 → F2 40 0 0 j = F 40 0 0 j) ∧ ∃ b, RB 3 F2 F2 b
theorem Sm.pa {F F2 : St} (h : Sm F F2) : ∀ k p y j, pk k p → F2 k p y j = F k p y j := fun k p y j hk => h.1 k p y j (fun q => by
  unfold pk at hk
  unfold scr bl at q
  omega)
theorem bl_ne {i j k y : Nat} (hi : i < 4) (hj : j < 4) (hij : i ≠ j) (h : bl i k y) : ¬ bl j k y := fun q => by
  unfold bl at h q
  omega
theorem Sm.bd {F F2 : St} (h : Sm F F2) {i : Nat} (hi : i < 3) : ∀ k p y j, bl i k y → F2 k p y j = F k p y j := fun k p y j hb => h.1 k p y j (fun q => by
  have h1 := bl_ne (j := 3) (by omega) (by omega) (by omega) hb
  unfold bl at hb h1
  unfold scr bl at q
  omega)
theorem Rel_sm {F F2 : St} (hr : Rel F) (h : Sm F F2) : Rel F2 := by
  obtain ⟨h1, h2, h3, h4, h5⟩ := hr
  have ag := pk_agr h.pa
  have e11 := h.pa 30 11 0 0 (by unfold pk; omega)
  have ns : ∀ k p, k = 0 ∨ k = 38 ∨ k = 15 ∨ k = 43 ∨ k = 42 ∨ (k = 30 ∧ p < 20) → ∀ y, ¬ scr k p y := fun k p hk y q => by
    unfold scr bl at q
    omega
  refine ⟨RP_c h.pa h1, RD_c (by omega) ag e11 (h.bd (by omega)) (fun j _ hj => h.2.1 j (by omega)) h2, RK_c ag e11 (h.1 _ _ _ _ (ns 0 17 (by omega) _)) (fun j => h.1 _ _ _ _ (ns 43 0 (by omega) _)) (fun j => h.1 _ _ _ _ (ns 42 0 (by omega) _)) (fun i hi => h.bd (by omega)) h3, fun i hi => ?_, RT_c (h.1 _ _ _ _ (ns 0 20 (by omega) _)) (h.1 _ _ _ _ (ns 30 18 (by omega) _)) (fun j => h.1 _ _ _ _ (ns 38 0 (by omega) _)) (fun j => h.1 _ _ _ _ (ns 15 0 (by omega) _)) h5⟩
  by_cases hi3 : i = 3
  · subst hi3; exact h.2.2
  · obtain ⟨b, hb⟩ := h4 i hi
    exact ⟨b, rb_c hi hb ag (h.bd (by omega))⟩
/-- both answer the same, and stay side by side -/
def Bo (fc fm : St → Option (St × Int32)) : Prop := ∀ F, Rel F → Ok (fc F) (fun r => Ok (fm r.1) (fun q => q.2 = r.2 ∧ Rel q.1))
/-- in range, by ints and by longs -/
theorem in_e (F : St) (a l h : Int32) : fn_X8_in F a l h = some (if l ≤ a ∧ a ≤ h then 1 else 0) := by
  unfold fn_X8_in
  by_cases h1 : a < l
  · rw [if_pos h1, if_neg (fun q => absurd h1 (Int32.not_lt.mpr q.1))]
  · rw [if_neg h1]
    by_cases h2 : h < a
    · rw [if_pos h2, if_neg (fun q => absurd h2 (Int32.not_lt.mpr q.2))]
    · rw [if_neg h2, if_pos ⟨Int32.not_lt.mp h1, Int32.not_lt.mp h2⟩]
theorem isIn_l (F : St) (a : Int32) (l h : Int32) {l2 h2 : Int64} (e1 : l2 = l.toInt64) (e2 : h2 = h.toInt64) : fn_X0_isIn F a.toInt64 l2 h2 = some (if l ≤ a ∧ a ≤ h then 1 else 0) := by rw [e1, e2, isIn_e]
section REL
variable {F : St}
theorem Rel.cbr (hr : Rel F) : ∃ T, 1 ≤ T ∧ T ≤ 60 ∧ F 30 16 0 0 = oN T ∧ F 0 11 0 0 = oN T ∧ Cbr F (F 0 10 0 0) (F 0 8 0 0) (F 0 9 0 0) T ∧ Mbr F T := by
  obtain ⟨⟨h1, h2, h3, h4, h5, h6, T, h7, h8, h9⟩, -⟩ := hr
  refine ⟨T, h7, h8, h9, by rw [h3.2.2.2.1]; exact h9, ⟨h1, h2, by rw [h3.2.2.1]; omega, by rw [h3.2.1]; exact h5, ⟨by rw [h3.2.2.2.1]; exact h9, h8⟩, h3.2.2.2.2⟩, ⟨h1, by omega, h5, h9, h8⟩⟩
/-- the model tastes where the class has tasted -/
theorem sm_taste {F F1 F2 : St} {b : Bt} (hr : Rel F) (h1 : RB 3 F F1 b) (h2 : Scr F1 F2) : Sm F F2 := by
  have o : ∀ k p y j, ¬ bl 3 k y → F1 k p y j = F k p y j := h1.fr
  have ag : agr F F2 := fun k p i j a1 a2 a3 => by
    rw [h2.1 k p i j (by omega) (by omega) (by omega) (by omega)]
    exact o k p i j (by unfold bl; omega)
  refine ⟨fun k p y j hs => ?_, fun j hj => ?_, b, rb_c (by omega) h1 ag (fun k p y j hb => ?_)⟩
  · unfold scr at hs
    rw [h2.1 k p y j (by omega) (by omega) (by omega) (by omega)]
    exact o k p y j (fun q => hs (Or.inl q))
  · rw [h2.2 j hj]
    exact o 40 0 0 j (by unfold bl; omega)
  · unfold bl at hb
    exact h2.1 k p y j (by omega) (by omega) (by omega) (by omega)
end REL
