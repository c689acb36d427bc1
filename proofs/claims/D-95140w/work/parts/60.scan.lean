/-! PURE: tokens, by both -/
set_option maxRecDepth 100000
def kdS (v : Nat) : Nat := if 97 ≤ v ∧ v ≤ 122 then 1 else if 48 ≤ v ∧ v ≤ 57 then 2 else 0
def spF (tx : Nat → Nat) : Nat → Nat → Nat
  | 0, p => p
  | d + 1, p => if tx p = 32 then spF tx d (p + 1) else p
def rnF (tx : Nat → Nat) (k : Nat) : Nat → Nat → Nat
  | 0, p => p
  | d + 1, p => if kdS (tx p) = k then rnF tx k d (p + 1) else p
theorem sp_b (tx : Nat → Nat) : ∀ d p, p ≤ spF tx d p ∧ spF tx d p ≤ p + d ∧ (∀ j, p ≤ j → j < spF tx d p → tx j = 32) ∧ (spF tx d p = p + d ∨ tx (spF tx d p) ≠ 32)
  | 0, p => ⟨Nat.le_refl _, Nat.le_refl _, fun j h1 h2 => by
      have h2 : j < p := h2
      omega, Or.inl rfl⟩
  | d + 1, p => by
    have ih := sp_b tx d (p + 1)
    show p ≤ (if tx p = 32 then spF tx d (p + 1) else p) ∧ _ ∧ (∀ j, p ≤ j → j < (if tx p = 32 then spF tx d (p + 1) else p) → tx j = 32) ∧ ((if tx p = 32 then spF tx d (p + 1) else p) = _ ∨ tx (if tx p = 32 then spF tx d (p + 1) else p) ≠ 32)
    by_cases h : tx p = 32
    · show p ≤ (if tx p = 32 then spF tx d (p + 1) else p) ∧ (if tx p = 32 then spF tx d (p + 1) else p) ≤ _ ∧ _
      rw [if_pos h]
      refine ⟨by omega, by omega, fun j h1 h2 => ?_, ?_⟩
      · by_cases hj : j = p
        · rw [hj]; exact h
        · exact ih.2.2.1 j (by omega) h2
      · rcases ih.2.2.2 with q | q
        · exact Or.inl (by omega)
        · exact Or.inr q
    · show p ≤ (if tx p = 32 then spF tx d (p + 1) else p) ∧ (if tx p = 32 then spF tx d (p + 1) else p) ≤ _ ∧ _
      rw [if_neg h]
      exact ⟨Nat.le_refl _, by omega, fun j h1 h2 => absurd h2 (by omega), Or.inr h⟩
theorem rn_b (tx : Nat → Nat) (k : Nat) : ∀ d p, p ≤ rnF tx k d p ∧ rnF tx k d p ≤ p + d ∧ (∀ j, p ≤ j → j < rnF tx k d p → kdS (tx j) = k) ∧ (rnF tx k d p = p + d ∨ kdS (tx (rnF tx k d p)) ≠ k)
  | 0, p => ⟨Nat.le_refl _, Nat.le_refl _, fun j h1 h2 => by
      have h2 : j < p := h2
      omega, Or.inl rfl⟩
  | d + 1, p => by
    have ih := rn_b tx k d (p + 1)
    by_cases h : kdS (tx p) = k
    · have e : rnF tx k (d + 1) p = rnF tx k d (p + 1) := if_pos h
      rw [e]
      refine ⟨by omega, by omega, fun j h1 h2 => ?_, ?_⟩
      · by_cases hj : j = p
        · rw [hj]; exact h
        · exact ih.2.2.1 j (by omega) h2
      · rcases ih.2.2.2 with q | q
        · exact Or.inl (by omega)
        · exact Or.inr q
    · have e : rnF tx k (d + 1) p = p := if_neg h
      rw [e]
      exact ⟨Nat.le_refl _, by omega, fun j h1 h2 => absurd h2 (by omega), Or.inr h⟩
/-- the token from p on: its start, its end -/
def spS (tx : Nat → Nat) (n p : Nat) : Nat := spF tx (n - p) p
def enS (tx : Nat → Nat) (n s : Nat) : Nat := if n ≤ s then n else if kdS (tx s) = 0 then s + 1 else rnF tx (kdS (tx s)) (n - (s + 1)) (s + 1)
theorem sp_le {tx : Nat → Nat} {n p : Nat} (h : p ≤ n) : p ≤ spS tx n p ∧ spS tx n p ≤ n := by
  have := sp_b tx (n - p) p
  unfold spS
  omega
theorem en_le {tx : Nat → Nat} {n s : Nat} (h : s ≤ n) : s ≤ enS tx n s ∧ enS tx n s ≤ n := by
  unfold enS
  split
  · omega
  · split
    · omega
    · have := rn_b tx (kdS (tx s)) (n - (s + 1)) (s + 1)
      omega
theorem en_gt {tx : Nat → Nat} {n s : Nat} (h : s < n) : s < enS tx n s := by
  unfold enS
  rw [if_neg (by omega)]
  split
  · omega
  · have := rn_b tx (kdS (tx s)) (n - (s + 1)) (s + 1)
    omega
/-- all of a token is of a kind -/
theorem en_kd {tx : Nat → Nat} {n s : Nat} (h : s < n) (hk : kdS (tx s) ≠ 0) : ∀ j, s ≤ j → j < enS tx n s → kdS (tx j) = kdS (tx s) := fun j h1 h2 => by
  unfold enS at h2
  rw [if_neg (by omega), if_neg hk] at h2
  by_cases hj : j = s
  · rw [hj]
  · exact (rn_b tx (kdS (tx s)) (n - (s + 1)) (s + 1)).2.2.1 j (by omega) h2
/-- the text as both have it -/
def TX (F : St) (tx : Nat → Nat) (n : Nat) : Prop := n ≤ 200 ∧ F 0 20 0 0 = oN n ∧ F 30 18 0 0 = oN n ∧ ∀ j, j < n → tx j < 256 ∧ F 38 0 0 j = oN (tx j) ∧ F 15 0 0 j = (oN (tx j)).toInt8.toInt32
theorem tx_of {F : St} (h : RT F) : ∃ tx n, TX F tx n := by
  obtain ⟨n, h1, h2, h3, h4⟩ := h
  refine ⟨fun j => (F 38 0 0 j).toNatClampNeg, n, h1, h2, h3, fun j hj => ?_⟩
  obtain ⟨v, v1, v2, v3⟩ := h4 j hj
  have e : (F 38 0 0 j).toNatClampNeg = v := by rw [v2, oN_n (by omega)]
  show (F 38 0 0 j).toNatClampNeg < 256 ∧ F 38 0 0 j = oN (F 38 0 0 j).toNatClampNeg ∧ F 15 0 0 j = (oN (F 38 0 0 j).toNatClampNeg).toInt8.toInt32
  rw [e]
  exact ⟨v1, v2, v3⟩
theorem byc : ∀ v, v < 256 → (((oN v).toInt8.toInt32 = 32 ↔ v = 32) ∧ (((97 : Int32) ≤ (oN v).toInt8.toInt32 ∧ (oN v).toInt8.toInt32 ≤ 122) ↔ (97 ≤ v ∧ v ≤ 122)) ∧ (((48 : Int32) ≤ (oN v).toInt8.toInt32 ∧ (oN v).toInt8.toInt32 ≤ 57) ↔ (48 ≤ v ∧ v ≤ 57)) ∧ (v < 128 → (oN v).toInt8.toInt32 = oN v) ∧ (128 ≤ v → (oN v).toInt8.toInt32 < 0)) := by decide +kernel
section SC
variable {F G : St} {tx : Nat → Nat} {n : Nat}
/-- nothing of the text has changed -/
def TXo (F G : St) : Prop := ∀ k p y j, k ≠ 16 → k ≠ 17 → k ≠ 27 → k ≠ 28 → G k p y j = F k p y j
theorem TXo.tt (h : TXo F G) (ht : TX F tx n) : TX G tx n := by
  obtain ⟨h1, h2, h3, h4⟩ := ht
  exact ⟨h1, by rw [h 0 20 0 0 (by omega) (by omega) (by omega) (by omega)]; exact h2, by rw [h 30 18 0 0 (by omega) (by omega) (by omega) (by omega)]; exact h3, fun j hj => by rw [h 38 0 0 j (by omega) (by omega) (by omega) (by omega), h 15 0 0 j (by omega) (by omega) (by omega) (by omega)]; exact h4 j hj⟩
theorem c_kind (ht : TX G tx n) {j : Nat} (hj : j < n) : fn_X4_kindAt G (oN j) = some (oN (kdS (tx j))) := by
  obtain ⟨h1, -, -, h4⟩ := ht
  obtain ⟨v1, -, v3⟩ := h4 j hj
  obtain ⟨-, b2, b3, -⟩ := byc _ v1
  unfold fn_X4_kindAt
  rw [og_t (oN_vp (by omega) (by omega)), oN_n (show j < 2147483648 by omega), v3, isIn_l G _ 97 122 (l2 := 97) (h2 := 122) rfl rfl, ob_s, isIn_l G _ 48 57 (l2 := 48) (h2 := 57) rfl rfl, ob_s]
  unfold kdS
  by_cases c1 : 97 ≤ tx j ∧ tx j ≤ 122
  · rw [if_pos (b2.mpr c1), if_neg n10, if_pos c1]
    rfl
  · rw [if_neg (fun q => c1 (b2.mp q)), if_pos z00, if_neg c1]
    by_cases c2 : 48 ≤ tx j ∧ tx j ≤ 57
    · rw [if_pos (b3.mpr c2), if_neg n10, if_pos c2]
      rfl
    · rw [if_neg (fun q => c2 (b3.mp q)), if_pos z00, if_neg c2]
      rfl
/-- the class looks at the token from p on -/
def LK (tx : Nat → Nat) (n : Nat) (G : St) (p : Nat) : Prop := p ≤ n ∧ G 16 2 0 0 = oN (enS tx n (spS tx n p)) ∧ G 16 3 0 0 = oN (spS tx n p) ∧ G 16 4 0 0 = oN (enS tx n (spS tx n p))
/-- of the reader only these have changed -/
def Rdo (G H : St) : Prop := ∀ k p y j, ¬ (k = 16 ∧ (p = 2 ∨ p = 3 ∨ p = 4)) → H k p y j = G k p y j
theorem Rdo.tt (h : Rdo G F) (ht : TX G tx n) : TX F tx n := by
  obtain ⟨h1, h2, h3, h4⟩ := ht
  exact ⟨h1, by rw [h 0 20 0 0 (by omega)]; exact h2, by rw [h 30 18 0 0 (by omega)]; exact h3, fun j hj => by rw [h 38 0 0 j (by omega), h 15 0 0 j (by omega)]; exact h4 j hj⟩
theorem c_token (ht : TX G tx n) {p : Nat} (hp : p ≤ n) (h2 : G 16 2 0 0 = oN p) : Ok (fn_X4_token G) (fun r => Rdo G r ∧ LK tx n r p) := by
  have h200 := ht.1
  have hn2 := ht.2.1
  have hs := sp_le (tx := tx) hp
  have hsb := sp_b tx (n - p) p
  have he := en_le (tx := tx) hs.2
  unfold fn_X4_token
  refine ok_ob (P := fun r => Rdo G r ∧ r 16 2 0 0 = oN (spS tx n p)) ?_ (fun F2 h => ?_)
  · refine ok_lpG (lp := lp_X4_token_0) (fun k H => Rdo G H ∧ H 16 2 0 0 = oN (p + k)) (spS tx n p - p) ?_ ?_ (spS tx n p - p) 300 0 G (by omega) (by omega) ⟨fun _ _ _ _ _ => rfl, h2⟩
    · intro m k H hk hI ih
      obtain ⟨i1, i2⟩ := hI
      have hsp : tx (p + k) = 32 := hsb.2.2.1 (p + k) (by omega) (by unfold spS at hk; omega)
      obtain ⟨v1, -, v3⟩ := (i1.tt ht).2.2.2 (p + k) (by omega)
      rw [lp_X4_token_0_s, i2, (i1.tt ht).2.1, oN_n (show p + k < 2147483648 by omega), v3]
      refine ok_itn (nle (by omega) (by omega)) (ok_og (oN_vp (by omega) (by omega)) (ok_itp ((byc _ v1).1.mpr hsp) (ok_pl (ih _ ⟨fun a b c d hne => ?_, ?_⟩))))
      · rw [fu_n _ _ _ _ _ _ (fun z => hne ⟨z.1, Or.inl z.2.1⟩)]
        exact i1 a b c d hne
      · rw [fu_s, oN_1]
        rfl
    · intro m H hI
      obtain ⟨i1, i2⟩ := hI
      rw [show p + (spS tx n p - p) = spS tx n p by omega] at i2
      rw [lp_X4_token_0_s, i2, (i1.tt ht).2.1]
      by_cases hsn : n ≤ spS tx n p
      · exact ok_itp (yle hsn (by omega)) (ok_some ⟨i1, i2⟩)
      · obtain ⟨v1, -, v3⟩ := (i1.tt ht).2.2.2 (spS tx n p) (by omega)
        rw [oN_n (show spS tx n p < 2147483648 by omega), v3]
        refine ok_itn (nle (by omega) (by omega)) (ok_og (oN_vp (by omega) (by omega)) (ok_itn (fun q => ?_) (ok_some ⟨i1, i2⟩)))
        rcases hsb.2.2.2 with z | z
        · unfold spS at hsn; omega
        · exact z ((byc _ v1).1.mp q)
  · obtain ⟨i1, i2⟩ := h
    have it := i1.tt ht
    rw [i2]
    refine ok_pl ?_
    have o3 : ∀ a b c d, ¬ (a = 16 ∧ (b = 2 ∨ b = 3 ∨ b = 4)) → fu F2 16 3 0 0 (oN (spS tx n p)) a b c d = G a b c d := fun a b c d hne => by
      rw [fu_n _ _ _ _ _ _ (fun z => hne ⟨z.1, Or.inr (Or.inl z.2.1)⟩)]
      exact i1 a b c d hne
    have e20 : fu F2 16 3 0 0 (oN (spS tx n p)) 0 20 0 0 = oN n := by rw [o3 0 20 0 0 (by omega)]; exact hn2
    have e2 : fu F2 16 3 0 0 (oN (spS tx n p)) 16 2 0 0 = oN (spS tx n p) := by rw [fu_n _ _ _ _ _ _ (by omega)]; exact i2
    have e3 : fu F2 16 3 0 0 (oN (spS tx n p)) 16 3 0 0 = oN (spS tx n p) := fu_s _ _ _ _ _ _
    generalize fu F2 16 3 0 0 (oN (spS tx n p)) = F11 at *
    rw [e20, e2]
    generalize hsS : spS tx n p = s at *
    by_cases hsn : n ≤ s
    · have hen : enS tx n s = n := if_pos hsn
      refine ok_ob (ok_itp (yle hsn (by omega)) (ok_some (Q := fun y => y = 0) rfl)) (fun y hy => ok_pl ?_)
      subst hy
      refine ok_ob (P := fun r => r = fu F11 16 2 0 0 (oN s + 0)) ?_ (fun F20 h20 => ?_)
      · show Ok (lp_X4_token_80 (299 + 1) _) _
        rw [lp_X4_token_80_s, fu_s, fu_n _ _ _ _ _ _ (by omega), e20, Int32.add_zero]
        exact ok_itp (yle hsn (by omega)) (ok_some rfl)
      · subst h20
        refine ok_pl (ok_some ⟨fun a b c d hne => ?_, hp, ?_, ?_, ?_⟩)
        · rw [fu_n _ _ _ _ _ _ (fun z => hne ⟨z.1, by omega⟩), fu_n _ _ _ _ _ _ (fun z => hne ⟨z.1, by omega⟩)]
          exact o3 a b c d hne
        · rw [fu_n _ _ _ _ _ _ (by omega), fu_s, Int32.add_zero, hsS, hen, show s = n by omega]
        · rw [fu_n _ _ _ _ _ _ (by omega), fu_n _ _ _ _ _ _ (by omega), e3, hsS]
        · rw [fu_s, fu_s, Int32.add_zero, hsS, hen, show s = n by omega]
    · have hgt := en_gt (tx := tx) (show s < n by omega)
      refine ok_ob (ok_itn (nle (by omega) (by omega)) (ok_some (Q := fun y => y = 1) rfl)) (fun y hy => ok_pl ?_)
      subst hy
      rw [oN_1]
      refine ok_ob (P := fun r => (∀ a b c d, ¬ (a = 16 ∧ b = 2) → r a b c d = F11 a b c d) ∧ r 16 2 0 0 = oN (enS tx n s)) ?_ (fun F20 h20 => ?_)
      · have itG : ∀ H : St, (∀ a b c d, ¬ (a = 16 ∧ b = 2) → H a b c d = F11 a b c d) → TX H tx n := fun H hH => (show Rdo G H from fun a b c d hne => by rw [hH a b c d (by omega)]; exact o3 a b c d hne).tt ht
        refine ok_lpG (lp := lp_X4_token_80) (fun k H => (∀ a b c d, ¬ (a = 16 ∧ b = 2) → H a b c d = F11 a b c d) ∧ H 16 2 0 0 = oN (s + 1 + k)) (enS tx n s - (s + 1)) ?_ ?_ (enS tx n s - (s + 1)) 300 0 _ (by omega) (by omega) ⟨fun a b c d hne => fu_n _ _ _ _ _ _ (fun z => hne ⟨z.1, z.2.1⟩), by rw [fu_s]⟩
        · intro m k H hk hI ih
          obtain ⟨j1, j2⟩ := hI
          have itH := itG H j1
          have hk0 : kdS (tx s) ≠ 0 := fun q => by
            have : enS tx n s = s + 1 := by unfold enS; rw [if_neg (by omega), if_pos q]
            omega
          have hkk := en_kd (show s < n by omega) hk0 (s + 1 + k) (by omega) (by omega)
          rw [lp_X4_token_80_s, j2, itH.2.1, j1 16 3 0 0 (by omega), e3, c_kind itH (show s < n by omega), ob_s, c_kind itH (show s + 1 + k < n by omega), ob_s, ob_s, hkk]
          have hkd : kdS (tx s) ≤ 2 := by unfold kdS; split <;> (try split) <;> omega
          refine ok_itn (nle (by omega) (by omega)) (ok_itn (nle (a := kdS (tx s)) (k := 0) (by omega) (by omega)) (ok_itp rfl (ok_pl (ih _ ⟨fun a b c d hne => ?_, ?_⟩))))
          · rw [fu_n _ _ _ _ _ _ (fun z => hne ⟨z.1, z.2.1⟩)]
            exact j1 a b c d hne
          · rw [fu_s, oN_1]
            rfl
        · intro m H hI
          obtain ⟨j1, j2⟩ := hI
          have itH := itG H j1
          rw [show s + 1 + (enS tx n s - (s + 1)) = enS tx n s by omega] at j2
          rw [lp_X4_token_80_s, j2, itH.2.1, j1 16 3 0 0 (by omega), e3]
          have hkd : kdS (tx s) ≤ 2 := by unfold kdS; split <;> (try split) <;> omega
          by_cases hen : n ≤ enS tx n s
          · exact ok_itp (yle hen (by omega)) (ok_some ⟨j1, j2⟩)
          · refine ok_itn (nle (by omega) (by omega)) ?_
            rw [c_kind itH (show s < n by omega), ob_s, c_kind itH (show enS tx n s < n by omega), ob_s, ob_s]
            by_cases hk0 : kdS (tx s) = 0
            · exact ok_itp (by rw [hk0]; exact yle (a := 0) (k := 0) (by omega) (by omega)) (ok_some ⟨j1, j2⟩)
            · refine ok_itn (nle (a := kdS (tx s)) (k := 0) (by omega) (by omega)) (ok_itn (fun q => ?_) (ok_some ⟨j1, j2⟩))
              have hkd2 : kdS (tx (enS tx n s)) ≤ 2 := by unfold kdS; split <;> (try split) <;> omega
              rw [oN_eq (by omega) (by omega)] at q
              have hrn := (rn_b tx (kdS (tx s)) (n - (s + 1)) (s + 1)).2.2.2
              have hee : enS tx n s = rnF tx (kdS (tx s)) (n - (s + 1)) (s + 1) := by unfold enS; rw [if_neg (by omega), if_neg hk0]
              rw [← hee] at hrn
              rcases hrn with z | z
              · omega
              · exact z q
      · obtain ⟨j1, j2⟩ := h20
        rw [j2]
        refine ok_pl (ok_some ⟨fun a b c d hne => ?_, hp, ?_, ?_, ?_⟩)
        · rw [fu_n _ _ _ _ _ _ (fun z => hne ⟨z.1, by omega⟩), j1 a b c d (by omega)]
          exact o3 a b c d hne
        · rw [fu_n _ _ _ _ _ _ (by omega), hsS]; exact j2
        · rw [fu_n _ _ _ _ _ _ (by omega), j1 16 3 0 0 (by omega), e3, hsS]
        · rw [fu_s, hsS]
end SC
