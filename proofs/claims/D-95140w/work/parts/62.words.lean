/-! PURE: words -/
set_option maxRecDepth 100000
def wdN (i j : Nat) : Nat := ((sbyt.getD i []).getD j 0).toNatClampNeg
def wlN (i : Nat) : Nat := slen.getD i 0
def isW (tx : Nat → Nat) (n p i : Nat) : Prop := enS tx n (spS tx n p) - spS tx n p = wlN i ∧ ∀ j, j < wlN i → tx (spS tx n p + j) = wdN i j
theorem len_e (F : St) {i : Nat} (hi : i < 17) : fn_J0_length F i = some (oN (wlN i)) := by
  have h : ∀ i, i < 17 → (Int32.ofNat (slen.getD i 0)) >>> ((0 : Int32) &&& 31) = oN (wlN i) := by decide +kernel
  show some ((Int32.ofNat (slen.getD i 0)) >>> ((0 : Int32) &&& 31)) = _
  rw [h i hi]
theorem chr_0 : ∀ i, i < 17 → ∀ j, j < wlN i → fn_J0_charAt (fun _ _ _ _ => 0) i (oN j) = some (oN (wdN i j)) ∧ wdN i j < 128 ∧ 0 < wdN i j := by decide +kernel
theorem chr_e (F : St) {i j : Nat} (hi : i < 17) (hj : j < wlN i) : fn_J0_charAt F i (oN j) = some (oN (wdN i j)) := (chr_0 i hi j hj).1
theorem wl_b : ∀ i, i < 16 → 0 < wlN i ∧ wlN i < 6 := by decide +kernel
theorem byw {v w : Nat} (hv : v < 256) (hw : w < 128) : ((oN v).toInt8.toInt32 = oN w) ↔ v = w := by
  obtain ⟨-, -, -, b4, b5⟩ := byc v hv
  by_cases h : v < 128
  · rw [b4 h, oN_eq (by omega) (by omega)]
  · refine ⟨fun q => ?_, fun q => by omega⟩
    have := b5 (by omega)
    rw [q] at this
    exact absurd this (nlt0 (by omega))
section SK
variable {F G : St} {tx : Nat → Nat} {n : Nat}
theorem sk_lp (ht : TX G tx n) {i s : Nat} (hi : i < 16) (hs : s + wlN i ≤ n) (h3 : G 16 3 0 0 = oN s) : ∀ d m j, j + d = wlN i → d + 1 < m → Ok (lp_X4_skips_24 G i m 1 (oN j)) (fun r => ((∀ t, j ≤ t → t < wlN i → tx (s + t) = wdN i t) → r.1 = 1) ∧ (¬ (∀ t, j ≤ t → t < wlN i → tx (s + t) = wdN i t) → r.1 = 0))
  | d, 0, _, _, h => absurd h (by omega)
  | 0, m + 1, j, h, hm => by
    have hb := wl_b i hi
    rw [lp_X4_skips_24_s, len_e _ (by omega), ob_s]
    refine ok_itn n10 (ok_itp (yle (by omega) (by omega)) (ok_some ⟨fun _ => rfl, fun q => absurd (fun t a b => absurd b (by omega)) q⟩))
  | d + 1, m + 1, j, h, hm => by
    have hb := wl_b i hi
    have h200 := ht.1
    obtain ⟨v1, -, v3⟩ := ht.2.2.2 (s + j) (by omega)
    have hw := (chr_0 i (by omega) j (by omega)).2.1
    rw [lp_X4_skips_24_s, len_e _ (by omega), ob_s, h3, oN_add, oN_n (show s + j < 2147483648 by omega), v3, chr_e _ (by omega) (by omega), ob_s]
    refine ok_itn n10 (ok_itn (nle (by omega) (by omega)) (ok_og (oN_vp (by omega) (by omega)) (ok_obi ?_)))
    rw [oN_1]
    by_cases he : tx (s + j) = wdN i j
    · rw [if_pos ((byw v1 hw).mpr he)]
      refine ok_mono (sk_lp ht hi hs h3 d m (j + 1) (by omega) (by omega)) (fun r hr => ⟨fun q => hr.1 (fun t a b => q t (by omega) b), fun q => hr.2 (fun z => q (fun t a b => ?_))⟩)
      by_cases htj : t = j
      · rw [htj]; exact he
      · exact z t (by omega) b
    · rw [if_neg (fun q => he ((byw v1 hw).mp q))]
      obtain ⟨m', rfl⟩ : ∃ m', m = m' + 1 := ⟨m - 1, by omega⟩
      rw [lp_X4_skips_24_s]
      exact ok_itp rfl (ok_some ⟨fun q => absurd (q j (Nat.le_refl _) (by omega)) he, fun _ => rfl⟩)
theorem c_skips (ht : TX G tx n) {p i : Nat} (hi : i < 16) (hl : LK tx n G p) : Ok (fn_X4_skips G i) (fun r => (isW tx n p i → r.2 = 1 ∧ Rdo G r.1 ∧ LK tx n r.1 (enS tx n (spS tx n p))) ∧ (¬ isW tx n p i → r.2 = 0 ∧ r.1 = G)) := by
  obtain ⟨hp, h2, h3, h4⟩ := hl
  have hb := wl_b i hi
  have h200 := ht.1
  have hs := sp_le (tx := tx) hp
  have he := en_le (tx := tx) hs.2
  unfold fn_X4_skips
  rw [len_e _ (by omega), ob_s, h4, h3, show oN (enS tx n (spS tx n p)) - oN (spS tx n p) = oN (enS tx n (spS tx n p) - spS tx n p) from (Int32.ofNat_sub _ _ (by omega)).symm]
  refine ok_obi ?_
  by_cases hw : enS tx n (spS tx n p) - spS tx n p = wlN i
  · rw [if_pos (by rw [hw])]
    refine ok_ob2 (sk_lp ht hi (s := spS tx n p) (by omega) h3 (wlN i) 300 0 (by omega) (by omega)) (fun y z hy => ?_)
    have hy : ((∀ t, 0 ≤ t → t < wlN i → tx (spS tx n p + t) = wdN i t) → y = 1) ∧ (¬ (∀ t, 0 ≤ t → t < wlN i → tx (spS tx n p + t) = wdN i t) → y = 0) := hy
    by_cases ha : ∀ t, 0 ≤ t → t < wlN i → tx (spS tx n p + t) = wdN i t
    · have hy1 := hy.1 ha
      subst hy1
      refine ok_ob (ok_itn n10 (ok_ob (c_token ht he.2 h2) (fun F29 h29 => ok_some h29))) (fun F27 h27 => ok_og rfl (ok_some ⟨fun _ => ⟨rfl, h27⟩, fun q => absurd ⟨hw, fun j hj => ha j (Nat.zero_le _) hj⟩ q⟩))
    · have hy0 := hy.2 ha
      subst hy0
      refine ok_ob (ok_itp rfl (ok_some (Q := fun r => r = G) rfl)) (fun F27 h27 => ok_og rfl (ok_some ⟨fun q => absurd (fun t _ b => q.2 t b) ha, fun _ => ⟨rfl, h27⟩⟩))
  · rw [if_neg (fun q => hw ((oN_eq (by omega) (by omega)).mp q))]
    rw [show lp_X4_skips_24 G i 300 0 0 = some (0, 0) from by rw [lp_X4_skips_24_s]; rfl, ob2_s]
    exact ok_ob (ok_itp rfl (ok_some (Q := fun r => r = G) rfl)) (fun F27 h27 => ok_og rfl (ok_some ⟨fun q => absurd q.1 hw, fun _ => ⟨rfl, h27⟩⟩))
end SK
/-! the word codes -/
theorem cd_cg {tx w : Nat → Nat} {s : Nat} : ∀ m, (∀ j, j < m → tx (s + j) = w (0 + j)) → cdS tx s m = cdS w 0 m
  | 0, _ => rfl
  | m + 1, h => by
    show 27 * cdS tx s m + (tx (s + m) - 96) = 27 * cdS w 0 m + (w (0 + m) - 96)
    rw [cd_cg m (fun j hj => h j (by omega)), h m (by omega)]
theorem cd_inj {tx w : Nat → Nat} {s : Nat} : ∀ m L, (∀ j, j < m → 97 ≤ tx (s + j) ∧ tx (s + j) ≤ 122) → (∀ j, j < L → 97 ≤ w (0 + j) ∧ w (0 + j) ≤ 122) → cdS tx s m = cdS w 0 L → m = L ∧ ∀ j, j < m → tx (s + j) = w (0 + j)
  | 0, 0, _, _, _ => ⟨rfl, fun j hj => absurd hj (by omega)⟩
  | 0, L + 1, _, hw, h => by
    have := hw L (by omega)
    have h : 0 = 27 * cdS w 0 L + (w (0 + L) - 96) := h
    omega
  | m + 1, 0, ht, _, h => by
    have := ht m (by omega)
    have h : 27 * cdS tx s m + (tx (s + m) - 96) = 0 := h
    omega
  | m + 1, L + 1, ht, hw, h => by
    have h1 := ht m (by omega)
    have h2 := hw L (by omega)
    have h : 27 * cdS tx s m + (tx (s + m) - 96) = 27 * cdS w 0 L + (w (0 + L) - 96) := h
    have ih := cd_inj m L (fun j hj => ht j (by omega)) (fun j hj => hw j (by omega)) (by omega)
    refine ⟨by omega, fun j hj => ?_⟩
    by_cases hj2 : j = m
    · rw [hj2]
      have : w (0 + m) = w (0 + L) := by rw [ih.1]
      omega
    · exact ih.2 j (by omega)
/-- the code of a class' word -/
def cdW (i : Nat) : Nat := cdS (wdN i) 0 (wlN i)
theorem wd_l : ∀ i, i < 16 → i ≠ 9 → (∀ j, j < wlN i → 97 ≤ wdN i (0 + j) ∧ wdN i (0 + j) ≤ 122) ∧ cdW i < 14348907 := by decide +kernel
theorem i64_i {a : Nat} (h : a < 9223372036854775808) : (Int64.ofNat a).toInt = a := Int64.toInt_ofNat_of_lt h
theorem i64_ne {a : Nat} (h : a < 9223372036854775808) {v : Int64} (hv : v.toInt < 0) : Int64.ofNat a ≠ v := fun q => by
  have := i64_i h
  rw [q] at this
  omega
theorem tk_w {tx : Nat → Nat} {n p i : Nat} (hp : p ≤ n) (hi : i < 16) (h9 : i ≠ 9) : tkS tx n (spS tx n p) (enS tx n (spS tx n p)) = Int64.ofNat (cdW i) ↔ isW tx n p i := by
  obtain ⟨hl, hc⟩ := wd_l i hi h9
  have hb := wl_b i hi
  have hs := sp_le (tx := tx) hp
  have he := en_le (tx := tx) hs.2
  unfold tkS
  constructor
  · intro h
    by_cases c0 : n ≤ spS tx n p
    · rw [if_pos c0] at h
      exact absurd h.symm (i64_ne (by omega) (by decide))
    · rw [if_neg c0] at h
      by_cases c1 : kdS (tx (spS tx n p)) = 1
      · rw [if_pos c1] at h
        by_cases c2 : enS tx n (spS tx n p) - spS tx n p ≤ 9
        · rw [if_pos c2] at h
          have hall : ∀ j, spS tx n p ≤ j → j < enS tx n (spS tx n p) → 97 ≤ tx j ∧ tx j ≤ 122 := fun j a b => kd_1.mp (by rw [en_kd (by omega) (by omega) j a b]; exact c1)
          have hlt := cd_lt hall (enS tx n (spS tx n p) - spS tx n p) (by omega)
          have h27 : 27 ^ (enS tx n (spS tx n p) - spS tx n p) ≤ 27 ^ 9 := Nat.pow_le_pow_right (by omega) c2
          have h27b : (27 : Nat) ^ 9 = 7625597484987 := by decide
          have e1 := i64_i (a := cdS tx (spS tx n p) (enS tx n (spS tx n p) - spS tx n p)) (by omega)
          have e2 := i64_i (a := cdW i) (by omega)
          rw [h, e2] at e1
          have e3 : cdS tx (spS tx n p) (enS tx n (spS tx n p) - spS tx n p) = cdS (wdN i) 0 (wlN i) := by
            unfold cdW at e1
            omega
          obtain ⟨z1, z2⟩ := cd_inj _ _ (fun j hj => hall _ (by omega) (by omega)) hl e3
          exact ⟨z1, fun j hj => by rw [z2 j (by omega), Nat.zero_add]⟩
        · rw [if_neg c2] at h
          exact absurd h.symm (i64_ne (by omega) (by decide))
      · rw [if_neg c1] at h
        by_cases c2 : kdS (tx (spS tx n p)) = 2
        · rw [if_pos c2] at h
          by_cases c3 : enS tx n (spS tx n p) - spS tx n p ≤ 3
          · rw [if_pos c3] at h
            exact absurd h.symm (i64_ne (by omega) (by decide))
          · rw [if_neg c3] at h
            exact absurd h.symm (i64_ne (by omega) (by decide))
        · rw [if_neg c2] at h
          by_cases c3 : tx (spS tx n p) = 59
          · rw [if_pos c3] at h
            exact absurd h.symm (i64_ne (by omega) (by decide))
          · rw [if_neg c3] at h
            exact absurd h.symm (i64_ne (by omega) (by decide))
  · rintro ⟨h1, h2⟩
    have c0 : ¬ n ≤ spS tx n p := fun q => by
      have : enS tx n (spS tx n p) = n := if_pos q
      omega
    have c1 : kdS (tx (spS tx n p)) = 1 := by
      have a := h2 0 (by omega)
      have b := hl 0 (by omega)
      rw [Nat.add_zero] at a b
      rw [kd_1, a]
      exact b
    rw [if_neg c0, if_pos c1, if_pos (by omega), h1]
    congr 1
    exact cd_cg _ (fun j hj => by rw [h2 j hj, Nat.zero_add])
theorem tk_9 {tx : Nat → Nat} {n p : Nat} (hp : p ≤ n) : tkS tx n (spS tx n p) (enS tx n (spS tx n p)) = -3 ↔ isW tx n p 9 := by
  have hs := sp_le (tx := tx) hp
  have he := en_le (tx := tx) hs.2
  have hw : wdN 9 0 = 59 := by decide
  have hl : wlN 9 = 1 := rfl
  unfold tkS
  constructor
  · intro h
    by_cases c0 : n ≤ spS tx n p
    · rw [if_pos c0] at h
      exact absurd h (by decide)
    · rw [if_neg c0] at h
      by_cases c1 : kdS (tx (spS tx n p)) = 1
      · rw [if_pos c1] at h
        by_cases c2 : enS tx n (spS tx n p) - spS tx n p ≤ 9
        · rw [if_pos c2] at h
          have hall : ∀ j, spS tx n p ≤ j → j < enS tx n (spS tx n p) → 97 ≤ tx j ∧ tx j ≤ 122 := fun j a b => kd_1.mp (by rw [en_kd (by omega) (by omega) j a b]; exact c1)
          have hlt := cd_lt hall (enS tx n (spS tx n p) - spS tx n p) (by omega)
          have h27 : 27 ^ (enS tx n (spS tx n p) - spS tx n p) ≤ 27 ^ 9 := Nat.pow_le_pow_right (by omega) c2
          have h27b : (27 : Nat) ^ 9 = 7625597484987 := by decide
          exact absurd h (i64_ne (by omega) (by decide))
        · rw [if_neg c2] at h
          exact absurd h (by decide)
      · rw [if_neg c1] at h
        by_cases c2 : kdS (tx (spS tx n p)) = 2
        · rw [if_pos c2] at h
          by_cases c3 : enS tx n (spS tx n p) - spS tx n p ≤ 3
          · rw [if_pos c3] at h
            exact absurd h (by decide)
          · rw [if_neg c3] at h
            exact absurd h (by decide)
        · rw [if_neg c2] at h
          by_cases c3 : tx (spS tx n p) = 59
          · have k0 : kdS (tx (spS tx n p)) = 0 := by rw [c3]; rfl
            have : enS tx n (spS tx n p) = spS tx n p + 1 := by unfold enS; rw [if_neg c0, if_pos k0]
            refine ⟨by omega, fun j hj => ?_⟩
            have : j = 0 := by omega
            subst this
            rw [hw]
            exact c3
          · rw [if_neg c3] at h
            exact absurd h (by decide)
  · rintro ⟨h1, h2⟩
    have c0 : ¬ n ≤ spS tx n p := fun q => by
      have : enS tx n (spS tx n p) = n := if_pos q
      omega
    have c1 : tx (spS tx n p) = 59 := by
      have := h2 0 (by omega)
      rw [hw] at this
      exact this
    have k0 : kdS (tx (spS tx n p)) = 0 := by rw [c1]; rfl
    rw [if_neg c0, if_neg (by omega), if_neg (by omega), if_pos c1]
theorem tk_2 {tx : Nat → Nat} {n p : Nat} (hp : p ≤ n) : tkS tx n (spS tx n p) (enS tx n (spS tx n p)) = -2 ↔ n ≤ spS tx n p := by
  have hs := sp_le (tx := tx) hp
  have he := en_le (tx := tx) hs.2
  unfold tkS
  constructor
  · intro h
    by_cases c0 : n ≤ spS tx n p
    · exact c0
    · rw [if_neg c0] at h
      by_cases c1 : kdS (tx (spS tx n p)) = 1
      · rw [if_pos c1] at h
        by_cases c2 : enS tx n (spS tx n p) - spS tx n p ≤ 9
        · rw [if_pos c2] at h
          have hall : ∀ j, spS tx n p ≤ j → j < enS tx n (spS tx n p) → 97 ≤ tx j ∧ tx j ≤ 122 := fun j a b => kd_1.mp (by rw [en_kd (by omega) (by omega) j a b]; exact c1)
          have hlt := cd_lt hall (enS tx n (spS tx n p) - spS tx n p) (by omega)
          have h27 : 27 ^ (enS tx n (spS tx n p) - spS tx n p) ≤ 27 ^ 9 := Nat.pow_le_pow_right (by omega) c2
          have h27b : (27 : Nat) ^ 9 = 7625597484987 := by decide
          exact absurd h (i64_ne (by omega) (by decide))
        · rw [if_neg c2] at h
          exact absurd h (by decide)
      · rw [if_neg c1] at h
        split at h
        · split at h <;> exact absurd h (by decide)
        · split at h <;> exact absurd h (by decide)
  · intro c0
    rw [if_pos c0]
/-- a token of digits -/
theorem tk_1 {tx : Nat → Nat} {n p : Nat} (hp : p ≤ n) : tkS tx n (spS tx n p) (enS tx n (spS tx n p)) = -1 ↔ (spS tx n p < n ∧ kdS (tx (spS tx n p)) = 2 ∧ enS tx n (spS tx n p) - spS tx n p ≤ 3) := by
  have hs := sp_le (tx := tx) hp
  have he := en_le (tx := tx) hs.2
  unfold tkS
  constructor
  · intro h
    by_cases c0 : n ≤ spS tx n p
    · rw [if_pos c0] at h
      exact absurd h (by decide)
    · rw [if_neg c0] at h
      by_cases c1 : kdS (tx (spS tx n p)) = 1
      · rw [if_pos c1] at h
        by_cases c2 : enS tx n (spS tx n p) - spS tx n p ≤ 9
        · rw [if_pos c2] at h
          have hall : ∀ j, spS tx n p ≤ j → j < enS tx n (spS tx n p) → 97 ≤ tx j ∧ tx j ≤ 122 := fun j a b => kd_1.mp (by rw [en_kd (by omega) (by omega) j a b]; exact c1)
          have hlt := cd_lt hall (enS tx n (spS tx n p) - spS tx n p) (by omega)
          have h27 : 27 ^ (enS tx n (spS tx n p) - spS tx n p) ≤ 27 ^ 9 := Nat.pow_le_pow_right (by omega) c2
          have h27b : (27 : Nat) ^ 9 = 7625597484987 := by decide
          exact absurd h (i64_ne (by omega) (by decide))
        · rw [if_neg c2] at h
          exact absurd h (by decide)
      · rw [if_neg c1] at h
        by_cases c2 : kdS (tx (spS tx n p)) = 2
        · rw [if_pos c2] at h
          by_cases c3 : enS tx n (spS tx n p) - spS tx n p ≤ 3
          · exact ⟨by omega, c2, c3⟩
          · rw [if_neg c3] at h
            exact absurd h (by decide)
        · rw [if_neg c2] at h
          split at h <;> exact absurd h (by decide)
  · rintro ⟨h1, h2, h3⟩
    rw [if_neg (by omega), if_neg (by omega), if_pos h2, if_pos h3]
