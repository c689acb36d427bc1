/-! PURE: again, brew, keep, back, erase, write -/
set_option maxRecDepth 100000
section P1
variable {F : St}
theorem Rel_bed0 {F F2 : St} (hr : Rel F) (o : ∀ k p y j, ¬ bl 0 k y → k ≠ 40 → k ≠ 44 → ¬ (k = 30 ∧ 37 ≤ p ∧ p < 64) → F2 k p y j = F k p y j) (hd : RD F2 0 40 0) : Rel F2 := by
  obtain ⟨h1, h2, h3, h4, h5⟩ := hr
  have hpk : ∀ k p y j, pk k p → F2 k p y j = F k p y j := fun k p y j hk => o k p y j (fun q => by
    unfold pk at hk
    unfold bl at q
    omega) (by unfold pk at hk; omega) (by unfold pk at hk; omega) (by unfold pk at hk; omega)
  have ag := pk_agr hpk
  have hbd : ∀ i, 0 < i → i < 4 → ∀ k p y j, bl i k y → F2 k p y j = F k p y j := fun i h0 hi k p y j hb => o k p y j (bl_ne hi (by omega) (by omega) hb) (by unfold bl at hb; omega) (by unfold bl at hb; omega) (by unfold bl at hb; omega)
  refine ⟨RP_c hpk h1, hd, RK_c ag (hpk 30 11 0 0 (by unfold pk; omega)) (o 0 17 0 0 (by unfold bl; omega) (by omega) (by omega) (by omega)) (fun j => o 43 0 0 j (by unfold bl; omega) (by omega) (by omega) (by omega)) (fun j => o 42 0 0 j (by unfold bl; omega) (by omega) (by omega) (by omega)) (fun i hi => hbd i (by omega) (by omega)) h3, fun i hi => ?_, RT_c (o 0 20 0 0 (by unfold bl; omega) (by omega) (by omega) (by omega)) (o 30 18 0 0 (by unfold bl; omega) (by omega) (by omega) (by omega)) (fun j => o 38 0 0 j (by unfold bl; omega) (by omega) (by omega) (by omega)) (fun j => o 15 0 0 j (by unfold bl; omega) (by omega) (by omega) (by omega)) h5⟩
  by_cases h0 : i = 0
  · subst h0
    obtain ⟨t, b, -, hb, -⟩ := hd
    exact ⟨b, hb⟩
  · obtain ⟨b, hb⟩ := h4 i hi
    exact ⟨b, rb_c hi hb ag (hbd i (by omega) hi)⟩
/-- class and model have laid the same bed -/
theorem rd_new {F F1 F2 : St} {b : Bt} {m : Bt} {t : Nat} (hr : Rel F) (h1 : RB 0 F F1 b) (h2 : Mh F1 F2 b m) (hv : Inv F (F 30 11 0 0) t b) : Rel F2 := by
  have o : ∀ k p y j, ¬ bl 0 k y → k ≠ 40 → k ≠ 44 → ¬ (k = 30 ∧ 37 ≤ p ∧ p < 64) → F2 k p y j = F k p y j := fun k p y j a1 a2 a3 a4 => by
    rw [h2.1 k p y j a2 ⟨a3, a4⟩]
    exact h1.fr k p y j a1
  have ag : agr F F2 := fun k p i j a1 a2 a3 => o k p i j (by unfold bl; omega) (by omega) (by omega) (by omega)
  refine Rel_bed0 hr o ⟨t, b, ?_, rb_c (by omega) h1 ag (fun k p y j hb => ?_), fun g x hx => ?_⟩
  · rw [o 30 11 0 0 (by unfold bl; omega) (by omega) (by omega) (by omega)]
    exact inv_c ag hv
  · unfold bl at hb
    exact h2.1 k p y j (by omega) ⟨by omega, by omega⟩
  · rw [Nat.zero_add]
    exact h2.2.1 g x hx
/-- the model's own world where the class has gone -/
theorem mh_of {F F1 : St} {b b' : Bt} (h1 : RB 0 F F1 b') (h3 : ∀ g x, ix g x → F 40 0 0 (0 + (16 * g + x)) = b g x) : Mh F1 F1 b (fun g x => F1 44 0 0 (16 * g + x)) := ⟨fun _ _ _ _ _ _ => rfl, fun g x hx => by
  rw [← h3 g x hx, Nat.zero_add]
  exact h1.o (by decide), fun _ _ _ _ => rfl⟩
theorem rb_agr {F F1 : St} {i : Nat} {b : Bt} (h : RB i F F1 b) : agr F F1 := fun k p y j a1 a2 a3 => h.fr k p y j (by unfold bl; omega)
theorem bo_again : Bo fn_X0_again fn_X8_again := by
  intro F hr
  obtain ⟨⟨hp, hq, ⟨-, -, e10, -⟩, -, -, h6, -⟩, ⟨t, b, hv, hb, hm⟩, -⟩ := id hr
  have hmu : 0 ≤ (F 30 11 0 0).toInt ∧ (F 30 11 0 0).toInt ≤ 20 := by omega
  unfold fn_X0_again
  rw [e10]
  refine ok_pl (ok_ob (hb.begin (by omega) hp hq _) (fun F1 h1 => ok_some ?_))
  show Ok (fn_X8_again F1) _
  have ag := rb_agr h1
  have e11 : F1 30 11 0 0 = F 30 11 0 0 := h1.o (by decide)
  unfold fn_X8_again
  refine ok_pl (ok_ob (m_begin (PB_c ag hp) (mh_of h1 hm)) (fun F2 h2 => ok_some ⟨?_, ?_⟩))
  · show F1 40 0 0 132 = F 1 2 0 0
    rw [h1.o (k := 40) (by decide), show (132 : Nat) = 0 + (16 * 8 + 4) from rfl, hm 8 4 ⟨by omega, by omega⟩, hb.rb (k := 1) (p := 2) (y := 0) (j := 0) 8 4 rfl (Or.inr (Or.inl ⟨rfl, by omega⟩)) (by decide)]
  · rw [e11, ← nf_beg F1, nf_e ag, nf_beg] at h2
    exact rd_new hr h1 h2 (beg_inv hp hmu)
theorem bo_brew (p : Int32) : Bo (fun F => fn_X0_brew F p) (fun F => fn_X8_brew F p) := by
  intro F hr
  obtain ⟨T, -, hT2, hT3, hT4, -, hM⟩ := hr.cbr
  obtain ⟨⟨hp, hq, ⟨e8, e9, e10, -⟩, h4, h5, h6, -⟩, ⟨t, b, hv, hb, hm⟩, -⟩ := id hr
  have hmu : 0 ≤ (F 30 11 0 0).toInt ∧ (F 30 11 0 0).toInt ≤ 20 := by omega
  show Ok (fn_X0_brew F p) _
  unfold fn_X0_brew
  rw [isIn_l F p 1 60 (l2 := 1) (h2 := 60) rfl rfl, ob_s]
  by_cases h : (1 : Int32) ≤ p ∧ p ≤ 60
  · obtain ⟨n, hn1, hn, rfl⟩ := rng (l := 1) (h := 60) (by omega) (by omega) h
    rw [if_pos h]
    refine ok_itn n10 (ok_ob2 (c_brew hp hq hmu (by rw [e9]; exact h5) hT4 hT2 hv hb hn) (fun F1 r1 h1 => ok_some ?_))
    obtain ⟨h1, hr1⟩ := h1
    have h1 : RB 0 F F1 _ := h1
    have hr1 : r1 = _ := hr1
    rw [e8, e9] at h1
    show Ok (fn_X8_brew F1 (oN n)) _
    have ag := rb_agr h1
    have c : ∀ p, F1 30 p 0 0 = F 30 p 0 0 := fun p => h1.o (by decide)
    unfold fn_X8_brew
    rw [in_e, ob_s, if_pos h]
    have hg := m_goOn (mu := F 30 11 0 0) (PB_c ag hp) hmu (by rw [c 10]; exact h5) (by rw [c 16]; exact hT3) hT2 (inv_c ag hv) (mh_of h1 hm) hn
    rw [c 4, c 10, it_c ag] at hg
    refine ok_itn n10 (ok_ob2 hg (fun F2 r2 h2 => ok_some ?_))
    obtain ⟨⟨m2, h2⟩, hr2⟩ := h2
    have hr2 : r2 = _ := hr2
    have htt := hv.2.1.2
    refine ⟨by rw [hr1, hr2], rd_new hr h1 h2 (t := t + min n (T - t)) (it_inv hp hmu h5 hv _ (by omega))⟩
  · rw [if_neg h]
    refine ok_itp z00 (ok_some ?_)
    show Ok (fn_X8_brew F p) _
    unfold fn_X8_brew
    rw [in_e, ob_s, if_neg h]
    exact ok_itp z00 (ok_some ⟨rfl, hr⟩)
/-- the model's pictures -/
theorem m_c4042 (F : St) {q : Nat} (hq : q < 2) : Ok (fn_X8_copy_40_42 F 0 (oN (138 * q))) (fun r => (∀ k p i j, ¬ (k = 42 ∧ 138 * q ≤ j ∧ j < 138 * q + 138) → r k p i j = F k p i j) ∧ ∀ j, j < 138 → r 42 0 0 (138 * q + j) = F 40 0 0 j) := by
  unfold fn_X8_copy_40_42
  refine ok_ob2 (ok_lpF (lp := lp_X8_copy_40_42_3 0 (oN (138 * q))) (I := fun n G => (∀ k p i j, ¬ (k = 42 ∧ 138 * q ≤ j ∧ j < 138 * q + 138) → G k p i j = F k p i j) ∧ ∀ j, j < n → G 42 0 0 (138 * q + j) = F 40 0 0 j) (Q := fun r => (∀ k p i j, ¬ (k = 42 ∧ 138 * q ≤ j ∧ j < 138 * q + 138) → r.1 k p i j = F k p i j) ∧ ∀ j, j < 138 → r.1 42 0 0 (138 * q + j) = F 40 0 0 j) 138 (by omega) ?_ ?_ ⟨fun _ _ _ _ _ => rfl, fun j hj => absurd hj (by omega)⟩) (fun y z hy => ok_some hy)
  · intro n k G hk h ih
    rw [lp_X8_copy_40_42_3_s, show (0 : Int32) + oN k = oN k from by rw [show (0 : Int32) = oN 0 from rfl, oN_add, Nat.zero_add], oN_add, oN_n (show k < 2147483648 by omega), oN_n (show 138 * q + k < 2147483648 by omega), h.1 40 0 0 k (by omega)]
    refine ok_itn (nle (a := 138) hk (by omega)) (ok_og (oN_vp hk (by omega)) (ok_og (oN_vp (by omega) (by omega)) (ok_pl (ih _ ⟨fun k2 p i j hne => ?_, fun j hj => ?_⟩))))
    · rw [fu_n _ _ _ _ _ _ (fun z => hne ⟨z.1, by omega⟩)]
      exact h.1 k2 p i j hne
    · rw [fu_a]
      by_cases hjk : j = k
      · rw [if_pos ⟨rfl, rfl, rfl, by omega⟩, hjk]
      · rw [if_neg (fun z => hjk (by omega))]
        exact h.2 j (by omega)
  · intro n G h
    rw [lp_X8_copy_40_42_3_s]
    exact ok_itp (yle (a := 138) (Nat.le_refl _) (by omega)) (ok_some h)
theorem m_c4240 (F : St) {q : Nat} (hq : q < 2) : Ok (fn_X8_copy_42_40 F (oN (138 * q)) 0) (fun r => (∀ k p i j, k ≠ 40 → r k p i j = F k p i j) ∧ ∀ j, j < 138 → r 40 0 0 j = F 42 0 0 (138 * q + j)) := by
  unfold fn_X8_copy_42_40
  refine ok_ob2 (ok_lpF (lp := lp_X8_copy_42_40_3 (oN (138 * q)) 0) (I := fun n G => (∀ k p i j, k ≠ 40 → G k p i j = F k p i j) ∧ ∀ j, j < n → G 40 0 0 j = F 42 0 0 (138 * q + j)) (Q := fun r => (∀ k p i j, k ≠ 40 → r.1 k p i j = F k p i j) ∧ ∀ j, j < 138 → r.1 40 0 0 j = F 42 0 0 (138 * q + j)) 138 (by omega) ?_ ?_ ⟨fun _ _ _ _ _ => rfl, fun j hj => absurd hj (by omega)⟩) (fun y z hy => ok_some hy)
  · intro n k G hk h ih
    rw [lp_X8_copy_42_40_3_s, show (0 : Int32) + oN k = oN k from by rw [show (0 : Int32) = oN 0 from rfl, oN_add, Nat.zero_add], oN_add, oN_n (show k < 2147483648 by omega), oN_n (show 138 * q + k < 2147483648 by omega), h.1 42 0 0 _ (by decide)]
    refine ok_itn (nle (a := 138) hk (by omega)) (ok_og (oN_vp (by omega) (by omega)) (ok_og (oN_vp hk (by omega)) (ok_pl (ih _ ⟨fun k2 p i j hne => ?_, fun j hj => ?_⟩))))
    · rw [fu_n _ _ _ _ _ _ (fun z => hne z.1)]
      exact h.1 k2 p i j hne
    · rw [fu_a]
      by_cases hjk : j = k
      · rw [if_pos ⟨rfl, rfl, rfl, hjk⟩, hjk]
      · rw [if_neg (fun z => hjk z.2.2.2)]
        exact h.2 j (by omega)
  · intro n G h
    rw [lp_X8_copy_42_40_3_s]
    exact ok_itp (yle (a := 138) (Nat.le_refl _) (by omega)) (ok_some h)
theorem m138 (q : Nat) : (138 : Int32) * oN q = oN (138 * q) := (Int32.ofNat_mul 138 q).symm
theorem bits_or : ∀ k0, k0 < 2 → ∀ k1, k1 < 2 → (oN (k0 + 2 * k1) ||| ((1 : Int32) <<< (oN 0 &&& 31))) = oN (1 + 2 * k1) ∧ (oN (k0 + 2 * k1) ||| ((1 : Int32) <<< (oN 1 &&& 31))) = oN (k0 + 2 * 1) := by decide
theorem bits_and : ∀ k0, k0 < 2 → ∀ k1, k1 < 2 → (((oN (k0 + 2 * k1)) >>> (oN 0 &&& 31)) &&& (1 : Int32)) = oN k0 ∧ (((oN (k0 + 2 * k1)) >>> (oN 1 &&& 31)) &&& (1 : Int32)) = oN k1 := by decide
theorem bo_keep (p : Int32) : Bo (fun F => fn_X0_keep F p) (fun F => fn_X8_keep F p) := by
  intro F hr
  obtain ⟨h1, ⟨t, b, hv, hb, hm⟩, ⟨⟨k0, k1, a1, a2, a3, a4, a5⟩, hk2⟩, h4, h5⟩ := id hr
  show Ok (fn_X0_keep F p) _
  unfold fn_X0_keep
  rw [isIn_l F p 0 1 (l2 := 0) (h2 := 1) rfl rfl, ob_s]
  by_cases h : (0 : Int32) ≤ p ∧ p ≤ 1
  · obtain ⟨q, -, hq, rfl⟩ := rng (l := 0) (h := 1) (by omega) (by omega) h
    rw [if_pos h, oN_n (show q < 2147483648 by omega)]
    obtain ⟨b0, b0', hb0, -⟩ := h4 (1 + q) (by omega)
    refine ok_itn n10 (ok_og (oN_vp (by omega) (by omega)) (ok_ob (c_copy (i := 1 + q) (j := 0) (by omega) (by omega) (by omega) hb0) (fun F6 h6 => ok_pl (ok_some ?_))))
    have hR6 : RB (1 + q) F F6 b := ⟨fun g x => if g = 9 then b0' 9 x else b g x, h6.eqb (fun g x hx => by
      by_cases hg : g = 9
      · rw [if_pos hg, if_pos hg]
      · rw [if_neg hg, if_neg hg]
        obtain ⟨b', c1, c2⟩ := hb
        rw [c1.2.1 g x hx, c2 g hg]) (fun _ _ _ _ => rfl), fun g hg => funext fun x => if_neg hg⟩
    have o6 : ∀ k p y j, ¬ bl (1 + q) k y → F6 k p y j = F k p y j := hR6.fr
    show Ok (fn_X8_keep (fu F6 0 17 0 0 (F6 0 17 0 0 ||| ((1 : Int32) <<< (oN q &&& 31)))) (oN q)) _
    unfold fn_X8_keep
    rw [in_e, ob_s, if_pos h, m138, oN_n (show q < 2147483648 by omega)]
    refine ok_itn n10 (ok_ob (m_c4042 _ (q := q) (by omega)) (fun F4 h4' => ok_og (oN_vp (by omega) (by omega)) (ok_pl (ok_some ?_))))
    obtain ⟨f1, f2⟩ := h4'
    have e40 : ∀ j, fu F6 0 17 0 0 (F6 0 17 0 0 ||| ((1 : Int32) <<< (oN q &&& 31))) 40 0 0 j = F 40 0 0 j := fun j => by
      rw [fu_n _ _ _ _ _ _ (by omega)]
      exact o6 40 0 0 j (by unfold bl; omega)
    have e1 : vp_nar .boolean (1 : Int32) = 1 := rfl
    rw [e1]
    generalize hG : fu F6 0 17 0 0 (F6 0 17 0 0 ||| ((1 : Int32) <<< (oN q &&& 31))) = G at *
    have oG : ∀ k p y j, ¬ (k = 0 ∧ p = 17) → G k p y j = F6 k p y j := fun k p y j hne => by
      rw [← hG]
      exact fu_n _ _ _ _ _ _ (fun z => hne ⟨z.1, z.2.1⟩)
    have o7 : ∀ k p y j, ¬ (k = 42 ∧ 138 * q ≤ j ∧ j < 138 * q + 138) → ¬ (k = 43 ∧ j = q) → ¬ (k = 0 ∧ p = 17) → ¬ bl (1 + q) k y → fu F4 43 0 0 q 1 k p y j = F k p y j := fun k p y j c1 c2 c3 c4 => by
      rw [fu_n _ _ _ _ _ _ (fun z => c2 ⟨z.1, z.2.2.2⟩), f1 k p y j c1, oG k p y j c3]
      exact o6 k p y j c4
    have hpk : ∀ k p y j, pk k p → fu F4 43 0 0 q 1 k p y j = F k p y j := fun k p y j hk => by
      unfold pk at hk
      exact o7 k p y j (by omega) (by omega) (by omega) (by unfold bl; omega)
    have ag := pk_agr hpk
    have e11 := hpk 30 11 0 0 (by unfold pk; omega)
    have hbq : ∀ k p y j, bl (1 + q) k y → fu F4 43 0 0 q 1 k p y j = F6 k p y j := fun k p y j hb => by
      unfold bl at hb
      rw [fu_n _ _ _ _ _ _ (by omega), f1 k p y j (by omega), oG k p y j (by omega)]
    have hbo : ∀ i, i < 4 → i ≠ 1 + q → ∀ k p y j, bl i k y → fu F4 43 0 0 q 1 k p y j = F k p y j := fun i hi hne k p y j hb => by
      have hn := bl_ne (j := 1 + q) hi (by omega) hne hb
      unfold bl at hb
      exact o7 k p y j (by omega) (by omega) (by omega) hn
    show fu F4 43 0 0 q 1 40 0 0 132 = G 1 2 0 0 ∧ Rel (fu F4 43 0 0 q 1)
    refine ⟨?_, RP_c hpk h1, RD_c (by omega) ag e11 (hbo 0 (by omega) (by omega)) (fun j _ _ => o7 40 0 0 j (by omega) (by omega) (by omega) (by unfold bl; omega)) ⟨t, b, hv, hb, hm⟩, ⟨?_, fun k hk hne => ?_⟩, fun i hi => ?_, RT_c (o7 0 20 0 0 (by omega) (by omega) (by omega) (by unfold bl; omega)) (o7 30 18 0 0 (by omega) (by omega) (by omega) (by unfold bl; omega)) (fun j => o7 38 0 0 j (by omega) (by omega) (by omega) (by unfold bl; omega)) (fun j => o7 15 0 0 j (by omega) (by omega) (by omega) (by unfold bl; omega)) h5⟩
    · show fu F4 43 0 0 q 1 40 0 0 132 = G 1 2 0 0
      rw [o7 40 0 0 132 (by omega) (by omega) (by omega) (by unfold bl; omega), show (132 : Nat) = 0 + (16 * 8 + 4) from rfl, hm 8 4 ⟨by omega, by omega⟩, oG 1 2 0 0 (by omega), o6 1 2 0 0 (by unfold bl; omega), hb.rb (k := 1) (p := 2) (y := 0) (j := 0) 8 4 rfl (Or.inr (Or.inl ⟨rfl, by omega⟩)) (by decide)]
    · have e17 : fu F4 43 0 0 q 1 0 17 0 0 = (oN (k0 + 2 * k1) ||| ((1 : Int32) <<< (oN q &&& 31))) := by
        rw [fu_n _ _ _ _ _ _ (by omega), f1 0 17 0 0 (by omega), ← hG, fu_s, o6 0 17 0 0 (by unfold bl; omega), a3]
      have e43 : ∀ j, j ≠ q → fu F4 43 0 0 q 1 43 0 0 j = F 43 0 0 j := fun j hj => o7 43 0 0 j (by omega) (by omega) (by omega) (by unfold bl; omega)
      have hbits := bits_or k0 a1 k1 a2
      rcases (show q = 0 ∨ q = 1 by omega) with z | z <;> subst z
      · exact ⟨1, k1, by omega, a2, e17.trans hbits.1, by rw [fu_s]; rfl, by rw [e43 1 (by omega)]; exact a5⟩
      · exact ⟨k0, 1, a1, by omega, e17.trans hbits.2, by rw [e43 0 (by omega)]; exact a4, by rw [fu_s]; rfl⟩
    · by_cases hkq : k = q
      · subst hkq
        refine ⟨t, b, by rw [e11]; exact inv_c ag hv, rb_c (by omega) hR6 ag hbq, fun g x hx => ?_⟩
        have := hx.1
        have := hx.2
        rw [fu_n _ _ _ _ _ _ (by omega), f2 _ (by omega), e40, ← hm g x hx, Nat.zero_add]
      · have hne2 : F 43 0 0 k ≠ 0 := by
          rw [o7 43 0 0 k (by omega) (by omega) (by omega) (by unfold bl; omega)] at hne
          exact hne
        exact RD_c (by omega) ag e11 (hbo (1 + k) (by omega) (by omega)) (fun j _ _ => o7 42 0 0 j (by omega) (by omega) (by omega) (by unfold bl; omega)) (hk2 k hk hne2)
    · by_cases hiq : i = 1 + q
      · subst hiq
        exact ⟨b, rb_c (by omega) hR6 ag hbq⟩
      · obtain ⟨b2, hb2⟩ := h4 i hi
        exact ⟨b2, rb_c hi hb2 ag (hbo i hi hiq)⟩
  · rw [if_neg h]
    refine ok_itp z00 (ok_some ?_)
    show Ok (fn_X8_keep F p) _
    unfold fn_X8_keep
    rw [in_e, ob_s, if_neg h]
    exact ok_itp z00 (ok_some ⟨rfl, hr⟩)
theorem bo_back (p : Int32) : Bo (fun F => fn_X0_back F p) (fun F => fn_X8_back F p) := by
  intro F hr
  obtain ⟨h1, ⟨t0, b00, -, ⟨b0, hb0, -⟩, -⟩, ⟨⟨k0, k1, a1, a2, a3, a4, a5⟩, hk2⟩, h4, h5⟩ := id hr
  show Ok (fn_X0_back F p) _
  unfold fn_X0_back
  rw [isIn_l F p 0 1 (l2 := 0) (h2 := 1) rfl rfl, ob_s]
  by_cases h : (0 : Int32) ≤ p ∧ p ≤ 1
  · obtain ⟨q, -, hq, rfl⟩ := rng (l := 0) (h := 1) (by omega) (by omega) h
    have ebit : (((F 0 17 0 0) >>> (oN q &&& 31)) &&& (1 : Int32)) = F 43 0 0 q := by
      rw [a3]
      have hbits := bits_and k0 a1 k1 a2
      rcases (show q = 0 ∨ q = 1 by omega) with z | z <;> subst z
      · rw [hbits.1, a4]
      · rw [hbits.2, a5]
    rw [if_pos h, ebit, oN_n (show q < 2147483648 by omega)]
    refine ok_itn n10 ?_
    by_cases hz : F 43 0 0 q = 0
    · refine ok_itp hz (ok_some ?_)
      show Ok (fn_X8_back F (oN q)) _
      unfold fn_X8_back
      rw [in_e, ob_s, if_pos h, oN_n (show q < 2147483648 by omega)]
      exact ok_itn n10 (ok_og (oN_vp (by omega) (by omega)) (ok_itp hz (ok_some ⟨rfl, hr⟩)))
    · obtain ⟨t, b, hv, hb, hm⟩ := hk2 q (by omega) hz
      refine ok_itn hz (ok_og (oN_vp (by omega) (by omega)) (ok_ob (c_copy (i := 0) (j := 1 + q) (by omega) (by omega) (by omega) hb0) (fun F7 h7 => ok_some ?_)))
      have hR7 : RB 0 F F7 b := ⟨fun g x => if g = 9 then b0 9 x else b g x, h7.eqb (fun g x hx => by
        by_cases hg : g = 9
        · rw [if_pos hg, if_pos hg]
        · rw [if_neg hg, if_neg hg]
          obtain ⟨b', c1, c2⟩ := hb
          rw [c1.2.1 g x hx, c2 g hg]) (fun _ _ _ _ => rfl), fun g hg => funext fun x => if_neg hg⟩
      have o7 : ∀ k p y j, ¬ bl 0 k y → F7 k p y j = F k p y j := hR7.fr
      show Ok (fn_X8_back F7 (oN q)) _
      unfold fn_X8_back
      rw [in_e, ob_s, if_pos h, m138, oN_n (show q < 2147483648 by omega), o7 43 0 0 q (by unfold bl; omega)]
      refine ok_itn n10 (ok_og (oN_vp (by omega) (by omega)) (ok_itn hz (ok_ob (m_c4240 F7 (q := q) (by omega)) (fun F2 h2 => ok_some ?_))))
      obtain ⟨f1, f2⟩ := h2
      have hM : Mh F7 F2 b (fun g x => F2 44 0 0 (16 * g + x)) := ⟨fun k p i j c1 c2 => f1 k p i j c1, fun g x hx => by
        have := hx.1
        have := hx.2
        rw [f2 _ (by omega), o7 42 0 0 _ (by unfold bl; omega)]
        exact hm g x hx, fun _ _ _ _ => rfl⟩
      refine ⟨?_, rd_new hr hR7 hM hv⟩
      show F2 40 0 0 132 = F7 1 2 0 0
      rw [hM.rb 8 4 (by omega) ⟨by omega, by omega⟩, hR7.rb (k := 1) (p := 2) (y := 0) (j := 0) 8 4 rfl (Or.inr (Or.inl ⟨rfl, by omega⟩)) (by decide)]
  · rw [if_neg h]
    refine ok_itp z00 (ok_some ?_)
    show Ok (fn_X8_back F p) _
    unfold fn_X8_back
    rw [in_e, ob_s, if_neg h]
    exact ok_itp z00 (ok_some ⟨rfl, hr⟩)
end P1
