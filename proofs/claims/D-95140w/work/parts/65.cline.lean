/-! PURE: a line, by the class -/
set_option maxRecDepth 100000
def wcS : Nat → Int64
  | 0 => 1597 | 1 => 10506516 | 2 => 355568 | 3 => 6683990 | 4 => 10334396 | 5 => 10811306 | 6 => 326448 | 7 => 10497936 | 8 => 1753022 | 10 => 380651 | 11 => 13703 | 12 => 262776 | 13 => 453937 | 14 => 4075480 | 15 => 10808470 | _ => 0
def soW : Nat → Nat
  | 0 => 0 | 1 => 1 | 2 => 2 | 3 => 3 | 4 => 4 | 5 => 5 | 6 => 8 | 7 => 9 | 8 => 14 | 10 => 6 | 11 => 7 | 12 => 10 | 13 => 11 | 14 => 12 | 15 => 13 | _ => 15
theorem wc_e : ∀ i, i < 16 → i ≠ 9 → Int64.ofNat (cdW i) = wcS i ∧ srtS (wcS i) = soW i := by decide +kernel
section LI
variable {F G : St} {tx : Nat → Nat} {n rn ly p : Nat}
theorem is_w (hp : p ≤ n) {i : Nat} (hi : i < 16) (h9 : i ≠ 9) : isW tx n p i ↔ tkP tx n p = wcS i := by
  rw [← tk_w hp hi h9, (wc_e i hi h9).1]
  rfl
theorem is_so (hp : p ≤ n) {i : Nat} (hi : i < 16) (h9 : i ≠ 9) (h : isW tx n p i) : srtS (tkP tx n p) = soW i := by
  rw [(is_w hp hi h9).mp h, (wc_e i hi h9).2]
theorem is_no (hp : p ≤ n) (h : ∀ i, i < 16 → i ≠ 9 → ¬ isW tx n p i) : srtS (tkP tx n p) = 15 := by
  have g : ∀ i, i < 16 → i ≠ 9 → ¬ tkP tx n p = wcS i := fun i a b q => h i a b ((is_w hp a b).mpr q)
  unfold srtS
  rw [if_neg (show ¬ tkP tx n p = 1597 from g 0 (by omega) (by omega)), if_neg (show ¬ tkP tx n p = 10506516 from g 1 (by omega) (by omega)), if_neg (show ¬ tkP tx n p = 355568 from g 2 (by omega) (by omega)), if_neg (show ¬ tkP tx n p = 6683990 from g 3 (by omega) (by omega)), if_neg (show ¬ tkP tx n p = 10334396 from g 4 (by omega) (by omega)), if_neg (show ¬ tkP tx n p = 10811306 from g 5 (by omega) (by omega)), if_neg (show ¬ tkP tx n p = 380651 from g 10 (by omega) (by omega)), if_neg (show ¬ tkP tx n p = 13703 from g 11 (by omega) (by omega)), if_neg (show ¬ tkP tx n p = 326448 from g 6 (by omega) (by omega)), if_neg (show ¬ tkP tx n p = 10497936 from g 7 (by omega) (by omega)), if_neg (show ¬ tkP tx n p = 262776 from g 12 (by omega) (by omega)), if_neg (show ¬ tkP tx n p = 453937 from g 13 (by omega) (by omega)), if_neg (show ¬ tkP tx n p = 4075480 from g 14 (by omega) (by omega)), if_neg (show ¬ tkP tx n p = 10808470 from g 15 (by omega) (by omega)), if_neg (show ¬ tkP tx n p = 1753022 from g 8 (by omega) (by omega))]
theorem ok_skw {i : Nat} {yes no : St → Option (St × Option Ln)} {Q : St × Option Ln → Prop} (ht : TX G tx n) (hl : LK tx n G p) (hi : i < 16) (hy : isW tx n p i → ∀ H, Rdo G H → LK tx n H (nxS tx n p) → Ok (yes H) Q) (hn : ¬ isW tx n p i → Ok (no G) Q) : Ok (skw i G yes no) Q := by
  unfold skw
  refine ok_ob2 (c_skips ht hi hl) (fun F1 r q => ?_)
  by_cases c : isW tx n p i
  · obtain ⟨q1, q2, q3⟩ := q.1 c
    have q1 : r = 1 := q1
    subst q1
    exact ok_itn n10 (hy c F1 q2 q3)
  · obtain ⟨q1, q2⟩ := q.2 c
    have q1 : r = 0 := q1
    have q2 : F1 = G := q2
    subst q1
    subst q2
    exact ok_itp rfl (hn c)
theorem ng1o : ∀ j, j < 6 → ¬ (oN j = (-1 : Int32)) := by decide
theorem c_onelp (ht : TX G tx n) (hl : LK tx n G p) : ∀ d m k, k + d = 6 → d + 1 < m → Ok (lp_X4_one_16_t6_4 m G (-1) (oN k)) (fun r => (∃ j, j < 6 ∧ isW tx n p (10 + j) ∧ r.2.1 = oN j ∧ Rdo G r.1 ∧ LK tx n r.1 (nxS tx n p)) ∨ ((∀ j, k ≤ j → j < 6 → ¬ isW tx n p (10 + j)) ∧ r.2.1 = -1 ∧ r.1 = G))
  | _, 0, _, _, h => absurd h (by omega)
  | 0, m + 1, k, hk, hm => by
    rw [lp_X4_one_16_t6_4_s]
    exact ok_itp (yle (a := 6) (by omega) (by omega)) (ok_some (Or.inr ⟨fun j a b => absurd b (by omega), rfl, rfl⟩))
  | d + 1, m + 1, k, hk, hm => by
    rw [lp_X4_one_16_t6_4_s, oN_n (show k < 2147483648 by omega)]
    refine ok_itn (nle (a := 6) (by omega) (by omega)) (ok_itp rfl (ok_og (oN_vp (by omega) (by omega)) (ok_ob2 (c_skips ht (show 10 + k < 16 by omega) hl) (fun F12 r q => ?_))))
    by_cases c : isW tx n p (10 + k)
    · obtain ⟨q1, q2, q3⟩ := q.1 c
      have q1 : r = 1 := q1
      subst q1
      refine ok_ob (ok_itn n10 (ok_some (Q := fun y => y = oN k) rfl)) (fun y hy => ?_)
      subst hy
      obtain ⟨m', rfl⟩ : ∃ m', m = m' + 1 := ⟨m - 1, by omega⟩
      rw [lp_X4_one_16_t6_4_s]
      have fin : (∃ j, j < 6 ∧ isW tx n p (10 + j) ∧ oN k = oN j ∧ Rdo G F12 ∧ LK tx n F12 (nxS tx n p)) := ⟨k, by omega, c, rfl, q2, q3⟩
      refine ok_ite (fun _ => ok_some (Or.inl fin)) (fun _ => ok_itn (ng1o k (by omega)) (ok_some (Or.inl fin)))
    · obtain ⟨q1, q2⟩ := q.2 c
      have q1 : r = 0 := q1
      have q3 : F12 = G := q2
      subst q1
      rw [q3]
      refine ok_ob (ok_itp rfl (ok_some (Q := fun y => y = -1) rfl)) (fun y hy => ?_)
      subst hy
      rw [oN_1]
      refine ok_mono (c_onelp ht hl d m (k + 1) (by omega) (by omega)) (fun r hr => hr.imp id (fun z => ⟨fun j a b => ?_, z.2⟩))
      by_cases hj : j = k
      · rw [hj]; exact c
      · exact z.1 j (by omega) b
theorem oN_sub1 {a : Nat} (h : 1 ≤ a) : oN a - 1 = oN (a - 1) := (Int32.ofNat_sub a 1 h).symm
theorem c_lineO (ht : TX G tx n) (hl : LK tx n G p) (h5 : G 16 5 0 0 = oN rn) (h6 : G 16 6 0 0 = oN ly) (hno : ∀ i, i < 9 → ¬ isW tx n p i) : Ok (fn_X4_lineO G) (LnC tx n rn ly G (lnA tx n rn ly p)) := by
  unfold fn_X4_lineO fn_X4_one_16_t6
  refine ok_ob2 (P := fun r => (∃ j, j < 6 ∧ isW tx n p (10 + j) ∧ r.2 = oN j ∧ Rdo G r.1 ∧ LK tx n r.1 (nxS tx n p)) ∨ ((∀ j, 0 ≤ j → j < 6 → ¬ isW tx n p (10 + j)) ∧ r.2 = -1 ∧ r.1 = G)) (ok_ob3 (c_onelp ht hl 6 300 0 (by omega) (by omega)) (fun F4 x5 x6 h => ok_some h)) (fun F1 w h => ?_)
  rcases h with ⟨j, hj, hw, e, h1, h2⟩ | ⟨h1, e, e2⟩
  · have e : w = oN j := e
    subst e
    have hso := is_so hl.1 (show 10 + j < 16 by omega) (by omega) hw
    refine ok_itn (ng1o j hj) (ok_og (oN_vp hj (by omega)) ?_)
    rw [oN_n (show j < 2147483648 by omega)]
    have hj6 : j = 0 ∨ j = 1 ∨ j = 2 ∨ j = 3 ∨ j = 4 ∨ j = 5 := by omega
    rcases hj6 with h | h | h | h | h | h <;> subst h <;> exact c_lnR ht h1 h2 h5 h6 hso (by decide) (by decide) rfl rfl rfl (fun k K ti t _ _ _ => ⟨rfl, of_decide_eq_true rfl, of_decide_eq_true rfl⟩)
  · have e : w = -1 := e
    have e2 : F1 = G := e2
    subst e
    subst e2
    refine ok_itp rfl (ok_some ?_)
    have hno2 := is_no (tx := tx) hl.1 (fun i a b => by
      by_cases hi : i < 9
      · exact hno i hi
      · have := h1 (i - 10) (by omega) (by omega)
        rw [show 10 + (i - 10) = i by omega] at this
        exact this)
    have hA : lnA tx n rn ly p = .inl (spS tx n p) := by unfold lnA; rw [if_pos hno2]
    rw [hA]
    refine ⟨Rdo.rf.l, fun f q => ?_, fun z q => (nomatch q)⟩
    injection q with q
    subst q
    exact ⟨rfl, hl.2.2.1⟩
theorem c_line (ht : TX G tx n) (hl : LK tx n G p) (h5 : G 16 5 0 0 = oN rn) (h6 : G 16 6 0 0 = oN ly) (hr : 1 ≤ rn ∧ rn ≤ 4) (hy : 1 ≤ ly ∧ ly ≤ 4) : Ok (fn_X4_line G) (LnC tx n rn ly G (lnA tx n rn ly p)) := by
  have hp := hl.1
  have cell : ∀ so, so = 4 ∨ so = 5 → ∀ k K (ti : Nat → Int32) (t : Nat → Nat), k < 3 → Rdo G K → (∀ j, j < k → ti j = oN (t j) ∧ t j < 1000) → (((0 : Int32), if k = 0 then K 16 5 0 0 - 1 else if k = 1 then K 16 6 0 0 - 1 else 50) = (oN (bdS so rn ly k t).1, oN (bdS so rn ly k t).2)) ∧ (bdS so rn ly k t).1 < 2147483648 ∧ (bdS so rn ly k t).2 < 2147483648 := by
    intro so hso k K ti t hk hK _
    have e : bdS so rn ly k t = (0, if k = 0 then rn - 1 else if k = 1 then ly - 1 else 50) := by rcases hso with h | h <;> subst h <;> rfl
    rw [e, hK 16 5 0 0 (by omega), hK 16 6 0 0 (by omega), h5, h6, oN_sub1 hr.1, oN_sub1 hy.1]
    have hk3 : k = 0 ∨ k = 1 ∨ k = 2 := by omega
    rcases hk3 with h | h | h <;> subst h
    · exact ⟨rfl, of_decide_eq_true rfl, show rn - 1 < 2147483648 by omega⟩
    · exact ⟨rfl, of_decide_eq_true rfl, show ly - 1 < 2147483648 by omega⟩
    · exact ⟨rfl, of_decide_eq_true rfl, of_decide_eq_true rfl⟩
  unfold fn_X4_line
  refine ok_skw ht hl (by omega) (fun c H a b => c_ofBed ht a b (is_so hp (by omega) (by omega) c)) (fun n0 => ?_)
  refine ok_skw ht hl (by omega) (fun c H a b => c_lnR ht a b h5 h6 (is_so hp (by omega) (by omega) c) (by decide) (by decide) rfl rfl rfl (fun k K ti t _ _ _ => ⟨rfl, of_decide_eq_true rfl, of_decide_eq_true rfl⟩)) (fun n1 => ?_)
  refine ok_skw ht hl (by omega) (fun c H a b => c_lnR ht a b h5 h6 (is_so hp (by omega) (by omega) c) (by decide) (by decide) rfl rfl rfl (fun k K ti t _ _ _ => ⟨rfl, of_decide_eq_true rfl, of_decide_eq_true rfl⟩)) (fun n2 => ?_)
  refine ok_skw ht hl (by omega) (fun c H a b => c_lnR ht a b h5 h6 (is_so hp (by omega) (by omega) c) (by decide) (by decide) rfl rfl rfl (fun k K ti t hk _ _ => ?_)) (fun n3 => ?_)
  · have hk2 : k = 0 ∨ k = 1 := by omega
    rcases hk2 with h | h <;> subst h <;> exact ⟨rfl, of_decide_eq_true rfl, of_decide_eq_true rfl⟩
  refine ok_skw ht hl (by omega) (fun c H a b => c_lnR ht a b h5 h6 (is_so hp (by omega) (by omega) c) (by decide) (by decide) rfl rfl rfl (cell 4 (Or.inl rfl))) (fun n4 => ?_)
  refine ok_skw ht hl (by omega) (fun c H a b => c_lnR ht a b h5 h6 (is_so hp (by omega) (by omega) c) (by decide) (by decide) rfl rfl rfl (cell 5 (Or.inr rfl))) (fun n5 => ?_)
  refine ok_skw ht hl (by omega) (fun c H a b => c_lnR ht a b h5 h6 (is_so hp (by omega) (by omega) c) (by decide) (by decide) rfl rfl rfl (fun k K ti t hk hK _ => ?_)) (fun n6 => ?_)
  · rw [hK 16 5 0 0 (by omega), h5, oN_sub1 hr.1]
    have hk3 : k = 0 ∨ k = 1 ∨ k = 2 := by omega
    rcases hk3 with h | h | h <;> subst h
    · exact ⟨rfl, of_decide_eq_true rfl, of_decide_eq_true rfl⟩
    · exact ⟨rfl, of_decide_eq_true rfl, show rn - 1 < 2147483648 by omega⟩
    · exact ⟨rfl, of_decide_eq_true rfl, of_decide_eq_true rfl⟩
  refine ok_skw ht hl (by omega) (fun c H a b => c_lnR ht a b h5 h6 (is_so hp (by omega) (by omega) c) (by decide) (by decide) rfl rfl rfl (fun k K ti t hk _ _ => absurd hk (by omega))) (fun n7 => ?_)
  refine ok_skw ht hl (by omega) (fun c H a b => c_lnR ht a b h5 h6 (is_so hp (by omega) (by omega) c) (by decide) (by decide) rfl rfl rfl (fun k K ti t hk _ h3 => ?_)) (fun n8 => ?_)
  · have hk5 : k = 0 ∨ k = 1 ∨ k = 2 ∨ k = 3 ∨ k = 4 := by omega
    rcases hk5 with h | h | h | h | h <;> subst h
    · exact ⟨rfl, of_decide_eq_true rfl, of_decide_eq_true rfl⟩
    · obtain ⟨z1, z2⟩ := h3 0 (by omega)
      refine ⟨?_, show t 0 < 2147483648 by omega, of_decide_eq_true rfl⟩
      show (ti 0, (999 : Int32)) = (oN (t 0), oN 999)
      rw [z1]
      rfl
    · exact ⟨rfl, of_decide_eq_true rfl, of_decide_eq_true rfl⟩
    · obtain ⟨z1, z2⟩ := h3 2 (by omega)
      refine ⟨?_, show t 2 < 2147483648 by omega, of_decide_eq_true rfl⟩
      show (ti 2, (999 : Int32)) = (oN (t 2), oN 999)
      rw [z1]
      rfl
    · exact ⟨rfl, of_decide_eq_true rfl, of_decide_eq_true rfl⟩
  refine c_lineO ht hl h5 h6 (fun i hi => ?_)
  have hi9 : i = 0 ∨ i = 1 ∨ i = 2 ∨ i = 3 ∨ i = 4 ∨ i = 5 ∨ i = 6 ∨ i = 7 ∨ i = 8 := by omega
  rcases hi9 with h | h | h | h | h | h | h | h | h <;> subst h <;> assumption
end LI
