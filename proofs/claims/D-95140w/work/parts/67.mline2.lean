/-! PURE: a line, by the model -/
set_option maxRecDepth 100000
section MN
variable {F G : St} {tx : Nat → Nat} {n rn ly w : Nat}
theorem ns_0 {bd : Nat → (Nat → Nat) → Nat × Nat} {k p : Nat} {t : Nat → Nat} : nsA tx n bd 0 k t p = .inr (t, p) := rfl
theorem m_three {so p : Nat} {H : St} {t : Nat → Nat} {hi : Nat} (ht : TXm G tx n) (hI : MI n G w so H 0 t p) (hw : w + 6 ≤ 60) (h28 : G 30 28 0 0 = oN rn) (h29 : G 30 29 0 0 = oN ly) (h0 : so ≠ 0) (h3 : cnS so = 3) (hb : ∀ k t, bdS so rn ly k t = (0, hi)) (hhi : hi < 2147483648) : Ok (fn_X8_areThree H (oN w) (oN hi)) (LnM n rn ly G w (lnW so (nsA tx n (bdS so rn ly) 3 0 t p))) := by
  unfold fn_X8_areThree
  have st : ∀ k t, (0 : Int32) = oN (bdS so rn ly k t).1 ∧ oN hi = oN (bdS so rn ly k t).2 ∧ (bdS so rn ly k t).1 < 2147483648 ∧ (bdS so rn ly k t).2 < 2147483648 := fun k t => by
    rw [hb k t]
    exact ⟨rfl, rfl, by show 0 < 2147483648; omega, hhi⟩
  refine m_step ht hI hw (by omega) (oN_add w 1) (st 0 _).1 (st 0 _).2.1 (st 0 _).2.2.1 (st 0 _).2.2.2 (fun H1 v1 _ i1 => ?_)
  refine m_step ht i1 hw (by omega) (oN_add w 2) (st 1 _).1 (st 1 _).2.1 (st 1 _).2.2.1 (st 1 _).2.2.2 (fun H2 v2 _ i2 => ?_)
  refine m_step ht i2 hw (by omega) (oN_add w 3) (st 2 _).1 (st 2 _).2.1 (st 2 _).2.2.1 (st 2 _).2.2.2 (fun H3 v3 _ i3 => ?_)
  rw [ns_0]
  exact ok_some (m_fin h0 h28 h29 (by rw [h3]; exact i3))
theorem m_bed {p : Nat} {H : St} {t : Nat → Nat} (ht : TXm G tx n) (hI : MI n G w 0 H 0 t p) (hw : w + 6 ≤ 60) : Ok (fn_X8_isBed H (oN w)) (LnM n rn ly G w (lnW 0 (nsA tx n (bdS 0 rn ly) 2 0 t p))) := by
  unfold fn_X8_isBed
  refine m_step ht hI hw (by omega) (oN_add w 1) rfl rfl (of_decide_eq_true rfl) (of_decide_eq_true rfl) (fun H1 v1 _ i1 => ?_)
  refine m_step ht i1 hw (by omega) (oN_add w 2) rfl rfl (of_decide_eq_true rfl) (of_decide_eq_true rfl) (fun H2 v2 _ i2 => ?_)
  rw [ns_0]
  obtain ⟨j1, j2, j3, j4, j5⟩ := i2
  have e1 : oN w + (1 : Int32) = oN (w + 1) := oN_add w 1
  have e2 : oN w + (2 : Int32) = oN (w + 2) := oN_add w 2
  rw [e1, e2, oN_n (show w + 1 < 2147483648 by omega), oN_n (show w + 2 < 2147483648 by omega)]
  refine ok_og (oN_vp (by omega) (by omega)) (ok_pl (ok_og (oN_vp (by omega) (by omega)) (ok_pl (ok_some ⟨Or.inr rfl, fun k p y j a b => ?_, fun g q => (nomatch q), fun z q => ?_⟩))))
  · show fu (fu H2 30 28 0 0 (H2 39 0 0 (w + 1))) 30 29 0 0 (fu H2 30 28 0 0 (H2 39 0 0 (w + 1)) 39 0 0 (w + 2)) k p y j = G k p y j
    rw [fu_n _ _ _ _ _ _ (by omega), fu_n _ _ _ _ _ _ (by omega)]
    exact j1.v k p y j a b
  · have q : Sum.inr (0, upN (upN t 0 v1) 1 v2, nxS tx n (nxS tx n p)) = Sum.inr z := q
    injection q with q
    subst q
    have f9 : ∀ j, fu (fu H2 30 28 0 0 (H2 39 0 0 (w + 1))) 30 29 0 0 (fu H2 30 28 0 0 (H2 39 0 0 (w + 1)) 39 0 0 (w + 2)) 39 0 0 j = H2 39 0 0 j := fun j => by rw [fu_n _ _ _ _ _ _ (by omega), fu_n _ _ _ _ _ _ (by omega)]
    refine ⟨rfl, (f9 w).trans j2, fun j hj => (f9 _).trans (j3 j hj).1, ⟨?_, j5⟩, ?_, ?_⟩
    · show fu (fu H2 30 28 0 0 (H2 39 0 0 (w + 1))) 30 29 0 0 (fu H2 30 28 0 0 (H2 39 0 0 (w + 1)) 39 0 0 (w + 2)) 30 20 0 0 = _
      rw [fu_n _ _ _ _ _ _ (by omega), fu_n _ _ _ _ _ _ (by omega)]
      exact j4
    · show fu (fu H2 30 28 0 0 (H2 39 0 0 (w + 1))) 30 29 0 0 (fu H2 30 28 0 0 (H2 39 0 0 (w + 1)) 39 0 0 (w + 2)) 30 28 0 0 = oN (if 0 = 0 then upN (upN t 0 v1) 1 v2 0 else rn)
      rw [if_pos rfl, fu_n _ _ _ _ _ _ (by omega), fu_s]
      exact (j3 0 (by omega)).1
    · show fu (fu H2 30 28 0 0 (H2 39 0 0 (w + 1))) 30 29 0 0 (fu H2 30 28 0 0 (H2 39 0 0 (w + 1)) 39 0 0 (w + 2)) 30 29 0 0 = oN (if 0 = 0 then upN (upN t 0 v1) 1 v2 1 else ly)
      rw [if_pos rfl, fu_s, fu_n _ _ _ _ _ _ (by omega)]
      exact (j3 1 (by omega)).1
theorem m_chart {p : Nat} {H : St} {t : Nat → Nat} (ht : TXm G tx n) (hI : MI n G w 14 H 0 t p) (hw : w + 6 ≤ 60) (h28 : G 30 28 0 0 = oN rn) (h29 : G 30 29 0 0 = oN ly) : Ok (fn_X8_isChart H (oN w)) (LnM n rn ly G w (lnW 14 (nsA tx n (bdS 14 rn ly) 5 0 t p))) := by
  unfold fn_X8_isChart
  have e1 : oN w + (1 : Int32) = oN (w + 1) := oN_add w 1
  have e3 : oN w + (3 : Int32) = oN (w + 3) := oN_add w 3
  refine m_step ht hI hw (by omega) (oN_add w 1) rfl rfl (of_decide_eq_true rfl) (of_decide_eq_true rfl) (fun H1 v1 n1 i1 => ?_)
  refine ok_og (by rw [e1]; exact oN_vp (by omega) (by omega)) ?_
  have k1 := i1.2.2.1 0 (by omega)
  refine m_step ht i1 hw (by omega) (oN_add w 2) (by rw [e1, oN_n (show w + 1 < 2147483648 by omega)]; exact k1.1) rfl (show upN t 0 v1 0 < 2147483648 by omega) (of_decide_eq_true rfl) (fun H2 v2 _ i2 => ?_)
  refine m_step ht i2 hw (by omega) (oN_add w 3) rfl rfl (of_decide_eq_true rfl) (of_decide_eq_true rfl) (fun H3 v3 _ i3 => ?_)
  refine ok_og (by rw [e3]; exact oN_vp (by omega) (by omega)) ?_
  have k3 := i3.2.2.1 2 (by omega)
  refine m_step ht i3 hw (by omega) (oN_add w 4) (by rw [e3, oN_n (show w + 3 < 2147483648 by omega)]; exact k3.1) rfl (Nat.lt_trans k3.2 (by omega)) (of_decide_eq_true rfl) (fun H4 v4 _ i4 => ?_)
  refine m_step ht i4 hw (by omega) (oN_add w 5) rfl rfl (of_decide_eq_true rfl) (of_decide_eq_true rfl) (fun H5 v5 _ i5 => ?_)
  rw [ns_0]
  exact ok_some (m_fin (by omega) h28 h29 i5)
/-- the model's line -/
theorem m_line {p : Nat} (ht : TXm G tx n) (hp : p ≤ n) (h20 : G 30 20 0 0 = oN p) (hw : w + 6 ≤ 60) (h28 : G 30 28 0 0 = oN rn) (h29 : G 30 29 0 0 = oN ly) (hr : 1 ≤ rn ∧ rn ≤ 4) (hy : 1 ≤ ly ∧ ly ≤ 4) : Ok (fn_X8_isLine G (oN w)) (LnM n rn ly G w (lnA tx n rn ly p)) := by
  unfold fn_X8_isLine
  refine ok_ob (m_token ht hp h20) (fun F1 h1 => ?_)
  obtain ⟨m1, k20, k21, ktk, -⟩ := h1
  have ktk : jn (F1 30 22 0 0) (F1 30 64 0 0) = tkP tx n p := ktk
  rw [ktk, aS_e, ob_s, bS_e, ob_s, vS_e, ob_s, oN_n (show w < 2147483648 by omega)]
  refine ok_og (oN_vp (by omega) (by omega)) (ok_pl ?_)
  rw [fu_s]
  have hle := srt_le (tkP tx n p)
  have w6 : Mw G (fu F1 39 0 0 w (vS (tkP tx n p))) w := (Mw.of m1).f9 (by omega) (by omega)
  have p20 : fu F1 39 0 0 w (vS (tkP tx n p)) 30 20 0 0 = oN (nxS tx n p) := by rw [fu_n _ _ _ _ _ _ (by omega)]; exact k20
  have p21 : fu F1 39 0 0 w (vS (tkP tx n p)) 30 21 0 0 = oN (spS tx n p) := by rw [fu_n _ _ _ _ _ _ (by omega)]; exact k21
  have pw : fu F1 39 0 0 w (vS (tkP tx n p)) 39 0 0 w = vS (tkP tx n p) := fu_s _ _ _ _ _ _
  generalize fu F1 39 0 0 w (vS (tkP tx n p)) = F29 at *
  by_cases h15 : srtS (tkP tx n p) = 15
  · have hv : vS (tkP tx n p) = -1 := if_pos h15
    have hA : lnA tx n rn ly p = lnW 15 (.inl (spS tx n p)) := by unfold lnA; rw [if_pos h15]; rfl
    rw [hv, hA]
    refine ok_itp (by decide) ?_
    have e : fn_X8_fails F29 = some (fu F29 30 25 0 0 (F29 30 21 0 0), 0) := rfl
    rw [e, ob2_s]
    refine ok_og rfl (ok_some (LnM.no (w6.fi (by omega)) ?_))
    rw [fu_s, p21]
  · generalize hso : srtS (tkP tx n p) = so at *
    have hv : vS (tkP tx n p) = oN so := by unfold vS; rw [hso, if_neg h15]
    rw [ln_w hso h15, hv]
    rw [hv] at pw
    have mi : MI n G w so F29 0 (fun _ => 0) (nxS tx n p) := ⟨w6, pw, fun j hj => absurd hj (by omega), p20, nx_le hp⟩
    have h14 : so = 0 ∨ so = 1 ∨ so = 2 ∨ so = 3 ∨ so = 4 ∨ so = 5 ∨ so = 6 ∨ so = 7 ∨ so = 8 ∨ so = 9 ∨ so = 10 ∨ so = 11 ∨ so = 12 ∨ so = 13 ∨ so = 14 := by omega
    have lo01 : ∀ (x : Nat ⊕ (Nat × (Nat → Nat) × Nat)) (r : St × Int32), LnM n rn ly G w x r → r.2 = 0 ∨ r.2 = 1 := fun x r q => q.1
    clear hso h15 hv hle
    rcases h14 with h | h | h | h | h | h | h | h | h | h | h | h | h | h | h <;> subst h
    · refine ok_itn (by decide) (ok_itp (by decide) (ok_bz (m_bed ht mi hw) (lo01 _)))
    · refine ok_itn (by decide) (ok_itn (by decide) (ok_itp (by decide) (ok_bz (m_three (hi := 99) ht mi hw h28 h29 (by omega) rfl (fun _ _ => rfl) (by omega)) (lo01 _))))
    · refine ok_itn (by decide) (ok_itn (by decide) (ok_itn (by decide) (ok_itp (by decide) (ok_bz (m_three (hi := 100) ht mi hw h28 h29 (by omega) rfl (fun _ _ => rfl) (by omega)) (lo01 _)))))
    · refine ok_itn (by decide) (ok_itn (by decide) (ok_itn (by decide) (ok_itn (by decide) (ok_itp (by decide) (m_step ht mi hw (by omega) (oN_add w 1) rfl rfl (of_decide_eq_true rfl) (of_decide_eq_true rfl) (fun H1 v1 _ i1 => m_step ht i1 hw (by omega) (oN_add w 2) rfl rfl (of_decide_eq_true rfl) (of_decide_eq_true rfl) (fun H2 v2 _ i2 => ?_)))))))
      rw [ns_0]
      exact ok_some (m_fin (by omega) h28 h29 i2)
    · refine ok_itn (by decide) (ok_itn (by decide) (ok_itn (by decide) (ok_itn (by decide) (ok_itn (by decide) (ok_itp (by decide) (m_step ht mi hw (by omega) (oN_add w 1) rfl (by rw [w6 30 28 0 0 (by omega) (by omega), h28, oN_sub1 hr.1]; rfl) (of_decide_eq_true rfl) (show rn - 1 < 2147483648 by omega) (fun H1 v1 _ i1 => m_step ht i1 hw (by omega) (oN_add w 2) rfl (by rw [i1.1 30 29 0 0 (by omega) (by omega), h29, oN_sub1 hy.1]; rfl) (of_decide_eq_true rfl) (show ly - 1 < 2147483648 by omega) (fun H2 v2 _ i2 => m_step ht i2 hw (by omega) (oN_add w 3) rfl rfl (of_decide_eq_true rfl) (of_decide_eq_true rfl) (fun H3 v3 _ i3 => ?_)))))))))
      rw [ns_0]
      exact ok_some (m_fin (by omega) h28 h29 i3)
    · refine ok_itn (by decide) (ok_itn (by decide) (ok_itn (by decide) (ok_itn (by decide) (ok_itn (by decide) (ok_itn (by decide) (ok_itp (by decide) (m_step ht mi hw (by omega) (oN_add w 1) rfl (by rw [w6 30 28 0 0 (by omega) (by omega), h28, oN_sub1 hr.1]; rfl) (of_decide_eq_true rfl) (show rn - 1 < 2147483648 by omega) (fun H1 v1 _ i1 => m_step ht i1 hw (by omega) (oN_add w 2) rfl (by rw [i1.1 30 29 0 0 (by omega) (by omega), h29, oN_sub1 hy.1]; rfl) (of_decide_eq_true rfl) (show ly - 1 < 2147483648 by omega) (fun H2 v2 _ i2 => m_step ht i2 hw (by omega) (oN_add w 3) rfl rfl (of_decide_eq_true rfl) (of_decide_eq_true rfl) (fun H3 v3 _ i3 => ?_))))))))))
      rw [ns_0]
      exact ok_some (m_fin (by omega) h28 h29 i3)
    · refine ok_itn (by decide) (ok_itn (by decide) (ok_itn (by decide) (ok_itn (by decide) (ok_itn (by decide) (ok_itn (by decide) (ok_itn (by decide) (ok_itp (by decide) (ok_b1 (m_step ht mi hw (by omega) (oN_add w 1) rfl rfl (of_decide_eq_true rfl) (of_decide_eq_true rfl) (fun H1 v1 _ i1 => ?_)) (m_num01 ht mi hw (oN_add w 1) (lo := 0) (hi := 20) (by omega) (by omega))))))))))
      rw [ns_0]
      exact ok_some (m_fin (by omega) h28 h29 i1)
    · refine ok_itn (by decide) (ok_itn (by decide) (ok_itn (by decide) (ok_itn (by decide) (ok_itn (by decide) (ok_itn (by decide) (ok_itn (by decide) (ok_itn (by decide) (ok_itp (by decide) (ok_b1 (m_step ht mi hw (by omega) (oN_add w 1) rfl rfl (of_decide_eq_true rfl) (of_decide_eq_true rfl) (fun H1 v1 _ i1 => ?_)) (m_num01 ht mi hw (oN_add w 1) (lo := 0) (hi := 999) (by omega) (by omega)))))))))))
      rw [ns_0]
      exact ok_some (m_fin (by omega) h28 h29 i1)
    · refine ok_itn (by decide) (ok_itn (by decide) (ok_itn (by decide) (ok_itn (by decide) (ok_itn (by decide) (ok_itn (by decide) (ok_itn (by decide) (ok_itn (by decide) (ok_itn (by decide) (ok_itp (by decide) (m_step ht mi hw (by omega) (oN_add w 1) rfl rfl (of_decide_eq_true rfl) (of_decide_eq_true rfl) (fun H1 v1 _ i1 => m_step ht i1 hw (by omega) (oN_add w 2) rfl (by rw [i1.1 30 28 0 0 (by omega) (by omega), h28, oN_sub1 hr.1]; rfl) (of_decide_eq_true rfl) (show rn - 1 < 2147483648 by omega) (fun H2 v2 _ i2 => m_step ht i2 hw (by omega) (oN_add w 3) rfl rfl (of_decide_eq_true rfl) (of_decide_eq_true rfl) (fun H3 v3 _ i3 => ?_)))))))))))))
      rw [ns_0]
      exact ok_some (m_fin (by omega) h28 h29 i3)
    · refine ok_itn (by decide) (ok_itn (by decide) (ok_itn (by decide) (ok_itn (by decide) (ok_itn (by decide) (ok_itn (by decide) (ok_itn (by decide) (ok_itn (by decide) (ok_itn (by decide) (ok_itn (by decide) (ok_itp (by decide) (ok_some (m_fin (t := fun _ => 0) (by omega) h28 h29 mi))))))))))))
    · refine ok_itn (by decide) (ok_itn (by decide) (ok_itn (by decide) (ok_itn (by decide) (ok_itn (by decide) (ok_itn (by decide) (ok_itn (by decide) (ok_itn (by decide) (ok_itn (by decide) (ok_itn (by decide) (ok_itn (by decide) (ok_itp (by decide) (ok_b1 (m_step ht mi hw (by omega) (oN_add w 1) rfl rfl (of_decide_eq_true rfl) (of_decide_eq_true rfl) (fun H1 v1 _ i1 => ?_)) (m_num01 ht mi hw (oN_add w 1) (lo := 0) (hi := 10) (by omega) (by omega))))))))))))))
      rw [ns_0]
      exact ok_some (m_fin (by omega) h28 h29 i1)
    · refine ok_itn (by decide) (ok_itn (by decide) (ok_itn (by decide) (ok_itn (by decide) (ok_itn (by decide) (ok_itn (by decide) (ok_itn (by decide) (ok_itn (by decide) (ok_itn (by decide) (ok_itn (by decide) (ok_itn (by decide) (ok_itn (by decide) (ok_itp (by decide) (ok_b1 (m_step ht mi hw (by omega) (oN_add w 1) rfl rfl (of_decide_eq_true rfl) (of_decide_eq_true rfl) (fun H1 v1 _ i1 => ?_)) (m_num01 ht mi hw (oN_add w 1) (lo := 0) (hi := 100) (by omega) (by omega)))))))))))))))
      rw [ns_0]
      exact ok_some (m_fin (by omega) h28 h29 i1)
    · refine ok_itn (by decide) (ok_itn (by decide) (ok_itn (by decide) (ok_itn (by decide) (ok_itn (by decide) (ok_itn (by decide) (ok_itn (by decide) (ok_itn (by decide) (ok_itn (by decide) (ok_itn (by decide) (ok_itn (by decide) (ok_itn (by decide) (ok_itn (by decide) (ok_itp (by decide) (ok_b1 (m_step ht mi hw (by omega) (oN_add w 1) rfl rfl (of_decide_eq_true rfl) (of_decide_eq_true rfl) (fun H1 v1 _ i1 => ?_)) (m_num01 ht mi hw (oN_add w 1) (lo := 1) (hi := 20) (by omega) (by omega))))))))))))))))
      rw [ns_0]
      exact ok_some (m_fin (by omega) h28 h29 i1)
    · refine ok_itn (by decide) (ok_itn (by decide) (ok_itn (by decide) (ok_itn (by decide) (ok_itn (by decide) (ok_itn (by decide) (ok_itn (by decide) (ok_itn (by decide) (ok_itn (by decide) (ok_itn (by decide) (ok_itn (by decide) (ok_itn (by decide) (ok_itn (by decide) (ok_itn (by decide) (ok_itp (by decide) (ok_b1 (m_step ht mi hw (by omega) (oN_add w 1) rfl rfl (of_decide_eq_true rfl) (of_decide_eq_true rfl) (fun H1 v1 _ i1 => ?_)) (m_num01 ht mi hw (oN_add w 1) (lo := 1) (hi := 60) (by omega) (by omega)))))))))))))))))
      rw [ns_0]
      exact ok_some (m_fin (by omega) h28 h29 i1)
    · refine ok_itn (by decide) (ok_itn (by decide) (ok_itn (by decide) (ok_itn (by decide) (ok_itn (by decide) (ok_itn (by decide) (ok_itn (by decide) (ok_itn (by decide) (ok_itn (by decide) (ok_itn (by decide) (ok_itn (by decide) (ok_itn (by decide) (ok_itn (by decide) (ok_itn (by decide) (ok_itn (by decide) (ok_itp (by decide) (ok_bz (m_chart ht mi hw h28 h29) (lo01 _)))))))))))))))))
end MN
