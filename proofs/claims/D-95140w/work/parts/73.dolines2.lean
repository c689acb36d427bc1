/-! PURE: a line done by the model -/
set_option maxRecDepth 100000
section DL
variable {H : St} {rn ly i so : Nat} {t : Nat → Nat}
theorem m_doLine (hi : i < 10) (hR : RM H i so t) (hG : GLn so t rn ly) (hr : 1 ≤ rn ∧ rn ≤ 4) (hy : 1 ≤ ly ∧ ly ≤ 4) (h12 : ∃ c, c ≤ 12 ∧ H 30 12 0 0 = oN c) : fn_X8_doLine H (oN (6 * i)) = some (updL H so t) := by
  refine ok_eqv ?_
  obtain ⟨hs, hj⟩ := hR
  obtain ⟨g1, g2, g3⟩ := hG
  have e1 : oN (6 * i) + (1 : Int32) = oN (6 * i + 1) := oN_add _ 1
  have e2 : oN (6 * i) + (2 : Int32) = oN (6 * i + 2) := oN_add _ 2
  have e3 : oN (6 * i) + (3 : Int32) = oN (6 * i + 3) := oN_add _ 3
  unfold fn_X8_doLine
  rw [e1, e2, e3, oN_n (show 6 * i + 1 < 2147483648 by omega), oN_n (show 6 * i + 2 < 2147483648 by omega), oN_n (show 6 * i + 3 < 2147483648 by omega), oN_n (show 6 * i < 2147483648 by omega), hs]
  refine ok_og (oN_vp (by omega) (by omega)) (ok_pl (ok_og (oN_vp (by omega) (by omega)) (ok_pl (ok_og (oN_vp (by omega) (by omega)) (ok_pl (ok_og (oN_vp (by omega) (by omega)) ?_))))))
  have t0 : 0 < cnS so → H 39 0 0 (6 * i + 1) = oN (t 0) := fun q => hj 0 q
  have t1 : 1 < cnS so → H 39 0 0 (6 * i + 2) = oN (t 1) := fun q => hj 1 q
  have t2 : 2 < cnS so → H 39 0 0 (6 * i + 3) = oN (t 2) := fun q => hj 2 q
  have h14 : so = 0 ∨ so = 1 ∨ so = 2 ∨ so = 3 ∨ so = 4 ∨ so = 5 ∨ so = 6 ∨ so = 7 ∨ so = 8 ∨ so = 9 ∨ so = 10 ∨ so = 11 ∨ so = 12 ∨ so = 13 ∨ so = 14 := by omega
  have cell : (so = 4 ∨ so = 5) → t 0 < 4 ∧ t 1 < 4 := fun q => by
    have a0 := (g2 (by omega) 0 (by rcases q with q | q <;> subst q <;> decide)).2
    have a1 := (g2 (by omega) 1 (by rcases q with q | q <;> subst q <;> decide)).2
    have b0 : t 0 ≤ rn - 1 := by rcases q with q | q <;> subst q <;> exact a0
    have b1 : t 1 ≤ ly - 1 := by rcases q with q | q <;> subst q <;> exact a1
    omega
  have ec : ∀ a b : Nat, ((4 : Int32) * oN b) + oN a = oN (4 * b + a) := fun a b => by
    rw [show (4 : Int32) * oN b = oN (4 * b) from (Int32.ofNat_mul 4 b).symm, oN_add]
  clear hs
  rcases h14 with h | h | h | h | h | h | h | h | h | h | h | h | h | h | h <;> subst h
  · rw [t0 (by decide), t1 (by decide)]
    refine ok_itn (by decide) (ok_itp (by decide) (ok_pl (ok_pl (ok_pl (ok_ob2 (P := fun r => r.1 = z33 (fu (fu (fu H 30 0 0 0 (oN (t 0))) 30 1 0 0 (oN (t 1))) 30 12 0 0 0) 16) ?_ (fun F23 x24 h => ok_some h))))))
    refine ok_lpF (lp := lp_X8_doLine_126) (fun k F' => F' = z33 (fu (fu (fu H 30 0 0 0 (oN (t 0))) 30 1 0 0 (oN (t 1))) 30 12 0 0 0) k) 16 (by omega) (fun n k F' hk hI ih => ?_) (fun n F' hI => ?_) (z33_0 _).symm
    · rw [lp_X8_doLine_126_s, oN_n (show k < 2147483648 by omega)]
      refine ok_itn (nle (a := 16) hk (by omega)) (ok_og (oN_vp hk (by omega)) (ok_pl (ih _ ?_)))
      rw [hI, z33_s]
    · rw [lp_X8_doLine_126_s]
      exact ok_itp (yle (a := 16) (Nat.le_refl _) (by omega)) (ok_some hI)
  · rw [t0 (by decide), t1 (by decide), t2 (by decide)]
    exact ok_itn (by decide) (ok_itn (by decide) (ok_itp (by decide) (ok_pl (ok_pl (ok_pl (ok_some rfl))))))
  · rw [t0 (by decide), t1 (by decide), t2 (by decide)]
    exact ok_itn (by decide) (ok_itn (by decide) (ok_itn (by decide) (ok_itp (by decide) (ok_pl (ok_pl (ok_pl (ok_some rfl)))))))
  · rw [t0 (by decide), t1 (by decide)]
    exact ok_itn (by decide) (ok_itn (by decide) (ok_itn (by decide) (ok_itn (by decide) (ok_itp (by decide) (ok_pl (ok_pl (ok_some rfl)))))))
  · rw [t0 (by decide), t1 (by decide), t2 (by decide)]
    have hc := cell (by omega)
    rw [ec, oN_n (show 4 * t 1 + t 0 < 2147483648 by omega)]
    exact ok_itn (by decide) (ok_itn (by decide) (ok_itn (by decide) (ok_itn (by decide) (ok_itn (by decide) (ok_itp (by decide) (ok_og (oN_vp (by omega) (by omega)) (ok_pl (ok_some rfl))))))))
  · rw [t0 (by decide), t1 (by decide), t2 (by decide)]
    have hc := cell (by omega)
    rw [ec, oN_n (show 4 * t 1 + t 0 < 2147483648 by omega)]
    exact ok_itn (by decide) (ok_itn (by decide) (ok_itn (by decide) (ok_itn (by decide) (ok_itn (by decide) (ok_itn (by decide) (ok_itp (by decide) (ok_og (oN_vp (by omega) (by omega)) (ok_pl (ok_some rfl)))))))))
  · exact ok_itn (by decide) (ok_itn (by decide) (ok_itn (by decide) (ok_itn (by decide) (ok_itn (by decide) (ok_itn (by decide) (ok_itn (by decide) (ok_itp (by decide) (ok_ob (P := fun r => r = updL H 6 t) (ok_ofe (do_one (by omega) (t0 (by decide))) rfl) (fun F h => ok_some h)))))))))
  · exact ok_itn (by decide) (ok_itn (by decide) (ok_itn (by decide) (ok_itn (by decide) (ok_itn (by decide) (ok_itn (by decide) (ok_itn (by decide) (ok_itn (by decide) (ok_itp (by decide) (ok_ob (P := fun r => r = updL H 7 t) (ok_ofe (do_one (by omega) (t0 (by decide))) rfl) (fun F h => ok_some h))))))))))
  · rw [t0 (by decide), t1 (by decide), t2 (by decide)]
    obtain ⟨c, hc, e12⟩ := h12
    refine ok_itn (by decide) (ok_itn (by decide) (ok_itn (by decide) (ok_itn (by decide) (ok_itn (by decide) (ok_itn (by decide) (ok_itn (by decide) (ok_itn (by decide) (ok_itn (by decide) (ok_itp (by decide) (ok_ob (P := fun r => r = pou H t) ?_ (fun F66 h => ok_some h)))))))))))
    unfold fn_X8_doPour pou
    rw [e12]
    by_cases c12 : 12 ≤ c
    · rw [if_pos (show (12 : Int32) ≤ oN c from yle (a := 12) c12 (by omega)), if_pos (show (12 : Int32) ≤ oN c from yle (a := 12) c12 (by omega))]
      exact ok_some rfl
    · rw [if_neg (show ¬ (12 : Int32) ≤ oN c from nle (a := 12) (by omega) (by omega)), if_neg (show ¬ (12 : Int32) ≤ oN c from nle (a := 12) (by omega) (by omega))]
      have u1 : ∀ v, fu H 34 0 0 (oN c).toNatClampNeg v 30 12 0 0 = oN c := fun v => by rw [fu_n _ _ _ _ _ _ (by omega), e12]
      have u2 : ∀ v v2, fu (fu H 34 0 0 (oN c).toNatClampNeg v) 35 0 0 (oN c).toNatClampNeg v2 30 12 0 0 = oN c := fun v v2 => by rw [fu_n _ _ _ _ _ _ (by omega), u1]
      have u3 : ∀ v v2 v3, fu (fu (fu H 34 0 0 (oN c).toNatClampNeg v) 35 0 0 (oN c).toNatClampNeg v2) 36 0 0 (oN c).toNatClampNeg v3 30 12 0 0 = oN c := fun v v2 v3 => by rw [fu_n _ _ _ _ _ _ (by omega), u2]
      refine ok_og (oN_vp (by omega) (by omega)) (ok_pl ?_)
      rw [u1]
      refine ok_og (oN_vp (by omega) (by omega)) (ok_pl ?_)
      rw [u2]
      refine ok_og (oN_vp (by omega) (by omega)) (ok_pl ?_)
      rw [u3]
      exact ok_pl (ok_some rfl)
  · exact ok_itn (by decide) (ok_itn (by decide) (ok_itn (by decide) (ok_itn (by decide) (ok_itn (by decide) (ok_itn (by decide) (ok_itn (by decide) (ok_itn (by decide) (ok_itn (by decide) (ok_itn (by decide) (ok_itp (by decide) (ok_pl (ok_some rfl))))))))))))
  · exact ok_itn (by decide) (ok_itn (by decide) (ok_itn (by decide) (ok_itn (by decide) (ok_itn (by decide) (ok_itn (by decide) (ok_itn (by decide) (ok_itn (by decide) (ok_itn (by decide) (ok_itn (by decide) (ok_itn (by decide) (ok_itp (by decide) (ok_ob (P := fun r => r = updL H 10 t) (ok_ofe (do_one (by omega) (t0 (by decide))) rfl) (fun F h => ok_some h)))))))))))))
  · exact ok_itn (by decide) (ok_itn (by decide) (ok_itn (by decide) (ok_itn (by decide) (ok_itn (by decide) (ok_itn (by decide) (ok_itn (by decide) (ok_itn (by decide) (ok_itn (by decide) (ok_itn (by decide) (ok_itn (by decide) (ok_itn (by decide) (ok_itp (by decide) (ok_ob (P := fun r => r = updL H 11 t) (ok_ofe (do_one (by omega) (t0 (by decide))) rfl) (fun F h => ok_some h))))))))))))))
  · exact ok_itn (by decide) (ok_itn (by decide) (ok_itn (by decide) (ok_itn (by decide) (ok_itn (by decide) (ok_itn (by decide) (ok_itn (by decide) (ok_itn (by decide) (ok_itn (by decide) (ok_itn (by decide) (ok_itn (by decide) (ok_itn (by decide) (ok_itn (by decide) (ok_itp (by decide) (ok_ob (P := fun r => r = updL H 12 t) (ok_ofe (do_one (by omega) (t0 (by decide))) rfl) (fun F h => ok_some h)))))))))))))))
  · exact ok_itn (by decide) (ok_itn (by decide) (ok_itn (by decide) (ok_itn (by decide) (ok_itn (by decide) (ok_itn (by decide) (ok_itn (by decide) (ok_itn (by decide) (ok_itn (by decide) (ok_itn (by decide) (ok_itn (by decide) (ok_itn (by decide) (ok_itn (by decide) (ok_itn (by decide) (ok_itp (by decide) (ok_ob (P := fun r => r = updL H 13 t) (ok_ofe (do_one (by omega) (t0 (by decide))) rfl) (fun F h => ok_some h))))))))))))))))
  · refine ok_itn (by decide) (ok_itn (by decide) (ok_itn (by decide) (ok_itn (by decide) (ok_itn (by decide) (ok_itn (by decide) (ok_itn (by decide) (ok_itn (by decide) (ok_itn (by decide) (ok_itn (by decide) (ok_itn (by decide) (ok_itn (by decide) (ok_itn (by decide) (ok_itn (by decide) (ok_itn (by decide) (ok_itp (by decide) (ok_ob2 (P := fun r => r.1 = c37 H t 5) ?_ (fun F86 x87 h => ok_some h)))))))))))))))))
    refine ok_lpF (lp := lp_X8_doLine_266 (oN (6 * i))) (fun k F' => F' = c37 H t k) 5 (by omega) (fun n k F' hk hI ih => ?_) (fun n F' hI => ?_) (c37_0 _ _).symm
    · rw [lp_X8_doLine_266_s, e1, oN_add, oN_n (show k < 2147483648 by omega), oN_n (show 6 * i + 1 + k < 2147483648 by omega)]
      refine ok_itn (nle (a := 5) hk (by omega)) (ok_og (oN_vp (by omega) (by omega)) (ok_og (oN_vp hk (by omega)) (ok_pl (ih _ ?_))))
      subst hI
      have e : c37 H t k 39 0 0 (6 * i + 1 + k) = oN (t k) := by
        unfold c37
        rw [if_neg (by omega)]
        exact hj k hk
      rw [e, c37_s]
    · rw [lp_X8_doLine_266_s]
      exact ok_itp (yle (a := 5) (Nat.le_refl _) (by omega)) (ok_some hI)
end DL
