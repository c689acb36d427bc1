/-! PURE: the model tastes -/
set_option maxRecDepth 100000
section MTS
variable {F F' : St} {b m : Bt} {mu st wm : Int32} {t T i : Nat}
/-- the model's copies -/
theorem m_c4041 (F : St) : Ok (fn_X8_copy_40_41 F 0 0) (fun r => (∀ k p i j, k ≠ 41 → r k p i j = F k p i j) ∧ ∀ j, j < 138 → r 41 0 0 j = F 40 0 0 j) := by
  unfold fn_X8_copy_40_41
  refine ok_ob2 (ok_lpF (lp := lp_X8_copy_40_41_3 0 0) (I := fun n G => (∀ k p i j, k ≠ 41 → G k p i j = F k p i j) ∧ ∀ j, j < n → G 41 0 0 j = F 40 0 0 j) (Q := fun r => (∀ k p i j, k ≠ 41 → r.1 k p i j = F k p i j) ∧ ∀ j, j < 138 → r.1 41 0 0 j = F 40 0 0 j) 138 (by omega) ?_ ?_ ⟨fun _ _ _ _ _ => rfl, fun j hj => absurd hj (by omega)⟩) (fun y z hy => ok_some hy)
  · intro n k G hk h ih
    rw [lp_X8_copy_40_41_3_s, show (0 : Int32) + oN k = oN k from by rw [show (0 : Int32) = oN 0 from rfl, oN_add, Nat.zero_add], oN_n (show k < 2147483648 by omega), h.1 40 0 0 k (by decide)]
    refine ok_itn (nle (a := 138) hk (by omega)) (ok_og (oN_vp hk (by omega)) (ok_og (oN_vp hk (by omega)) (ok_pl (ih _ ⟨fun k2 p i j hne => ?_, fun j hj => ?_⟩))))
    · rw [fu_n _ _ _ _ _ _ (fun q => hne q.1)]
      exact h.1 k2 p i j hne
    · rw [fu_a]
      by_cases hjk : j = k
      · rw [if_pos ⟨rfl, rfl, rfl, hjk⟩, hjk]
      · rw [if_neg (fun q => hjk q.2.2.2)]
        exact h.2 j (by omega)
  · intro n G h
    rw [lp_X8_copy_40_41_3_s]
    exact ok_itp (yle (a := 138) (Nat.le_refl _) (by omega)) (ok_some h)
theorem m_c4140 (F : St) : Ok (fn_X8_copy_41_40 F 0 0) (fun r => (∀ k p i j, k ≠ 40 → r k p i j = F k p i j) ∧ ∀ j, j < 138 → r 40 0 0 j = F 41 0 0 j) := by
  unfold fn_X8_copy_41_40
  refine ok_ob2 (ok_lpF (lp := lp_X8_copy_41_40_3 0 0) (I := fun n G => (∀ k p i j, k ≠ 40 → G k p i j = F k p i j) ∧ ∀ j, j < n → G 40 0 0 j = F 41 0 0 j) (Q := fun r => (∀ k p i j, k ≠ 40 → r.1 k p i j = F k p i j) ∧ ∀ j, j < 138 → r.1 40 0 0 j = F 41 0 0 j) 138 (by omega) ?_ ?_ ⟨fun _ _ _ _ _ => rfl, fun j hj => absurd hj (by omega)⟩) (fun y z hy => ok_some hy)
  · intro n k G hk h ih
    rw [lp_X8_copy_41_40_3_s, show (0 : Int32) + oN k = oN k from by rw [show (0 : Int32) = oN 0 from rfl, oN_add, Nat.zero_add], oN_n (show k < 2147483648 by omega), h.1 41 0 0 k (by decide)]
    refine ok_itn (nle (a := 138) hk (by omega)) (ok_og (oN_vp hk (by omega)) (ok_og (oN_vp hk (by omega)) (ok_pl (ih _ ⟨fun k2 p i j hne => ?_, fun j hj => ?_⟩))))
    · rw [fu_n _ _ _ _ _ _ (fun q => hne q.1)]
      exact h.1 k2 p i j hne
    · rw [fu_a]
      by_cases hjk : j = k
      · rw [if_pos ⟨rfl, rfl, rfl, hjk⟩, hjk]
      · rw [if_neg (fun q => hjk q.2.2.2)]
        exact h.2 j (by omega)
  · intro n G h
    rw [lp_X8_copy_41_40_3_s]
    exact ok_itp (yle (a := 138) (Nat.le_refl _) (by omega)) (ok_some h)
/-- a number of the tastes is laid -/
theorem Mh.pt (h : Mh F F' b m) {ρ : Type} {Q : ρ → Prop} {p : Nat} {v : Int32} {f : St → Option ρ} (hp : 37 ≤ p ∧ p < 64) (k : ∀ F'', Mh F F'' b m → (F'' 30 p 0 0 = v ∧ ∀ p2, p2 ≠ p → F'' 30 p2 0 0 = F' 30 p2 0 0) → Ok (f F'') Q) : Ok (pl (fu F' 30 p 0 0 v) f) Q := by
  refine k _ ⟨fun k2 p2 i j h1 h2 => ?_, fun g x hx => ?_, fun g x hg hx => ?_⟩ ⟨by rw [fu_s], fun p2 hne => by rw [fu_n _ _ _ _ _ _ (fun q => hne q.2.1)]⟩
  · rw [fu_n _ _ _ _ _ _ (fun q => h2.2 ⟨q.1, by omega⟩)]; exact h.1 k2 p2 i j h1 h2
  · rw [fu_n _ _ _ _ _ _ (fun q => by omega)]; exact h.2.1 g x hx
  · rw [fu_n _ _ _ _ _ _ (fun q => by omega)]; exact h.2.2 g x hg hx
theorem m_partLeft (hp : PB F) (h : Mh F F' b m) (hv : Inv F mu t b) {c : Nat} (hc : c < Rg F) : fn_X8_partLeft F' (oN c) = some (if sumS F mu * F 30 1 0 0 = 0 then 1 else (lfS b c (Ly F)).toInt64) := by
  have r3 := hp.1.2.2
  unfold fn_X8_partLeft
  rw [l134, og_t (oN_vp (by omega) (by omega)), oN_n (show 134 + c < 2147483648 by omega), h.rb 8 (6 + c) (by omega) ⟨by omega, by omega⟩, hv.2.2.2 c hc, m_leftIn hp h hv (by omega), ob_s]
  split <;> rfl
theorem m_allIn (hp : PB F) (h : Mh F F' b m) (hv : Inv F mu t b) {c : Nat} (hc : c < Rg F) : fn_X8_allIn F' (oN c) = some (if sumS F mu * F 30 1 0 0 = 0 then 1 else (sumS F mu * F 30 1 0 0).toInt64) := by
  have r3 := hp.1.2.2
  unfold fn_X8_allIn
  rw [l134, og_t (oN_vp (by omega) (by omega)), oN_n (show 134 + c < 2147483648 by omega), h.rb 8 (6 + c) (by omega) ⟨by omega, by omega⟩, hv.2.2.2 c hc]
  split <;> rfl
/-- the comparison of parts is that of what is left -/
theorem part_e (hp : PB F) (hmu : 0 ≤ mu.toInt ∧ mu.toInt ≤ 20) (hv : Inv F mu t b) {c d : Nat} (hc : c < 4) (hd : d < 4) : (0 ≤ (lg_cmp ((if sumS F mu * F 30 1 0 0 = 0 then (1 : Int64) else (lfS b c (Ly F)).toInt64) * (if sumS F mu * F 30 1 0 0 = 0 then (1 : Int64) else (sumS F mu * F 30 1 0 0).toInt64)) ((if sumS F mu * F 30 1 0 0 = 0 then (1 : Int64) else (lfS b d (Ly F)).toInt64) * (if sumS F mu * F 30 1 0 0 = 0 then (1 : Int64) else (sumS F mu * F 30 1 0 0).toInt64)))) ↔ lfS b d (Ly F) ≤ lfS b c (Ly F) := by
  have hL := hp.2.1.2
  obtain ⟨a1, a2, a3, a4⟩ := all_b hp hmu
  obtain ⟨c1, c2, c3⟩ := lf_b hp hv hc (Ly F) (by omega)
  obtain ⟨d1, d2, d3⟩ := lf_b hp hv hd (Ly F) (by omega)
  rw [← a1] at c2 d2
  by_cases h0 : sumS F mu * F 30 1 0 0 = 0
  · simp only [if_pos h0]
    have e : (sumS F mu * F 30 1 0 0).toInt = 0 := by rw [h0]; rfl
    refine ⟨fun _ => by rw [le_i]; omega, fun _ => by decide⟩
  · simp only [if_neg h0]
    have hpos : 0 < (sumS F mu * F 30 1 0 0).toInt := by
      rcases Int.lt_or_eq_of_le a2 with q | q
      · exact q
      · exact absurd (i_z q.symm) h0
    generalize sumS F mu * F 30 1 0 0 = A at *
    generalize lfS b c (Ly F) = x at *
    generalize lfS b d (Ly F) = y at *
    have px : x.toInt * A.toInt ≤ 23760 * 23760 := Int.mul_le_mul (by omega) (by omega) (by omega) (by omega)
    have py : y.toInt * A.toInt ≤ 23760 * 23760 := Int.mul_le_mul (by omega) (by omega) (by omega) (by omega)
    have nx : 0 ≤ x.toInt * A.toInt := Int.mul_nonneg (by omega) (by omega)
    have ny : 0 ≤ y.toInt * A.toInt := Int.mul_nonneg (by omega) (by omega)
    have ex : (x.toInt64 * A.toInt64).toInt = x.toInt * A.toInt := by rw [j_mul] <;> rw [Int32.toInt_toInt64, Int32.toInt_toInt64] <;> omega
    have ey : (y.toInt64 * A.toInt64).toInt = y.toInt * A.toInt := by rw [j_mul] <;> rw [Int32.toInt_toInt64, Int32.toInt_toInt64] <;> omega
    rw [le_i (a := y)]
    constructor
    · intro h
      refine Int.le_of_mul_le_mul_right (a := A.toInt) ?_ hpos
      rw [← ex, ← ey]
      unfold lg_cmp at h
      split at h
      · rename_i q
        have := Int64.lt_iff_toInt_lt.mp q
        omega
      · split at h
        · rename_i q
          rw [q]
          exact Int.le_refl _
        · exact absurd h (by decide)
    · intro h
      have h2 : y.toInt * A.toInt ≤ x.toInt * A.toInt := Int.mul_le_mul_of_nonneg_right h (by omega)
      unfold lg_cmp
      split
      · decide
      · rename_i q1
        split
        · decide
        · rename_i q2
          exfalso
          have q1 : ¬ (y.toInt64 * A.toInt64) < (x.toInt64 * A.toInt64) := q1
          rw [Int64.lt_iff_toInt_lt, ex, ey] at q1
          exact q2 (Int64.toInt_inj.mp (by rw [ex, ey]; omega))
theorem m_ran (hp : PB F) (hmu : 0 ≤ mu.toInt ∧ mu.toInt ≤ 20) (h : Mh F F' b m) (hv : Inv F mu t b) (h0 : F' 30 40 0 0 = 0) : Ok (lp_X8_tasteNow_60 300 F' 1) (fun r => Mh F r.1 b m ∧ r.1 30 40 0 0 = oN (bsS F b (Rg F)) ∧ ∀ p, p ≠ 40 → r.1 30 p 0 0 = F' 30 p 0 0) := by
  obtain ⟨⟨r1, r2, r3⟩, -⟩ := id hp
  refine ok_lpA (lp := lp_X8_tasteNow_60) (I := fun c G => Mh F G b m ∧ G 30 40 0 0 = oN (bsS F b c) ∧ ∀ p, p ≠ 40 → G 30 p 0 0 = F' 30 p 0 0) 1 (Rg F) (by omega) (by omega) ?_ ?_ ⟨h, h0, fun _ _ => rfl⟩
  · intro n c G hc hc1 hI ih
    obtain ⟨h, h40, ho⟩ := hI
    have hb : bsS F b c ≤ c - 1 := by
      have := bs_lt F b (c - 1)
      rwa [show c - 1 + 1 = c by omega] at this
    rw [lp_X8_tasteNow_60_s, h.1 30 0 0 0 (by decide) (by decide), r1, h40, m_partLeft hp h hv hc, ob_s, m_allIn hp h hv (show bsS F b c < Rg F by omega), ob_s, m_partLeft hp h hv (show bsS F b c < Rg F by omega), ob_s, m_allIn hp h hv hc, ob_s]
    refine ok_itn (nle hc (by omega)) (ok_obi (h.pt (by omega) (fun G2 h2 h3 => ih G2 ⟨h2, ?_, fun p hp2 => (h3.2 p hp2).trans (ho p hp2)⟩)))
    rw [h3.1]
    show _ = oN (if c = 0 then 0 else if lfS b (bsS F b c) (Ly F) ≤ lfS b c (Ly F) then bsS F b c else c)
    rw [if_neg (show ¬ c = 0 by omega)]
    have he := part_e hp hmu hv (show c < 4 by omega) (show bsS F b c < 4 by omega)
    by_cases q : lfS b (bsS F b c) (Ly F) ≤ lfS b c (Ly F)
    · rw [if_pos q, if_pos (he.mpr q)]
    · rw [if_neg q, if_neg (fun q2 => q (he.mp q2))]
  · intro n G hI
    rw [lp_X8_tasteNow_60_s, hI.1.1 30 0 0 0 (by decide) (by decide), r1]
    exact ok_itp (yle (Nat.le_refl _) (by omega)) (ok_some hI)
theorem m_runs (hp : PB F) (h : Mh F F' b m) (h0 : F' 30 41 0 0 = 0) : Ok (lp_X8_tasteNow_120 300 F' 0) (fun r => Mh F r.1 b m ∧ r.1 30 41 0 0 = rnS F (F 30 4 0 0) b ∧ ∀ p, p ≠ 41 → r.1 30 p 0 0 = F' 30 p 0 0) := by
  refine ok_lpF (lp := lp_X8_tasteNow_120) (I := fun k G => Mh F G b m ∧ G 30 41 0 0 = orS (rbS F (F 30 4 0 0) b) (fun y => decide (y < k)) 16 ∧ ∀ p, p ≠ 41 → G 30 p 0 0 = F' 30 p 0 0) 16 (by omega) ?_ ?_ ⟨h, ?_, fun _ _ => rfl⟩
  · intro n k G hk hI ih
    obtain ⟨h, h41, ho⟩ := hI
    have hadd : ∀ z, (fun y => decide (y < k + 1)) z = ((fun y => decide (y < k)) z || z == k) := fun z => by
      rw [Bool.eq_iff_iff]
      simp
      omega
    have hnk : (fun y => decide (y < k)) k = false := by simp
    rw [lp_X8_tasteNow_120_s, l16, oN_n (show 16 + k < 2147483648 by omega), isCell_e hp h hk, ob_s, h.rb 1 k (by omega) ⟨hk, by omega⟩, m_loose h hk, ob_s, m_loose h hk, ob_s, h41]
    refine ok_itn (nle (a := 16) hk (by omega)) (ok_ob (P := fun y => y = if cel F k = true ∧ loS F (F 30 4 0 0) k (b 1 k) = 95 ∧ ¬ 95 ≤ loS F (F 30 4 0 0) k 0 then 1 else 0) ?_ (fun y hy => ok_obi (h.pt (by omega) (fun G2 h2 h3 => ih G2 ⟨h2, ?_, fun p hp2 => (h3.2 p hp2).trans (ho p hp2)⟩))))
    · by_cases hc : cel F k = true
      · rw [if_pos hc]
        refine ok_itn (by decide) (ok_og (oN_vp (by omega) (by omega)) ?_)
        by_cases h1 : loS F (F 30 4 0 0) k (b 1 k) = 95
        · rw [if_pos h1]
          by_cases h2 : 95 ≤ loS F (F 30 4 0 0) k 0
          · exact ok_itp h2 (ok_some (by rw [if_neg (fun q => q.2.2 h2)]))
          · exact ok_itn h2 (ok_some (by rw [if_pos ⟨hc, h1, h2⟩]))
        · rw [if_neg h1]
          exact ok_some (by rw [if_neg (fun q => h1 q.2.1)])
      · rw [if_neg hc]
        exact ok_itp rfl (ok_some (by rw [if_neg (fun q => hc q.1)]))
    · rw [h3.1, orS_add hadd hnk hk]
      congr 1
      subst hy
      unfold rbS
      by_cases h1 : cel F k = true ∧ loS F (F 30 4 0 0) k (b 1 k) = 95 ∧ ¬ 95 ≤ loS F (F 30 4 0 0) k 0
      · rw [if_pos h1, if_neg (by decide), if_pos h1]
      · rw [if_neg h1, if_pos rfl, if_neg h1]
  · intro n G hI
    rw [lp_X8_tasteNow_120_s]
    refine ok_itp (yle (a := 16) (Nat.le_refl _) (by omega)) (ok_some ⟨hI.1, ?_, hI.2.2⟩)
    show G 30 41 0 0 = _
    rw [hI.2.1]
    refine orS_c (fun x hx => ?_)
    simp [hx]
  · have e : ∀ n, orS (rbS F (F 30 4 0 0) b) (fun y => decide (y < 0)) n = 0 := by
      intro n
      induction n with
      | zero => rfl
      | succ n ih =>
        show orS (rbS F (F 30 4 0 0) b) (fun y => decide (y < 0)) n ||| (if decide (n < 0) = true then _ else 0) = 0
        rw [ih]
        simp
    rw [h0]
    exact (e 16).symm
/-- what a brew of the model needs -/
def Mbr (F : St) (T : Nat) : Prop := PB F ∧ (0 ≤ (F 30 11 0 0).toInt ∧ (F 30 11 0 0).toInt ≤ 20) ∧ (0 ≤ (F 30 10 0 0).toInt ∧ (F 30 10 0 0).toInt ≤ 100) ∧ F 30 16 0 0 = oN T ∧ T ≤ 60
/-- nothing but the model's scratch has changed -/
def Scr (F F' : St) : Prop := (∀ k p i j, k ≠ 40 → k ≠ 41 → k ≠ 44 → ¬ (k = 30 ∧ 37 ≤ p ∧ p < 64) → F' k p i j = F k p i j) ∧ ∀ j, j < 138 → F' 40 0 0 j = F 40 0 0 j
theorem m_taste (h0 : Mbr F T) : Ok (fn_X8_tasteNow F) (fun r => Scr F r.1 ∧ r.2 = tstS F (F 30 4 0 0) (F 30 10 0 0) (F 30 11 0 0) T ∧ r.1 30 37 0 0 = strS (runS F (F 30 4 0 0) (F 30 10 0 0) (F 30 11 0 0) T) ∧ r.1 30 38 0 0 = outS F (F 30 11 0 0) (runS F (F 30 4 0 0) (F 30 10 0 0) (F 30 11 0 0) T) ∧ r.1 30 39 0 0 = unS F (F 30 11 0 0) (runS F (F 30 4 0 0) (F 30 10 0 0) (F 30 11 0 0) T) ∧ r.1 30 40 0 0 = oN (bsS F (runS F (F 30 4 0 0) (F 30 10 0 0) (F 30 11 0 0) T) (Rg F)) ∧ r.1 30 41 0 0 = rnS F (F 30 4 0 0) (runS F (F 30 4 0 0) (F 30 10 0 0) (F 30 11 0 0) T)) := by
  obtain ⟨hp, hmu, hwm, hT, hT2⟩ := h0
  unfold fn_X8_tasteNow
  refine ok_ob (m_c4041 F) (fun F1 h1 => ?_)
  obtain ⟨e1, e2⟩ := h1
  have ag : agr F F1 := fun k p i j h1 h2 _ => e1 k p i j (by omega)
  have hp1 := PB_c ag hp
  have hru : ∀ n, itS F1 (F 30 4 0 0) (F 30 10 0 0) n (begS F1 (F 30 11 0 0)) = runS F (F 30 4 0 0) (F 30 10 0 0) (F 30 11 0 0) n := fun n => run_c ag _ _ _ n
  have hs : ∀ b, outS F1 (F 30 11 0 0) b = outS F (F 30 11 0 0) b := fun b => by
    unfold outS sumS
    rw [e1 31 0 0 0 (by decide), e1 31 0 0 1 (by decide), e1 31 0 0 2 (by decide), e1 30 0 0 0 (by decide), e1 30 1 0 0 (by decide)]
  have hlr : Ly F1 = Ly F ∧ Rg F1 = Rg F := by
    unfold Ly Rg
    rw [e1 30 0 0 0 (by decide), e1 30 1 0 0 (by decide)]
    exact ⟨rfl, rfl⟩
  have hby : ∀ b c, byU F1 (F 30 11 0 0) b c = byU F (F 30 11 0 0) b c := fun b c => by
    unfold byU sumS
    rw [e1 31 0 0 0 (by decide), e1 31 0 0 1 (by decide), e1 31 0 0 2 (by decide), e1 30 1 0 0 (by decide), hlr.1]
  have hls : ∀ b n, lsS F1 (F 30 11 0 0) b n = lsS F (F 30 11 0 0) b n := fun b n => by
    induction n with
    | zero => rfl
    | succ n ih =>
      show (if byU F1 (F 30 11 0 0) b n < lsS F1 (F 30 11 0 0) b n then byU F1 (F 30 11 0 0) b n else lsS F1 (F 30 11 0 0) b n) = _
      rw [hby, ih]
      rfl
  have hms : ∀ b n, msS F1 (F 30 11 0 0) b n = msS F (F 30 11 0 0) b n := fun b n => by
    induction n with
    | zero => rfl
    | succ n ih =>
      show (if msS F1 (F 30 11 0 0) b n < byU F1 (F 30 11 0 0) b n then byU F1 (F 30 11 0 0) b n else msS F1 (F 30 11 0 0) b n) = _
      rw [hby, ih]
      rfl
  have hun : ∀ b, unS F1 (F 30 11 0 0) b = unS F (F 30 11 0 0) b := fun b => by
    unfold unS
    rw [hls, hms, hlr.2]
  have hbs : ∀ b n, bsS F1 b n = bsS F b n := fun b n => by
    induction n with
    | zero => rfl
    | succ n ih =>
      show (if n = 0 then 0 else if lfS b (bsS F1 b n) (Ly F1) ≤ lfS b n (Ly F1) then bsS F1 b n else n) = _
      rw [ih, hlr.1]
      rfl
  have hrb : ∀ b, rnS F1 (F 30 4 0 0) b = rnS F (F 30 4 0 0) b := fun b => by
    have hx : rbS F1 (F 30 4 0 0) b = rbS F (F 30 4 0 0) b := by
      funext x
      unfold rbS
      rw [← nf_cel F1, nf_e ag, nf_cel, ← nf_lo F1, ← nf_lo F1, nf_e ag, nf_lo, nf_lo]
    unfold rnS
    rw [hx]
  have hM : Mh F1 F1 (fun g x => F1 40 0 0 (16 * g + x)) (fun g x => F1 44 0 0 (16 * g + x)) := ⟨fun _ _ _ _ _ _ => rfl, fun _ _ _ => rfl, fun _ _ _ _ => rfl⟩
  have e11 := e1 30 11 0 0 (by decide)
  have e10 := e1 30 10 0 0 (by decide)
  have e4 := e1 30 4 0 0 (by decide)
  refine ok_ob (m_begin hp1 hM) (fun F3 h3 => ?_)
  rw [e11] at h3
  have hg := m_goOn (mu := F 30 11 0 0) hp1 hmu (by rw [e10]; exact hwm) (by rw [e1 30 16 0 0 (by decide)]; exact hT) hT2 (beg_inv hp1 hmu) h3 (n := 60) (by omega)
  rw [e4, e10, show min 60 (T - 0) = T by omega, hru] at hg
  refine ok_ob2 hg (fun F5 _ h5 => ?_)
  obtain ⟨⟨m5, h5⟩, -⟩ := h5
  have h5 : Mh F1 F5 _ m5 := h5
  have hv : Inv F1 (F 30 11 0 0) T (runS F (F 30 4 0 0) (F 30 10 0 0) (F 30 11 0 0) T) := by
    rw [← run_c ag]
    exact run_inv hp1 hmu hwm T hT2
  rw [m_strong h5 hv, ob_s]
  refine h5.pt (by omega) (fun F10 h10 k10 => ?_)
  rw [m_out hp1 hmu h10 hv, ob_s]
  refine h10.pt (by omega) (fun F14 h14 k14 => ?_)
  rw [m_uneven hp1 hmu h14 hv, ob_s]
  refine h14.pt (by omega) (fun F18 h18 k18 => h18.pt (by omega) (fun F20 h20 k20 => h20.pt (by omega) (fun F22 h22 k22 => ?_)))
  refine ok_ob2 (m_ran hp1 hmu h22 hv (by rw [k22.2 40 (by decide)]; exact k20.1)) (fun F26 _ h26 => ?_)
  obtain ⟨h26, k26, o26⟩ := h26
  have h26 : Mh F1 F26 _ m5 := h26
  have k26 : F26 30 40 0 0 = _ := k26
  have o26 : ∀ p, p ≠ 40 → F26 30 p 0 0 = F22 30 p 0 0 := o26
  refine ok_ob2 (m_runs hp1 h26 (by rw [o26 41 (by decide)]; exact k22.1)) (fun F48 _ h48 => ?_)
  obtain ⟨h48, k48, o48⟩ := h48
  have h48 : Mh F1 F48 _ m5 := h48
  have k48 : F48 30 41 0 0 = _ := k48
  have o48 : ∀ p, p ≠ 41 → F48 30 p 0 0 = F26 30 p 0 0 := o48
  refine ok_ob (m_c4140 F48) (fun F73 h73 => ?_)
  obtain ⟨f1, f2⟩ := h73
  have v37 : F73 30 37 0 0 = strS (runS F (F 30 4 0 0) (F 30 10 0 0) (F 30 11 0 0) T) := by
    rw [f1 30 37 0 0 (by decide), o48 37 (by decide), o26 37 (by decide), k22.2 37 (by decide), k20.2 37 (by decide), k18.2 37 (by decide), k14.2 37 (by decide), k10.1]
  have v38 : F73 30 38 0 0 = outS F (F 30 11 0 0) (runS F (F 30 4 0 0) (F 30 10 0 0) (F 30 11 0 0) T) := by
    rw [f1 30 38 0 0 (by decide), o48 38 (by decide), o26 38 (by decide), k22.2 38 (by decide), k20.2 38 (by decide), k18.2 38 (by decide), k14.1, hs]
  have v39 : F73 30 39 0 0 = unS F (F 30 11 0 0) (runS F (F 30 4 0 0) (F 30 10 0 0) (F 30 11 0 0) T) := by
    rw [f1 30 39 0 0 (by decide), o48 39 (by decide), o26 39 (by decide), k22.2 39 (by decide), k20.2 39 (by decide), k18.1, hun]
  have v40 : F73 30 40 0 0 = oN (bsS F (runS F (F 30 4 0 0) (F 30 10 0 0) (F 30 11 0 0) T) (Rg F)) := by
    rw [f1 30 40 0 0 (by decide), o48 40 (by decide), k26, hbs, hlr.2]
  have v41 : F73 30 41 0 0 = rnS F (F 30 4 0 0) (runS F (F 30 4 0 0) (F 30 10 0 0) (F 30 11 0 0) T) := by
    rw [f1 30 41 0 0 (by decide), k48, e4, hrb]
  have v37c : ∀ k, F73 37 0 0 k = F 37 0 0 k := fun k => by
    rw [f1 37 0 0 k (by decide), h48.1 37 0 0 k (by decide) (by decide), e1 37 0 0 k (by decide)]
  have hS : Scr F F73 := by
    refine ⟨fun k p i j h1 h2 h3 h4 => ?_, fun j hj => ?_⟩
    · rw [f1 k p i j h1, h48.1 k p i j h1 ⟨h3, h4⟩, e1 k p i j h2]
    · rw [f2 j hj, h48.1 41 0 0 j (by decide) (by decide), e2 j hj]
  rw [v37, v38, v39, v37c, v37c, v37c, v37c, v37c]
  refine ok_mono (P := fun r => r = (F73, tstS F (F 30 4 0 0) (F 30 10 0 0) (F 30 11 0 0) T)) ?_ (fun r hr => by rw [hr]; exact ⟨hS, rfl, v37, v38, v39, v40, v41⟩)
  unfold tstS tvS
  generalize outS F (F 30 11 0 0) (runS F (F 30 4 0 0) (F 30 10 0 0) (F 30 11 0 0) T) = o
  generalize strS (runS F (F 30 4 0 0) (F 30 10 0 0) (F 30 11 0 0) T) = s
  generalize unS F (F 30 11 0 0) (runS F (F 30 4 0 0) (F 30 10 0 0) (F 30 11 0 0) T) = u
  refine ok_ite (fun q1 => ?_) (fun q1 => ok_some (by rw [if_neg q1]))
  rw [if_pos q1]
  refine ok_ite (fun q2 => ?_) (fun q2 => ok_some (by rw [if_neg q2]))
  rw [if_pos q2]
  refine ok_ite (fun q3 => ?_) (fun q3 => ok_some (by rw [if_neg q3]))
  rw [if_pos q3]
  refine ok_ite (fun q4 => ?_) (fun q4 => ok_some (by rw [if_neg q4]))
  rw [if_pos q4]
  refine ok_ite (fun q5 => ok_some (by rw [if_pos q5])) (fun q5 => ok_some (by rw [if_neg q5]))
end MTS
