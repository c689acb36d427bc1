/-! PURE: erase, write, taste, ran, runs, takes, little -/
set_option maxRecDepth 100000
theorem bo_erase : Bo fn_X0_erase fn_X8_erase := by
  intro F hr
  obtain ⟨h1, h2, h3, h4, ⟨n, t1, t2, t3, t4⟩⟩ := id hr
  unfold fn_X0_erase
  refine ok_pl (ok_pl (ok_some ?_))
  show Ok (fn_X8_erase (fu F 0 20 0 0 0)) _
  unfold fn_X8_erase
  refine ok_pl (ok_pl (ok_some ?_))
  show fu F 0 20 0 0 0 30 18 0 0 = F 0 20 0 0 ∧ Rel (fu (fu F 0 20 0 0 0) 30 18 0 0 0)
  have o : ∀ k p y j, ¬ (k = 0 ∧ p = 20) → ¬ (k = 30 ∧ p = 18) → fu (fu F 0 20 0 0 0) 30 18 0 0 0 k p y j = F k p y j := fun k p y j c1 c2 => by
    rw [fu_n _ _ _ _ _ _ (fun z => c2 ⟨z.1, z.2.1⟩), fu_n _ _ _ _ _ _ (fun z => c1 ⟨z.1, z.2.1⟩)]
  have hpk : ∀ k p y j, pk k p → fu (fu F 0 20 0 0 0) 30 18 0 0 0 k p y j = F k p y j := fun k p y j hk => by
    unfold pk at hk
    exact o k p y j (by omega) (by omega)
  have ag := pk_agr hpk
  have hb : ∀ i, ∀ k p y j, bl i k y → fu (fu F 0 20 0 0 0) 30 18 0 0 0 k p y j = F k p y j := fun i k p y j hb => by
    unfold bl at hb
    exact o k p y j (by omega) (by omega)
  refine ⟨by rw [fu_n _ _ _ _ _ _ (by omega), t2, t3], RP_c hpk h1, RD_c (by omega) ag (hpk _ _ _ _ (by unfold pk; omega)) (hb 0) (fun j _ _ => o _ _ _ _ (by omega) (by omega)) h2, RK_c ag (hpk _ _ _ _ (by unfold pk; omega)) (o _ _ _ _ (by omega) (by omega)) (fun j => o _ _ _ _ (by omega) (by omega)) (fun j => o _ _ _ _ (by omega) (by omega)) (fun i _ => hb i) h3, fun i hi => ?_, ⟨0, by omega, ?_, ?_, fun j hj => absurd hj (by omega)⟩⟩
  · obtain ⟨b, hb1⟩ := h4 i hi
    exact ⟨b, rb_c hi hb1 ag (hb i)⟩
  · rw [fu_n _ _ _ _ _ _ (by omega), fu_s]; rfl
  · rw [fu_s]; rfl
/-- a byte, by both -/
theorem byte_e (x : Int64) : ∃ v, v < 256 ∧ (x &&& 255).toInt32 = oN v ∧ vp_nar .byte (x.toInt32.toInt8.toInt32) = (oN v).toInt8.toInt32 := by
  have hv : ((x.toInt32).toBitVec &&& 255#32).toNat < 256 := by
    rw [BitVec.toNat_and]
    exact Nat.lt_of_le_of_lt Nat.and_le_right (by decide)
  have e1 : x.toInt32 &&& 255 = oN ((x.toInt32).toBitVec &&& 255#32).toNat := by
    apply Int32.toBitVec_inj.mp
    show (x.toInt32).toBitVec &&& (255 : Int32).toBitVec = BitVec.ofNat 32 _
    rw [BitVec.ofNat_toNat, BitVec.setWidth_eq]
    rfl
  refine ⟨_, hv, ?_, ?_⟩
  · rw [Int64.toInt32_and, ← e1]
    rfl
  · rw [← e1]
    show x.toInt32.toInt8.toInt32.toInt8.toInt32 = _
    rw [Int8.toInt8_toInt32, Int32.toInt8_and, show (255 : Int32).toInt8 = -1 from rfl, Int8.and_neg_one]
theorem bo_write (p1 : Int64) (p2 : Int32) : Bo (fun F => fn_X0_write F p1 p2) (fun F => fn_X8_write F p1 p2) := by
  intro F hr
  obtain ⟨h1, h2, h3, h4, ⟨n, t1, t2, t3, t4⟩⟩ := id hr
  show Ok (fn_X0_write F p1 p2) _
  unfold fn_X0_write
  rw [isIn_l F p2 1 8 (l2 := 1) (h2 := 8) rfl rfl, ob_s]
  by_cases h : (1 : Int32) ≤ p2 ∧ p2 ≤ 8
  · obtain ⟨w, hw1, hw, rfl⟩ := rng (l := 1) (h := 8) (by omega) (by omega) h
    rw [if_pos h, t2, oN_add]
    refine ok_itn n10 ?_
    by_cases hf : n + w ≤ 200
    · let cb : Nat → Int32 := fun i => vp_nar .byte (((p1 >>> (((8 : Int32) * oN i).toInt64 &&& 63)).toInt32).toInt8.toInt32)
      let mb : Nat → Int32 := fun i => (((p1 >>> (((8 : Int32) * oN i).toInt64 &&& 63)) &&& (255 : Int64)).toInt32)
      have hcm : ∀ i, ∃ v, v < 256 ∧ mb i = oN v ∧ cb i = (oN v).toInt8.toInt32 := fun i => byte_e _
      refine ok_itp (yle (k := 200) hf (by omega)) (ok_ob2 (ok_lpF (lp := lp_X0_write_33 p1 (oN w)) (I := fun k G => (∀ a p y j, ¬ (a = 0 ∧ p = 20) → a ≠ 15 → G a p y j = F a p y j) ∧ G 0 20 0 0 = oN (n + k) ∧ (∀ j, j < n → G 15 0 0 j = F 15 0 0 j) ∧ ∀ j, j < k → G 15 0 0 (n + j) = cb j) (Q := fun r => (∀ a p y j, ¬ (a = 0 ∧ p = 20) → a ≠ 15 → r.1 a p y j = F a p y j) ∧ r.1 0 20 0 0 = oN (n + w) ∧ (∀ j, j < n → r.1 15 0 0 j = F 15 0 0 j) ∧ ∀ j, j < w → r.1 15 0 0 (n + j) = cb j) w (by omega) ?_ ?_ ⟨fun _ _ _ _ _ _ => rfl, t2, fun _ _ => rfl, fun j hj => absurd hj (by omega)⟩) (fun F7 _ h7 => ok_some ?_))
      · intro q k G hk hI ih
        obtain ⟨i1, i2, i3, i4⟩ := hI
        rw [lp_X0_write_33_s, i2, oN_n (show n + k < 2147483648 by omega)]
        refine ok_itn (nle hk (by omega)) (ok_og (oN_vp (by omega) (by omega)) (ok_pl (ok_pl (ih _ ⟨fun a p y j c1 c2 => ?_, ?_, fun j hj => ?_, fun j hj => ?_⟩))))
        · rw [fu_n _ _ _ _ _ _ (fun z => c1 ⟨z.1, z.2.1⟩), fu_n _ _ _ _ _ _ (fun z => c2 z.1)]
          exact i1 a p y j c1 c2
        · rw [fu_s, fu_n _ _ _ _ _ _ (by omega), i2, oN_1]
          rfl
        · rw [fu_n _ _ _ _ _ _ (by omega), fu_n _ _ _ _ _ _ (by omega)]
          exact i3 j hj
        · rw [fu_n _ _ _ _ _ _ (by omega), fu_a]
          by_cases hjk : j = k
          · subst hjk
            rw [if_pos ⟨rfl, rfl, rfl, rfl⟩]
          · rw [if_neg (by omega)]
            exact i4 j (by omega)
      · intro q G hI
        rw [lp_X0_write_33_s]
        exact ok_itp (yle (Nat.le_refl _) (by omega)) (ok_some hI)
      · obtain ⟨i1, i2, i3, i4⟩ := h7
        have i1 : ∀ a p y j, ¬ (a = 0 ∧ p = 20) → a ≠ 15 → F7 a p y j = F a p y j := i1
        have i2 : F7 0 20 0 0 = oN (n + w) := i2
        have i3 : ∀ j, j < n → F7 15 0 0 j = F 15 0 0 j := i3
        have i4 : ∀ j, j < w → F7 15 0 0 (n + j) = cb j := i4
        show Ok (fn_X8_write F7 p1 (oN w)) _
        unfold fn_X8_write
        have e18 : F7 30 18 0 0 = oN n := by rw [i1 30 18 0 0 (by omega) (by omega), t3]
        rw [in_e, ob_s, if_pos h, e18, oN_add]
        refine ok_itn n10 (ok_itp (yle (k := 200) hf (by omega)) (ok_ob2 (ok_lpF (lp := lp_X8_write_31 p1 (oN w)) (I := fun k G => (∀ a p y j, a ≠ 38 → G a p y j = F7 a p y j) ∧ (∀ j, j < n → G 38 0 0 j = F7 38 0 0 j) ∧ ∀ j, j < k → G 38 0 0 (n + j) = mb j) (Q := fun r => (∀ a p y j, a ≠ 38 → r.1 a p y j = F7 a p y j) ∧ (∀ j, j < n → r.1 38 0 0 j = F7 38 0 0 j) ∧ ∀ j, j < w → r.1 38 0 0 (n + j) = mb j) w (by omega) ?_ ?_ ⟨fun _ _ _ _ _ => rfl, fun _ _ => rfl, fun j hj => absurd hj (by omega)⟩) (fun F8 _ h8 => ok_pl (ok_some ?_))))
        · intro q k G hk hI ih
          obtain ⟨g1, g2, g3⟩ := hI
          rw [lp_X8_write_31_s, g1 30 18 0 0 (by omega), e18, oN_add, oN_n (show n + k < 2147483648 by omega)]
          refine ok_itn (nle hk (by omega)) (ok_og (oN_vp (by omega) (by omega)) (ok_pl (ih _ ⟨fun a p y j c1 => ?_, fun j hj => ?_, fun j hj => ?_⟩)))
          · rw [fu_n _ _ _ _ _ _ (fun z => c1 z.1)]
            exact g1 a p y j c1
          · rw [fu_n _ _ _ _ _ _ (by omega)]
            exact g2 j hj
          · rw [fu_a]
            by_cases hjk : j = k
            · subst hjk
              rw [if_pos ⟨rfl, rfl, rfl, rfl⟩]
            · rw [if_neg (by omega)]
              exact g3 j (by omega)
        · intro q G hI
          rw [lp_X8_write_31_s]
          exact ok_itp (yle (Nat.le_refl _) (by omega)) (ok_some hI)
        · obtain ⟨g1, g2, g3⟩ := h8
          have g1 : ∀ a p y j, a ≠ 38 → F8 a p y j = F7 a p y j := g1
          have g2 : ∀ j, j < n → F8 38 0 0 j = F7 38 0 0 j := g2
          have g3 : ∀ j, j < w → F8 38 0 0 (n + j) = mb j := g3
          have e18' : F8 30 18 0 0 + oN w = oN (n + w) := by rw [g1 30 18 0 0 (by omega), e18, oN_add]
          rw [e18']
          show fu F8 30 18 0 0 (oN (n + w)) 30 18 0 0 = F7 0 20 0 0 ∧ Rel (fu F8 30 18 0 0 (oN (n + w)))
          have o : ∀ a p y j, ¬ (a = 0 ∧ p = 20) → ¬ (a = 30 ∧ p = 18) → a ≠ 15 → a ≠ 38 → fu F8 30 18 0 0 (oN (n + w)) a p y j = F a p y j := fun a p y j c1 c2 c3 c4 => by
            rw [fu_n _ _ _ _ _ _ (fun z => c2 ⟨z.1, z.2.1⟩), g1 a p y j c4]
            exact i1 a p y j c1 c3
          have hpk : ∀ a p y j, pk a p → fu F8 30 18 0 0 (oN (n + w)) a p y j = F a p y j := fun k p y j hk => by
            unfold pk at hk
            exact o k p y j (by omega) (by omega) (by omega) (by omega)
          have ag := pk_agr hpk
          have hb : ∀ i, ∀ k p y j, bl i k y → fu F8 30 18 0 0 (oN (n + w)) k p y j = F k p y j := fun i k p y j hb => by
            unfold bl at hb
            exact o k p y j (by omega) (by omega) (by omega) (by omega)
          refine ⟨by rw [fu_s, i2], RP_c hpk h1, RD_c (by omega) ag (hpk _ _ _ _ (by unfold pk; omega)) (hb 0) (fun j _ _ => o _ _ _ _ (by omega) (by omega) (by omega) (by omega)) h2, RK_c ag (hpk _ _ _ _ (by unfold pk; omega)) (o _ _ _ _ (by omega) (by omega) (by omega) (by omega)) (fun j => o _ _ _ _ (by omega) (by omega) (by omega) (by omega)) (fun j => o _ _ _ _ (by omega) (by omega) (by omega) (by omega)) (fun i _ => hb i) h3, fun i hi => ?_, ⟨n + w, hf, ?_, by rw [fu_s], fun j hj => ?_⟩⟩
          · obtain ⟨b, hb1⟩ := h4 i hi
            exact ⟨b, rb_c hi hb1 ag (hb i)⟩
          · rw [fu_n _ _ _ _ _ _ (by omega), g1 0 20 0 0 (by omega), i2]
          · rw [fu_n _ _ _ _ _ _ (by omega), fu_n _ _ _ _ _ _ (by omega), g1 15 0 0 j (by omega)]
            by_cases hjn : j < n
            · rw [g2 j hjn, i3 j hjn, i1 38 0 0 j (by omega) (by omega)]
              exact t4 j hjn
            · obtain ⟨d, rfl⟩ : ∃ d, j = n + d := ⟨j - n, by omega⟩
              rw [g3 d (by omega), i4 d (by omega)]
              exact hcm d
    · refine ok_itn (nle (k := 200) (by omega) (by omega)) (ok_some ?_)
      show Ok (fn_X8_write F p1 (oN w)) _
      unfold fn_X8_write
      rw [in_e, ob_s, if_pos h, t3, oN_add]
      exact ok_itn n10 (ok_itn (nle (k := 200) (by omega) (by omega)) (ok_some ⟨rfl, hr⟩))
  · rw [if_neg h]
    refine ok_itp z00 (ok_some ?_)
    show Ok (fn_X8_write F p1 p2) _
    unfold fn_X8_write
    rw [in_e, ob_s, if_neg h]
    exact ok_itp z00 (ok_some ⟨rfl, hr⟩)
/-- tastes over another base -/
theorem out_c {F F1 : St} (ag : agr F F1) (mu : Int32) (b : Bt) : outS F1 mu b = outS F mu b := by
  unfold outS sumS
  rw [ag 31 0 0 0 (by omega) (by omega) (by omega), ag 31 0 0 1 (by omega) (by omega) (by omega), ag 31 0 0 2 (by omega) (by omega) (by omega), ag 30 0 0 0 (by omega) (by omega) (by omega), ag 30 1 0 0 (by omega) (by omega) (by omega)]
theorem lr_c {F F1 : St} (ag : agr F F1) : Ly F1 = Ly F ∧ Rg F1 = Rg F := by
  unfold Ly Rg
  rw [ag 30 0 0 0 (by omega) (by omega) (by omega), ag 30 1 0 0 (by omega) (by omega) (by omega)]
  exact ⟨rfl, rfl⟩
theorem un_c {F F1 : St} (ag : agr F F1) (mu : Int32) (b : Bt) : unS F1 mu b = unS F mu b := by
  have hlr := lr_c ag
  have hby : ∀ c, byU F1 mu b c = byU F mu b c := fun c => by
    unfold byU sumS
    rw [ag 31 0 0 0 (by omega) (by omega) (by omega), ag 31 0 0 1 (by omega) (by omega) (by omega), ag 31 0 0 2 (by omega) (by omega) (by omega), ag 30 1 0 0 (by omega) (by omega) (by omega), hlr.1]
  have hls : ∀ n, lsS F1 mu b n = lsS F mu b n := fun n => by
    induction n with
    | zero => rfl
    | succ n ih =>
      show (if byU F1 mu b n < lsS F1 mu b n then byU F1 mu b n else lsS F1 mu b n) = _
      rw [hby, ih]
      rfl
  have hms : ∀ n, msS F1 mu b n = msS F mu b n := fun n => by
    induction n with
    | zero => rfl
    | succ n ih =>
      show (if msS F1 mu b n < byU F1 mu b n then byU F1 mu b n else msS F1 mu b n) = _
      rw [hby, ih]
      rfl
  unfold unS
  rw [hls, hms, hlr.2]
theorem tst_c {F F1 : St} (ag : agr F F1) (h37 : ∀ k, F1 37 0 0 k = F 37 0 0 k) (st wm mu : Int32) (T : Nat) : tstS F1 st wm mu T = tstS F st wm mu T := by
  unfold tstS
  have e : (fun k => F1 37 0 0 k) = (fun k => F 37 0 0 k) := funext h37
  rw [run_c ag, out_c ag, un_c ag, e]
theorem bs_c {F F1 : St} (ag : agr F F1) (b : Bt) (n : Nat) : bsS F1 b n = bsS F b n := by
  have hlr := lr_c ag
  induction n with
  | zero => rfl
  | succ n ih =>
    show (if n = 0 then 0 else if lfS b (bsS F1 b n) (Ly F1) ≤ lfS b n (Ly F1) then bsS F1 b n else n) = _
    rw [ih, hlr.1]
    rfl
theorem rn_c {F F1 : St} (ag : agr F F1) (st : Int32) (b : Bt) : rnS F1 st b = rnS F st b := by
  have hx : rbS F1 st b = rbS F st b := by
    funext x
    unfold rbS
    rw [← nf_cel F1, nf_e ag, nf_cel, ← nf_lo F1, ← nf_lo F1, nf_e ag, nf_lo, nf_lo]
  unfold rnS
  rw [hx]
theorem mbr_of {F F1 : St} {T : Nat} (h : Mbr F T) (hf : ∀ k p, 30 ≤ k → k < 40 → ∀ y j, F1 k p y j = F k p y j) : Mbr F1 T := by
  obtain ⟨h1, h2, h3, h4, h5⟩ := h
  have ag : agr F F1 := fun k p i j a1 a2 a3 => hf k p a1 (by omega) i j
  exact ⟨PB_c ag h1, by rw [hf 30 11 (by omega) (by omega)]; exact h2, by rw [hf 30 10 (by omega) (by omega)]; exact h3, by rw [hf 30 16 (by omega) (by omega)]; exact h4, h5⟩
theorem bo_taste (p : Int32) : Bo (fun F => fn_X0_taste F p) (fun F => fn_X8_taste F p) := by
  intro F hr
  obtain ⟨T, hT1, hT2, hT3, hT4, hC, hM⟩ := hr.cbr
  obtain ⟨⟨hp, hq, ⟨e8, e9, e10, -⟩, -⟩, -, -, h4, -⟩ := id hr
  obtain ⟨b3, hb3⟩ := h4 3 (by omega)
  show Ok (fn_X0_taste F p) _
  unfold fn_X0_taste
  rw [isIn_l F p 0 3 (l2 := 0) (h2 := 3) rfl rfl, ob_s]
  by_cases h : (0 : Int32) ≤ p ∧ p ≤ 3
  · obtain ⟨k, -, hk, rfl⟩ := rng (l := 0) (h := 3) (by omega) (by omega) h
    rw [if_pos h]
    refine ok_itn n10 (ok_ob2 (c_taste18 hC hb3) (fun F1 r1 h1 => ?_))
    obtain ⟨h1, hr1⟩ := h1
    have h1 : RB 3 F F1 _ := h1
    have hr1 : r1 = _ := hr1
    rw [c_strong h1, ob_s, h1.o (k := 0) (by decide), c_out hq h1, ob_s, c_uneven hp hq h1, ob_s]
    have hmt := m_taste (mbr_of hM (F1 := F1) (fun k p a1 a2 y j => h1.fr k p y j (by unfold bl; omega)))
    have c : ∀ p, F1 30 p 0 0 = F 30 p 0 0 := fun p => h1.o (by decide)
    have ag := rb_agr h1
    rw [c 4, c 10, c 11, run_c ag, out_c ag, un_c ag, tst_c ag (fun k => h1.o (by decide))] at hmt
    rw [e8, e9, e10] at hr1 h1
    have key : ∀ (rv : Int32), (∀ G : St × Int32, (Scr F1 G.1 ∧ G.2 = tstS F (F 30 4 0 0) (F 30 10 0 0) (F 30 11 0 0) T ∧ G.1 30 37 0 0 = strS (runS F (F 30 4 0 0) (F 30 10 0 0) (F 30 11 0 0) T) ∧ G.1 30 38 0 0 = outS F (F 30 11 0 0) (runS F (F 30 4 0 0) (F 30 10 0 0) (F 30 11 0 0) T) ∧ G.1 30 39 0 0 = unS F (F 30 11 0 0) (runS F (F 30 4 0 0) (F 30 10 0 0) (F 30 11 0 0) T)) → Ok (if oN k = 0 then some (G.1, G.2) else if oN k = 1 then some (G.1, G.1 30 37 0 0) else if oN k = 2 then some (G.1, G.1 30 38 0 0) else some (G.1, G.1 30 39 0 0)) (fun q => q = (G.1, rv))) → Ok (fn_X8_taste F1 (oN k)) (fun q => q.2 = rv ∧ Rel q.1) := by
      intro rv hrv
      unfold fn_X8_taste
      rw [in_e, ob_s, if_pos h]
      refine ok_itn n10 (ok_ob2 hmt (fun F2 r2 h2 => ?_))
      obtain ⟨g1, g2, g3, g4, g5, -⟩ := h2
      refine ok_mono (hrv (F2, r2) ⟨g1, g2, g3, g4, g5⟩) (fun q hq2 => ?_)
      rw [hq2]
      exact ⟨rfl, Rel_sm hr (sm_taste hr h1 g1)⟩
    rcases (show k = 0 ∨ k = 1 ∨ k = 2 ∨ k = 3 by omega) with q | q | q | q <;> subst q
    · exact ok_itp (by decide) (ok_some (key _ (fun G hG => ok_itp (by decide) (ok_some (by rw [hG.2.1, hr1])))))
    · exact ok_itn (by decide) (ok_itp (by decide) (ok_some (key _ (fun G hG => ok_itn (by decide) (ok_itp (by decide) (ok_some (by rw [hG.2.2.1, e8, e9, e10])))))))
    · exact ok_itn (by decide) (ok_itn (by decide) (ok_itp (by decide) (ok_some (key _ (fun G hG => ok_itn (by decide) (ok_itn (by decide) (ok_itp (by decide) (ok_some (by rw [hG.2.2.2.1, e8, e9, e10])))))))))
    · exact ok_itn (by decide) (ok_itn (by decide) (ok_itn (by decide) (ok_some (key _ (fun G hG => ok_itn (by decide) (ok_itn (by decide) (ok_itn (by decide) (ok_some (by rw [hG.2.2.2.2, e8, e9, e10])))))))))
  · rw [if_neg h]
    refine ok_itp z00 (ok_some ?_)
    show Ok (fn_X8_taste F p) _
    unfold fn_X8_taste
    rw [in_e, ob_s, if_neg h]
    exact ok_itp z00 (ok_some ⟨rfl, hr⟩)
theorem bo_ran : Bo fn_X0_ran fn_X8_ran := by
  intro F hr
  obtain ⟨T, hT1, hT2, hT3, hT4, hC, hM⟩ := hr.cbr
  obtain ⟨⟨hp, hq, ⟨e8, e9, e10, -⟩, -⟩, -, -, h4, -⟩ := id hr
  obtain ⟨b3, hb3⟩ := h4 3 (by omega)
  unfold fn_X0_ran
  refine ok_ob (c_run18 hC hb3) (fun F1 h1 => ok_ob2 (c_ran hp hq h1) (fun y z hy => ok_some ?_))
  have hy : y = _ := hy
  show Ok (fn_X8_ran F1) _
  have hmt := m_taste (mbr_of hM (F1 := F1) (fun k p a1 a2 y j => h1.fr k p y j (by unfold bl; omega)))
  have c : ∀ p, F1 30 p 0 0 = F 30 p 0 0 := fun p => h1.o (by decide)
  have ag := rb_agr h1
  rw [c 4, c 10, c 11, run_c ag, bs_c ag, (lr_c ag).2] at hmt
  unfold fn_X8_ran
  refine ok_ob2 hmt (fun F2 r2 h2 => ok_some ⟨?_, Rel_sm hr (sm_taste hr h1 h2.1)⟩)
  show F2 30 40 0 0 = y
  rw [hy, e8, e9, e10]
  exact h2.2.2.2.2.2.1
theorem bo_runs : Bo fn_X0_runs fn_X8_runs := by
  intro F hr
  obtain ⟨T, hT1, hT2, hT3, hT4, hC, hM⟩ := hr.cbr
  obtain ⟨⟨hp, hq, ⟨e8, e9, e10, -⟩, -⟩, -, -, h4, -⟩ := id hr
  obtain ⟨b3, hb3⟩ := h4 3 (by omega)
  unfold fn_X0_runs
  refine ok_ob (c_run18 hC hb3) (fun F1 h1 => ok_ob2 (c_runs hp hq h1) (fun y z hy => ok_some ?_))
  have hy : y = _ := hy
  show Ok (fn_X8_runs F1) _
  have hmt := m_taste (mbr_of hM (F1 := F1) (fun k p a1 a2 y j => h1.fr k p y j (by unfold bl; omega)))
  have c : ∀ p, F1 30 p 0 0 = F 30 p 0 0 := fun p => h1.o (by decide)
  have ag := rb_agr h1
  rw [c 4, c 10, c 11, run_c ag, rn_c ag] at hmt
  unfold fn_X8_runs
  refine ok_ob2 hmt (fun F2 r2 h2 => ok_some ⟨?_, Rel_sm hr (sm_taste hr h1 h2.1)⟩)
  show F2 30 41 0 0 = y
  rw [hy, e8, e9, e10]
  exact h2.2.2.2.2.2.2
