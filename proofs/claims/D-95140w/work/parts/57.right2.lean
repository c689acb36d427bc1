/-! PURE: the model's right -/
set_option maxRecDepth 100000
section R2
variable {F : St} {T : Nat}
/-- the digits of a code -/
theorem m_digits {G H : St} {t : T3} (h : MT G H t.1 t.2.1 t.2.2) {n c : Nat} (hn : n < 4) (hc : c < 216) : Ok (lp_X8_findRight_47 300 H (oN c) (oN n - 1)) (fun r => MT G r.1 t.1 t.2.1 t.2.2 ∧ ∀ i, i < n → r.1 45 0 0 i = oN (dg n c i)) := by
  refine ok_lpG (lp := fun m (s : St × Int32 × Int32) => lp_X8_findRight_47 m s.1 s.2.1 s.2.2) (fun k s => MT G s.1 t.1 t.2.1 t.2.2 ∧ s.2.1 = oN (c / 6 ^ k) ∧ s.2.2 = oN (n - k) - 1 ∧ ∀ i, n - k ≤ i → i < n → s.1 45 0 0 i = oN (dg n c i)) n ?_ ?_ n 300 0 (H, oN c, oN n - 1) (by omega) (by omega) ⟨h, by rw [Nat.pow_zero, Nat.div_one], rfl, fun i h1 h2 => absurd h1 (by omega)⟩
  · intro m k s hk hI ih
    obtain ⟨H2, x16, x17⟩ := s
    obtain ⟨i1, i2, i3, i4⟩ := hI
    have i1 : MT G H2 _ _ _ := i1
    have i2 : x16 = _ := i2
    have i3 : x17 = _ := i3
    have i4 : ∀ i, n - k ≤ i → i < n → H2 45 0 0 i = oN (dg n c i) := i4
    have e17 : oN (n - k) - 1 = oN (n - k - 1) := (Int32.ofNat_sub (n - k) 1 (by omega)).symm
    show Ok (lp_X8_findRight_47 (m + 1) H2 x16 x17) _
    rw [lp_X8_findRight_47_s, i2, i3, e17, oN_n (show n - k - 1 < 2147483648 by omega), md6 _ (Nat.lt_of_le_of_lt (Nat.div_le_self _ _) (by omega)), show (6 : Int32) = oN 6 from rfl, dv _ 6 (Nat.lt_of_le_of_lt (Nat.div_le_self _ _) (by omega)) (by omega)]
    refine ok_itn (nlt0 (by omega)) (ok_og (oN_vp (by omega) (by omega)) (ok_pl (ok_pl (ih (_, _, _) ⟨i1.fur (by omega), ?_, ?_, fun i h1 h2 => ?_⟩))))
    · show oN (c / 6 ^ k / 6) = oN (c / 6 ^ (k + 1))
      rw [Nat.div_div_eq_div_mul, Nat.pow_succ]
    · show oN (n - k - 1) + -1 = oN (n - (k + 1)) - 1
      rw [Int32.sub_eq_add_neg, show n - (k + 1) = n - k - 1 by omega]
    · show fu H2 45 0 0 (n - k - 1) (oN (c / 6 ^ k % 6)) 45 0 0 i = _
      rw [fu_a]
      by_cases hi : i = n - k - 1
      · rw [if_pos ⟨rfl, rfl, rfl, hi⟩, hi]
        unfold dg
        rw [show n - 1 - (n - k - 1) = k by omega]
      · rw [if_neg (fun z => hi z.2.2.2)]
        exact i4 i (by omega) h2
  · intro m s hI
    obtain ⟨H2, x16, x17⟩ := s
    obtain ⟨i1, i2, i3, i4⟩ := hI
    have i3 : x17 = _ := i3
    show Ok (lp_X8_findRight_47 (m + 1) H2 x16 x17) _
    rw [lp_X8_findRight_47_s, i3, show n - n = 0 by omega]
    exact ok_itp (by decide) (ok_some ⟨i1, fun i hi => i4 i (by omega) hi⟩)
/-- turns as far as it goes -/
theorem m_turns {G H : St} {t0 : T3} (h : MT G H t0.1 t0.2.1 t0.2.2) {n c : Nat} (hn : n < 4) (hd : ∀ i, i < n → H 45 0 0 i = oN (dg n c i)) : Ok (lp_X8_findRight_80 (oN n) 300 H 0) (fun r => ∃ k t, k ≤ n ∧ r.2 = oN k ∧ wkp (dg n c) t0 k = some t ∧ MT G r.1 t.1 t.2.1 t.2.2 ∧ (∀ i, i < n → r.1 45 0 0 i = oN (dg n c i)) ∧ (k < n → wkp (dg n c) t0 n = none)) := by
  refine ok_lpA (lp := lp_X8_findRight_80 (oN n)) (I := fun k H => ∃ t, wkp (dg n c) t0 k = some t ∧ MT G H t.1 t.2.1 t.2.2 ∧ ∀ i, i < n → H 45 0 0 i = oN (dg n c i)) 0 n (by omega) (by omega) ?_ ?_ ⟨t0, rfl, h, hd⟩
  · intro m k H hk _ hI ih
    obtain ⟨t, i1, i2, i3⟩ := hI
    rw [lp_X8_findRight_80_s, oN_n (show k < 2147483648 by omega), i3 k hk]
    obtain ⟨H2, r, w1, w2, w3⟩ := m_turn i2 (k := dg n c k) (by unfold dg; omega)
    rw [w1, ob2_s]
    refine ok_itn (nle hk (by omega)) (ok_og (oN_vp (by omega) (by omega)) ?_)
    rcases w3 with ⟨t2, v1, v2, v3⟩ | ⟨v1, v2, v3⟩
    · subst v3
      exact ok_itn n10 (ih H2 ⟨t2, (wkp_s i1).trans v1, v2, fun i hi => by rw [w2 45 i (by omega)]; exact i3 i hi⟩)
    · subst v3
      exact ok_itp z00 (ok_some ⟨k, t, by omega, rfl, i1, v2, fun i hi => by
        show H2 45 0 0 i = _
        rw [w2 45 i (by omega)]; exact i3 i hi, fun _ => wkp_n ((wkp_s i1).trans v1) n (by omega)⟩)
  · intro m H hI
    obtain ⟨t, i1, i2, i3⟩ := hI
    rw [lp_X8_findRight_80_s]
    exact ok_itp (yle (Nat.le_refl _) (by omega)) (ok_some ⟨n, t, Nat.le_refl _, rfl, i1, i2, i3, fun q => absurd q (by omega)⟩)
/-- .. and all back -/
theorem m_undo {G H : St} {t0 t : T3} (h0 : rg3 t0) {n c k : Nat} (hn : n < 4) (hk : k ≤ n) (hw : wkp (dg n c) t0 k = some t) (h : MT G H t.1 t.2.1 t.2.2) (hd : ∀ i, i < n → H 45 0 0 i = oN (dg n c i)) : Ok (lp_X8_findRight_133 300 H (oN k - 1)) (fun r => MT G r.1 t0.1 t0.2.1 t0.2.2 ∧ ∀ i, i < n → r.1 45 0 0 i = oN (dg n c i)) := by
  refine ok_lpG (lp := fun m (s : St × Int32) => lp_X8_findRight_133 m s.1 s.2) (fun j s => s.2 = oN (k - j) - 1 ∧ (∃ t, wkp (dg n c) t0 (k - j) = some t ∧ MT G s.1 t.1 t.2.1 t.2.2) ∧ ∀ i, i < n → s.1 45 0 0 i = oN (dg n c i)) k ?_ ?_ k 300 0 (H, oN k - 1) (by omega) (by omega) ⟨rfl, ⟨t, hw, h⟩, hd⟩
  · intro m j s hj hI ih
    obtain ⟨H2, x⟩ := s
    obtain ⟨i1, ⟨t1, i2, i3⟩, i4⟩ := hI
    have i1 : x = _ := i1
    have i3 : MT G H2 _ _ _ := i3
    have i4 : ∀ i, i < n → H2 45 0 0 i = oN (dg n c i) := i4
    have e17 : oN (k - j) - 1 = oN (k - j - 1) := (Int32.ofNat_sub (k - j) 1 (by omega)).symm
    show Ok (lp_X8_findRight_133 (m + 1) H2 x) _
    rw [lp_X8_findRight_133_s, i1, e17, oN_n (show k - j - 1 < 2147483648 by omega), i4 _ (by omega)]
    have hst : ∃ t2, wkp (dg n c) t0 (k - j - 1) = some t2 ∧ trn (dg n c (k - j - 1)) t2 = some t1 := by
      rw [show k - j = (k - j - 1) + 1 by omega] at i2
      cases hq : wkp (dg n c) t0 (k - j - 1) with
      | none => rw [wkp_n hq _ (by omega)] at i2; cases i2
      | some t2 =>
        rw [wkp_s hq] at i2
        exact ⟨t2, rfl, i2⟩
    obtain ⟨t2, z1, z2⟩ := hst
    obtain ⟨H3, r, w1, w2, w3⟩ := m_back (by unfold dg; omega) (wkp_rg h0 z1) z2 i3
    rw [w1, ob2_s]
    refine ok_itn (nlt0 (by omega)) (ok_og (oN_vp (by omega) (by omega)) (ih (H3, _) ⟨?_, ⟨t2, z1, w3⟩, fun i hi => ?_⟩))
    · show oN (k - j - 1) + -1 = oN (k - (j + 1)) - 1
      rw [Int32.sub_eq_add_neg, show k - (j + 1) = k - j - 1 by omega]
    · show H3 45 0 0 i = _
      rw [w2 45 i (by omega)]
      exact i4 i hi
  · intro m s hI
    obtain ⟨H2, x⟩ := s
    obtain ⟨i1, ⟨t1, i2, i3⟩, i4⟩ := hI
    have i1 : x = _ := i1
    show Ok (lp_X8_findRight_133 (m + 1) H2 x) _
    rw [show k - k = 0 by omega] at i2 i1
    cases i2
    rw [lp_X8_findRight_133_s, i1]
    exact ok_itp (by decide) (ok_some ⟨i3, i4⟩)
theorem m_find (hr : Rel F) {G H : St} (hG : Try F G) (hT : F 30 16 0 0 = oN T) (hT2 : T ≤ 60) {n : Nat} (hn : n < 4) (ok : Nat → Nat → Prop) (hok : ok = okS F T (F 30 4 0 0, F 30 10 0 0, F 30 11 0 0)) (h : MT G H (F 30 4 0 0) (F 30 10 0 0) (F 30 11 0 0)) : Ok (fn_X8_findRight H (oN n)) (fun r => MT G r.1 (F 30 4 0 0) (F 30 10 0 0) (F 30 11 0 0) ∧ ((r.2 = 1 ∧ ∃ c, c < 6 ^ n ∧ ok n c ∧ (∀ c', c' < c → ¬ ok n c') ∧ ∀ i, i < n → r.1 45 0 0 i = oN (dg n c i)) ∨ (r.2 = 0 ∧ ∀ c, c < 6 ^ n → ¬ ok n c))) := by
  obtain ⟨hpG, cG⟩ := try_par hr hG
  have hrg := told_rg hr
  have h6 := six_le hn
  have htc : ∀ st wm mu, tstS G st wm mu T = tstS F st wm mu T := fun st wm mu => tst_c hG.agr hG.h37 st wm mu T
  unfold fn_X8_findRight
  refine ok_ob (P := fun y => y = oN (6 ^ n)) ?_ (fun y hy => ?_)
  · rcases (show n = 0 ∨ n = 1 ∨ n = 2 ∨ n = 3 by omega) with q | q | q | q <;> subst q
    · exact ok_itp (by decide) (ok_some (by decide))
    · exact ok_itn (by decide) (ok_itp (by decide) (ok_some (by decide)))
    · exact ok_itn (by decide) (ok_itn (by decide) (ok_itp (by decide) (ok_some (by decide))))
    · exact ok_itn (by decide) (ok_itn (by decide) (ok_itn (by decide) (ok_some (by decide))))
  · subst hy
    have hlp : Ok (lp_X8_findRight_34 (oN n) (oN (6 ^ n)) 300 H 0) (fun r => (∃ H2 c, r = Sum.inl (H2, 1) ∧ MT G H2 (F 30 4 0 0) (F 30 10 0 0) (F 30 11 0 0) ∧ c < 6 ^ n ∧ ok n c ∧ (∀ c', c' < c → ¬ ok n c') ∧ ∀ i, i < n → H2 45 0 0 i = oN (dg n c i)) ∨ (∃ H2 z, r = Sum.inr (H2, z) ∧ MT G H2 (F 30 4 0 0) (F 30 10 0 0) (F 30 11 0 0) ∧ ∀ c, c < 6 ^ n → ¬ ok n c)) := by
      refine ok_lpA (lp := lp_X8_findRight_34 (oN n) (oN (6 ^ n))) (I := fun c H => MT G H (F 30 4 0 0) (F 30 10 0 0) (F 30 11 0 0) ∧ ∀ c', c' < c → ¬ ok n c') 0 (6 ^ n) (by omega) (Nat.zero_le _) ?_ ?_ ⟨h, fun c' hc => absurd hc (by omega)⟩
      · intro m c H2 hc _ hI ih
        obtain ⟨i1, i2⟩ := hI
        rw [lp_X8_findRight_34_s]
        refine ok_itn (nle hc (by omega)) (ok_pl (ok_ob3 (m_digits (t := (F 30 4 0 0, F 30 10 0 0, F 30 11 0 0)) i1 hn (show c < 216 by omega)) (fun H3 x20 x21 h3 => ok_ob2 (m_turns (t0 := (F 30 4 0 0, F 30 10 0 0, F 30 11 0 0)) h3.1 hn h3.2) (fun H4 x34 h4 => ?_))))
        obtain ⟨k, t, k1, k2, k3, k4, k5, k6⟩ := h4
        have k2 : x34 = oN k := k2
        have k4 : MT G H4 t.1 t.2.1 t.2.2 := k4
        have k5 : ∀ i, i < n → H4 45 0 0 i = oN (dg n c i) := k5
        subst k2
        have hrt := wkp_rg hrg k3
        refine ok_ob2 (P := fun r => MT G r.1 t.1 t.2.1 t.2.2 ∧ (∀ i, i < n → r.1 45 0 0 i = oN (dg n c i)) ∧ ((ok n c ∧ r.2 = 1) ∨ (¬ ok n c ∧ r.2 = 0))) ?_ (fun H5 y47 h5 => ok_pl (ok_ob2 (m_undo hrg hn k1 k3 h5.1 h5.2.1) (fun H6 x58 h6 => ?_)))
        · by_cases hkn : k = n
          · subst hkn
            refine ok_itp rfl (ok_ob2 (m_try hpG (by rw [cG 16]; exact hT) hT2 k4 (kn_mu _ hrt) (kn_warm _ hrt)) (fun H5 r5 h5 => ?_))
            obtain ⟨u1, u2, u3⟩ := h5
            have u3 : r5 = _ := u3
            rw [htc] at u3
            have u2 : ∀ k j, k = 45 ∨ k = 46 → H5 k 0 0 j = H4 k 0 0 j := u2
            have o5 : ∀ i, i < k → H5 45 0 0 i = oN (dg k c i) := fun i hi => by rw [u2 45 i (by omega)]; exact k5 i hi
            refine ok_ite (fun q => ok_some ⟨u1, o5, Or.inl ⟨?_, rfl⟩⟩) (fun q => ok_some ⟨u1, o5, Or.inr ⟨fun z => ?_, rfl⟩⟩)
            · rw [hok]
              exact ⟨t, k3, u3.symm.trans q⟩
            · rw [hok] at z
              obtain ⟨t', z1, z2⟩ := z
              rw [k3] at z1
              cases z1
              exact q (u3.trans z2)
          · refine ok_itn (by rw [oN_eq (by omega) (by omega)]; exact hkn) (ok_some ⟨k4, k5, Or.inr ⟨fun z => ?_, rfl⟩⟩)
            rw [hok] at z
            obtain ⟨t', z1, z2⟩ := z
            rw [k6 (by omega)] at z1
            cases z1
        · obtain ⟨-, -, u3⟩ := h5
          obtain ⟨w1, w2⟩ := h6
          have w1 : MT G H6 (F 30 4 0 0) (F 30 10 0 0) (F 30 11 0 0) := w1
          have w2 : ∀ i, i < n → H6 45 0 0 i = oN (dg n c i) := w2
          rcases u3 with ⟨v1, v2⟩ | ⟨v1, v2⟩
          · have v2 : y47 = 1 := v2
            subst v2
            exact ok_itn n10 (ok_some (Or.inl ⟨H6, c, rfl, w1, hc, v1, i2, w2⟩))
          · have v2 : y47 = 0 := v2
            subst v2
            refine ok_itp z00 (ih H6 ⟨w1, fun c' hc' => ?_⟩)
            by_cases hcc : c' = c
            · rw [hcc]; exact v1
            · exact i2 c' (by omega)
      · intro m H2 hI
        rw [lp_X8_findRight_34_s]
        exact ok_itp (yle (Nat.le_refl _) (by omega)) (ok_some (Or.inr ⟨H2, _, rfl, hI.1, hI.2⟩))
    obtain ⟨r, hr1, hr2⟩ := hlp
    rw [hr1]
    rcases hr2 with ⟨H2, c, rfl, v1, v2, v3, v4, v5⟩ | ⟨H2, z, rfl, v1, v2⟩
    · exact ok_some ⟨v1, Or.inl ⟨rfl, c, v2, v3, v4, v5⟩⟩
    · exact ok_some ⟨v1, Or.inr ⟨rfl, v2⟩⟩
theorem bo_right (p : Int32) : Bo (fun F => fn_X0_right F p) (fun F => fn_X8_right F p) := by
  intro F hr
  obtain ⟨T, hT1, hT2, hT3, hT4, -, -⟩ := hr.cbr
  show Ok (fn_X0_right F p) _
  unfold fn_X0_right
  by_cases hp : -1 ≤ p
  · obtain ⟨r, hr1, hr2⟩ := c_right hr hT4 hT2 hp _ rfl
    rw [if_pos hp, hr1]
    generalize hok : okS F T (F 30 4 0 0, F 30 10 0 0, F 30 11 0 0) = ok at hr2
    have key : ∀ G rv, Try F G → ((∃ n c, rv = vlS p n c ∧ n < 4 ∧ c < 6 ^ n ∧ ok n c ∧ (∀ c', c' < c → ¬ ok n c') ∧ ∀ m, m < n → ∀ c', c' < 6 ^ m → ¬ ok m c') ∨ (rv = -1 ∧ ∀ m, m < 4 → ∀ c', c' < 6 ^ m → ¬ ok m c')) → Ok (fn_X8_right G p) (fun q => q.2 = rv ∧ Rel q.1) := by
      intro G rv hG hrv
      obtain ⟨hpG, cG⟩ := try_par hr hG
      have hs := MT.start G
      rw [cG 4, cG 10, cG 11] at hs
      unfold fn_X8_right
      rw [if_pos hp]
      refine ok_ob3 (P := fun r => MT G r.1 (F 30 4 0 0) (F 30 10 0 0) (F 30 11 0 0) ∧ ((r.2.1 = -1 ∧ ∀ m, m < 4 → ∀ c', c' < 6 ^ m → ¬ ok m c') ∨ (∃ n c, r.2.1 = oN n ∧ n < 4 ∧ c < 6 ^ n ∧ ok n c ∧ (∀ c', c' < c → ¬ ok n c') ∧ (∀ m, m < n → ∀ c', c' < 6 ^ m → ¬ ok m c') ∧ ∀ i, i < n → r.1 45 0 0 i = oN (dg n c i)))) (ok_lpA (lp := fun m (s : St × Int32) x => lp_X8_right_12 m s.1 s.2 x) (I := fun k s => MT G s.1 (F 30 4 0 0) (F 30 10 0 0) (F 30 11 0 0) ∧ ((s.2 = -1 ∧ ∀ m, m < k → ∀ c', c' < 6 ^ m → ¬ ok m c') ∨ (∃ n c, s.2 = oN n ∧ n < 4 ∧ c < 6 ^ n ∧ ok n c ∧ (∀ c', c' < c → ¬ ok n c') ∧ (∀ m, m < n → ∀ c', c' < 6 ^ m → ¬ ok m c') ∧ ∀ i, i < n → s.1 45 0 0 i = oN (dg n c i)))) (a := (G, -1)) 0 4 (by omega) (by omega) ?_ ?_ ⟨hs, Or.inl ⟨rfl, fun m hm => absurd hm (by omega)⟩⟩) (fun H x7 x8 h1 => ?_)
      · intro m k s hk _ hI ih
        obtain ⟨H, x⟩ := s
        obtain ⟨i1, i2⟩ := hI
        have i1 : MT G H _ _ _ := i1
        show Ok (lp_X8_right_12 (m + 1) H x (oN k)) _
        rw [lp_X8_right_12_s]
        refine ok_itn (nle (a := 4) hk (by omega)) ?_
        rcases i2 with ⟨j1, j2⟩ | ⟨n, c, j1, j2⟩
        · have j1 : x = -1 := j1
          refine ok_itp j1 (ok_ob2 (m_find hr hG hT3 hT2 hk ok hok.symm i1) (fun H2 r2 h2 => ok_obi (ih (H2, if r2 = 0 then (-1 : Int32) else oN k) ⟨h2.1, ?_⟩)))
          rcases h2.2 with ⟨v1, c, v2, v3, v4, v5⟩ | ⟨v1, v2⟩
          · have v1 : r2 = 1 := v1
            exact Or.inr ⟨k, c, if_neg (by rw [v1]; exact n10), hk, v2, v3, v4, j2, v5⟩
          · have v1 : r2 = 0 := v1
            refine Or.inl ⟨if_pos v1, fun m hm => ?_⟩
            by_cases hmk : m = k
            · rw [hmk]; exact v2
            · exact j2 m (by omega)
        · have j1 : x = oN n := j1
          exact ok_itn (fun q => oN_ne1 (by omega) (j1.symm.trans q)) (ok_some ⟨i1, Or.inr ⟨n, c, j1, j2⟩⟩)
      · intro m s hI
        obtain ⟨H, x⟩ := s
        show Ok (lp_X8_right_12 (m + 1) H x (oN 4)) _
        rw [lp_X8_right_12_s]
        exact ok_itp (by decide) (ok_some hI)
      · obtain ⟨i1, i2⟩ := h1
        have i1 : MT G H (F 30 4 0 0) (F 30 10 0 0) (F 30 11 0 0) := i1
        rw [← cG 4, ← cG 10, ← cG 11] at i1
        have hrel : Rel H := Rel_sm hr (sm_try hG i1.end)
        have k2 : (-1 : Int32).toInt = -1 := rfl
        have k1 := le_i.mp hp
        rcases i2 with ⟨j1, j2⟩ | ⟨n, c, j1, j2, j3, j4, j5, j6, j7⟩
        · have j1 : x7 = -1 := j1
          have hv : rv = -1 := by
            rcases hrv with ⟨n, c, w1, w2, w3, w4, -⟩ | ⟨w1, -⟩
            · exact absurd w4 (j2 n w2 c w3)
            · exact w1
          subst j1
          refine ok_ite (fun q => ok_some ⟨hv.symm, hrel⟩) (fun q => ok_itp (by rw [le_i]; omega) (ok_some ⟨hv.symm, hrel⟩))
        · have j1 : x7 = oN n := j1
          have j7 : ∀ i, i < n → H 45 0 0 i = oN (dg n c i) := j7
          have hv : rv = vlS p n c := by
            rcases hrv with ⟨n', c', w1, w2, w3, w4, w5, w6⟩ | ⟨w1, w2⟩
            · have hnn : n' = n := by
                rcases Nat.lt_trichotomy n' n with l | l | l
                · exact absurd w4 (j6 n' l c' w3)
                · exact l
                · exact absurd j4 (w6 n l c j3)
              subst hnn
              have hcc : c' = c := by
                rcases Nat.lt_trichotomy c' c with l | l | l
                · exact absurd w4 (j5 c' l)
                · exact l
                · exact absurd j4 (w5 c l)
              rw [w1, hcc]
            · exact absurd j4 (w2 n j2 c j3)
          subst j1
          refine ok_ite (fun q => ok_some ⟨?_, hrel⟩) (fun q => ok_ite (fun q2 => ok_some ⟨?_, hrel⟩) (fun q2 => ?_))
          · rw [hv]; unfold vlS; rw [if_pos q]
          · rw [hv]; unfold vlS; rw [if_neg q, if_pos q2]
          · have k3 : p.toInt ≠ -1 := fun z => q (Int32.toInt_inj.mp (by rw [z, k2]))
            have k4 : p.toInt < n := by
              have := lt_i.mp (Int32.not_le.mp q2)
              rw [oN_i (by omega)] at this
              exact this
            have k5 : 0 ≤ p.toInt := by omega
            have k6 := cn_i k5
            refine ok_og (vpb_t k5 (by omega)) (ok_some ⟨?_, hrel⟩)
            show H 45 0 0 p.toNatClampNeg = rv
            rw [hv, show H 45 0 0 p.toNatClampNeg = _ from j7 p.toNatClampNeg (by omega)]
            unfold vlS
            rw [if_neg q, if_neg q2]
    rcases hr2 with ⟨G, n, c, rfl, v1, v2⟩ | ⟨G, y, z, rfl, v1, v2⟩
    · exact ok_some (key G _ v1 (Or.inl ⟨n, c, rfl, v2⟩))
    · exact ok_some (key G _ v1 (Or.inr ⟨rfl, v2⟩))
  · rw [if_neg hp]
    refine ok_some ?_
    show Ok (fn_X8_right F p) _
    unfold fn_X8_right
    rw [if_neg hp]
    exact ok_some ⟨rfl, hr⟩
end R2
