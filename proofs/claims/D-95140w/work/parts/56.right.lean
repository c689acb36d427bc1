/-! PURE: right -/
set_option maxRecDepth 100000
def wkp (d : Nat → Nat) (t0 : T3) : Nat → Option T3
  | 0 => some t0
  | i + 1 => match wkp d t0 i with
    | some t => trn (d i) t
    | none => none
theorem wkp_s {d : Nat → Nat} {t0 t : T3} {i : Nat} (h : wkp d t0 i = some t) : wkp d t0 (i + 1) = trn (d i) t := by
  show (match wkp d t0 i with | some t => trn (d i) t | none => none) = _
  rw [h]
theorem wkp_n {d : Nat → Nat} {t0 : T3} {i : Nat} (h : wkp d t0 i = none) : ∀ n, i ≤ n → wkp d t0 n = none
  | 0, hn => by rw [show 0 = i by omega]; exact h
  | n + 1, hn => by
    by_cases hi : i = n + 1
    · rw [← hi]; exact h
    · show (match wkp d t0 n with | some t => trn (d n) t | none => none) = _
      rw [wkp_n h n (by omega)]
theorem wkp_rg {d : Nat → Nat} {t0 : T3} (h0 : rg3 t0) : ∀ {i : Nat} {t : T3}, wkp d t0 i = some t → rg3 t
  | 0, t, h => by cases h; exact h0
  | i + 1, t, h => by
    cases hw : wkp d t0 i with
    | none => rw [wkp_n hw (i + 1) (by omega)] at h; cases h
    | some t1 =>
      rw [wkp_s hw] at h
      exact trn_rg (wkp_rg h0 hw) h
def dg (n c i : Nat) : Nat := c / 6 ^ (n - 1 - i) % 6
def okS (F : St) (T : Nat) (t0 : T3) (n c : Nat) : Prop := ∃ t, wkp (dg n c) t0 n = some t ∧ tstS F t.1 t.2.1 t.2.2 T = 0
theorem dv (a b : Nat) (ha : a < 2147483648) (hb : b < 2147483648) : oN a / oN b = oN (a / b) := (Int32.ofNat_div ha hb).symm
theorem md6 (q : Nat) (h : q < 2147483648) : oN q - oN q / 6 * 6 = oN (q % 6) := by
  rw [show (6 : Int32) = oN 6 from rfl, dv q 6 h (by omega), show oN (q / 6) * oN 6 = oN (q / 6 * 6) from (Int32.ofNat_mul _ _).symm, show oN q - oN (q / 6 * 6) = oN (q - q / 6 * 6) from (Int32.ofNat_sub _ _ (by omega)).symm]
  congr 1
  omega
theorem unit_e : ∀ n, n < 4 → ∃ x, lp_X0_isRight_15 (oN n) 300 1 1 = some (oN (6 ^ (n - 1)), x) := by
  intro n hn
  rcases (show n = 0 ∨ n = 1 ∨ n = 2 ∨ n = 3 by omega) with q | q | q | q <;> subst q
  · exact ⟨1, by decide +kernel⟩
  · exact ⟨1, by decide +kernel⟩
  · exact ⟨2, by decide +kernel⟩
  · exact ⟨3, by decide +kernel⟩
theorem pow_s {n k : Nat} (hn : n < 4) (hk : k < n) : (if (1 : Int32) < oN (6 ^ (n - 1 - k)) / 6 then oN (6 ^ (n - 1 - k)) / 6 else 1) = oN (6 ^ (n - 1 - (k + 1))) := by
  rcases (show n - 1 - k = 0 ∨ n - 1 - k = 1 ∨ n - 1 - k = 2 by omega) with q | q | q
  · rw [show n - 1 - (k + 1) = 0 by omega, q]; decide
  · rw [show n - 1 - (k + 1) = 0 by omega, q]; decide
  · rw [show n - 1 - (k + 1) = 1 by omega, q]; decide
theorem pow_lt {n k : Nat} (hn : n < 4) : 0 < 6 ^ (n - 1 - k) ∧ 6 ^ (n - 1 - k) ≤ 36 := by
  rcases (show n - 1 - k = 0 ∨ n - 1 - k = 1 ∨ n - 1 - k = 2 by omega) with q | q | q <;> rw [q] <;> decide
section RT
variable {F : St} {T : Nat}
theorem c_isRight (hr : Rel F) (hT : F 0 11 0 0 = oN T) (hT2 : T ≤ 60) {G0 : St} (h0 : Try F G0) {n c : Nat} (hn : n < 4) (hc : c < 216) : Ok (fn_X0_isRight G0 (oN c) (oN n)) (fun r => Try F r.1 ∧ ((okS F T (F 30 4 0 0, F 30 10 0 0, F 30 11 0 0) n c ∧ r.2 = 1) ∨ (¬ okS F T (F 30 4 0 0, F 30 10 0 0, F 30 11 0 0) n c ∧ r.2 = 0))) := by
  obtain ⟨G, g1, g2, g3⟩ := lay_t hr h0
  have hrg := told_rg hr
  generalize ht0 : ((F 30 4 0 0, F 30 10 0 0, F 30 11 0 0) : T3) = t0 at *
  obtain ⟨x6, hu⟩ := unit_e n hn
  unfold fn_X0_isRight
  rw [g1, ob_s, hu, ob2_s]
  refine ok_ob4 (P := fun r => Try F r.1 ∧ ((r.2.1 = 1 ∧ ∃ t, wkp (dg n c) t0 n = some t ∧ kn r.1 = t ∧ rg3 t) ∨ (r.2.1 = 0 ∧ wkp (dg n c) t0 n = none))) (ok_lpA (lp := fun m (s : St × Int32 × Int32) x => lp_X0_isRight_37 (oN c) (oN n) m s.1 s.2.1 s.2.2 x) (I := fun k s => s.2.2 = oN (6 ^ (n - 1 - k)) ∧ Try F s.1 ∧ ((s.2.1 = 1 ∧ ∃ t, wkp (dg n c) t0 k = some t ∧ kn s.1 = t ∧ rg3 t) ∨ (s.2.1 = 0 ∧ wkp (dg n c) t0 n = none))) (a := (G, 1, oN (6 ^ (n - 1)))) 0 n (by omega) (by omega) ?_ ?_ ⟨rfl, g2, Or.inl ⟨rfl, t0, rfl, g3, hrg⟩⟩) (fun G1 may u x h1 => ?_)
  · intro m k s hk _ hI ih
    obtain ⟨H, may, u⟩ := s
    obtain ⟨i1, i2, i3⟩ := hI
    have i1 : u = _ := i1
    have i2 : Try F H := i2
    subst i1
    have hpw := pow_lt (n := n) (k := k) hn
    show Ok (lp_X0_isRight_37 (oN c) (oN n) (m + 1) H may (oN (6 ^ (n - 1 - k))) (oN k)) _
    rw [lp_X0_isRight_37_s]
    refine ok_itn (nle hk (by omega)) ?_
    rcases i3 with ⟨j1, t, j2, j3, j4⟩ | ⟨j1, j2⟩
    · have j1 : may = 1 := j1
      have j3 : kn H = t := j3
      subst j1
      rw [pow_s hn hk, dv c _ (by omega) (by omega), md6 _ (Nat.lt_of_le_of_lt (Nat.div_le_self _ _) (by omega))]
      refine ok_itn n10 (ok_og (nzb_t (fun q => by
        have h2 := congrArg Int32.toInt q
        rw [oN_i (by omega)] at h2
        have h3 : (0 : Int32).toInt = 0 := rfl
        omega)) ?_)
      obtain ⟨a, b, e, r, w1, w2⟩ := c_turn (G := H) (k := c / 6 ^ (n - 1 - k) % 6) (by omega) (by rw [j3]; exact j4)
      rw [w1, ob2_s]
      refine ok_pl (ih (_, _, _) ⟨rfl, i2.K3 a b e, ?_⟩)
      rw [j3] at w2
      rcases w2 with ⟨t', v1, v2, v3⟩ | ⟨v1, v2⟩
      · exact Or.inl ⟨v3, t', (wkp_s j2).trans v1, v2, trn_rg j4 v1⟩
      · exact Or.inr ⟨v2, wkp_n ((wkp_s j2).trans v1) n (by omega)⟩
    · have j1 : may = 0 := j1
      exact ok_itp j1 (ok_some ⟨i2, Or.inr ⟨j1, j2⟩⟩)
  · intro m s hI
    obtain ⟨H, may, u⟩ := s
    obtain ⟨i1, i2, i3⟩ := hI
    show Ok (lp_X0_isRight_37 (oN c) (oN n) (m + 1) H may u (oN n)) _
    rw [lp_X0_isRight_37_s]
    exact ok_itp (yle (Nat.le_refl _) (by omega)) (ok_some ⟨i2, i3⟩)
  · obtain ⟨i2, i3⟩ := h1
    have i2 : Try F G1 := i2
    rcases i3 with ⟨j1, t, j2, j3, j4⟩ | ⟨j1, j2⟩
    · have j1 : may = 1 := j1
      have j3 : kn G1 = t := j3
      subst j1
      refine ok_itn n10 (ok_ob2 (c_kn hr i2 hT hT2 (by rw [j3]; exact j4)) (fun G2 r2 h2 => ?_))
      obtain ⟨u1, u2⟩ := h2
      have u2 : r2 = _ := u2
      rw [j3] at u2
      refine ok_ite (fun q => ok_some ⟨u1, Or.inl ⟨⟨t, j2, by rw [← u2]; exact q⟩, rfl⟩⟩) (fun q => ok_some ⟨u1, Or.inr ⟨fun z => ?_, rfl⟩⟩)
      obtain ⟨t', z1, z2⟩ := z
      rw [j2] at z1
      cases z1
      exact q (u2.trans z2)
    · have j1 : may = 0 := j1
      refine ok_itp j1 (ok_some ⟨i2, Or.inr ⟨fun z => ?_, rfl⟩⟩)
      obtain ⟨t', z1, z2⟩ := z
      rw [j2] at z1
      cases z1
theorem fig_e (G : St) {c pl : Nat} (hc : c < 216) (hp : pl < 4) : fn_X0_figure G (oN c) (oN pl) = some (oN (c / 6 ^ pl % 6)) := by
  refine ok_eqv ?_
  unfold fn_X0_figure
  refine ok_ob2 (ok_lpA (lp := lp_X0_figure_4 (oN pl)) (I := fun k x => x = oN (c / 6 ^ k)) (Q := fun r => r.1 = oN (c / 6 ^ pl)) 0 pl (by omega) (by omega) ?_ ?_ (by rw [Nat.pow_zero, Nat.div_one])) (fun y z hy => ok_some ?_)
  · intro n k x hk _ hx ih
    rw [lp_X0_figure_4_s, hx]
    refine ok_itn (nle hk (by omega)) (ok_pl (ih _ ?_))
    rw [show (6 : Int32) = oN 6 from rfl, dv _ 6 (Nat.lt_of_le_of_lt (Nat.div_le_self _ _) (by omega)) (by omega), Nat.div_div_eq_div_mul, Nat.pow_succ]
  · intro n x hx
    rw [lp_X0_figure_4_s]
    exact ok_itp (yle (Nat.le_refl _) (by omega)) (ok_some hx)
  · have hy : y = _ := hy
    rw [hy, md6 _ (Nat.lt_of_le_of_lt (Nat.div_le_self _ _) (by omega))]
/-- what is told of the first that is right -/
def vlS (p : Int32) (n c : Nat) : Int32 := if p = -1 then oN n else if oN n ≤ p then -1 else oN (dg n c p.toNatClampNeg)
theorem six_le {n : Nat} (hn : n < 4) : 6 ^ n ≤ 216 := by
  rcases (show n = 0 ∨ n = 1 ∨ n = 2 ∨ n = 3 by omega) with q | q | q | q <;> subst q <;> decide
theorem c_right (hr : Rel F) (hT : F 0 11 0 0 = oN T) (hT2 : T ≤ 60) {p : Int32} (hp : -1 ≤ p) (ok : Nat → Nat → Prop) (hok : ok = okS F T (F 30 4 0 0, F 30 10 0 0, F 30 11 0 0)) : Ok (lp_X0_right_12 p 300 F 1 0) (fun r => (∃ G n c, r = Sum.inl (G, vlS p n c) ∧ Try F G ∧ n < 4 ∧ c < 6 ^ n ∧ ok n c ∧ (∀ c', c' < c → ¬ ok n c') ∧ ∀ m, m < n → ∀ c', c' < 6 ^ m → ¬ ok m c') ∨ (∃ G y z, r = Sum.inr (G, y, z) ∧ Try F G ∧ ∀ m, m < 4 → ∀ c', c' < 6 ^ m → ¬ ok m c')) := by
  refine ok_lpA (lp := fun m (s : St × Int32) x => lp_X0_right_12 p m s.1 s.2 x) (I := fun n s => s.2 = oN (6 ^ n) ∧ Try F s.1 ∧ ∀ m, m < n → ∀ c', c' < 6 ^ m → ¬ ok m c') (a := (F, 1)) 0 4 (by omega) (by omega) ?_ ?_ ⟨rfl, Try.refl hr, fun m hm => absurd hm (by omega)⟩
  · intro q n s hn _ hI ih
    obtain ⟨G, u⟩ := s
    obtain ⟨i1, i2, i3⟩ := hI
    have i1 : u = _ := i1
    have i2 : Try F G := i2
    subst i1
    have h6 := six_le hn
    show Ok (lp_X0_right_12 p (q + 1) G (oN (6 ^ n)) (oN n)) _
    rw [lp_X0_right_12_s]
    refine ok_itn (show ¬ oN 3 < oN n from by rw [oN_lt (by omega) (by omega)]; omega) ?_
    have hin : Ok (lp_X0_right_20 p (oN (6 ^ n)) (oN n) 300 G 0) (fun r => (∃ G c, r = Sum.inl (G, vlS p n c) ∧ Try F G ∧ c < 6 ^ n ∧ ok n c ∧ ∀ c', c' < c → ¬ ok n c') ∨ (∃ G z, r = Sum.inr (G, z) ∧ Try F G ∧ ∀ c', c' < 6 ^ n → ¬ ok n c')) := by
      refine ok_lpA (lp := lp_X0_right_20 p (oN (6 ^ n)) (oN n)) (I := fun c G => Try F G ∧ ∀ c', c' < c → ¬ ok n c') 0 (6 ^ n) (by omega) (Nat.zero_le _) ?_ ?_ ⟨i2, fun c' h => absurd h (by omega)⟩
      · intro q c H hc _ hI ih
        obtain ⟨j1, j2⟩ := hI
        rw [lp_X0_right_20_s]
        refine ok_itn (nle hc (by omega)) (ok_ob2 (c_isRight hr hT hT2 j1 hn (show c < 216 by omega)) (fun H2 r2 h2 => ?_))
        obtain ⟨u1, u2⟩ := h2
        have u1 : Try F H2 := u1
        rw [← hok] at u2
        rcases u2 with ⟨v1, v2⟩ | ⟨v1, v2⟩
        · have v2 : r2 = 1 := v2
          subst v2
          refine ok_itn n10 ?_
          have hend : ∀ v, v = vlS p n c → ((∃ G c, (Sum.inl (H2, v) : (St × Int32) ⊕ (St × Int32)) = Sum.inl (G, vlS p n c) ∧ Try F G ∧ c < 6 ^ n ∧ ok n c ∧ ∀ c', c' < c → ¬ ok n c') ∨ (∃ G z, (Sum.inl (H2, v) : (St × Int32) ⊕ (St × Int32)) = Sum.inr (G, z) ∧ Try F G ∧ ∀ c', c' < 6 ^ n → ¬ ok n c')) := fun v hv => Or.inl ⟨H2, c, by rw [hv], u1, hc, v1, j2⟩
          refine ok_ite (fun q => ok_some (hend _ ?_)) (fun q => ok_ite (fun q2 => ok_some (hend _ ?_)) (fun q2 => ?_))
          · unfold vlS
            rw [if_pos q]
          · unfold vlS
            rw [if_neg q, if_pos q2]
          · have k1 := le_i.mp hp
            have k2 : (-1 : Int32).toInt = -1 := rfl
            have k3 : p.toInt ≠ -1 := fun z => q (Int32.toInt_inj.mp (by rw [z, k2]))
            have k4 : p.toInt < n := by
              have := lt_i.mp (Int32.not_le.mp q2)
              rw [oN_i (by omega)] at this
              exact this
            have k5 : 0 ≤ p.toInt := by omega
            have k6 := cn_i k5
            have e1 : (oN n - 1) - p = oN (n - 1 - p.toNatClampNeg) := by
              rw [oN_of k5, oN_n (Int32.toNatClampNeg_lt p), show oN n - 1 = oN (n - 1) from (Int32.ofNat_sub n 1 (by omega)).symm, ← Int32.ofNat_sub _ _ (by omega)]
            rw [e1, fig_e H2 (show c < 216 by omega) (by omega), ob_s]
            refine ok_some (hend _ ?_)
            unfold vlS dg
            rw [if_neg q, if_neg q2]
        · have v2 : r2 = 0 := v2
          subst v2
          refine ok_itp z00 (ih H2 ⟨u1, fun c' hc' => ?_⟩)
          by_cases hcc : c' = c
          · rw [hcc]; exact v1
          · exact j2 c' (by omega)
      · intro q H hI
        rw [lp_X0_right_20_s]
        exact ok_itp (yle (Nat.le_refl _) (by omega)) (ok_some (Or.inr ⟨H, _, rfl, hI.1, hI.2⟩))
    obtain ⟨r, hr1, hr2⟩ := hin
    rw [hr1]
    rcases hr2 with ⟨H, c, rfl, v1, v2, v3, v4⟩ | ⟨H, z, rfl, v1, v2⟩
    · exact ok_some (Or.inl ⟨H, n, c, rfl, v1, hn, v2, v3, v4, i3⟩)
    · show Ok (pl (oN (6 ^ n) * 6) (fun x27 => lp_X0_right_12 p q H x27 (oN n + 1))) _
      refine ok_pl (ih (H, _) ⟨?_, v1, fun m hm => ?_⟩)
      · show oN (6 ^ n) * 6 = oN (6 ^ (n + 1))
        rw [show oN (6 ^ n) * 6 = oN (6 ^ n * 6) from (Int32.ofNat_mul _ 6).symm, Nat.pow_succ]
      · by_cases hmn : m = n
        · rw [hmn]; exact v2
        · exact i3 m (by omega)
  · intro q s hI
    obtain ⟨G, u⟩ := s
    obtain ⟨i1, i2, i3⟩ := hI
    show Ok (lp_X0_right_12 p (q + 1) G u (oN 4)) _
    rw [lp_X0_right_12_s]
    exact ok_itp (by decide) (ok_some (Or.inr ⟨G, _, _, rfl, i2, i3⟩))
end RT
