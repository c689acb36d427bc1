/-! PURE: all lines done -/
set_option maxRecDepth 100000
def RPm (M : St) : Prop := PB M ∧ (0 ≤ (M 30 4 0 0).toInt ∧ (M 30 4 0 0).toInt ≤ 10) ∧ (0 ≤ (M 30 10 0 0).toInt ∧ (M 30 10 0 0).toInt ≤ 100) ∧ (1 ≤ (M 30 11 0 0).toInt ∧ (M 30 11 0 0).toInt ≤ 20) ∧ ∃ T, 1 ≤ T ∧ T ≤ 60 ∧ M 30 16 0 0 = oN T
def num (k p : Nat) : Prop := (k = 30 ∧ p < 18) ∨ (31 ≤ k ∧ k ≤ 37)
def NE (F G : St) : Prop := ∀ k p y j, num k p → F k p y j = G k p y j
theorem NE.f {F G : St} (h : NE F G) {k p i j : Nat} {v : Int32} : NE (fu F k p i j v) (fu G k p i j v) := fun k2 p2 y2 j2 hn => by
  rw [fu_a, fu_a, h k2 p2 y2 j2 hn]
theorem upd_o {M : St} {so : Nat} {t : Nat → Nat} {k p y j : Nat} (hn : ¬ num k p) : updL M so t k p y j = M k p y j := by
  unfold num at hn
  unfold updL
  split
  all_goals first
    | (unfold z33; rw [if_neg (by omega), fu_n _ _ _ _ _ _ (by omega), fu_n _ _ _ _ _ _ (by omega), fu_n _ _ _ _ _ _ (by omega)])
    | (rw [fu_n _ _ _ _ _ _ (by omega), fu_n _ _ _ _ _ _ (by omega), fu_n _ _ _ _ _ _ (by omega)])
    | (rw [fu_n _ _ _ _ _ _ (by omega), fu_n _ _ _ _ _ _ (by omega)])
    | (rw [fu_n _ _ _ _ _ _ (by omega)])
    | (unfold c37; rw [if_neg (by omega)])
    | (unfold pou; split <;> first | rfl | rw [fu_n _ _ _ _ _ _ (by omega), fu_n _ _ _ _ _ _ (by omega), fu_n _ _ _ _ _ _ (by omega), fu_n _ _ _ _ _ _ (by omega)])
    | rfl
theorem upd_c {F G : St} {so : Nat} {t : Nat → Nat} (h : NE F G) : NE (updL F so t) (updL G so t) := by
  have h12 : F 30 12 0 0 = G 30 12 0 0 := h 30 12 0 0 (Or.inl ⟨rfl, by omega⟩)
  unfold updL
  split
  · intro k p y j hn
    unfold z33
    by_cases c : k = 33 ∧ p = 0 ∧ y = 0 ∧ j < 16
    · rw [if_pos c, if_pos c]
    · rw [if_neg c, if_neg c]
      exact ((h.f).f).f k p y j hn
  · exact ((h.f).f).f
  · exact ((h.f).f).f
  · exact (h.f).f
  · exact h.f
  · exact h.f
  · exact h.f
  · exact h.f
  · unfold pou
    rw [h12]
    by_cases c : (12 : Int32) ≤ G 30 12 0 0
    · rw [if_pos c, if_pos c]; exact h
    · rw [if_neg c, if_neg c]
      exact (((h.f).f).f).f
  · exact h.f
  · exact h.f
  · exact h.f
  · exact h.f
  · exact h.f
  · intro k p y j hn
    unfold c37
    by_cases c : k = 37 ∧ p = 0 ∧ y = 0 ∧ j < 5
    · rw [if_pos c, if_pos c]
    · rw [if_neg c, if_neg c]
      exact h k p y j hn
  · exact h
def updS (M : St) : List La → St
  | [] => M
  | a :: ls => updS (updL M a.1 a.2) ls
theorem upS_c : ∀ (ls : List La) {F G : St}, NE F G → NE (updS F ls) (updS G ls)
  | [], _, _, h => h
  | _ :: ls, _, _, h => upS_c ls (upd_c h)
theorem upS_o : ∀ (ls : List La) {M : St} {k p y j : Nat}, ¬ num k p → updS M ls k p y j = M k p y j
  | [], _, _, _, _, _, _ => rfl
  | a :: ls, M, k, p, y, j, h => (upS_o ls h).trans (upd_o h)
theorem oN_b {v lo hi : Nat} (h1 : lo ≤ v) (h2 : v ≤ hi) (h : v < 2147483648) : (lo : Int) ≤ (oN v).toInt ∧ (oN v).toInt ≤ hi := by
  rw [oN_i h]
  omega
section RU
variable {M : St} {so : Nat} {t : Nat → Nat}
theorem rpm_upd (hM : RPm M) (hG : GLn so t (Rg M) (Ly M)) : RPm (updL M so t) ∧ Rg (updL M so t) = rnN so t (Rg M) ∧ Ly (updL M so t) = lyN so t (Ly M) := by
  obtain ⟨⟨p1, p2, p3, p4, p5, p6⟩, h4, h10, h11, h16⟩ := id hM
  obtain ⟨g1, g2, g3⟩ := hG
  have h14 : so = 0 ∨ so = 1 ∨ so = 2 ∨ so = 3 ∨ so = 4 ∨ so = 5 ∨ so = 6 ∨ so = 7 ∨ so = 8 ∨ so = 9 ∨ so = 10 ∨ so = 11 ∨ so = 12 ∨ so = 13 ∨ so = 14 := by omega
  rcases h14 with h | h | h | h | h | h | h | h | h | h | h | h | h | h | h <;> subst h
  · have a0 := g2 (by omega) 0 (by decide)
    have a1 := g2 (by omega) 1 (by decide)
    have a0 : 1 ≤ t 0 ∧ t 0 ≤ 4 := a0
    have a1 : 1 ≤ t 1 ∧ t 1 ≤ 4 := a1
    have e0 : Rg (updL M 0 t) = t 0 := oN_n (show t 0 < 2147483648 by omega)
    have e1 : Ly (updL M 0 t) = t 1 := oN_n (show t 1 < 2147483648 by omega)
    exact ⟨⟨⟨⟨by rw [e0]; rfl, by rw [e0]; exact a0⟩, ⟨by rw [e1]; rfl, by rw [e1]; exact a1⟩, p3, ⟨0, by omega, rfl, fun k hk => absurd hk (by omega)⟩, p5, p6⟩, h4, h10, h11, h16⟩, e0, e1⟩
  · have b : ∀ s, s < 3 → 0 ≤ (updL M 1 t 31 0 0 s).toInt ∧ (updL M 1 t 31 0 0 s).toInt ≤ 99 := fun s hs => by
      have a := (g2 (by omega) s hs).2
      have a : t s ≤ 99 := a
      have e : updL M 1 t 31 0 0 s = oN (t s) := by rcases (show s = 0 ∨ s = 1 ∨ s = 2 by omega) with h | h | h <;> subst h <;> rfl
      rw [e]
      exact oN_b (lo := 0) (hi := 99) (by omega) a (by omega)
    exact ⟨⟨⟨p1, p2, p3, p4, b, p6⟩, h4, h10, h11, h16⟩, rfl, rfl⟩
  · have b : ∀ s, s < 3 → 0 ≤ (updL M 2 t 32 0 0 s).toInt ∧ (updL M 2 t 32 0 0 s).toInt ≤ 100 := fun s hs => by
      have a := (g2 (by omega) s hs).2
      have a : t s ≤ 100 := a
      have e : updL M 2 t 32 0 0 s = oN (t s) := by rcases (show s = 0 ∨ s = 1 ∨ s = 2 by omega) with h | h | h <;> subst h <;> rfl
      rw [e]
      exact oN_b (lo := 0) (hi := 100) (by omega) a (by omega)
    exact ⟨⟨⟨p1, p2, p3, p4, p5, b⟩, h4, h10, h11, h16⟩, rfl, rfl⟩
  · exact ⟨⟨⟨p1, p2, p3, p4, p5, p6⟩, h4, h10, h11, h16⟩, rfl, rfl⟩
  · exact ⟨⟨⟨p1, p2, p3, p4, p5, p6⟩, h4, h10, h11, h16⟩, rfl, rfl⟩
  · exact ⟨⟨⟨p1, p2, p3, p4, p5, p6⟩, h4, h10, h11, h16⟩, rfl, rfl⟩
  · have a : t 0 ≤ 20 := (g2 (by omega) 0 (by decide)).2
    exact ⟨⟨⟨p1, p2, oN_b (lo := 0) (hi := 20) (by omega) a (by omega), p4, p5, p6⟩, h4, h10, h11, h16⟩, rfl, rfl⟩
  · exact ⟨⟨⟨p1, p2, p3, p4, p5, p6⟩, h4, h10, h11, h16⟩, rfl, rfl⟩
  · have a1 : t 1 ≤ Rg M - 1 := (g2 (by omega) 1 (by decide)).2
    have a2 : t 2 ≤ 500 := (g2 (by omega) 2 (by decide)).2
    show RPm (pou M t) ∧ Rg (pou M t) = Rg M ∧ Ly (pou M t) = Ly M
    unfold pou
    by_cases c12 : (12 : Int32) ≤ M 30 12 0 0
    · rw [if_pos c12]
      exact ⟨hM, rfl, rfl⟩
    · rw [if_neg c12]
      obtain ⟨n, n1, n2, n3⟩ := p4
      rw [n2] at c12 ⊢
      have hn : n < 12 := by
        apply Classical.byContradiction
        intro q
        exact c12 (yle (a := 12) (by omega) (by omega))
      rw [oN_n (show n < 2147483648 by omega)]
      refine ⟨⟨⟨p1, p2, p3, ⟨n + 1, by omega, ?_, fun k hk => ?_⟩, p5, p6⟩, h4, h10, h11, h16⟩, rfl, rfl⟩
      · rw [fu_s, oN_1]
      · have m35 : fu (fu (fu (fu M 34 0 0 n (oN (t 0))) 35 0 0 n (oN (t 1))) 36 0 0 n (oN (t 2))) 30 12 0 0 (oN n + 1) 35 0 0 k = if k = n then oN (t 1) else M 35 0 0 k := by
          rw [fu_n _ _ _ _ _ _ (by omega), fu_n _ _ _ _ _ _ (by omega), fu_a, fu_n _ _ _ _ _ _ (by omega)]
          by_cases h : k = n
          · rw [if_pos ⟨rfl, rfl, rfl, h⟩, if_pos h]
          · rw [if_neg (by omega), if_neg h]
        have m36 : fu (fu (fu (fu M 34 0 0 n (oN (t 0))) 35 0 0 n (oN (t 1))) 36 0 0 n (oN (t 2))) 30 12 0 0 (oN n + 1) 36 0 0 k = if k = n then oN (t 2) else M 36 0 0 k := by
          rw [fu_n _ _ _ _ _ _ (by omega), fu_a, fu_n _ _ _ _ _ _ (by omega), fu_n _ _ _ _ _ _ (by omega)]
          by_cases h : k = n
          · rw [if_pos ⟨rfl, rfl, rfl, h⟩, if_pos h]
          · rw [if_neg (by omega), if_neg h]
        have eR : Rg (fu (fu (fu (fu M 34 0 0 n (oN (t 0))) 35 0 0 n (oN (t 1))) 36 0 0 n (oN (t 2))) 30 12 0 0 (oN n + 1)) = Rg M := rfl
        rw [m35, m36, eR]
        by_cases h : k = n
        · rw [if_pos h, if_pos h, oN_i (show t 1 < 2147483648 by omega), oN_i (show t 2 < 2147483648 by omega)]
          have := p1.2
          omega
        · rw [if_neg h, if_neg h]
          exact n3 k (by omega)
  · exact ⟨⟨⟨p1, p2, p3, ⟨0, by omega, rfl, fun k hk => absurd hk (by omega)⟩, p5, p6⟩, h4, h10, h11, h16⟩, rfl, rfl⟩
  · have a : t 0 ≤ 10 := (g2 (by omega) 0 (by decide)).2
    exact ⟨⟨⟨p1, p2, p3, p4, p5, p6⟩, oN_b (lo := 0) (hi := 10) (by omega) a (by omega), h10, h11, h16⟩, rfl, rfl⟩
  · have a : t 0 ≤ 100 := (g2 (by omega) 0 (by decide)).2
    exact ⟨⟨⟨p1, p2, p3, p4, p5, p6⟩, h4, oN_b (lo := 0) (hi := 100) (by omega) a (by omega), h11, h16⟩, rfl, rfl⟩
  · have a := g2 (by omega) 0 (by decide)
    have a : 1 ≤ t 0 ∧ t 0 ≤ 20 := a
    exact ⟨⟨⟨p1, p2, p3, p4, p5, p6⟩, h4, h10, oN_b (lo := 1) (hi := 20) a.1 a.2 (by omega), h16⟩, rfl, rfl⟩
  · have a := g2 (by omega) 0 (by decide)
    have a : 1 ≤ t 0 ∧ t 0 ≤ 60 := a
    exact ⟨⟨⟨p1, p2, p3, p4, p5, p6⟩, h4, h10, h11, ⟨t 0, a.1, a.2, rfl⟩⟩, rfl, rfl⟩
  · exact ⟨⟨⟨p1, p2, p3, p4, p5, p6⟩, h4, h10, h11, h16⟩, rfl, rfl⟩
theorem rpm_s : ∀ (ls : List La) {M : St}, RPm M → GLs ls (Rg M) (Ly M) → RPm (updS M ls)
  | [], _, h, _ => h
  | a :: ls, M, h, hg => by
    obtain ⟨g1, g2⟩ := hg
    obtain ⟨r1, r2, r3⟩ := rpm_upd h g1
    exact rpm_s ls r1 (by rw [r2, r3]; exact g2)
end RU
def lp_X0_plan : Nat → St → Int32 → Option (St × Int32)
  | 0, _, _ => none
  | m + 1, F, x => if F 16 1 0 0 ≤ x then some (F, x) else og (vpb x 10) (ob (ln_run F x.toNatClampNeg) (fun F1 => lp_X0_plan m F1 (x + 1)))
theorem lp_X0_plan_s {m : Nat} {F : St} {x : Int32} : lp_X0_plan (m + 1) F x = if F 16 1 0 0 ≤ x then some (F, x) else og (vpb x 10) (ob (ln_run F x.toNatClampNeg) (fun F1 => lp_X0_plan m F1 (x + 1))) := rfl
theorem Crn.rc {C C2 : St} {i so : Nat} {t : Nat → Nat} (h : Crn C C2) (hr : RC C i so t) : RC C2 i so t := by
  obtain ⟨a, b, c, d, e⟩ := hr
  have u : ∀ k p y j, (k = 27 ∨ k = 28 ∨ k = 17) → C2 k p y j = C k p y j := fun k p y j q => h k p y j (by omega) (by omega) (by omega) (by omega) (by omega) (by omega) (by omega)
  exact ⟨by rw [u _ _ _ _ (by omega)]; exact a, by rw [u _ _ _ _ (by omega)]; exact b, by rw [u _ _ _ _ (by omega)]; exact c, by rw [u _ _ _ _ (by omega)]; exact d, fun j hj => by rw [u _ _ _ _ (by omega)]; exact e j hj⟩
theorem rpm_12 {M : St} (h : RPm M) : ∃ c, c ≤ 12 ∧ M 30 12 0 0 = oN c := by
  obtain ⟨⟨-, -, -, ⟨n, n1, n2, -⟩, -⟩, -⟩ := h
  exact ⟨n, n1, n2⟩
theorem c_planlp : ∀ (ls : List La) m C M i, i + ls.length ≤ 10 → ls.length < m → ParX C M → RPm M → GLs ls (Rg M) (Ly M) → C 16 1 0 0 = oN (i + ls.length) → (∀ j a, ls[j]? = some a → RC C (i + j) a.1 a.2) → Ok (lp_X0_plan m C (oN i)) (fun r => ParX r.1 (updS M ls) ∧ Crn C r.1)
  | [], m, C, M, i, hi, hm, hP, hM, hG, h1, hrow => by
    obtain ⟨m', rfl⟩ : ∃ m', m = m' + 1 := ⟨m - 1, by omega⟩
    rw [lp_X0_plan_s, h1]
    exact ok_itp (yle (by rw [List.length_nil]; omega) (by omega)) (ok_some ⟨hP, fun _ _ _ _ _ _ _ _ _ _ _ => rfl⟩)
  | a :: ls, m, C, M, i, hi, hm, hP, hM, hG, h1, hrow => by
    rw [List.length_cons] at hi hm h1
    obtain ⟨m', rfl⟩ : ∃ m', m = m' + 1 := ⟨m - 1, by omega⟩
    obtain ⟨g1, g2⟩ := hG
    obtain ⟨r1, r2, r3⟩ := rpm_upd hM g1
    rw [lp_X0_plan_s, h1, oN_n (show i < 2147483648 by omega)]
    have ha := hrow 0 a rfl
    rw [Nat.add_zero] at ha
    refine ok_itn (nle (by omega) (by omega)) (ok_og (oN_vp (by omega) (by omega)) (ok_ob (c_run hP (rpm_12 hM) g1 hM.1.1.2 hM.1.2.1.2 ha) (fun C1 h => ?_)))
    obtain ⟨k1, k2⟩ := h
    rw [oN_1]
    refine ok_mono (c_planlp ls m' C1 (updL M a.1 a.2) (i + 1) (by omega) (by omega) k1 r1 (by rw [r2, r3]; exact g2) ?_ (fun j b hj => ?_)) (fun r hr => ⟨hr.1, fun k p y j q1 q2 q3 q4 q5 q6 q7 => by rw [hr.2 k p y j q1 q2 q3 q4 q5 q6 q7]; exact k2 k p y j q1 q2 q3 q4 q5 q6 q7⟩)
    · rw [k2 16 1 0 0 (by omega) (by omega) (by omega) (by omega) (by omega) (by omega) (by omega), h1]
      congr 1
      omega
    · have := hrow (j + 1) b (by rw [List.getElem?_cons_succ]; exact hj)
      rw [show i + (j + 1) = i + 1 + j by omega] at this
      exact k2.rc this
theorem m_planlp : ∀ (ls : List La) m H i, i + ls.length ≤ 10 → ls.length < m → RPm H → GLs ls (Rg H) (Ly H) → H 30 26 0 0 = oN (i + ls.length) → (∀ j a, ls[j]? = some a → RM H (i + j) a.1 a.2) → Ok (lp_X8_plan_12 m H (oN i)) (fun r => r.1 = updS H ls)
  | [], m, H, i, hi, hm, hM, hG, h1, hrow => by
    obtain ⟨m', rfl⟩ : ∃ m', m = m' + 1 := ⟨m - 1, by omega⟩
    rw [lp_X8_plan_12_s, h1]
    exact ok_itp (yle (by rw [List.length_nil]; omega) (by omega)) (ok_some rfl)
  | a :: ls, m, H, i, hi, hm, hM, hG, h1, hrow => by
    rw [List.length_cons] at hi hm h1
    obtain ⟨m', rfl⟩ : ∃ m', m = m' + 1 := ⟨m - 1, by omega⟩
    obtain ⟨g1, g2⟩ := hG
    obtain ⟨r1, r2, r3⟩ := rpm_upd hM g1
    have e6 : (6 : Int32) * oN i = oN (6 * i) := (Int32.ofNat_mul 6 i).symm
    have ha := hrow 0 a rfl
    rw [Nat.add_zero] at ha
    rw [lp_X8_plan_12_s, h1, e6, m_doLine (by omega) ha g1 hM.1.1.2 hM.1.2.1.2 (rpm_12 hM), ob_s, oN_1]
    refine ok_itn (nle (by omega) (by omega)) (m_planlp ls m' (updL H a.1 a.2) (i + 1) (by omega) (by omega) r1 (by rw [r2, r3]; exact g2) ?_ (fun j b hj => ?_))
    · rw [upd_o (by unfold num; omega), h1]
      congr 1
      omega
    · have := hrow (j + 1) b (by rw [List.getElem?_cons_succ]; exact hj)
      rw [show i + (j + 1) = i + 1 + j by omega] at this
      exact ⟨by rw [upd_o (by unfold num; omega)]; exact this.1, fun q hq => by rw [upd_o (by unfold num; omega)]; exact this.2 q hq⟩
