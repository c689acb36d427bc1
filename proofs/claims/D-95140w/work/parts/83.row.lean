/-! A LINE BECOMES ONE OF THE WORLD -/
set_option maxRecDepth 100000
abbrev dL (dA : WK) (L : Nat → Nat → Prop) : WK := (dA.1, dA.2.1, dA.2.2.1, dA.2.2.2.1, L)
def aR (a : Ix → Nat) (i z zt : Nat) : Ix → Nat := fun x => if x.1 = 27 ∧ x.2.1 = i then z else if x.1 = 28 ∧ x.2.1 = i then zt else a x
def LR (L : Nat → Nat → Prop) (i n : Nat) : Nat → Nat → Prop := fun k j => if k = 27 ∧ j = i then True else if k = 28 ∧ j = i then n ≠ 0 else L k j
theorem wc_cg {dA : WK} {L : Nat → Nat → Prop} {a a2 : Ix → Nat} {F F2 : St} {k i j : Nat} (hF : ∀ p i j, F2 k p i j = F k p i j) (ha : ∀ k2 i j, k2 ≠ 27 → k2 ≠ 28 → a2 (k2, i, j) = a (k2, i, j)) (h1 : k ≠ 17) (h2 : k ≠ 27) (h3 : k ≠ 28) : wc (dL dA L) a2 F2 k i j = wc dA a F k i j := by
  have ga0 : ∀ i j, a2 (0, i, j) = a (0, i, j) := fun i j => ha 0 i j (by decide) (by decide)
  have ga1 : ∀ i j, a2 (1, i, j) = a (1, i, j) := fun i j => ha 1 i j (by decide) (by decide)
  have ga2 : ∀ i j, a2 (2, i, j) = a (2, i, j) := fun i j => ha 2 i j (by decide) (by decide)
  have ga3 : ∀ i j, a2 (3, i, j) = a (3, i, j) := fun i j => ha 3 i j (by decide) (by decide)
  have ga4 : ∀ i j, a2 (4, i, j) = a (4, i, j) := fun i j => ha 4 i j (by decide) (by decide)
  have ga5 : ∀ i j, a2 (5, i, j) = a (5, i, j) := fun i j => ha 5 i j (by decide) (by decide)
  have ga6 : ∀ i j, a2 (6, i, j) = a (6, i, j) := fun i j => ha 6 i j (by decide) (by decide)
  have ga7 : ∀ i j, a2 (7, i, j) = a (7, i, j) := fun i j => ha 7 i j (by decide) (by decide)
  have ga8 : ∀ i j, a2 (8, i, j) = a (8, i, j) := fun i j => ha 8 i j (by decide) (by decide)
  have ga9 : ∀ i j, a2 (9, i, j) = a (9, i, j) := fun i j => ha 9 i j (by decide) (by decide)
  have ga10 : ∀ i j, a2 (10, i, j) = a (10, i, j) := fun i j => ha 10 i j (by decide) (by decide)
  have ga11 : ∀ i j, a2 (11, i, j) = a (11, i, j) := fun i j => ha 11 i j (by decide) (by decide)
  have ga12 : ∀ i j, a2 (12, i, j) = a (12, i, j) := fun i j => ha 12 i j (by decide) (by decide)
  have ga13 : ∀ i j, a2 (13, i, j) = a (13, i, j) := fun i j => ha 13 i j (by decide) (by decide)
  have ga14 : ∀ i j, a2 (14, i, j) = a (14, i, j) := fun i j => ha 14 i j (by decide) (by decide)
  have ga15 : ∀ i j, a2 (15, i, j) = a (15, i, j) := fun i j => ha 15 i j (by decide) (by decide)
  have ga16 : ∀ i j, a2 (16, i, j) = a (16, i, j) := fun i j => ha 16 i j (by decide) (by decide)
  have ga17 : ∀ i j, a2 (17, i, j) = a (17, i, j) := fun i j => ha 17 i j (by decide) (by decide)
  have ga18 : ∀ i j, a2 (18, i, j) = a (18, i, j) := fun i j => ha 18 i j (by decide) (by decide)
  have ga19 : ∀ i j, a2 (19, i, j) = a (19, i, j) := fun i j => ha 19 i j (by decide) (by decide)
  have ga20 : ∀ i j, a2 (20, i, j) = a (20, i, j) := fun i j => ha 20 i j (by decide) (by decide)
  have ga21 : ∀ i j, a2 (21, i, j) = a (21, i, j) := fun i j => ha 21 i j (by decide) (by decide)
  have ga22 : ∀ i j, a2 (22, i, j) = a (22, i, j) := fun i j => ha 22 i j (by decide) (by decide)
  have ga23 : ∀ i j, a2 (23, i, j) = a (23, i, j) := fun i j => ha 23 i j (by decide) (by decide)
  have ga24 : ∀ i j, a2 (24, i, j) = a (24, i, j) := fun i j => ha 24 i j (by decide) (by decide)
  have ga25 : ∀ i j, a2 (25, i, j) = a (25, i, j) := fun i j => ha 25 i j (by decide) (by decide)
  have ga26 : ∀ i j, a2 (26, i, j) = a (26, i, j) := fun i j => ha 26 i j (by decide) (by decide)
  have ga31 : ∀ i j, a2 (31, i, j) = a (31, i, j) := fun i j => ha 31 i j (by decide) (by decide)
  have ga32 : ∀ i j, a2 (32, i, j) = a (32, i, j) := fun i j => ha 32 i j (by decide) (by decide)
  have ga33 : ∀ i j, a2 (33, i, j) = a (33, i, j) := fun i j => ha 33 i j (by decide) (by decide)
  have ga34 : ∀ i j, a2 (34, i, j) = a (34, i, j) := fun i j => ha 34 i j (by decide) (by decide)
  have ga35 : ∀ i j, a2 (35, i, j) = a (35, i, j) := fun i j => ha 35 i j (by decide) (by decide)
  have ga36 : ∀ i j, a2 (36, i, j) = a (36, i, j) := fun i j => ha 36 i j (by decide) (by decide)
  have ga37 : ∀ i j, a2 (37, i, j) = a (37, i, j) := fun i j => ha 37 i j (by decide) (by decide)
  have ga38 : ∀ i j, a2 (38, i, j) = a (38, i, j) := fun i j => ha 38 i j (by decide) (by decide)
  have ga39 : ∀ i j, a2 (39, i, j) = a (39, i, j) := fun i j => ha 39 i j (by decide) (by decide)
  have ga40 : ∀ i j, a2 (40, i, j) = a (40, i, j) := fun i j => ha 40 i j (by decide) (by decide)
  have ga41 : ∀ i j, a2 (41, i, j) = a (41, i, j) := fun i j => ha 41 i j (by decide) (by decide)
  have ga42 : ∀ i j, a2 (42, i, j) = a (42, i, j) := fun i j => ha 42 i j (by decide) (by decide)
  have ga43 : ∀ i j, a2 (43, i, j) = a (43, i, j) := fun i j => ha 43 i j (by decide) (by decide)
  have ga44 : ∀ i j, a2 (44, i, j) = a (44, i, j) := fun i j => ha 44 i j (by decide) (by decide)
  have ga45 : ∀ i j, a2 (45, i, j) = a (45, i, j) := fun i j => ha 45 i j (by decide) (by decide)
  have ga46 : ∀ i j, a2 (46, i, j) = a (46, i, j) := fun i j => ha 46 i j (by decide) (by decide)
  unfold wc
  split <;> first | (simp only [hF, ga0, ga1, ga2, ga3, ga4, ga5, ga6, ga7, ga8, ga9, ga10, ga11, ga12, ga13, ga14, ga15, ga16, ga17, ga18, ga19, ga20, ga21, ga22, ga23, ga24, ga25, ga26, ga31, ga32, ga33, ga34, ga35, ga36, ga37, ga38, ga39, ga40, ga41, ga42, ga43, ga44, ga45, ga46]; done) | rfl | (exact absurd rfl h1) | (exact absurd rfl h2) | (exact absurd rfl h3)
theorem wV_lt {k i j : Nat} (h : wV (k, i, j)) : k < 47 := by
  by_cases c : k < 47
  · exact c
  · obtain ⟨n, rfl⟩ : ∃ n, k = n + 47 := ⟨k - 47, by omega⟩
    exact absurd h.1 (Nat.not_lt_zero _)
section RW
variable {D : va_G} {dA : WK} {a : Ix → Nat} {F : St} {ln : Ln} {i z zt b : Nat} {H H1 : Heap}
theorem pr2 : pRow F i ln 27 2 i 0 = ln.1 := by unfold pRow; rw [if_neg (by omega), if_pos ⟨rfl, rfl, rfl, rfl⟩]
theorem pr3 : pRow F i ln 27 3 i 0 = ln.2.1 := by unfold pRow; rw [if_neg (by omega), if_neg (by omega), if_pos ⟨rfl, rfl, rfl, rfl⟩]
theorem pr5 : pRow F i ln 27 5 i 0 = oN ln.2.2.1 := by unfold pRow; rw [if_neg (by omega), if_neg (by omega), if_neg (by omega), if_pos ⟨rfl, rfl, rfl, rfl⟩]
theorem pr8 (e : Nat) : pRow F i ln 28 0 i e = ln.2.2.2 e := by unfold pRow; rw [if_neg (by omega), if_neg (by omega), if_neg (by omega), if_neg (by omega), if_pos ⟨rfl, rfl, rfl⟩]
theorem pr_n {k p y j : Nat} (h1 : ¬ (k = 17 ∧ p = 0 ∧ y = 0 ∧ j = i)) (h2 : ¬ ((k = 27 ∨ k = 28) ∧ y = i)) : pRow F i ln k p y j = F k p y j := by unfold pRow; rw [if_neg h1, if_neg (by omega), if_neg (by omega), if_neg (by omega), if_neg (by omega)]
theorem aR7 {j : Nat} : aR a i z zt (27, i, j) = z := if_pos ⟨rfl, rfl⟩
theorem aR8 {j : Nat} : aR a i z zt (28, i, j) = zt := by unfold aR; rw [if_neg (fun h => absurd (show (28 : Nat) = 27 from h.1) (by decide)), if_pos ⟨rfl, rfl⟩]
theorem aRn {k i2 j : Nat} (h : ¬ ((k = 27 ∨ k = 28) ∧ i2 = i)) : aR a i z zt (k, i2, j) = a (k, i2, j) := by
  unfold aR
  rw [if_neg (fun q => h ⟨Or.inl q.1, q.2⟩), if_neg (fun q => h ⟨Or.inr q.1, q.2⟩)]
theorem LRn {L : Nat → Nat → Prop} {n k j : Nat} (h : ¬ ((k = 27 ∨ k = 28) ∧ j = i)) : LR L i n k j = L k j := by
  unfold LR
  rw [if_neg (fun q => h ⟨Or.inl q.1, q.2⟩), if_neg (fun q => h ⟨Or.inr q.1, q.2⟩)]
theorem LR8 {L : Nat → Nat → Prop} {n : Nat} (h : LR L i n 28 i) : n ≠ 0 := by
  unfold LR at h
  rw [if_neg (by omega), if_pos ⟨rfl, rfl⟩] at h
  exact h
theorem LR30 {L : Nat → Nat → Prop} {n : Nat} : LR L i n 30 0 = L 30 0 := LRn (by omega)
theorem wal_o {n k i2 j2 : Nat} (h : ¬ ((k = 27 ∨ k = 28) ∧ i2 = i)) (hl : wal (dL dA (LR dA.2.2.2.2 i n)) (k, i2, j2)) : wal dA (k, i2, j2) := by
  refine ⟨fun q => ?_, fun q => ?_⟩
  · have h1 : LR dA.2.2.2.2 i n k i2 := hl.1 q
    rw [LRn h] at h1
    exact h1
  · have h1 : LR dA.2.2.2.2 i n 30 0 := hl.2 q
    rw [LR30] at h1
    exact h1
theorem lnC_1 (h : ln.2.2.1 ≠ 0) : lnC dA (a (0, 0, 0)) ln z zt = [(z, lnE (a (0, 0, 0)) zt ln.1 ln.2.1), (zt, .inl (dA.1 0, ln.2.2.1, .inl ln.2.2.2))] := by unfold lnC; rw [if_neg h]
theorem row_in (hP : wP D dA a F H) (hD : wD D dA a) (hlb : ∀ x, wV x → wal dA x → a x < b) (hl : va_P D vwCl (lnC dA (a (0, 0, 0)) ln z zt) H) (hd : va_D (fun q => b ≤ q) (lnC dA (a (0, 0, 0)) ln z zt)) (hn : ln.2.2.1 ≤ 5)
    (e1 : va_at D vwCl (a (17, 0, 0), .inl (dA.1 8, 10, .inr (.inr (.inr (.inr (va_up (fun e => if F 17 0 0 e = 0 then none else some (a (27, e, 0))) i (some z))))))) H1) (e3 : ∀ q, q ≠ a (17, 0, 0) → H1[q]? = H[q]?) : wP D (dL dA (LR dA.2.2.2.2 i ln.2.2.1)) (aR a i z zt) (pRow F i ln) H1 := by
  rintro ⟨k, i2, j2⟩ hv hl2
  have hv17 : wV (17, 0, 0) := ⟨by decide, by decide⟩
  have l17 : wal dA (17, 0, 0) := wal_s rfl
  have hb17 := hlb _ hv17 l17
  show va_at D vwCl (aR a i z zt (k, i2, j2), wc (dL dA (LR dA.2.2.2.2 i ln.2.2.1)) (aR a i z zt) (pRow F i ln) k i2 j2) H1
  by_cases c27 : k = 27 ∧ i2 = i
  · obtain ⟨h1, h2⟩ := c27
    subst h1; subst h2
    have hj : j2 = 0 := Nat.lt_one_iff.mp hv.2
    subst hj
    have g := hl 0 _ rfl
    have ez : b ≤ z := hd.2 0 _ rfl
    have eq2 : wc (dL dA (LR dA.2.2.2.2 i2 ln.2.2.1)) (aR a i2 z zt) (pRow F i2 ln) 27 i2 0 = lnE (a (0, 0, 0)) zt ln.1 ln.2.1 := by
      show wln (aR a i2 z zt) (pRow F i2 ln 27 2 i2 0) (pRow F i2 ln 27 3 i2 0) i2 = _
      rw [pr2, pr3]
      unfold wln lnE
      rw [aR8]
      rfl
    rw [aR7, eq2]
    exact g.kept (e3 _ (by show z ≠ _; omega))
  · by_cases c28 : k = 28 ∧ i2 = i
    · obtain ⟨h1, h2⟩ := c28
      subst h1; subst h2
      have hj : j2 = 0 := Nat.lt_one_iff.mp hv.2
      subst hj
      have hne : ln.2.2.1 ≠ 0 := LR8 (show LR dA.2.2.2.2 i2 ln.2.2.1 28 i2 from hl2.1 (Or.inr rfl))
      rw [lnC_1 hne] at hl hd
      have g := hl 1 _ rfl
      have ez : b ≤ zt := hd.2 1 _ rfl
      have eq2 : wc (dL dA (LR dA.2.2.2.2 i2 ln.2.2.1)) (aR a i2 z zt) (pRow F i2 ln) 28 i2 0 = .inl (dA.1 0, ln.2.2.1, .inl ln.2.2.2) := by
        show (.inl (dA.1 0, (pRow F i2 ln 27 5 i2 0).toNatClampNeg, .inl (fun e => pRow F i2 ln 28 0 i2 e)) : va_E) = _
        rw [pr5, oN_n (by omega), show (fun e => pRow F i2 ln 28 0 i2 e) = ln.2.2.2 from funext (fun e => pr8 e)]
      rw [aR8, eq2]
      exact g.kept (e3 _ (by show zt ≠ _; omega))
    · have cn : ¬ ((k = 27 ∨ k = 28) ∧ i2 = i) := by omega
      by_cases c17 : k = 17
      · subst c17
        have hi2 : i2 = 0 := Nat.lt_one_iff.mp hv.1
        have hj2 : j2 = 0 := Nat.lt_one_iff.mp hv.2
        subst hi2; subst hj2
        have ef : (fun e => if pRow F i ln 17 0 0 e = 0 then none else some (aR a i z zt (27, e, 0))) = va_up (fun e => if F 17 0 0 e = 0 then none else some (a (27, e, 0))) i (some z) := by
          funext e
          by_cases he : e = i
          · subst he
            rw [show pRow F e ln 17 0 0 e = 1 from if_pos ⟨rfl, rfl, rfl, rfl⟩, aR7]
            simp [va_up]
          · rw [pr_n (by omega) (by omega), aRn (by omega)]
            simp [va_up, he]
        rw [aRn (by omega)]
        show va_at D vwCl (a (17, 0, 0), .inl (dA.1 8, 10, .inr (.inr (.inr (.inr (fun e => if pRow F i ln 17 0 0 e = 0 then none else some (aR a i z zt (27, e, 0)))))))) H1
        rw [ef]
        exact e1
      · have hl1 := wal_o cn hl2
        have ec : wc (dL dA (LR dA.2.2.2.2 i ln.2.2.1)) (aR a i z zt) (pRow F i ln) k i2 j2 = wc dA a F k i2 j2 := by
          by_cases k27 : k = 27
          · subst k27
            show wln (aR a i z zt) (pRow F i ln 27 2 i2 j2) (pRow F i ln 27 3 i2 j2) i2 = wln a (F 27 2 i2 j2) (F 27 3 i2 j2) i2
            rw [pr_n (by omega) (by omega), pr_n (by omega) (by omega)]
            unfold wln
            rw [aRn (by omega)]
            rfl
          · by_cases k28 : k = 28
            · subst k28
              show (.inl (dA.1 0, (pRow F i ln 27 5 i2 0).toNatClampNeg, .inl (fun e => pRow F i ln 28 0 i2 e)) : va_E) = .inl (dA.1 0, (F 27 5 i2 0).toNatClampNeg, .inl (fun e => F 28 0 i2 e))
              rw [pr_n (by omega) (by omega), show (fun e => pRow F i ln 28 0 i2 e) = (fun e => F 28 0 i2 e) from funext (fun e => pr_n (by omega) (by omega))]
            · exact wc_cg (fun p y j => pr_n (by omega) (by omega)) (fun k2 y j q1 q2 => aRn (by omega)) c17 k27 k28
        rw [aRn cn, ec]
        exact (hP _ hv hl1).kept (e3 _ (fun q => c17 (congrArg Prod.fst (hD.1 _ _ hv hv17 hl1 l17 q))))
/-- an index of the new world: the line, its row, or an old one -/
theorem row_cs {x : Ix} (hv : wV x) (hl : wal (dL dA (LR dA.2.2.2.2 i ln.2.2.1)) x) : (x = (27, i, 0) ∧ aR a i z zt x = z) ∨ (x = (28, i, 0) ∧ ln.2.2.1 ≠ 0 ∧ aR a i z zt x = zt) ∨ (wal dA x ∧ aR a i z zt x = a x) := by
  obtain ⟨k, i2, j2⟩ := x
  by_cases c27 : k = 27 ∧ i2 = i
  · obtain ⟨h1, h2⟩ := c27
    subst h1; subst h2
    have hj : j2 = 0 := Nat.lt_one_iff.mp hv.2
    subst hj
    exact Or.inl ⟨rfl, aR7⟩
  · by_cases c28 : k = 28 ∧ i2 = i
    · obtain ⟨h1, h2⟩ := c28
      subst h1; subst h2
      have hj : j2 = 0 := Nat.lt_one_iff.mp hv.2
      subst hj
      exact Or.inr (Or.inl ⟨rfl, LR8 (show LR dA.2.2.2.2 i2 ln.2.2.1 28 i2 from hl.1 (Or.inr rfl)), aR8⟩)
    · have cn : ¬ ((k = 27 ∨ k = 28) ∧ i2 = i) := by omega
      exact Or.inr (Or.inr ⟨wal_o cn hl, aRn cn⟩)
theorem row_wD (hD : wD D dA a) (hlb : ∀ x, wV x → wal dA x → a x < b) (hd : va_D (fun q => b ≤ q) (lnC dA (a (0, 0, 0)) ln z zt)) : wD D (dL dA (LR dA.2.2.2.2 i ln.2.2.1)) (aR a i z zt) := by
  refine ⟨fun x y hx hy lx ly e => ?_, hD.2⟩
  have hz : b ≤ z := hd.2 0 _ rfl
  have hzt : ln.2.2.1 ≠ 0 → b ≤ zt ∧ z ≠ zt := fun h => by
    rw [lnC_1 h] at hd
    exact ⟨hd.2 1 _ rfl, fun q => absurd (hd.1 0 1 _ _ rfl rfl q) (by decide)⟩
  rcases row_cs (a := a) (z := z) (zt := zt) hx lx with ⟨h1, h2⟩ | ⟨h1, h3, h2⟩ | ⟨h1, h2⟩ <;> rcases row_cs (a := a) (z := z) (zt := zt) hy ly with ⟨g1, g2⟩ | ⟨g1, g3, g2⟩ | ⟨g1, g2⟩ <;> rw [h2, g2] at e
  · rw [h1, g1]
  · exact absurd e (hzt g3).2
  · have := hlb y hy g1; omega
  · exact absurd e.symm (hzt h3).2
  · rw [h1, g1]
  · have := hlb y hy g1; have := hzt h3; omega
  · have := hlb x hx h1; omega
  · have := hlb x hx h1; have := hzt g3; omega
  · exact hD.1 x y hx hy h1 g1 e
theorem row_wA {A : Nat → Prop} {n : Nat} (hA : ∀ q, wA dA a n q → A q) (hbA : ∀ q, b ≤ q → A q) (hd : va_D (fun q => b ≤ q) (lnC dA (a (0, 0, 0)) ln z zt)) : ∀ q, wA (dL dA (LR dA.2.2.2.2 i ln.2.2.1)) (aR a i z zt) n q → A q := by
  rintro q (⟨x, hv, hl, e⟩ | h)
  · rcases row_cs (a := a) (z := z) (zt := zt) hv hl with ⟨h1, h2⟩ | ⟨h1, h3, h2⟩ | ⟨h1, h2⟩
    · rw [h2] at e
      exact hbA q (by have : b ≤ z := hd.2 0 _ rfl; omega)
    · rw [h2] at e
      rw [lnC_1 h3] at hd
      exact hbA q (by have : b ≤ zt := hd.2 1 _ rfl; omega)
    · rw [h2] at e
      exact hA q (Or.inl ⟨x, hv, h1, e⟩)
  · exact hA q (Or.inr h)
end RW
