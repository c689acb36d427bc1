/-! PURE: fault -/
set_option maxRecDepth 100000
def fn_X0_fault (F : St) : Option (St × Int32) := match fn_X4_read F with
  | none => none
  | some (F1, none) => some (F1, F1 16 3 0 0)
  | some (F1, some _) => some (F1, -1)
section FA
variable {F G : St} {tx : Nat → Nat} {n : Nat}
theorem oN_m1 {f : Nat} (h : f < 2147483648) : oN f ≠ -1 := fun q => by
  have h2 : (oN f).toInt = f := oN_i h
  rw [q] at h2
  have : (-1 : Int32).toInt = -1 := rfl
  omega
theorem rl_le {d p rn ly f : Nat} (hp : p ≤ n) (h : rlA tx n d p rn ly = .inl f) : f ≤ n := by
  have ns : ∀ (bd : Nat → (Nat → Nat) → Nat × Nat) m k t p f, p ≤ n → nsA tx n bd m k t p = .inl f → f ≤ n := by
    intro bd m
    induction m with
    | zero => intro k t p f _ h; exact nomatch h
    | succ m ih =>
      intro k t p f hp h
      have hns : nsA tx n bd (m + 1) k t p = (match numA tx n p (bd k t).1 (bd k t).2 with
        | none => .inl (spS tx n p)
        | some v => nsA tx n bd m (k + 1) (upN t k v) (nxS tx n p)) := rfl
      rw [hns] at h
      cases hn : numA tx n p (bd k t).1 (bd k t).2 with
      | none =>
        rw [hn] at h
        injection h with h
        have := sp_le (tx := tx) hp
        omega
      | some v =>
        rw [hn] at h
        exact ih _ _ _ _ (nx_le hp) h
  have ln : ∀ p rn ly f, p ≤ n → lnA tx n rn ly p = .inl f → f ≤ n := by
    intro p rn ly f hp h
    by_cases h15 : srtS (tkP tx n p) = 15
    · unfold lnA at h
      rw [if_pos h15] at h
      injection h with h
      have := sp_le (tx := tx) hp
      omega
    · rw [ln_w rfl h15] at h
      cases hn : nsA tx n (bdS (srtS (tkP tx n p)) rn ly) (cnS (srtS (tkP tx n p))) 0 (fun _ => 0) (nxS tx n p) with
      | inr y => rw [hn] at h; exact nomatch h
      | inl g =>
        rw [hn] at h
        have h : Sum.inl g = Sum.inl f := h
        injection h with h
        subst h
        exact ns _ _ _ _ _ _ (nx_le hp) hn
  have rs : ∀ d q rn ly f, q ≤ n → rsA tx n d q rn ly = .inl f → f ≤ n := by
    intro d
    induction d with
    | zero =>
      intro q rn ly f hq h
      unfold rsA at h
      have := sp_le (tx := tx) hq
      split at h
      · exact nomatch h
      · injection h with h
        omega
    | succ d ih =>
      intro q rn ly f hq h
      unfold rsA at h
      have := sp_le (tx := tx) hq
      by_cases c : n ≤ spS tx n q
      · rw [if_pos c] at h; exact nomatch h
      · rw [if_neg c] at h
        by_cases c2 : tkP tx n q = -3
        · rw [if_pos c2] at h
          cases hl : lnA tx n rn ly (nxS tx n q) with
          | inl g =>
            rw [hl] at h
            have h : Sum.inl g = Sum.inl f := h
            injection h with h
            subst h
            exact ln _ _ _ _ (nx_le hq) hl
          | inr z =>
            rw [hl] at h
            exact ih _ _ _ _ (ln_b (nx_le hq) hl).1 (cons_l h)
        · rw [if_neg c2] at h
          injection h with h
          omega
  unfold rlA at h
  cases hl : lnA tx n rn ly p with
  | inl g =>
    rw [hl] at h
    have h : Sum.inl g = Sum.inl f := h
    injection h with h
    subst h
    exact ln _ _ _ _ hp hl
  | inr z =>
    rw [hl] at h
    exact rs _ _ _ _ _ (ln_b hp hl).1 (cons_l h)
/-- what the class reads in a text -/
theorem c_fault (ht : TX G tx n) {rn ly : Nat} (h0 : G 0 0 0 0 = oN rn) (h1 : G 0 1 0 0 = oN ly) (hr : 1 ≤ rn ∧ rn ≤ 4) (hy : 1 ≤ ly ∧ ly ≤ 4) : Ok (fn_X0_fault G) (fun r => Rk 0 G r.1 ∧ ((∃ f, f ≤ 200 ∧ rlA tx n 9 0 rn ly = .inl f ∧ r.2 = oN f) ∨ (∃ ls, rlA tx n 9 0 rn ly = .inr ls ∧ r.2 = -1 ∧ r.1 16 1 0 0 = oN ls.length ∧ ∀ j a, ls[j]? = some a → RC r.1 j a.1 a.2))) := by
  obtain ⟨⟨F1, y⟩, e, h⟩ := c_read ht h0 h1 hr hy
  obtain ⟨a1, a2, a3⟩ := h
  unfold fn_X0_fault
  rw [e]
  cases hx : rlA tx n 9 0 rn ly with
  | inl f =>
    obtain ⟨b1, b2⟩ := a2 f hx
    have b1 : y = none := b1
    subst b1
    have hf := rl_le (Nat.zero_le _) hx
    have := ht.1
    exact ok_some (r := (F1, F1 16 3 0 0)) ⟨a1, Or.inl ⟨f, by omega, rfl, b2⟩⟩
  | inr ls =>
    obtain ⟨b1, b2, b3⟩ := a3 ls hx
    have b1 : y = some () := b1
    subst b1
    refine ok_some (r := (F1, -1)) ⟨a1, Or.inr ⟨ls, rfl, rfl, ?_, fun j a hj => ?_⟩⟩
    · rw [Nat.zero_add] at b2; exact b2
    · have := b3 j a hj
      rw [Nat.zero_add] at this
      exact this
theorem Rel.txt (hr : Rel F) : ∃ tx n, TX F tx n := tx_of hr.2.2.2.2
theorem Rel.rg (hr : Rel F) : F 0 0 0 0 = oN (Rg F) ∧ F 0 1 0 0 = oN (Ly F) ∧ (1 ≤ Rg F ∧ Rg F ≤ 4) ∧ (1 ≤ Ly F ∧ Ly F ≤ 4) ∧ F 30 0 0 0 = oN (Rg F) ∧ F 30 1 0 0 = oN (Ly F) := by
  obtain ⟨⟨hp, hq, -⟩, -⟩ := hr
  exact ⟨by rw [hq.1]; exact hp.1.1, by rw [hq.2.1]; exact hp.2.1.1, hp.1.2, hp.2.1.2, hp.1.1, hp.2.1.1⟩
theorem sm_read {F1 F2 : St} (hr : Rel F) (h1 : Rk 0 F F1) (h2 : Mr 0 F1 F2) : Sm F F2 := by
  have o : ∀ k p y j, ¬ (k = 16 ∨ k = 17 ∨ k = 27 ∨ k = 28 ∨ k = 39 ∨ (k = 30 ∧ 20 ≤ p)) → F2 k p y j = F k p y j := fun k p y j a => by
    rw [h2 k p y j (by omega) (by omega)]
    exact h1 k p y j (by omega) (by omega) (by omega)
  obtain ⟨b, hb⟩ := hr.2.2.2.1 3 (by omega)
  refine ⟨fun k p y j a => o k p y j (fun q => a (by unfold scr; omega)), fun j _ => o 40 0 0 j (by omega), b, rb_c (by omega) hb (fun k p i j a1 a2 a3 => o k p i j (by omega)) (fun k p y j hl => o k p y j (by unfold bl at hl; omega))⟩
theorem bo_fault : Bo fn_X0_fault fn_X8_fault := by
  intro F hr
  obtain ⟨tx, n, ht⟩ := hr.txt
  obtain ⟨g1, g2, g3, g4, g5, g6⟩ := hr.rg
  refine ok_mono (c_fault ht g1 g2 g3 g4) (fun r h => ?_)
  obtain ⟨F1, y⟩ := r
  obtain ⟨a1, a2⟩ := h
  have a1 : Rk 0 F F1 := a1
  show Ok (fn_X8_fault F1) _
  unfold fn_X8_fault
  refine ok_ob2 (m_read (a1.tt ht).m (by rw [a1 30 0 0 0 (by omega) (by omega) (by omega)]; exact g5) (by rw [a1 30 1 0 0 (by omega) (by omega) (by omega)]; exact g6) g3 g4) (fun F2 r2 h2 => ?_)
  obtain ⟨b1, b2⟩ := h2
  have b1 : Mr 0 F1 F2 := b1
  have hR : Rel F2 := Rel_sm hr (sm_read hr a1 b1)
  rcases a2 with ⟨f, -, c1, c2⟩ | ⟨ls, c1, c2, -, -⟩
  · rcases b2 with ⟨d1, ls, d2, -⟩ | ⟨d1, f2, d2, d3⟩
    · rw [c1] at d2; exact nomatch d2
    · rw [c1] at d2
      injection d2 with d2
      subst d2
      refine ok_itp d1 (ok_some ⟨?_, hR⟩)
      have c2 : y = oN f := c2
      have d3 : F2 30 25 0 0 = oN f := d3
      show F2 30 25 0 0 = y
      rw [c2, d3]
  · rcases b2 with ⟨d1, l2, d2, -⟩ | ⟨d1, f2, d2, d3⟩
    · have d1 : r2 = 1 := d1
      subst d1
      exact ok_itn n10 (ok_some ⟨c2.symm, hR⟩)
    · rw [c1] at d2; exact nomatch d2
end FA
