/-! PURE: a text, by the model -/
set_option maxRecDepth 100000
/-- line i of the model -/
def RM (F : St) (i so : Nat) (t : Nat → Nat) : Prop := F 39 0 0 (6 * i) = oN so ∧ ∀ j, j < cnS so → F 39 0 0 (6 * i + 1 + j) = oN (t j)
def Mr (i : Nat) (G H : St) : Prop := ∀ k p y j, ¬ (k = 30 ∧ 20 ≤ p) → ¬ (k = 39 ∧ 6 * i ≤ j) → H k p y j = G k p y j
def MlP (G : St) (i : Nat) (x : Nat ⊕ List La) : (St × Int32) ⊕ (St × Int32) → Prop
  | .inl r => r.2 = 0 ∧ Mr i G r.1 ∧ ∃ f, x = .inl f ∧ r.1 30 25 0 0 = oN f
  | .inr r => Mr i G r.1 ∧ ((jn (r.1 30 22 0 0) (r.1 30 64 0 0) = -2 ∧ ∃ ls, x = .inr ls ∧ r.1 30 26 0 0 = oN (i + ls.length) ∧ ∀ j a, ls[j]? = some a → RM r.1 (i + j) a.1 a.2) ∨ (jn (r.1 30 22 0 0) (r.1 30 64 0 0) ≠ -2 ∧ ∃ f, x = .inl f ∧ r.1 30 21 0 0 = oN f))
section MR
variable {F G : St} {tx : Nat → Nat} {n rn ly : Nat}
theorem Mr.tt {i : Nat} (h : Mr i G F) (ht : TXm G tx n) : TXm F tx n := by
  obtain ⟨h1, h2, h3, h4⟩ := ht
  exact ⟨h1, trivial, by rw [h 30 18 0 0 (by omega) (by omega)]; exact h3, fun j hj => by rw [h 38 0 0 j (by omega) (by omega)]; exact h4 j hj⟩
theorem rm_keep {i so : Nat} {t : Nat → Nat} {H : St} (h : RM G i so t) (hc : cnS so ≤ 5) (hm : Mr (i + 1) G H) : RM H i so t := by
  refine ⟨?_, fun j hj => ?_⟩
  · rw [hm 39 0 0 _ (by omega) (by omega)]; exact h.1
  · rw [hm 39 0 0 _ (by omega) (by omega)]; exact h.2 j hj
theorem cn_5 (so : Nat) : cnS so ≤ 5 := by
  unfold cnS
  split <;> omega
theorem lg_n (c v : Int64) : (lg_cmp c v = 0) ↔ c = v := lg_cmp_eq c v
theorem m_rdlp : ∀ d m G i p rn ly, i + d + 1 = 10 → d + 1 < m → TXm G tx n → p ≤ n → G 30 20 0 0 = oN p → G 30 26 0 0 = oN i → G 30 28 0 0 = oN rn → G 30 29 0 0 = oN ly → (1 ≤ rn ∧ rn ≤ 4) → (1 ≤ ly ∧ ly ≤ 4) → Ok (lp_X8_isRead_28 m G 1) (MlP G i (rlA tx n d p rn ly)) := by
  intro d
  induction d with
  | zero =>
    intro m G i p rn ly hi hm ht hp h20 h26 h28 h29 hr hy
    obtain ⟨m', rfl⟩ : ∃ m', m = m' + 1 + 1 := ⟨m - 2, by omega⟩
    have h200 := ht.1
    have e6 : (6 : Int32) * oN i = oN (6 * i) := (Int32.ofNat_mul 6 i).symm
    rw [lp_X8_isRead_28_s, h26, e6]
    refine ok_itn n10 (ok_ob2 (m_line (w := 6 * i) ht hp h20 (by omega) h28 h29 hr hy) (fun F16 r q => ?_))
    obtain ⟨-, q0, q1, q2⟩ := q
    have qq : Mvl G F16 (6 * i) := q0
    have q00 : Mr i G F16 := fun k p y j a b => qq k p y j (by omega) (by omega)
    unfold rlA
    cases hn : lnA tx n rn ly p with
    | inl f =>
      obtain ⟨z1, z2⟩ := q1 f hn
      exact ok_itp z1 (ok_some ⟨rfl, q00, f, rfl, z2⟩)
    | inr z =>
      obtain ⟨z1, z2, z3, ⟨z4, z5⟩, z6, z7⟩ := q2 z hn
      have z1 : r = 1 := z1
      subst z1
      have zr : RM F16 i z.1 z.2.1 := ⟨z2, z3⟩
      have hc5 := cn_5 z.1
      refine ok_itn n10 (ok_pl ?_)
      have e26 : F16 30 26 0 0 + 1 = oN (i + 1) := by rw [qq 30 26 0 0 (by omega) (by omega), h26, oN_1]
      rw [e26]
      have m20 : Mr (i + 1) F16 (fu F16 30 26 0 0 (oN (i + 1))) := fun k p y j a b => fu_n _ _ _ _ _ _ (by omega)
      have s20 : fu F16 30 26 0 0 (oN (i + 1)) 30 20 0 0 = oN z.2.2 := by rw [fu_n _ _ _ _ _ _ (by omega)]; exact z4
      have s26 : fu F16 30 26 0 0 (oN (i + 1)) 30 26 0 0 = oN (i + 1) := fu_s _ _ _ _ _ _
      generalize fu F16 30 26 0 0 (oN (i + 1)) = F20 at *
      refine ok_ob (m_token (m20.tt (q00.tt ht)) z5 s20) (fun F22 h22 => ?_)
      obtain ⟨u1, u20, u21, utk, -⟩ := h22
      have utk : jn (F22 30 22 0 0) (F22 30 64 0 0) = tkP tx n z.2.2 := utk
      have v26 : F22 30 26 0 0 = oN (i + 1) := by rw [u1 30 26 0 0 (by omega)]; exact s26
      have m22 : Mr (i + 1) F16 F22 := fun k p y j a b => by rw [u1 k p y j (by omega)]; exact m20 k p y j a b
      rw [utk, v26]
      refine ok_ob (P := fun y => y = 0) (ok_ite (fun _ => ok_itp (yle (a := 10) (by omega) (by omega)) (ok_some rfl)) (fun _ => ok_some rfl)) (fun y hy0 => ?_)
      subst hy0
      rw [lp_X8_isRead_28_s]
      refine ok_itp rfl (ok_some ⟨fun k p y j a b => (m22 k p y j a (by omega)).trans (q00 k p y j a b), ?_⟩)
      show (jn (F22 30 22 0 0) (F22 30 64 0 0) = -2 ∧ _) ∨ (jn (F22 30 22 0 0) (F22 30 64 0 0) ≠ -2 ∧ _)
      rw [utk]
      have k2 : tkP tx n z.2.2 = -2 ↔ n ≤ spS tx n z.2.2 := tk_2 z5
      by_cases c : n ≤ spS tx n z.2.2
      · refine Or.inl ⟨k2.mpr c, [(z.1, z.2.1)], ?_, v26, fun j a hj => ?_⟩
        · show consA _ (if n ≤ spS tx n z.2.2 then .inr [] else .inl (spS tx n z.2.2)) = _
          rw [if_pos c]
          rfl
        · cases j with
          | zero =>
            have hj : some (z.1, z.2.1) = some a := hj
            injection hj with hj
            subst hj
            exact rm_keep zr hc5 m22
          | succ j => exact nomatch hj
      · refine Or.inr ⟨fun q => c (k2.mp q), spS tx n z.2.2, ?_, u21⟩
        show consA _ (if n ≤ spS tx n z.2.2 then .inr [] else .inl (spS tx n z.2.2)) = _
        rw [if_neg c]
        rfl
  | succ d ih =>
    intro m G i p rn ly hi hm ht hp h20 h26 h28 h29 hr hy
    obtain ⟨m', rfl⟩ : ∃ m', m = m' + 1 + 1 := ⟨m - 2, by omega⟩
    have h200 := ht.1
    have e6 : (6 : Int32) * oN i = oN (6 * i) := (Int32.ofNat_mul 6 i).symm
    rw [lp_X8_isRead_28_s, h26, e6]
    refine ok_itn n10 (ok_ob2 (m_line (w := 6 * i) ht hp h20 (by omega) h28 h29 hr hy) (fun F16 r q => ?_))
    obtain ⟨-, q0, q1, q2⟩ := q
    have qq : Mvl G F16 (6 * i) := q0
    have q00 : Mr i G F16 := fun k p y j a b => qq k p y j (by omega) (by omega)
    have hrl : rlA tx n (d + 1) p rn ly = (match lnA tx n rn ly p with
      | .inl f => .inl f
      | .inr z => consA (z.1, z.2.1) (rsA tx n (d + 1) z.2.2 (rnN z.1 z.2.1 rn) (lyN z.1 z.2.1 ly))) := rfl
    rw [hrl]
    cases hn : lnA tx n rn ly p with
    | inl f =>
      obtain ⟨z1, z2⟩ := q1 f hn
      exact ok_itp z1 (ok_some ⟨rfl, q00, f, rfl, z2⟩)
    | inr z =>
      obtain ⟨z1, z2, z3, ⟨z4, z5⟩, z6, z7⟩ := q2 z hn
      have z1 : r = 1 := z1
      subst z1
      have zr : RM F16 i z.1 z.2.1 := ⟨z2, z3⟩
      have hc5 := cn_5 z.1
      obtain ⟨g1, g2⟩ := gl_rn (ln_b hp hn).2 hr hy
      refine ok_itn n10 (ok_pl ?_)
      have e26 : F16 30 26 0 0 + 1 = oN (i + 1) := by rw [qq 30 26 0 0 (by omega) (by omega), h26, oN_1]
      rw [e26]
      have m20 : Mr (i + 1) F16 (fu F16 30 26 0 0 (oN (i + 1))) := fun k p y j a b => fu_n _ _ _ _ _ _ (by omega)
      have s20 : fu F16 30 26 0 0 (oN (i + 1)) 30 20 0 0 = oN z.2.2 := by rw [fu_n _ _ _ _ _ _ (by omega)]; exact z4
      have s26 : fu F16 30 26 0 0 (oN (i + 1)) 30 26 0 0 = oN (i + 1) := fu_s _ _ _ _ _ _
      have s28 : fu F16 30 26 0 0 (oN (i + 1)) 30 28 0 0 = oN (rnN z.1 z.2.1 rn) := by rw [fu_n _ _ _ _ _ _ (by omega)]; exact z6
      have s29 : fu F16 30 26 0 0 (oN (i + 1)) 30 29 0 0 = oN (lyN z.1 z.2.1 ly) := by rw [fu_n _ _ _ _ _ _ (by omega)]; exact z7
      generalize fu F16 30 26 0 0 (oN (i + 1)) = F20 at *
      refine ok_ob (m_token (m20.tt (q00.tt ht)) z5 s20) (fun F22 h22 => ?_)
      obtain ⟨u1, u20, u21, utk, -⟩ := h22
      have utk : jn (F22 30 22 0 0) (F22 30 64 0 0) = tkP tx n z.2.2 := utk
      have v26 : F22 30 26 0 0 = oN (i + 1) := by rw [u1 30 26 0 0 (by omega)]; exact s26
      have m22 : Mr (i + 1) F16 F22 := fun k p y j a b => by rw [u1 k p y j (by omega)]; exact m20 k p y j a b
      have mi : Mr i G F22 := fun k p y j a b => by rw [m22 k p y j a (by omega)]; exact q00 k p y j a b
      rw [utk, v26]
      have k2 : tkP tx n z.2.2 = -2 ↔ n ≤ spS tx n z.2.2 := tk_2 z5
      have hrs : rsA tx n (d + 1) z.2.2 (rnN z.1 z.2.1 rn) (lyN z.1 z.2.1 ly) = if n ≤ spS tx n z.2.2 then .inr [] else if tkP tx n z.2.2 = -3 then rlA tx n d (nxS tx n z.2.2) (rnN z.1 z.2.1 rn) (lyN z.1 z.2.1 ly) else .inl (spS tx n z.2.2) := rfl
      show Ok _ (MlP G i (consA (z.1, z.2.1) (rsA tx n (d + 1) z.2.2 (rnN z.1 z.2.1 rn) (lyN z.1 z.2.1 ly))))
      rw [hrs]
      by_cases c3 : tkP tx n z.2.2 = -3
      · have c : ¬ n ≤ spS tx n z.2.2 := fun q => by
          have := k2.mpr q
          rw [c3] at this
          exact absurd this (by decide)
        rw [if_neg c, if_pos c3]
        refine ok_ob (P := fun y => y = 1) (ok_itp ((lg_n _ _).mpr c3) (ok_itn (nle (a := 10) (by omega) (by omega)) (ok_some rfl))) (fun y hy0 => ?_)
        subst hy0
        refine ok_mono (ih (m' + 1) F22 (i + 1) (nxS tx n z.2.2) _ _ (by omega) (by omega) (mi.tt ht) (nx_le z5) u20 v26 (by rw [u1 30 28 0 0 (by omega)]; exact s28) (by rw [u1 30 29 0 0 (by omega)]; exact s29) g1 g2) (fun s hs => ?_)
        generalize rlA tx n d (nxS tx n z.2.2) (rnN z.1 z.2.1 rn) (lyN z.1 z.2.1 ly) = X at *
        cases s with
        | inl s =>
          obtain ⟨a1, a2, f, a3, a4⟩ := hs
          refine ⟨a1, fun k p y j a b => by rw [a2 k p y j a (by omega)]; exact mi k p y j a b, f, ?_, a4⟩
          rw [a3]
          rfl
        | inr s =>
          obtain ⟨a2, a3⟩ := hs
          refine ⟨fun k p y j a b => by rw [a2 k p y j a (by omega)]; exact mi k p y j a b, ?_⟩
          rcases a3 with ⟨b1, ls, b2, b3, b4⟩ | ⟨b1, f, b2, b3⟩
          · refine Or.inl ⟨b1, (z.1, z.2.1) :: ls, by rw [b2]; rfl, by rw [b3, List.length_cons]; congr 1; omega, fun j a hj => ?_⟩
            cases j with
            | zero =>
              have hj : some (z.1, z.2.1) = some a := hj
              injection hj with hj
              subst hj
              exact rm_keep (rm_keep zr hc5 m22) hc5 a2
            | succ j =>
              rw [List.getElem?_cons_succ] at hj
              have := b4 j a hj
              rw [show i + 1 + j = i + (j + 1) by omega] at this
              exact this
          · exact Or.inr ⟨b1, f, by rw [b2]; rfl, b3⟩
      · rw [if_neg c3]
        refine ok_ob (P := fun y => y = 0) (ok_itn (fun q => c3 ((lg_n _ _).mp q)) (ok_some rfl)) (fun y hy0 => ?_)
        subst hy0
        rw [lp_X8_isRead_28_s]
        refine ok_itp rfl (ok_some ⟨mi, ?_⟩)
        show (jn (F22 30 22 0 0) (F22 30 64 0 0) = -2 ∧ _) ∨ (jn (F22 30 22 0 0) (F22 30 64 0 0) ≠ -2 ∧ _)
        rw [utk]
        by_cases c : n ≤ spS tx n z.2.2
        · rw [if_pos c]
          refine Or.inl ⟨k2.mpr c, [(z.1, z.2.1)], rfl, v26, fun j a hj => ?_⟩
          cases j with
          | zero =>
            have hj : some (z.1, z.2.1) = some a := hj
            injection hj with hj
            subst hj
            exact rm_keep zr hc5 m22
          | succ j => exact nomatch hj
        · rw [if_neg c]
          exact Or.inr ⟨fun q => c (k2.mp q), spS tx n z.2.2, rfl, u21⟩
def MdP (G : St) (x : Nat ⊕ List La) (r : St × Int32) : Prop := Mr 0 G r.1 ∧ ((r.2 = 1 ∧ ∃ ls, x = .inr ls ∧ r.1 30 26 0 0 = oN ls.length ∧ ∀ j a, ls[j]? = some a → RM r.1 j a.1 a.2) ∨ (r.2 = 0 ∧ ∃ f, x = .inl f ∧ r.1 30 25 0 0 = oN f))
theorem m_read (ht : TXm G tx n) (h0 : G 30 0 0 0 = oN rn) (h1 : G 30 1 0 0 = oN ly) (hr : 1 ≤ rn ∧ rn ≤ 4) (hy : 1 ≤ ly ∧ ly ≤ 4) : Ok (fn_X8_isRead G) (MdP G (rlA tx n 9 0 rn ly)) := by
  unfold fn_X8_isRead
  refine ok_pl (ok_pl (ok_pl (ok_pl ?_)))
  rw [fu_n (fu G 30 20 0 0 0) 30 26 0 0 0 (show ¬ (30 = 30 ∧ 0 = 26 ∧ 0 = 0 ∧ 0 = 0) by omega), fu_n G 30 20 0 0 0 (show ¬ (30 = 30 ∧ 0 = 20 ∧ 0 = 0 ∧ 0 = 0) by omega), h0]
  have e1 : fu (fu (fu G 30 20 0 0 0) 30 26 0 0 0) 30 28 0 0 (oN rn) 30 1 0 0 = oN ly := by
    rw [fu_n _ _ _ _ _ _ (by omega), fu_n _ _ _ _ _ _ (by omega), fu_n _ _ _ _ _ _ (by omega), h1]
  rw [e1]
  have u : Mr 0 G (fu (fu (fu (fu G 30 20 0 0 0) 30 26 0 0 0) 30 28 0 0 (oN rn)) 30 29 0 0 (oN ly)) := fun k p y j a b => by
    rw [fu_n _ _ _ _ _ _ (by omega), fu_n _ _ _ _ _ _ (by omega), fu_n _ _ _ _ _ _ (by omega), fu_n _ _ _ _ _ _ (by omega)]
  have u20 : fu (fu (fu (fu G 30 20 0 0 0) 30 26 0 0 0) 30 28 0 0 (oN rn)) 30 29 0 0 (oN ly) 30 20 0 0 = oN 0 := by
    rw [fu_n _ _ _ _ _ _ (by omega), fu_n _ _ _ _ _ _ (by omega), fu_n _ _ _ _ _ _ (by omega), fu_s]; rfl
  have u26 : fu (fu (fu (fu G 30 20 0 0 0) 30 26 0 0 0) 30 28 0 0 (oN rn)) 30 29 0 0 (oN ly) 30 26 0 0 = oN 0 := by
    rw [fu_n _ _ _ _ _ _ (by omega), fu_n _ _ _ _ _ _ (by omega), fu_s]; rfl
  have u28 : fu (fu (fu (fu G 30 20 0 0 0) 30 26 0 0 0) 30 28 0 0 (oN rn)) 30 29 0 0 (oN ly) 30 28 0 0 = oN rn := by
    rw [fu_n _ _ _ _ _ _ (by omega), fu_s]
  have u29 : fu (fu (fu (fu G 30 20 0 0 0) 30 26 0 0 0) 30 28 0 0 (oN rn)) 30 29 0 0 (oN ly) 30 29 0 0 = oN ly := fu_s _ _ _ _ _ _
  generalize fu (fu (fu (fu G 30 20 0 0 0) 30 26 0 0 0) 30 28 0 0 (oN rn)) 30 29 0 0 (oN ly) = F4 at *
  obtain ⟨s, hs, hp⟩ := m_rdlp (tx := tx) (n := n) 9 300 F4 0 0 rn ly (by omega) (by omega) (u.tt ht) (Nat.zero_le _) u20 u26 u28 u29 hr hy
  rw [hs]
  cases s with
  | inl s =>
    obtain ⟨F1, r⟩ := s
    obtain ⟨a1, a2, f, a3, a4⟩ := hp
    have a1 : r = 0 := a1
    subst a1
    exact ok_some (r := (F1, 0)) ⟨fun k p y j a b => (a2 k p y j a b).trans (u k p y j a b), Or.inr ⟨rfl, f, a3, a4⟩⟩
  | inr s =>
    obtain ⟨F1, r⟩ := s
    obtain ⟨a2, a3⟩ := hp
    have a2 : Mr 0 F4 F1 := a2
    show Ok (if (lg_cmp (jn (F1 30 22 0 0) (F1 30 64 0 0)) (-2 : Int64)) = 0 then some (F1, (1 : Int32)) else ob2 (fn_X8_fails F1) (fun F31 r32 => if r32 = 0 then some (F31, (0 : Int32)) else some (F31, (1 : Int32)))) _
    rcases a3 with ⟨b1, ls, b2, b3, b4⟩ | ⟨b1, f, b2, b3⟩
    · refine ok_itp ((lg_n _ _).mpr b1) (ok_some ⟨fun k p y j a b => (a2 k p y j a b).trans (u k p y j a b), Or.inl ⟨rfl, ls, b2, ?_, fun j a hj => ?_⟩⟩)
      · rw [Nat.zero_add] at b3; exact b3
      · have := b4 j a hj
        rw [Nat.zero_add] at this
        exact this
    · have e : fn_X8_fails F1 = some (fu F1 30 25 0 0 (F1 30 21 0 0), 0) := rfl
      rw [e, ob2_s]
      refine ok_itn (fun q => b1 ((lg_n _ _).mp q)) (ok_itp rfl (ok_some ⟨fun k p y j a b => ?_, Or.inr ⟨rfl, f, b2, ?_⟩⟩))
      · show fu F1 30 25 0 0 (F1 30 21 0 0) k p y j = _
        rw [fu_n _ _ _ _ _ _ (by omega), a2 k p y j a b]
        exact u k p y j a b
      · show fu F1 30 25 0 0 (F1 30 21 0 0) 30 25 0 0 = _
        rw [fu_s]
        exact b3
end MR
