/-! PURE: what stays true of a bed, tick by tick -/
set_option maxRecDepth 100000
def IV (F : St) (mu : Int32) (W : Int) (b : Bt) : Prop :=
  (∀ x, x < 16 → ¬ cel F x = true → ∀ g, g < 8 → b g x = 0) ∧
  (∀ x, x < 16 → 0 ≤ (b 0 x).toInt ∧ ∀ s, s < 3 → (0 ≤ (b (2 + s) x).toInt ∧ (b (2 + s) x).toInt ≤ (F 31 0 0 s).toInt * mu.toInt) ∧ 0 ≤ (b (5 + s) x).toInt) ∧
  (0 ≤ (b 8 0).toInt ∧ sm (fun x => (b 0 x).toInt) 16 + (b 8 0).toInt ≤ W) ∧
  (∀ s, s < 3 → 0 ≤ (b 8 (1 + s)).toInt ∧ sm (fun x => (b (2 + s) x).toInt + (b (5 + s) x).toInt) 16 + (b 8 (1 + s)).toInt ≤ 31680)
section IVS
variable {F : St} {mu : Int32} {W : Int} {b : Bt}
theorem IV.w (h : IV F mu W b) {x : Nat} (hx : x < 16) : 0 ≤ (b 0 x).toInt ∧ (b 0 x).toInt ≤ W := by
  have h1 := sm_le (f := fun x => (b 0 x).toInt) (k := x) (n := 16) (fun y hy => (h.2.1 y hy).1) hx
  have h2 := h.2.2.1
  have h3 := (h.2.1 x hx).1
  exact ⟨h3, by
    have h1 : (b 0 x).toInt ≤ sm (fun x => (b 0 x).toInt) 16 := h1
    omega⟩
theorem IV.s (h : IV F mu W b) {x s : Nat} (hx : x < 16) (hs : s < 3) : (b (2 + s) x).toInt + (b (5 + s) x).toInt ≤ 31680 := by
  have h1 := sm_le (f := fun x => (b (2 + s) x).toInt + (b (5 + s) x).toInt) (k := x) (n := 16) (fun y hy => by
    have := (h.2.1 y hy).2 s hs
    show 0 ≤ (b (2 + s) y).toInt + (b (5 + s) y).toInt
    omega) hx
  have h2 := h.2.2.2 s hs
  have h1 : (b (2 + s) x).toInt + (b (5 + s) x).toInt ≤ sm (fun x => (b (2 + s) x).toInt + (b (5 + s) x).toInt) 16 := h1
  omega
theorem IV.wb (hp : PB F) (h : IV F mu W b) (hW : W ≤ 400000) : WB F b := fun x hx => by
  have := h.w (cel_lt hp hx)
  omega
theorem iv_pour (hp : PB F) (h : IV F mu W b) (hW : W + 6000 ≤ 400000) : IV F mu (W + 6000) (pourS F b) := by
  have hR := hp.1.2
  have hL := hp.2.1.2
  obtain ⟨N, hn, hn2, hn3⟩ := hp.2.2.2.1
  have hcn : (F 30 12 0 0).toNatClampNeg = N := by rw [hn2, oN_n (by omega)]
  have hsum := h.2.2.1
  have key : ∀ n, n ≤ N → (∀ x, x < 16 → 0 ≤ (pS F (b 8 4) n (b 0) x).toInt) ∧ sm (fun x => (pS F (b 8 4) n (b 0) x).toInt) 16 ≤ sm (fun x => (b 0 x).toInt) 16 + 500 * n ∧ ∀ x, x < 16 → ¬ cel F x = true → pS F (b 8 4) n (b 0) x = b 0 x := by
    intro n
    induction n with
    | zero =>
      intro _
      refine ⟨fun x hx => (h.2.1 x hx).1, ?_, fun _ _ _ => rfl⟩
      show sm (fun x => (b 0 x).toInt) 16 ≤ _
      omega
    | succ n ih =>
      intro hnN
      obtain ⟨i1, i2, i3⟩ := ih (by omega)
      obtain ⟨p1, p2⟩ := hn3 n (by omega)
      have hr : (F 35 0 0 n).toNatClampNeg < Rg F := by
        have := cn_i p1.1
        omega
      have hd : 0 ≤ (if F 34 0 0 n = b 8 4 then F 36 0 0 n else 0).toInt ∧ (if F 34 0 0 n = b 8 4 then F 36 0 0 n else 0).toInt ≤ 500 := by
        split
        · exact p2
        · have e : (0 : Int32).toInt = 0 := rfl
          rw [e]
          omega
      have hle := sm_le (f := fun x => (pS F (b 8 4) n (b 0) x).toInt) (k := (F 35 0 0 n).toNatClampNeg) (n := 16) i1 (by omega)
      have hle : (pS F (b 8 4) n (b 0) (F 35 0 0 n).toNatClampNeg).toInt ≤ sm (fun x => (pS F (b 8 4) n (b 0) x).toInt) 16 := hle
      have i0 := i1 (F 35 0 0 n).toNatClampNeg (by omega)
      have e1 : ∀ x, x < 16 → (pS F (b 8 4) (n + 1) (b 0) x).toInt = (fun x => if x = (F 35 0 0 n).toNatClampNeg then (pS F (b 8 4) n (b 0) x).toInt + (if F 34 0 0 n = b 8 4 then F 36 0 0 n else 0).toInt else (pS F (b 8 4) n (b 0) x).toInt) x := by
        intro x hx
        show (if x = (F 35 0 0 n).toNatClampNeg then pS F (b 8 4) n (b 0) x + (if F 34 0 0 n = b 8 4 then F 36 0 0 n else 0) else pS F (b 8 4) n (b 0) x).toInt = (if x = (F 35 0 0 n).toNatClampNeg then (pS F (b 8 4) n (b 0) x).toInt + (if F 34 0 0 n = b 8 4 then F 36 0 0 n else 0).toInt else (pS F (b 8 4) n (b 0) x).toInt)
        by_cases hx2 : x = (F 35 0 0 n).toNatClampNeg
        · rw [if_pos hx2, if_pos hx2, hx2]
          exact i_add (by omega) (by omega)
        · rw [if_neg hx2, if_neg hx2]
      refine ⟨fun x hx => ?_, ?_, fun x hx hc => ?_⟩
      · rw [e1 x hx]
        have := i1 x hx
        show 0 ≤ (if x = (F 35 0 0 n).toNatClampNeg then (pS F (b 8 4) n (b 0) x).toInt + (if F 34 0 0 n = b 8 4 then F 36 0 0 n else 0).toInt else (pS F (b 8 4) n (b 0) x).toInt)
        split
        · omega
        · exact this
      · rw [sm_c e1, sm_u, if_pos (by omega)]
        omega
      · show (if x = (F 35 0 0 n).toNatClampNeg then pS F (b 8 4) n (b 0) x + (if F 34 0 0 n = b 8 4 then F 36 0 0 n else 0) else pS F (b 8 4) n (b 0) x) = b 0 x
        rw [if_neg, i3 x hx hc]
        intro q
        exact hc (cel_i.mpr (by omega))
  obtain ⟨k1, k2, k3⟩ := key N (Nat.le_refl _)
  have e0 : ∀ x, x < 16 → pourS F b 0 x = pS F (b 8 4) N (b 0) x := fun x hx => by
    unfold pourS
    rw [if_pos ⟨rfl, hx⟩, hcn]
  have eg : ∀ g x, g ≠ 0 → pourS F b g x = b g x := fun g x hg => by
    unfold pourS
    rw [if_neg (fun q => hg q.1)]
  refine ⟨fun x hx hc g hg => ?_, fun x hx => ⟨by rw [e0 x hx]; exact k1 x hx, fun s hs => ?_⟩, ⟨?_, ?_⟩, fun s hs => ?_⟩
  · by_cases hg0 : g = 0
    · subst hg0
      rw [e0 x hx, k3 x hx hc]
      exact h.1 x hx hc 0 (by omega)
    · rw [eg g x hg0]
      exact h.1 x hx hc g hg
  · rw [eg _ _ (by omega), eg _ _ (by omega)]
    exact (h.2.1 x hx).2 s hs
  · rw [eg _ _ (by omega)]; exact hsum.1
  · rw [eg 8 0 (by omega), sm_c (fun x hx => by rw [e0 x hx])]
    omega
  · rw [eg 8 _ (by omega), sm_c (g := fun x => (b (2 + s) x).toInt + (b (5 + s) x).toInt) (fun x hx => by rw [eg (2 + s) x (by omega), eg (5 + s) x (by omega)])]
    exact h.2.2.2 s hs
theorem iv_take (hp : PB F) {wm : Int32} (hmu : 0 ≤ mu.toInt ∧ mu.toInt ≤ 20) (hwm : 0 ≤ wm.toInt ∧ wm.toInt ≤ 100) (h : IV F mu W b) : IV F mu W (takeS F wm b) := by
  obtain ⟨-, -, -, -, hg31, hg32⟩ := hp
  have hle : ∀ x s, x < 16 → s < 3 → (b (2 + s) x).toInt ≤ 2000 := fun x s hx hs => by
    have h1 := ((h.2.1 x hx).2 s hs).1.2
    have h2 := hg31 s hs
    have h3 : (F 31 0 0 s).toInt * mu.toInt ≤ 99 * 20 := Int.mul_le_mul h2.2 hmu.2 hmu.1 (by omega)
    omega
  have hby : ∀ x s, x < 16 → s < 3 → 0 ≤ (byS F wm b s x).toInt ∧ (byS F wm b s x).toInt ≤ (b (2 + s) x).toInt := fun x s hx hs => by_I ⟨((h.2.1 x hx).2 s hs).1.1, hle x s hx hs⟩ (hg32 s hs) hwm (h.2.1 x hx).1
  have el : ∀ x s, x < 16 → s < 3 → (takeS F wm b (2 + s) x).toInt = (b (2 + s) x).toInt - (if cel F x = true then (byS F wm b s x).toInt else 0) := fun x s hx hs => by
    unfold takeS
    by_cases hc : cel F x = true
    · rw [if_pos ⟨hc, by omega, by omega⟩, if_pos hc, show 2 + s - 2 = s by omega]
      have := hby x s hx hs
      have := ((h.2.1 x hx).2 s hs).1
      have := hle x s hx hs
      exact i_sub (by omega) (by omega)
    · rw [if_neg (fun q => hc q.1), if_neg (fun q => hc q.1), if_neg hc]
      omega
  have ei : ∀ x s, x < 16 → s < 3 → (takeS F wm b (5 + s) x).toInt = (b (5 + s) x).toInt + (if cel F x = true then (byS F wm b s x).toInt else 0) := fun x s hx hs => by
    unfold takeS
    by_cases hc : cel F x = true
    · rw [if_neg (by omega), if_pos ⟨hc, by omega, by omega⟩, if_pos hc, show 5 + s - 5 = s by omega]
      have := hby x s hx hs
      have := ((h.2.1 x hx).2 s hs)
      have := h.s hx hs
      exact i_add (by omega) (by omega)
    · rw [if_neg (fun q => hc q.1), if_neg (fun q => hc q.1), if_neg hc]
      omega
  have e0 : ∀ x, takeS F wm b 0 x = b 0 x := fun x => by
    unfold takeS
    rw [if_neg (by omega), if_neg (by omega)]
  have e8 : ∀ x, takeS F wm b 8 x = b 8 x := fun x => by
    unfold takeS
    rw [if_neg (by omega), if_neg (by omega)]
  refine ⟨fun x hx hc g hg => ?_, fun x hx => ⟨by rw [e0]; exact (h.2.1 x hx).1, fun s hs => ?_⟩, ⟨by rw [e8]; exact h.2.2.1.1, ?_⟩, fun s hs => ⟨by rw [e8]; exact (h.2.2.2 s hs).1, ?_⟩⟩
  · unfold takeS
    rw [if_neg (fun q => hc q.1), if_neg (fun q => hc q.1)]
    exact h.1 x hx hc g hg
  · rw [el x s hx hs, ei x s hx hs]
    have := hby x s hx hs
    have := (h.2.1 x hx).2 s hs
    split <;> omega
  · rw [e8, sm_c (fun x hx => by rw [e0 x])]
    exact h.2.2.1.2
  · rw [e8, sm_c (g := fun x => (b (2 + s) x).toInt + (b (5 + s) x).toInt) (fun x hx => by rw [el x s hx hs, ei x s hx hs]; omega)]
    exact (h.2.2.2 s hs).2
/-- goings of one kind: what a cell has, and what goes; the sum holds -/
theorem go_sum {f δ : Nat → Int} {c B : Int} (h0 : ∀ x, x < 16 → 0 ≤ f x + δ x) (hs : sm δ 16 + c = 0) (hB : sm f 16 ≤ B) (hc : 0 ≤ c) {x : Nat} (hx : x < 16) : f x + δ x ≤ B := by
  have h1 := sm_le (f := fun x => f x + δ x) (k := x) (n := 16) h0 hx
  rw [sm_a] at h1
  have h1 : f x + δ x ≤ sm f 16 + sm δ 16 := h1
  omega
theorem q0_b (hp : PB F) (h : IV F mu W b) (hW : W ≤ 400000) (x y : Nat) (hx : x < 16) : 0 ≤ (oS F b 0 x y).toInt ∧ (oS F b 0 x y).toInt ≤ (b 0 x).toInt / 5 := by
  have hwx := h.w hx
  unfold oS
  split
  · rename_i hc
    have hwy := h.w (cel_lt hp hc.2.1)
    have hlt := lt_i.mp hc.2.2
    have hs := hp.2.2.1
    have e := side_m ⟨hwx.1, by omega⟩ ⟨hwy.1, by omega⟩ hs hc.2.2
    show 0 ≤ ((((b 0 x - b 0 y) * F 30 8 0 0) / 100)).toInt ∧ ((((b 0 x - b 0 y) * F 30 8 0 0) / 100)).toInt ≤ _
    rw [e]
    have p1 : 0 ≤ ((b 0 x).toInt - (b 0 y).toInt) * (F 30 8 0 0).toInt := Int.mul_nonneg (by omega) hs.1
    have p2 : ((b 0 x).toInt - (b 0 y).toInt) * (F 30 8 0 0).toInt ≤ (b 0 x).toInt * 20 := Int.mul_le_mul (by omega) hs.2 hs.1 hwx.1
    omega
  · have e : (0 : Int32).toInt = 0 := rfl
    rw [e]
    omega
theorem qs_b (hp : PB F) (h : IV F mu W b) (hW : W ≤ 400000) (x y : Nat) (hx : x < 16) {s : Nat} (hs : s < 3) : 0 ≤ (oS F b (1 + s) x y).toInt ∧ (oS F b (1 + s) x y).toInt * (b 0 x).toInt ≤ (b (5 + s) x).toInt * (oS F b 0 x y).toInt ∧ ((oS F b 0 x y).toInt = 0 → (oS F b (1 + s) x y).toInt = 0) := by
  have hq := q0_b hp h hW x y hx
  have hwx := h.w hx
  have hin := ((h.2.1 x hx).2 s hs)
  have hins := h.s hx hs
  have e : (0 : Int32).toInt = 0 := rfl
  unfold oS at hq ⊢
  by_cases hc : cel F x = true ∧ cel F y = true ∧ b 0 y < b 0 x
  · rw [if_pos hc] at hq ⊢
    rw [if_pos hc]
    have hq : 0 ≤ ((((b 0 x - b 0 y) * F 30 8 0 0) / 100)).toInt ∧ ((((b 0 x - b 0 y) * F 30 8 0 0) / 100)).toInt ≤ (b 0 x).toInt / 5 := hq
    exact e0_I ⟨hin.2, by omega⟩ hq.1 (by omega) (by omega)
  · rw [if_neg hc, if_neg hc, e]
    simp
theorem iv_side (hp : PB F) (h : IV F mu W b) (hW : W ≤ 400000) : IV F mu W (sideS F b) := by
  have hz : ∀ g x, ¬ cel F x = true → mI (fun x y => (oS F b g x y).toInt) x = 0 := fun g x hc => by
    unfold mI
    have e : (0 : Int32).toInt = 0 := rfl
    simp only [oS_z (F := F) (b := b) (g := g) (x := x) (y := x - 1) (fun q => hc q.1), oS_z (F := F) (b := b) (g := g) (x := x) (y := x + 1) (fun q => hc q.1), oS_z (F := F) (b := b) (g := g) (x := x + 1) (y := x) (fun q => hc q.2.1), oS_z (F := F) (b := b) (g := g) (x := x - 1) (y := x) (fun q => hc q.2.1), e]
    simp
  have w0 : ∀ x, x < 16 → 0 ≤ (b 0 x).toInt + mI (fun x y => (oS F b 0 x y).toInt) x := fun x hx => by
    have h1 := q0_b hp h hW x (x - 1) hx
    have h2 := q0_b hp h hW x (x + 1) hx
    have h5 := (h.w hx).1
    unfold mI
    by_cases c1 : 0 < x % 4
    · have h4 := q0_b hp h hW (x - 1) x (by omega)
      by_cases c2 : x % 4 < 3
      · have h3 := q0_b hp h hW (x + 1) x (by omega)
        simp only [c1, c2, if_true]
        omega
      · simp only [c1, c2, if_true, if_false]
        omega
    · have c2 : x % 4 < 3 := by omega
      have h3 := q0_b hp h hW (x + 1) x (by omega)
      simp only [c1, c2, if_true, if_false]
      omega
  have s0 : ∀ s, s < 3 → ∀ x, x < 16 → 0 ≤ (b (5 + s) x).toInt + mI (fun x y => (oS F b (1 + s) x y).toInt) x := fun s hs x hx => by
    have h1 := qs_b hp h hW x (x - 1) hx hs
    have h2 := qs_b hp h hW x (x + 1) hx hs
    have k1 := q0_b hp h hW x (x - 1) hx
    have k2 := q0_b hp h hW x (x + 1) hx
    have h5 := ((h.2.1 x hx).2 s hs).2
    have h6 := two_out h1.2.1 h2.2.1 h5 k1.1 k2.1 (by omega) h1.2.2 h2.2.2
    unfold mI
    by_cases c1 : 0 < x % 4
    · have h4 := qs_b hp h hW (x - 1) x (by omega) hs
      by_cases c2 : x % 4 < 3
      · have h3 := qs_b hp h hW (x + 1) x (by omega) hs
        simp only [c1, c2, if_true]
        omega
      · simp only [c1, c2, if_true, if_false]
        omega
    · have c2 : x % 4 < 3 := by omega
      have h3 := qs_b hp h hW (x + 1) x (by omega) hs
      simp only [c1, c2, if_true, if_false]
      omega
  have e0 : ∀ x, x < 16 → (sideS F b 0 x).toInt = (b 0 x).toInt + mI (fun x y => (oS F b 0 x y).toInt) x := fun x hx => by
    unfold sideS addS
    by_cases hc : cel F x = true
    · rw [if_pos ⟨hc, rfl⟩, mS_I, addI]
      have h1 := w0 x hx
      have h2 := go_sum (f := fun x => (b 0 x).toInt) (δ := mI (fun x y => (oS F b 0 x y).toInt)) (c := 0) (B := W) w0 (by rw [mI_0]; rfl) (by have := h.2.2.1; omega) (by omega) hx
      have h2 : (b 0 x).toInt + mI (fun x y => (oS F b 0 x y).toInt) x ≤ W := h2
      exact oi_i (by omega) (by omega)
    · rw [if_neg (fun q => hc q.1), if_neg (fun q => hc q.1), hz 0 x hc]
      omega
  have el : ∀ g x, g ≠ 0 → ¬ (5 ≤ g ∧ g < 8) → sideS F b g x = b g x := fun g x h1 h2 => by
    unfold sideS addS
    rw [if_neg (fun q => h1 q.2), if_neg (fun q => h2 q.2)]
  have ei : ∀ s, s < 3 → ∀ x, x < 16 → (sideS F b (5 + s) x).toInt = (b (5 + s) x).toInt + mI (fun x y => (oS F b (1 + s) x y).toInt) x := fun s hs x hx => by
    unfold sideS addS
    by_cases hc : cel F x = true
    · rw [if_neg (by omega), if_pos ⟨hc, by omega, by omega⟩, show 5 + s - 4 = 1 + s by omega, mS_I, addI]
      have h1 := s0 s hs x hx
      have h2 := go_sum (f := fun x => (b (5 + s) x).toInt) (δ := mI (fun x y => (oS F b (1 + s) x y).toInt)) (c := 0) (B := 31680) (s0 s hs) (by rw [mI_0]; rfl) (by
        have h3 := h.2.2.2 s hs
        have h4 := sm_a (fun x => (b (2 + s) x).toInt) (fun x => (b (5 + s) x).toInt) 16
        have h5 := sm_nn (f := fun x => (b (2 + s) x).toInt) (n := 16) (fun y hy => ((h.2.1 y hy).2 s hs).1.1)
        have h4 : sm (fun x => (b (2 + s) x).toInt + (b (5 + s) x).toInt) 16 = sm (fun x => (b (2 + s) x).toInt) 16 + sm (fun x => (b (5 + s) x).toInt) 16 := h4
        omega) (by omega) hx
      have h2 : (b (5 + s) x).toInt + mI (fun x y => (oS F b (1 + s) x y).toInt) x ≤ 31680 := h2
      exact oi_i (by omega) (by omega)
    · rw [if_neg (fun q => hc q.1), if_neg (fun q => hc q.1), hz (1 + s) x hc]
      omega
  refine ⟨fun x hx hc g hg => ?_, fun x hx => ⟨by rw [e0 x hx]; exact w0 x hx, fun s hs => ⟨by rw [el (2 + s) x (by omega) (by omega)]; exact ((h.2.1 x hx).2 s hs).1, by rw [ei s hs x hx]; exact s0 s hs x hx⟩⟩, ⟨by rw [el 8 0 (by omega) (by omega)]; exact h.2.2.1.1, ?_⟩, fun s hs => ⟨by rw [el 8 _ (by omega) (by omega)]; exact (h.2.2.2 s hs).1, ?_⟩⟩
  · unfold sideS addS
    rw [if_neg (fun q => hc q.1), if_neg (fun q => hc q.1)]
    exact h.1 x hx hc g hg
  · rw [el 8 0 (by omega) (by omega), sm_c e0, sm_a, mI_0]
    have := h.2.2.1
    omega
  · rw [el 8 _ (by omega) (by omega), sm_c (g := fun x => ((b (2 + s) x).toInt + (b (5 + s) x).toInt) + mI (fun x y => (oS F b (1 + s) x y).toInt) x) (fun x hx => by rw [el (2 + s) x (by omega) (by omega), ei s hs x hx]; omega), sm_a, mI_0]
    have := h.2.2.2 s hs
    omega
end IVS
