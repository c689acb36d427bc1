/-! THE CLASS as its constructor has laid it, and the world of it -/
set_option maxRecDepth 100000
def mw (dA : WK) (q sz : Nat) : va_W := ([(q, .inr (0, [.int (2 : Int32), .int (2 : Int32), .ref sz, .ref (sz + 1), .ref (sz + 2), .ref (sz + 3), .int (5 : Int32), .int (0 : Int32), .int (5 : Int32), .int (90 : Int32), .int (5 : Int32), .int (30 : Int32), .ref (sz + 8), .ref (sz + 9), .int (0 : Int32), .ref (sz + 22), .ref (sz + 135), .int (0 : Int32), .ref (sz + 362), .ref (sz + 475), .int (0 : Int32), .ref (sz + 476), .ref (sz + 478), .ref (sz + 479), .ref (sz + 480), .ref (sz + 481)])), (sz, .inl (dA.1 0, 3, .inl (upd (upd (upd (fun _ => 0) 0 (10 : Int32)) 1 (20 : Int32)) 2 (30 : Int32)))), ((sz + 1), .inl (dA.1 0, 3, .inl (upd (upd (upd (fun _ => 0) 0 (40 : Int32)) 1 (20 : Int32)) 2 (8 : Int32)))), ((sz + 2), .inl (dA.1 0, 2, .inl (upd (upd (fun _ => 0) 0 (10 : Int32)) 1 (6 : Int32)))), ((sz + 3), .inl (dA.1 6, 4, .inr (.inr (.inr (.inr (fun j => some ((sz + 3) + 1 + j))))))), ((sz + 4), .inl (dA.1 0, 4, .inl (fun _ => 0))), ((sz + 5), .inl (dA.1 0, 4, .inl (fun _ => 0))), ((sz + 6), .inl (dA.1 0, 4, .inl (fun _ => 0))), ((sz + 7), .inl (dA.1 0, 4, .inl (fun _ => 0))), ((sz + 8), .inl (dA.1 0, 5, .inl (upd (upd (upd (upd (upd (fun _ => 0) 0 (60 : Int32)) 1 (120 : Int32)) 2 (180 : Int32)) 3 (220 : Int32)) 4 (50 : Int32)))), ((sz + 9), .inl (dA.1 6, 12, .inr (.inr (.inr (.inr (fun j => some ((sz + 9) + 1 + j))))))), ((sz + 10), .inl (dA.1 0, 3, .inl (fun _ => 0))), ((sz + 11), .inl (dA.1 0, 3, .inl (fun _ => 0))), ((sz + 12), .inl (dA.1 0, 3, .inl (fun _ => 0))), ((sz + 13), .inl (dA.1 0, 3, .inl (fun _ => 0))), ((sz + 14), .inl (dA.1 0, 3, .inl (fun _ => 0))), ((sz + 15), .inl (dA.1 0, 3, .inl (fun _ => 0))), ((sz + 16), .inl (dA.1 0, 3, .inl (fun _ => 0))), ((sz + 17), .inl (dA.1 0, 3, .inl (fun _ => 0))), ((sz + 18), .inl (dA.1 0, 3, .inl (fun _ => 0))), ((sz + 19), .inl (dA.1 0, 3, .inl (fun _ => 0))), ((sz + 20), .inl (dA.1 0, 3, .inl (fun _ => 0))), ((sz + 21), .inl (dA.1 0, 3, .inl (fun _ => 0))), ((sz + 135), .inl (dA.1 7, 2, .inr (.inr (.inr (.inr (va_up (va_up (fun _ => none) 0 (some (sz + 136))) 1 (some (sz + 249)))))))), ((sz + 475), .inl (dA.1 1, 200, .inl (fun _ => 0))), ((sz + 476), .inr (4, [.ref (sz + 477), .int (0 : Int32), .int (0 : Int32), .int (0 : Int32), .int (0 : Int32), .int (0 : Int32), .int (0 : Int32), .ref q])), ((sz + 477), .inl (dA.1 8, 10, .inr (.inr (.inr (.inr (fun _ => none)))))), ((sz + 478), .inr (5, [.ref q])), ((sz + 479), .inr (6, [.ref q, (.int (0 : Int32)), (.int (0 : Int32)), (.int (0 : Int32)), (.ref q)])), ((sz + 480), .inr (7, [.ref q, (.int (0 : Int32)), (.int (0 : Int32)), (.int (0 : Int32)), (.ref q)])), ((sz + 481), .inl (dA.1 6, 11, .inr (.inr (.inr (.inr (fun j => some ((sz + 481) + 1 + j))))))), ((sz + 482), .inl (dA.1 0, 11, .inl (fun _ => 0))), ((sz + 483), .inl (dA.1 0, 11, .inl (fun _ => 0))), ((sz + 484), .inl (dA.1 0, 11, .inl (fun _ => 0))), ((sz + 485), .inl (dA.1 0, 11, .inl (fun _ => 0))), ((sz + 486), .inl (dA.1 0, 11, .inl (fun _ => 0))), ((sz + 487), .inl (dA.1 0, 11, .inl (fun _ => 0))), ((sz + 488), .inl (dA.1 0, 11, .inl (fun _ => 0))), ((sz + 489), .inl (dA.1 0, 11, .inl (fun _ => 0))), ((sz + 490), .inl (dA.1 0, 11, .inl (fun _ => 0))), ((sz + 491), .inl (dA.1 0, 11, .inl (fun _ => 0))), ((sz + 492), .inl (dA.1 0, 11, .inl (fun _ => 0)))] ++ ((bw dA (sz + 362) (sz + 363) q) ++ ((bw dA (sz + 249) (sz + 250) q) ++ ((bw dA (sz + 136) (sz + 137) q) ++ ((bw dA (sz + 22) (sz + 23) q) ++ [])))))
def zb (sz b : Nat) : Nat := if b = 0 then sz + 22 else sz + 23 + 113 * b
def ga (sz k : Nat) : Nat := if k < 64 then zb sz (k / 16) + 17 + 6 * (k % 16) else zb sz (k - 64) + 6
theorem ga_cup (sz i : Nat) : ga sz (64 + i) = zb sz i + 6 := by
  unfold ga
  rw [if_neg (by omega), Nat.add_sub_cancel_left]
theorem ga_in (sz : Nat) {i e : Nat} (hi : i < 16) (he : e < 4) : ga sz (4 * i + e) = zb sz (i / 4) + 17 + 6 * (4 * (i % 4) + e) := by
  unfold ga
  rw [if_pos (by omega), show (4 * i + e) / 16 = i / 4 by omega, show (4 * i + e) % 16 = 4 * (i % 4) + e by omega]
/-- the addresses of the class' cells -/
def aC (q sz i j : Nat) : Nat → Nat
  | 0 => q
  | 1 => zb sz i
  | 2 => ga sz i
  | 3 => ga sz i + 1
  | 4 => ga sz i + 2 + j
  | 5 => ga sz i + 5
  | 6 => zb sz i + 1
  | 7 => zb sz (i / 4) + 2 + i % 4
  | 8 => zb sz i + 12
  | 9 => zb sz (i / 4) + 13 + i % 4
  | 10 => sz + 3
  | 11 => sz + 4 + i
  | 12 => sz + 9
  | 13 => sz + 10 + i
  | 14 => sz + 135
  | 15 => sz + 475
  | 16 => sz + 476
  | 17 => sz + 477
  | 18 => sz + 478
  | 19 => sz + 479
  | 20 => sz + 480
  | 21 => sz + 481
  | 22 => sz + 482 + i
  | 23 => sz
  | 24 => sz + 1
  | 25 => sz + 2
  | 26 => sz + 8
  | _ => 0
def aM (q sz : Nat) : Ix → Nat := fun x => aC q sz x.2.1 x.2.2 x.1
/-- what the constructor's numbers are -/
def F0c : St := fun k p _ j => match k with
  | 0 => ([2, 2, 0, 0, 0, 0, 5, 0, 5, 90, 5, 30] : List Int32).getD p 0
  | 23 => ([10, 20, 30] : List Int32).getD j 0
  | 24 => ([40, 20, 8] : List Int32).getD j 0
  | 25 => ([10, 6] : List Int32).getD j 0
  | 26 => ([60, 120, 180, 220, 50] : List Int32).getD j 0
  | _ => 0
/-- where an offset lies -/
def gi (k g : Nat) : Ix := if g = 0 then (2, k, 0) else if g = 1 then (3, k, 0) else if g = 5 then (5, k, 0) else (4, k, g - 2)
def bi (b o : Nat) : Ix := if o = 0 then (1, b, 0) else if o = 1 then (6, b, 0) else if o < 6 then (7, 4 * b + (o - 2), 0) else if o < 12 then gi (64 + b) (o - 6) else if o = 12 then (8, b, 0) else if o < 17 then (9, 4 * b + (o - 13), 0) else gi (16 * b + (o - 17) / 6) ((o - 17) % 6)
def inv (n : Nat) : Ix := if n = 0 then (23, 0, 0) else if n = 1 then (24, 0, 0) else if n = 2 then (25, 0, 0) else if n = 3 then (10, 0, 0) else if n < 8 then (11, n - 4, 0) else if n = 8 then (26, 0, 0) else if n = 9 then (12, 0, 0) else if n < 22 then (13, n - 10, 0) else if n < 135 then bi 0 (n - 22) else if n = 135 then (14, 0, 0) else if n < 475 then bi (1 + (n - 136) / 113) ((n - 136) % 113) else if n < 482 then (n - 460, 0, 0) else (22, n - 482, 0)
theorem inv_all : ((List.range 27).all fun k => (List.range (wNi k)).all fun i => (List.range (wNj k)).all fun j => k == 0 || decide (inv (aC 0 0 i j k) = (k, i, j))) = true := by decide +kernel
theorem inv_ok (k : Nat) (hk : k < 27) (i : Nat) (hi : i < wNi k) (j : Nat) (hj : j < wNj k) (h0 : k ≠ 0) : inv (aC 0 0 i j k) = (k, i, j) := by
  have h1 := List.all_eq_true.mp inv_all k (List.mem_range.mpr hk)
  have h2 := List.all_eq_true.mp h1 i (List.mem_range.mpr hi)
  have h3 := List.all_eq_true.mp h2 j (List.mem_range.mpr hj)
  rw [Bool.or_eq_true] at h3
  rcases h3 with h3 | h3
  · exact absurd (beq_iff_eq.mp h3) h0
  · exact of_decide_eq_true h3
theorem aC_off (q sz i j : Nat) : ∀ k, k < 27 → k ≠ 0 → aC q sz i j k = sz + aC 0 0 i j k := by
  have hzb : ∀ b, zb sz b = sz + zb 0 b := fun b => by unfold zb; split <;> omega
  have hga : ∀ b, ga sz b = sz + ga 0 b := fun b => by unfold ga; split <;> rw [hzb] <;> omega
  intro k hk h0
  match k, hk, h0 with
  | 0, _, h0 => exact absurd rfl h0
  | 1, _, _ => exact hzb i
  | 2, _, _ => exact hga i
  | 3, _, _ => show ga sz i + 1 = sz + (ga 0 i + 1); rw [hga]; omega
  | 4, _, _ => show ga sz i + 2 + j = sz + (ga 0 i + 2 + j); rw [hga]; omega
  | 5, _, _ => show ga sz i + 5 = sz + (ga 0 i + 5); rw [hga]; omega
  | 6, _, _ => show zb sz i + 1 = sz + (zb 0 i + 1); rw [hzb]; omega
  | 7, _, _ => show zb sz (i / 4) + 2 + i % 4 = sz + (zb 0 (i / 4) + 2 + i % 4); rw [hzb]; omega
  | 8, _, _ => show zb sz i + 12 = sz + (zb 0 i + 12); rw [hzb]; omega
  | 9, _, _ => show zb sz (i / 4) + 13 + i % 4 = sz + (zb 0 (i / 4) + 13 + i % 4); rw [hzb]; omega
  | 10, _, _ => show sz + 3 = sz + (0 + 3); omega
  | 11, _, _ => show sz + 4 + i = sz + (0 + 4 + i); omega
  | 12, _, _ => show sz + 9 = sz + (0 + 9); omega
  | 13, _, _ => show sz + 10 + i = sz + (0 + 10 + i); omega
  | 14, _, _ => show sz + 135 = sz + (0 + 135); omega
  | 15, _, _ => show sz + 475 = sz + (0 + 475); omega
  | 16, _, _ => show sz + 476 = sz + (0 + 476); omega
  | 17, _, _ => show sz + 477 = sz + (0 + 477); omega
  | 18, _, _ => show sz + 478 = sz + (0 + 478); omega
  | 19, _, _ => show sz + 479 = sz + (0 + 479); omega
  | 20, _, _ => show sz + 480 = sz + (0 + 480); omega
  | 21, _, _ => show sz + 481 = sz + (0 + 481); omega
  | 22, _, _ => show sz + 482 + i = sz + (0 + 482 + i); omega
  | 23, _, _ => rfl
  | 24, _, _ => show sz + 1 = sz + (0 + 1); omega
  | 25, _, _ => show sz + 2 = sz + (0 + 2); omega
  | 26, _, _ => show sz + 8 = sz + (0 + 8); omega
  | n + 27, hk, _ => omega
/-- nothing but the class lives -/
def ded (dA : WK) : Prop := (∀ i, ¬ dA.2.2.2.2 27 i) ∧ (∀ i, ¬ dA.2.2.2.2 28 i) ∧ ¬ dA.2.2.2.2 30 0
theorem ded_lt {dA : WK} (h : ded dA) {x : Ix} (hv : wV x) (hl : wal dA x) : x.1 < 27 := by
  obtain ⟨k, i, j⟩ := x
  have hi : i < wNi k := hv.1
  show k < 27
  by_cases h30 : 30 ≤ k
  · exact absurd (hl.2 h30) h.2.2
  · by_cases h27 : k = 27
    · exact absurd (show dA.2.2.2.2 27 i from h27 ▸ hl.1 (Or.inl h27)) (h.1 i)
    · by_cases h28 : k = 28
      · exact absurd (show dA.2.2.2.2 28 i from h28 ▸ hl.1 (Or.inr h28)) (h.2.1 i)
      · by_cases h29 : k = 29
        · subst h29; exact absurd hi (Nat.not_lt_zero _)
        · omega
theorem aM_inj {dA : WK} (h : ded dA) {q sz : Nat} (hq : q < sz) (x y : Ix) (hx : wV x) (hy : wV y) (lx : wal dA x) (ly : wal dA y) (e : aM q sz x = aM q sz y) : x = y := by
  have kx := ded_lt h hx lx
  have ky := ded_lt h hy ly
  obtain ⟨k, i, j⟩ := x
  obtain ⟨k2, i2, j2⟩ := y
  have e : aC q sz i j k = aC q sz i2 j2 k2 := e
  by_cases h0 : k = 0
  · by_cases h2 : k2 = 0
    · subst h0; subst h2
      have a1 : i < 1 := hx.1
      have a2 : j < 1 := hx.2
      have a3 : i2 < 1 := hy.1
      have a4 : j2 < 1 := hy.2
      rw [show i = i2 by omega, show j = j2 by omega]
    · subst h0
      have e : q = aC q sz i2 j2 k2 := e
      rw [aC_off q sz i2 j2 k2 ky h2] at e
      omega
  · by_cases h2 : k2 = 0
    · subst h2
      have e : aC q sz i j k = q := e
      rw [aC_off q sz i j k kx h0] at e
      omega
    · rw [aC_off q sz i j k kx h0, aC_off q sz i2 j2 k2 ky h2] at e
      have e2 : aC 0 0 i j k = aC 0 0 i2 j2 k2 := by omega
      have := inv_ok k kx i hx.1 j hx.2 h0
      rw [e2, inv_ok k2 ky i2 hy.1 j2 hy.2 h2] at this
      exact this.symm
theorem aM_wD {D : va_G} {dA : WK} (h : ded dA) (hap : slAp D) {q sz : Nat} (hq : q < sz) : wD D dA (aM q sz) := ⟨aM_inj h hq, hap⟩
theorem aM_wA {dA : WK} (h : ded dA) {q sz n r : Nat} {x : va_E} (hn : sz ≤ n) (hr : wA dA (aM q sz) n r) : va_A [(q, x)] sz r := by
  rcases hr with ⟨⟨k, i, j⟩, hv, hl, rfl⟩ | hr
  · by_cases h0 : k = 0
    · subst h0
      exact Or.inl ⟨0, x, rfl⟩
    · refine Or.inr ?_
      show sz ≤ aC q sz i j k
      rw [aC_off q sz i j k (ded_lt h hv hl) h0]
      omega
  · exact Or.inr (Nat.le_trans hn hr)
theorem lt2 {P : Nat → Prop} (h0 : P 0) (h1 : P 1) : ∀ j, j < 2 → P j
  | 0, _ => h0
  | 1, _ => h1
  | n + 2, h => absurd h (by omega)
theorem lt5 {P : Nat → Prop} (h0 : P 0) (h1 : P 1) (h2 : P 2) (h3 : P 3) (h4 : P 4) : ∀ j, j < 5 → P j
  | 0, _ => h0
  | 1, _ => h1
  | 2, _ => h2
  | 3, _ => h3
  | 4, _ => h4
  | n + 5, h => absurd h (by omega)
theorem lt11 {P : Nat → Prop} (h0 : P 0) (h1 : P 1) (h2 : P 2) (h3 : P 3) (h4 : P 4) (h5 : P 5) (h6 : P 6) (h7 : P 7) (h8 : P 8) (h9 : P 9) (h10 : P 10) : ∀ j, j < 11 → P j
  | 0, _ => h0
  | 1, _ => h1
  | 2, _ => h2
  | 3, _ => h3
  | 4, _ => h4
  | 5, _ => h5
  | 6, _ => h6
  | 7, _ => h7
  | 8, _ => h8
  | 9, _ => h9
  | 10, _ => h10
  | n + 11, h => absurd h (by omega)
theorem lt12 {P : Nat → Prop} (h0 : P 0) (h1 : P 1) (h2 : P 2) (h3 : P 3) (h4 : P 4) (h5 : P 5) (h6 : P 6) (h7 : P 7) (h8 : P 8) (h9 : P 9) (h10 : P 10) (h11 : P 11) : ∀ j, j < 12 → P j
  | 0, _ => h0
  | 1, _ => h1
  | 2, _ => h2
  | 3, _ => h3
  | 4, _ => h4
  | 5, _ => h5
  | 6, _ => h6
  | 7, _ => h7
  | 8, _ => h8
  | 9, _ => h9
  | 10, _ => h10
  | 11, _ => h11
  | n + 12, h => absurd h (by omega)
theorem mw_lay {D : va_G} {dA : WK} {H : Heap} {q sz : Nat} (hd : ded dA) (h : va_P D vwCl (mw dA q sz) H) : wP D dA (aM q sz) F0c H := by
  have h0 := h.left
  have k0 := h.right
  have k1 := k0.right
  have k2 := k1.right
  have k3 := k2.right
  have hB : ∀ b, b < 4 → BL D dA H (zb sz b) q := lt4 (bw_lay (z := sz + 22) k3.left) (bw_lay (z := sz + 136) k2.left) (bw_lay (z := sz + 249) k1.left) (bw_lay (z := sz + 362) k0.left)
  have hG : ∀ k, k < 68 → GL D dA H (ga sz k) := by
    intro k hk
    by_cases h6 : k < 64
    · have := (hB (k / 16) (by omega)).2.2.2.2.2.2 (k % 16 / 4) (by omega) (k % 4) (by omega)
      have e : ga sz k = zb sz (k / 16) + 17 + 6 * (4 * (k % 16 / 4) + k % 4) := by
        unfold ga
        rw [if_pos h6, show 4 * (k % 16 / 4) + k % 4 = k % 16 by omega]
      rw [e]; exact this
    · have := (hB (k - 64) (by omega)).2.2.2.2.2.1
      have e : ga sz k = zb sz (k - 64) + 6 := by
        unfold ga
        rw [if_neg h6]
      rw [e]; exact this
  rintro ⟨k, i, j⟩ hv hl
  have hk : k < 27 := ded_lt hd hv hl
  have hi : i < wNi k := hv.1
  have hj : j < wNj k := hv.2
  clear hv hl
  show va_at D vwCl (aC q sz i j k, wc dA (aM q sz) F0c k i j) H
  match k, hk, hi, hj with
  | 0, _, hi, hj =>
    obtain rfl : i = 0 := Nat.lt_one_iff.mp hi
    obtain rfl : j = 0 := Nat.lt_one_iff.mp hj
    exact h0 0 _ rfl
  | 1, _, hi, hj =>
    show va_at D vwCl (zb sz i, .inr (1, [.ref (zb sz i + 1), .ref (ga sz (64 + i)), .int 0, .ref (zb sz i + 12), .ref q])) H
    rw [ga_cup]
    exact (hB i hi).1
  | 2, _, hi, hj => exact (hG i hi).1
  | 3, _, hi, hj => exact (hG i hi).2.1
  | 4, _, hi, hj => exact (hG i hi).2.2.1 j hj
  | 5, _, hi, hj => exact (hG i hi).2.2.2
  | 6, _, hi, hj =>
    have hi : i < 4 := hi
    refine atQ (fun e he => ?_) (hB i hi).2.1
    show some (zb sz i + 2 + e) = some (zb sz ((4 * i + e) / 4) + 2 + (4 * i + e) % 4)
    rw [show (4 * i + e) / 4 = i by omega, show (4 * i + e) % 4 = e by omega]
  | 7, _, hi, hj =>
    have hi : i < 16 := hi
    refine atQ (fun e he => ?_) ((hB (i / 4) (by omega)).2.2.1 (i % 4) (by omega))
    show some (zb sz (i / 4) + 17 + 6 * (4 * (i % 4) + e)) = some (ga sz (4 * i + e))
    rw [ga_in sz hi he]
  | 8, _, hi, hj =>
    have hi : i < 4 := hi
    refine atQ (fun e he => ?_) (hB i hi).2.2.2.1
    show some (zb sz i + 13 + e) = some (zb sz ((4 * i + e) / 4) + 13 + (4 * i + e) % 4)
    rw [show (4 * i + e) / 4 = i by omega, show (4 * i + e) % 4 = e by omega]
  | 9, _, hi, hj =>
    have hi : i < 16 := hi
    exact (hB (i / 4) (by omega)).2.2.2.2.1 (i % 4) (by omega)
  | 10, _, hi, hj =>
    obtain rfl : i = 0 := Nat.lt_one_iff.mp hi
    obtain rfl : j = 0 := Nat.lt_one_iff.mp hj
    have t := h0 4 _ rfl
    exact atQ (lt4 rfl rfl rfl rfl) t
  | 11, _, hi, hj =>
    exact lt4 (P := fun i => va_at D vwCl (sz + 4 + i, .inl (dA.1 0, 4, .inl (fun _ => 0))) H) (h0 5 _ rfl) (h0 6 _ rfl) (h0 7 _ rfl) (h0 8 _ rfl) i hi
  | 12, _, hi, hj =>
    obtain rfl : i = 0 := Nat.lt_one_iff.mp hi
    obtain rfl : j = 0 := Nat.lt_one_iff.mp hj
    have t := h0 10 _ rfl
    exact atQ (lt12 rfl rfl rfl rfl rfl rfl rfl rfl rfl rfl rfl rfl) t
  | 13, _, hi, hj =>
    exact lt12 (P := fun i => va_at D vwCl (sz + 10 + i, .inl (dA.1 0, 3, .inl (fun _ => 0))) H) (h0 11 _ rfl) (h0 12 _ rfl) (h0 13 _ rfl) (h0 14 _ rfl) (h0 15 _ rfl) (h0 16 _ rfl) (h0 17 _ rfl) (h0 18 _ rfl) (h0 19 _ rfl) (h0 20 _ rfl) (h0 21 _ rfl) (h0 22 _ rfl) i hi
  | 14, _, hi, hj =>
    obtain rfl : i = 0 := Nat.lt_one_iff.mp hi
    obtain rfl : j = 0 := Nat.lt_one_iff.mp hj
    have t := h0 23 _ rfl
    exact atQ (lt2 rfl rfl) t
  | 15, _, hi, hj =>
    obtain rfl : i = 0 := Nat.lt_one_iff.mp hi
    obtain rfl : j = 0 := Nat.lt_one_iff.mp hj
    exact h0 24 _ rfl
  | 16, _, hi, hj =>
    obtain rfl : i = 0 := Nat.lt_one_iff.mp hi
    obtain rfl : j = 0 := Nat.lt_one_iff.mp hj
    exact h0 25 _ rfl
  | 17, _, hi, hj =>
    obtain rfl : i = 0 := Nat.lt_one_iff.mp hi
    obtain rfl : j = 0 := Nat.lt_one_iff.mp hj
    have t := h0 26 _ rfl
    exact atQ (fun e _ => rfl) t
  | 18, _, hi, hj =>
    obtain rfl : i = 0 := Nat.lt_one_iff.mp hi
    obtain rfl : j = 0 := Nat.lt_one_iff.mp hj
    exact h0 27 _ rfl
  | 19, _, hi, hj =>
    obtain rfl : i = 0 := Nat.lt_one_iff.mp hi
    obtain rfl : j = 0 := Nat.lt_one_iff.mp hj
    exact h0 28 _ rfl
  | 20, _, hi, hj =>
    obtain rfl : i = 0 := Nat.lt_one_iff.mp hi
    obtain rfl : j = 0 := Nat.lt_one_iff.mp hj
    exact h0 29 _ rfl
  | 21, _, hi, hj =>
    obtain rfl : i = 0 := Nat.lt_one_iff.mp hi
    obtain rfl : j = 0 := Nat.lt_one_iff.mp hj
    have t := h0 30 _ rfl
    exact atQ (lt11 rfl rfl rfl rfl rfl rfl rfl rfl rfl rfl rfl) t
  | 22, _, hi, hj =>
    exact lt11 (P := fun i => va_at D vwCl (sz + 482 + i, .inl (dA.1 0, 11, .inl (fun _ => 0))) H) (h0 31 _ rfl) (h0 32 _ rfl) (h0 33 _ rfl) (h0 34 _ rfl) (h0 35 _ rfl) (h0 36 _ rfl) (h0 37 _ rfl) (h0 38 _ rfl) (h0 39 _ rfl) (h0 40 _ rfl) (h0 41 _ rfl) i hi
  | 23, _, hi, hj =>
    obtain rfl : i = 0 := Nat.lt_one_iff.mp hi
    obtain rfl : j = 0 := Nat.lt_one_iff.mp hj
    have t := h0 1 _ rfl
    exact atI (lt3 rfl rfl rfl) t
  | 24, _, hi, hj =>
    obtain rfl : i = 0 := Nat.lt_one_iff.mp hi
    obtain rfl : j = 0 := Nat.lt_one_iff.mp hj
    have t := h0 2 _ rfl
    exact atI (lt3 rfl rfl rfl) t
  | 25, _, hi, hj =>
    obtain rfl : i = 0 := Nat.lt_one_iff.mp hi
    obtain rfl : j = 0 := Nat.lt_one_iff.mp hj
    have t := h0 3 _ rfl
    exact atI (lt2 rfl rfl) t
  | 26, _, hi, hj =>
    obtain rfl : i = 0 := Nat.lt_one_iff.mp hi
    obtain rfl : j = 0 := Nat.lt_one_iff.mp hj
    have t := h0 9 _ rfl
    exact atI (lt5 rfl rfl rfl rfl rfl) t
  | n + 27, hk, _, _ => omega
