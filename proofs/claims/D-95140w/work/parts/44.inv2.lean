/-! PURE: down, and the whole tick; what a bed is like -/
set_option maxRecDepth 100000
section IV2
variable {F : St} {mu : Int32} {W : Int} {b : Bt} {st : Int32}
theorem d0_b (h : IV F mu W b) (hW : W ≤ 400000) (x : Nat) (hx : x < 16) : 0 ≤ (dS F st b 0 x).toInt ∧ (dS F st b 0 x).toInt ≤ (b 0 x).toInt := by
  have hwx := h.w hx
  unfold dS
  split
  · have e := mu_e (F := F) (st := st) (b := b) (x := x) ⟨hwx.1, by omega⟩
    show 0 ≤ (muS F st b x).toInt ∧ (muS F st b x).toInt ≤ _
    have hl := lo_b F st x (b 1 x)
    have p2 : (b 0 x).toInt * (loS F st x (b 1 x)).toInt ≤ (b 0 x).toInt * 95 := Int.mul_le_mul_of_nonneg_left hl.2 hwx.1
    rw [e.1]
    have := e.2
    omega
  · have e : (0 : Int32).toInt = 0 := rfl
    rw [e]
    omega
theorem ds_b (h : IV F mu W b) (hW : W ≤ 400000) (x : Nat) (hx : x < 16) {s : Nat} (hs : s < 3) : 0 ≤ (dS F st b (1 + s) x).toInt ∧ (dS F st b (1 + s) x).toInt ≤ (b (5 + s) x).toInt := by
  have hq := d0_b (st := st) h hW x hx
  have hwx := h.w hx
  have hin := ((h.2.1 x hx).2 s hs)
  have hins := h.s hx hs
  have e : (0 : Int32).toInt = 0 := rfl
  unfold dS at hq ⊢
  by_cases hc : cel F x = true
  · rw [if_pos hc] at hq ⊢
    have hq : 0 ≤ (muS F st b x).toInt ∧ (muS F st b x).toInt ≤ (b 0 x).toInt := hq
    obtain ⟨v1, v2, v3⟩ := e0_I (b := b) (s := s) (x := x) (m := muS F st b x) ⟨hin.2, by omega⟩ hq.1 hq.2 (by omega)
    refine ⟨v1, ?_⟩
    have := two_out (v2 := 0) (m2 := 0) v2 (by simp) hin.2 hq.1 (Int.le_refl _) (by omega) v3 (fun _ => rfl)
    omega
  · rw [if_neg hc, e]
    omega
theorem iv_down (hp : PB F) (h : IV F mu W b) (hW : W ≤ 400000) : IV F mu W (downS F st b) := by
  have hR := hp.1.2
  have hL := hp.2.1.2
  have e00 : (0 : Int32).toInt = 0 := rfl
  have dz : ∀ g x, x < 16 → ¬ cel F x = true → (fun x => (dS F st b g x).toInt) x = 0 := fun g x _ hc => by
    show (dS F st b g x).toInt = 0
    rw [dS_z hc, e00]
  have hz : ∀ g x, ¬ cel F x = true → tI (cel F) (fun x => (dS F st b g x).toInt) x = 0 := fun g x hc => by
    unfold tI
    rw [if_neg (fun q => hc q.2)]
    simp only [dS_z hc, e00]
    rfl
  have w0 : ∀ x, x < 16 → 0 ≤ (b 0 x).toInt + tI (cel F) (fun x => (dS F st b 0 x).toInt) x := fun x hx => by
    have h1 := d0_b (st := st) h hW x hx
    unfold tI
    split
    · rename_i q
      have h2 := d0_b (st := st) h hW (x - 4) (by omega)
      show 0 ≤ (b 0 x).toInt + (-(dS F st b 0 x).toInt + (dS F st b 0 (x - 4)).toInt)
      omega
    · show 0 ≤ (b 0 x).toInt + (-(dS F st b 0 x).toInt + 0)
      omega
  have s0 : ∀ s, s < 3 → ∀ x, x < 16 → 0 ≤ (b (5 + s) x).toInt + tI (cel F) (fun x => (dS F st b (1 + s) x).toInt) x := fun s hs x hx => by
    have h1 := ds_b (st := st) h hW x hx hs
    unfold tI
    split
    · rename_i q
      have h2 := ds_b (st := st) h hW (x - 4) (by omega) hs
      show 0 ≤ (b (5 + s) x).toInt + (-(dS F st b (1 + s) x).toInt + (dS F st b (1 + s) (x - 4)).toInt)
      omega
    · show 0 ≤ (b (5 + s) x).toInt + (-(dS F st b (1 + s) x).toInt + 0)
      omega
  have cz : ∀ g, sm (tI (cel F) (fun x => (dS F st b g x).toInt)) 16 + sm (fun c => (dS F st b g (4 * (Ly F - 1) + c)).toInt) (Rg F) = 0 := fun g => tI_0 hp (dz g)
  have c0 : 0 ≤ sm (fun c => (dS F st b 0 (4 * (Ly F - 1) + c)).toInt) (Rg F) := sm_nn (fun c hc => (d0_b (st := st) h hW _ (by omega)).1)
  have cs : ∀ s, s < 3 → 0 ≤ sm (fun c => (dS F st b (1 + s) (4 * (Ly F - 1) + c)).toInt) (Rg F) := fun s hs => sm_nn (fun c hc => (ds_b (st := st) h hW _ (by omega) hs).1)
  have hw := h.2.2.1
  have w1 : ∀ x, x < 16 → (b 0 x).toInt + tI (cel F) (fun x => (dS F st b 0 x).toInt) x ≤ W := fun x hx => by
    have h2 := go_sum (f := fun x => (b 0 x).toInt) (B := W) w0 (cz 0) (by omega) c0 hx
    exact h2
  have hs5 : ∀ s, s < 3 → sm (fun x => (b (5 + s) x).toInt) 16 + (b 8 (1 + s)).toInt ≤ 31680 := fun s hs => by
    have h3 := h.2.2.2 s hs
    have h4 : sm (fun x => (b (2 + s) x).toInt + (b (5 + s) x).toInt) 16 = sm (fun x => (b (2 + s) x).toInt) 16 + sm (fun x => (b (5 + s) x).toInt) 16 := sm_a (fun x => (b (2 + s) x).toInt) (fun x => (b (5 + s) x).toInt) 16
    have h5 := sm_nn (f := fun x => (b (2 + s) x).toInt) (n := 16) (fun y hy => ((h.2.1 y hy).2 s hs).1.1)
    omega
  have s1 : ∀ s, s < 3 → ∀ x, x < 16 → (b (5 + s) x).toInt + tI (cel F) (fun x => (dS F st b (1 + s) x).toInt) x ≤ 31680 := fun s hs x hx => by
    have h3 := h.2.2.2 s hs
    have h6 := hs5 s hs
    have h2 := go_sum (f := fun x => (b (5 + s) x).toInt) (B := 31680) (s0 s hs) (cz (1 + s)) (by omega) (cs s hs) hx
    exact h2
  have ew : ∀ x, x < 16 → (downS F st b 0 x).toInt = (b 0 x).toInt + tI (cel F) (fun x => (dS F st b 0 x).toInt) x := fun x hx => by
    unfold downS addS
    rw [if_neg (by omega), if_neg (by omega), if_neg (by omega)]
    by_cases hc : cel F x = true
    · rw [if_pos ⟨hc, rfl⟩, tD_I, addI]
      have := w0 x hx
      have := w1 x hx
      exact oi_i (by omega) (by omega)
    · rw [if_neg (fun q => hc q.1), if_neg (fun q => hc q.1), hz 0 x hc]
      omega
  have ei : ∀ s, s < 3 → ∀ x, x < 16 → (downS F st b (5 + s) x).toInt = (b (5 + s) x).toInt + tI (cel F) (fun x => (dS F st b (1 + s) x).toInt) x := fun s hs x hx => by
    unfold downS addS
    rw [if_neg (by omega), if_neg (by omega), if_neg (by omega)]
    by_cases hc : cel F x = true
    · rw [if_neg (by omega), if_pos ⟨hc, by omega, by omega⟩, show 5 + s - 4 = 1 + s by omega, tD_I, addI]
      have := s0 s hs x hx
      have := s1 s hs x hx
      exact oi_i (by omega) (by omega)
    · rw [if_neg (fun q => hc q.1), if_neg (fun q => hc q.1), hz (1 + s) x hc]
      omega
  have el : ∀ s, s < 3 → ∀ x, downS F st b (2 + s) x = b (2 + s) x := fun s hs x => by
    unfold downS addS
    rw [if_neg (by omega), if_neg (by omega), if_neg (by omega), if_neg (by omega), if_neg (by omega)]
  have ec : (downS F st b 8 0).toInt = (b 8 0).toInt + sm (fun c => (dS F st b 0 (4 * (Ly F - 1) + c)).toInt) (Rg F) := by
    unfold downS
    rw [if_pos ⟨rfl, by omega⟩, cS_I, addI]
    have h1 := cz 0
    have h2 := sm_nn (f := fun x => (b 0 x).toInt + tI (cel F) (fun x => (dS F st b 0 x).toInt) x) (n := 16) w0
    rw [sm_a] at h2
    exact oi_i (by omega) (by omega)
  have ecs : ∀ s, s < 3 → (downS F st b 8 (1 + s)).toInt = (b 8 (1 + s)).toInt + sm (fun c => (dS F st b (1 + s) (4 * (Ly F - 1) + c)).toInt) (Rg F) := fun s hs => by
    unfold downS
    rw [if_pos ⟨rfl, by omega⟩, cS_I, addI]
    have h1 := cz (1 + s)
    have h2 := sm_nn (f := fun x => (b (5 + s) x).toInt + tI (cel F) (fun x => (dS F st b (1 + s) x).toInt) x) (n := 16) (s0 s hs)
    rw [sm_a] at h2
    have h3 := hs5 s hs
    have h4 := cs s hs
    have h5 := (h.2.2.2 s hs).1
    exact oi_i (by omega) (by omega)
  refine ⟨fun x hx hc g hg => ?_, fun x hx => ⟨by rw [ew x hx]; exact w0 x hx, fun s hs => ⟨by rw [el s hs]; exact ((h.2.1 x hx).2 s hs).1, by rw [ei s hs x hx]; exact s0 s hs x hx⟩⟩, ⟨by rw [ec]; omega, ?_⟩, fun s hs => ⟨by
    rw [ecs s hs]
    have := (h.2.2.2 s hs).1
    have := cs s hs
    omega, ?_⟩⟩
  · unfold downS addS
    rw [if_neg (by omega), if_neg (by omega), if_neg (fun q => hc q.1), if_neg (fun q => hc q.1), if_neg (fun q => hc q.1)]
    exact h.1 x hx hc g hg
  · rw [ec, sm_c ew, sm_a]
    have := cz 0
    omega
  · rw [ecs s hs, sm_c (g := fun x => ((b (2 + s) x).toInt + (b (5 + s) x).toInt) + tI (cel F) (fun x => (dS F st b (1 + s) x).toInt) x) (fun x hx => by rw [el s hs, ei s hs x hx]; omega), sm_a]
    have := cz (1 + s)
    have := h.2.2.2 s hs
    omega
/-- a bed at tick t -/
def Inv (F : St) (mu : Int32) (t : Nat) (b : Bt) : Prop := IV F mu (6000 * t) b ∧ (b 8 4 = oN t ∧ t ≤ 60) ∧ b 8 5 = sumS F mu * F 30 1 0 0 * F 30 0 0 0 ∧ ∀ c, c < Rg F → b 8 (6 + c) = sumS F mu * F 30 1 0 0
theorem tick_inv (hp : PB F) {wm : Int32} (hmu : 0 ≤ mu.toInt ∧ mu.toInt ≤ 20) (hwm : 0 ≤ wm.toInt ∧ wm.toInt ≤ 100) {t : Nat} (h : Inv F mu t b) (ht : t < 60) : Inv F mu (t + 1) (tickS F st wm b) ∧ WB F (pourS F b) ∧ WB F (sideS F (takeS F wm (pourS F b))) := by
  obtain ⟨h1, ⟨h2, h3⟩, h4, h5⟩ := h
  have hR := hp.1.2
  have a1 := iv_pour hp h1 (by omega)
  have a2 := iv_take (wm := wm) hp hmu hwm a1
  have a3 := iv_side hp a2 (by omega)
  have a4 := iv_down (st := st) hp a3 (by omega)
  have e8 : ∀ x, 4 ≤ x → sideS F (takeS F wm (pourS F b)) 8 x = b 8 x := fun x hx => by
    unfold sideS addS
    rw [if_neg (by omega), if_neg (by omega)]
    unfold takeS
    rw [if_neg (by omega), if_neg (by omega)]
    unfold pourS
    rw [if_neg (by omega)]
  have e9 : ∀ x, 5 ≤ x → tickS F st wm b 8 x = b 8 x := fun x hx => by
    unfold tickS downS
    rw [if_neg (by omega), if_neg (by omega), if_neg (by omega)]
    unfold addS
    rw [if_neg (by omega), if_neg (by omega)]
    exact e8 x (by omega)
  refine ⟨⟨?_, ⟨?_, by omega⟩, by rw [e9 5 (by omega)]; exact h4, fun c hc => by rw [e9 _ (by omega)]; exact h5 c hc⟩, a1.wb hp (by omega), a3.wb hp (by omega)⟩
  · rw [show (6000 : Int) * ((t + 1 : Nat) : Int) = 6000 * (t : Int) + 6000 by omega]
    exact a4
  · unfold tickS downS
    rw [if_neg (by omega), if_pos ⟨rfl, rfl⟩, e8 4 (by omega), h2, oN_1]
theorem beg_inv (hp : PB F) (hmu : 0 ≤ mu.toInt ∧ mu.toInt ≤ 20) : Inv F mu 0 (begS F mu) := by
  obtain ⟨⟨r1, r2, r3⟩, ⟨l1, l2, l3⟩, -, -, hg31, -⟩ := id hp
  have e00 : (0 : Int32).toInt = 0 := rfl
  have ez : ∀ g x, g < 8 → ¬ (2 ≤ g ∧ g < 5) → begS F mu g x = 0 := fun g x h1 h2 => by
    unfold begS
    rw [if_neg (fun q => h2 q.2), if_neg (by omega), if_neg (by omega)]
  have e8 : ∀ x, x < 5 → begS F mu 8 x = 0 := fun x hx => by
    unfold begS
    rw [if_neg (by omega), if_neg (by omega), if_neg (by omega)]
  have gm : ∀ s, s < 3 → 0 ≤ (F 31 0 0 s).toInt * mu.toInt ∧ (F 31 0 0 s).toInt * mu.toInt ≤ 1980 := fun s hs => by
    have h2 := hg31 s hs
    have h3 : (F 31 0 0 s).toInt * mu.toInt ≤ 99 * 20 := Int.mul_le_mul h2.2 hmu.2 hmu.1 (by omega)
    exact ⟨Int.mul_nonneg h2.1 hmu.1, by omega⟩
  have el : ∀ s, s < 3 → ∀ x, (begS F mu (2 + s) x).toInt = if cel F x = true then (F 31 0 0 s).toInt * mu.toInt else 0 := fun s hs x => by
    unfold begS
    by_cases hc : cel F x = true
    · rw [if_pos ⟨hc, by omega, by omega⟩, if_pos hc, show 2 + s - 2 = s by omega]
      have := gm s hs
      exact i_mul (by omega) (by omega)
    · rw [if_neg (fun q => hc q.1), if_neg (by omega), if_neg (by omega), if_neg hc, e00]
  refine ⟨⟨fun x hx hc g hg => ?_, fun x hx => ⟨by rw [ez 0 x (by omega) (by omega), e00]; exact Int.le_refl _, fun s hs => ⟨?_, by rw [ez (5 + s) x (by omega) (by omega), e00]; exact Int.le_refl _⟩⟩, ⟨by rw [e8 0 (by omega), e00]; exact Int.le_refl _, ?_⟩, fun s hs => ⟨by rw [e8 _ (by omega), e00]; exact Int.le_refl _, ?_⟩⟩, ⟨by rw [e8 4 (by omega)]; rfl, by omega⟩, ?_, fun c hc => ?_⟩
  · unfold begS
    rw [if_neg (fun q => hc q.1), if_neg (by omega), if_neg (by omega)]
  · rw [el s hs x]
    have := gm s hs
    split <;> omega
  · rw [e8 0 (by omega), e00, sm_c (g := fun _ => 0) (fun x hx => by rw [ez 0 x (by omega) (by omega), e00])]
    simp [sm]
  · rw [e8 _ (by omega), e00, sm_c (g := fun x => if cel F x = true then (F 31 0 0 s).toInt * mu.toInt else 0) (fun x hx => by rw [el s hs, ez (5 + s) x (by omega) (by omega), e00]; omega)]
    have hle : ∀ n : Nat, sm (fun x => if cel F x = true then (F 31 0 0 s).toInt * mu.toInt else 0) n ≤ 1980 * n := by
      intro n
      induction n with
      | zero => exact Int.le_refl _
      | succ n ih =>
        show sm (fun x => if cel F x = true then (F 31 0 0 s).toInt * mu.toInt else 0) n + (if cel F n = true then (F 31 0 0 s).toInt * mu.toInt else 0) ≤ _
        have := gm s hs
        split <;> omega
    have := hle 16
    omega
  · unfold begS
    rw [if_neg (by omega), if_pos ⟨rfl, rfl⟩]
  · unfold begS
    rw [if_neg (by omega), if_neg (by omega), if_pos ⟨rfl, by omega, by omega⟩]
theorem side_c {b' : Bt} {wm : Int32} (h : ∀ g, g ≠ 9 → b' g = b g) : ∀ g, g ≠ 9 → sideS F (takeS F wm (pourS F b')) g = sideS F (takeS F wm (pourS F b)) g := by
  have p1 : ∀ g, g ≠ 9 → pourS F b' g = pourS F b g := fun g hg => by
    funext x
    unfold pourS
    rw [h 0 (by decide), h 8 (by decide), h g hg]
  have t1 : ∀ {c c' : Bt}, (∀ g, g ≠ 9 → c' g = c g) → ∀ g, g ≠ 9 → takeS F wm c' g = takeS F wm c g := fun {c c'} hc g hg => by
    funext x
    have hb : ∀ s, 2 + s ≠ 9 → byS F wm c' s x = byS F wm c s x := fun s hs => by
      unfold byS
      rw [hc 0 (by decide), hc (2 + s) hs]
    unfold takeS
    rw [hc g hg]
    by_cases q1 : cel F x = true ∧ 2 ≤ g ∧ g < 5
    · rw [if_pos q1, if_pos q1, hb _ (by omega)]
    · rw [if_neg q1, if_neg q1]
      by_cases q2 : cel F x = true ∧ 5 ≤ g ∧ g < 8
      · rw [if_pos q2, if_pos q2, hb _ (by omega)]
      · rw [if_neg q2, if_neg q2]
  have ee : ∀ {c c' : Bt}, (∀ g, g ≠ 9 → c' g = c g) → ∀ g x m, g < 4 → e0 c' g x m = e0 c g x m := fun {c c'} hc g x m hg => e0_c (by rw [hc 0 (by decide)]) (fun g h1 h2 => by rw [hc (4 + g) (by omega)]) hg
  have ad : ∀ {c c' m m' : Bt}, (∀ g, g ≠ 9 → c' g = c g) → (∀ g x, g < 4 → m' g x = m g x) → ∀ g, g ≠ 9 → addS F m' c' g = addS F m c g := fun {c c' m m'} hc hm g hg => by
    funext x
    unfold addS
    rw [hc g hg, hm 0 x (by omega)]
    by_cases q1 : cel F x = true ∧ g = 0
    · rw [if_pos q1, if_pos q1]
    · rw [if_neg q1, if_neg q1]
      by_cases q2 : cel F x = true ∧ 5 ≤ g ∧ g < 8
      · rw [if_pos q2, if_pos q2, hm _ x (by omega)]
      · rw [if_neg q2, if_neg q2]
  have s1 : ∀ {c c' : Bt}, (∀ g, g ≠ 9 → c' g = c g) → ∀ g, g ≠ 9 → sideS F c' g = sideS F c g := fun {c c'} hc g hg => by
    refine ad hc (fun g x hg => ?_) g hg
    have ho : ∀ y z, oS F c' g y z = oS F c g y z := fun y z => by
      unfold oS
      rw [hc 0 (by decide), ee hc g y _ hg]
    unfold mS tS
    rw [ho, ho, ho, ho]
  exact s1 (t1 p1)
/-- the tick does not look at the cracking rows -/
theorem tick_c {b' : Bt} {wm : Int32} (h : ∀ g, g ≠ 9 → b' g = b g) : ∀ g, g ≠ 9 → tickS F st wm b' g = tickS F st wm b g := by
  have p1 : ∀ g, g ≠ 9 → pourS F b' g = pourS F b g := fun g hg => by
    funext x
    unfold pourS
    rw [h 0 (by decide), h 8 (by decide), h g hg]
  have t1 : ∀ {c c' : Bt}, (∀ g, g ≠ 9 → c' g = c g) → ∀ g, g ≠ 9 → takeS F wm c' g = takeS F wm c g := fun {c c'} hc g hg => by
    funext x
    have hb : ∀ s, 2 + s ≠ 9 → byS F wm c' s x = byS F wm c s x := fun s hs => by
      unfold byS
      rw [hc 0 (by decide), hc (2 + s) hs]
    unfold takeS
    rw [hc g hg]
    by_cases q1 : cel F x = true ∧ 2 ≤ g ∧ g < 5
    · rw [if_pos q1, if_pos q1, hb _ (by omega)]
    · rw [if_neg q1, if_neg q1]
      by_cases q2 : cel F x = true ∧ 5 ≤ g ∧ g < 8
      · rw [if_pos q2, if_pos q2, hb _ (by omega)]
      · rw [if_neg q2, if_neg q2]
  have ee : ∀ {c c' : Bt}, (∀ g, g ≠ 9 → c' g = c g) → ∀ g x m, g < 4 → e0 c' g x m = e0 c g x m := fun {c c'} hc g x m hg => e0_c (by rw [hc 0 (by decide)]) (fun g h1 h2 => by rw [hc (4 + g) (by omega)]) hg
  have ad : ∀ {c c' m m' : Bt}, (∀ g, g ≠ 9 → c' g = c g) → (∀ g x, g < 4 → m' g x = m g x) → ∀ g, g ≠ 9 → addS F m' c' g = addS F m c g := fun {c c' m m'} hc hm g hg => by
    funext x
    unfold addS
    rw [hc g hg, hm 0 x (by omega)]
    by_cases q1 : cel F x = true ∧ g = 0
    · rw [if_pos q1, if_pos q1]
    · rw [if_neg q1, if_neg q1]
      by_cases q2 : cel F x = true ∧ 5 ≤ g ∧ g < 8
      · rw [if_pos q2, if_pos q2, hm _ x (by omega)]
      · rw [if_neg q2, if_neg q2]
  have s1 : ∀ {c c' : Bt}, (∀ g, g ≠ 9 → c' g = c g) → ∀ g, g ≠ 9 → sideS F c' g = sideS F c g := fun {c c'} hc g hg => by
    refine ad hc (fun g x hg => ?_) g hg
    have ho : ∀ y z, oS F c' g y z = oS F c g y z := fun y z => by
      unfold oS
      rw [hc 0 (by decide), ee hc g y _ hg]
    unfold mS tS
    rw [ho, ho, ho, ho]
  have d1 : ∀ {c c' : Bt}, (∀ g, g ≠ 9 → c' g = c g) → ∀ g, g ≠ 9 → downS F st c' g = downS F st c g := fun {c c'} hc g hg => by
    have hmu : ∀ x, muS F st c' x = muS F st c x := fun x => by
      unfold muS
      rw [hc 0 (by decide), hc 1 (by decide)]
    have hd : ∀ g x, g < 4 → dS F st c' g x = dS F st c g x := fun g x hg => by
      unfold dS
      rw [hmu, ee hc g x _ hg]
    have hcs : ∀ g n, g < 4 → cS F st c' g n = cS F st c g n := fun g n hg => by
      induction n with
      | zero => rfl
      | succ n ih =>
        show cS F st c' g n + dS F st c' g _ = cS F st c g n + dS F st c g _
        rw [ih, hd g _ hg]
    funext x
    unfold downS
    rw [hc 8 (by decide), hc 1 (by decide), hmu, ad (m := tD F st c (fun _ => true)) (m' := tD F st c' (fun _ => true)) hc (fun g x hg => by unfold tD; rw [hd g x hg, hd g _ hg]) g hg]
    by_cases q1 : g = 8 ∧ x < 4
    · rw [if_pos q1, if_pos q1, hcs x _ q1.2]
    · rw [if_neg q1, if_neg q1]
  intro g hg
  exact d1 (s1 (t1 p1)) g hg
end IV2
