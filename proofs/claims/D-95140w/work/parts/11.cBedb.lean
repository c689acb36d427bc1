set_option maxRecDepth 100000
def fn_X1_strong (F : St) (i0 : Nat) : Option (Int32) :=
  ob (fn_X1_inCup F i0) (fun r1 => pl ((F 2 1 (64 + i0) 0) + r1) (fun x3 => if x3 = 0 then some (0 : Int32) else ob (fn_X1_inCup F i0) (fun r6 => og (nzb x3) (some (((1000 : Int32) * r6) / x3)))))
theorem yd_X1_strong : yX1_strong.cls = RX1 ∧ yX1_strong.cls ≠ "java/lang/invoke/MethodHandle" ∧ yX1_strong.cls ≠ "java/lang/invoke/VarHandle" ∧ (parseMethodDescriptor yX1_strong.desc).map (fun d => d.parameters.length) = some 0 := by decide +kernel
set_option maxHeartbeats 4000000 in
theorem met_X1_strong (l : Launch) {D : va_G} {dA : WK} {a : Ix → Nat} (hD : wD D dA a) {F : St} {i0 : Nat} {rz : Int32} (hv0 : wVd dA (1, i0, 0)) (h : fn_X1_strong F i0 = some rz) : Mi l yX1_strong cX1_strong 2 .int 1 20 D dA a F [.ref (a (1, i0, 0))] F rz := by
  refine fun sz => mst (Qc := fun sz => wQi D dA a sz F rz) (by decide) (Nat.le_of_ble_eq_true rfl) ?_ sz
  intro p e s m below meth c S hr hlk hK hW ls hl
  have hl : lv_has ls 2 [(0, .ref (a (1, i0, 0)))] := hl
  have hx := S.1
  have hb := S.2.1
  generalize ([.ref (a (1, i0, 0))] : List Value).toArray = av at S ⊢
  unfold fn_X1_strong at h
  obtain ⟨H, eH⟩ : ∃ z, z = s.heap := ⟨_, rfl⟩
  obtain ⟨locs, eL⟩ : ∃ z : List Loc, z = [] := ⟨_, rfl⟩
  show WX p l e (rmL 1 20) s m av below meth c (wQi D dA a s.heap.size F rz) dA a s.heap [] (F0 m 0 ls [])
  have hW : wS D dA a s F H locs := by rw [eH, eL]; exact wS_in hW
  refine wx_in eH eL ?_
  clear eH eL
  refine lv_aload_n hx hb dX1_strong_0 rfl (lv_at hl 0 rfl) ?_
  refine gf_1_1 S hK hW hv0 q149 dX1_strong_1 ?_
  refine gn_2_1 S hK hW (vq_1_1 hv0) q128 dX1_strong_4 ?_
  refine lv_aload_n hx hb dX1_strong_7 rfl (lv_at hl 0 rfl) ?_
  obtain ⟨r1, hc2, h⟩ := ob_e h
  refine wk_i (va_runV (As := []) (rest := [.int (F 2 1 (64 + i0) 0)]) S (met_X1_inCup l hD hv0 hc2 H.size) (cwV 0 S.2.2.2.2 (lw_V q789 q790 q791 q56 q792) rfl rfl rfl yd_X1_inCup ⟨Nat.le_of_ble_eq_true rfl, Nat.le_of_ble_eq_true rfl⟩) (wpreV hK hW hv0 rfl rfl _) rfl rfl hl.1 rfl (lv_room (Nat.le_of_ble_eq_true rfl)) dX1_strong_8 ⟨Nat.le_refl 0, Nat.le_refl 0⟩) hW (fun H locs hW => ?_)
  refine lv_iadd hx hb dX1_strong_11 ?_
  obtain ⟨x3, e4, h⟩ := pl_e h
  refine lv_nm e4 ?_
  refine lv_istore_n (lv' := [(1, .int x3), (0, .ref (a (1, i0, 0)))]) hx hb dX1_strong_12 rfl hl (by decide) rfl (fun ls hl => ?_)
  refine lv_iload_n hx hb dX1_strong_13 rfl (lv_at hl 0 rfl) ?_
  refine lv_if_ne (tgt := 21) hx hb dX1_strong_14 (by decide) (fun c5 => ?_) (fun c5 => ?_)
  · have h := if_f h c5
    refine lv_sipush (v := (1000 : Int32)) hx hb dX1_strong_21 (by decide) ?_
    refine lv_aload_n hx hb dX1_strong_24 rfl (lv_at hl 1 rfl) ?_
    obtain ⟨r6, hc7, h⟩ := ob_e h
    refine wk_i (va_runV (As := []) (rest := [.int (1000 : Int32)]) S (met_X1_inCup l hD hv0 hc7 H.size) (cwV 0 S.2.2.2.2 (lw_V q789 q790 q791 q56 q792) rfl rfl rfl yd_X1_inCup ⟨Nat.le_of_ble_eq_true rfl, Nat.le_of_ble_eq_true rfl⟩) (wpreV hK hW hv0 rfl rfl _) rfl rfl hl.1 rfl (lv_room (Nat.le_of_ble_eq_true rfl)) dX1_strong_25 ⟨Nat.le_refl 0, Nat.le_refl 0⟩) hW (fun H locs hW => ?_)
    refine lv_imul hx hb dX1_strong_28 ?_
    refine lv_iload_n hx hb dX1_strong_29 rfl (lv_at hl 0 rfl) ?_
    obtain ⟨g8, h⟩ := og_e h
    refine lv_idiv hx hb dX1_strong_30 (nzb_e g8) ?_
    cases h
    exact we_i S hr hlk hW dX1_strong_31
  · have h := if_t h c5
    refine lv_iconst (v := (0 : Int32)) hx hb dX1_strong_17 (by decide) ?_
    refine lv_goto (tgt := 31) hx hb dX1_strong_18 (by decide) ?_
    cases h
    exact we_i S hr hlk hW dX1_strong_31
/-loop lp_X1_uneven_16-/
def lp_X1_uneven_16 (F : St) (i0 : Nat) (r1 : Int32) : Nat → Int32 → Int32 → Int32 → Option (Int32 × Int32 × Int32)
  | 0, _, _, _ => none
  | n + 1, x3, x4, x5 => if (F 0 0 0 0) ≤ x5 then some (x3, x4, x5) else ob (if r1 = 0 then some (0 : Int32) else ob (fn_X1_leftIn F i0 x5) (fun r16 => og (nzb r1) (some (((1000 : Int32) * (r1 - r16)) / r1)))) (fun y14 => pl (if y14 < x3 then y14 else x3) (fun x19 => pl (if x4 < y14 then y14 else x4) (fun x21 => lp_X1_uneven_16 F i0 r1 n x19 x21 (x5 + 1))))
theorem lp_X1_uneven_16_s {F : St} {i0 : Nat} {r1 : Int32} {n : Nat} {x3 : Int32} {x4 : Int32} {x5 : Int32} : lp_X1_uneven_16 F i0 r1 (n + 1) x3 x4 x5 = if (F 0 0 0 0) ≤ x5 then some (x3, x4, x5) else ob (if r1 = 0 then some (0 : Int32) else ob (fn_X1_leftIn F i0 x5) (fun r16 => og (nzb r1) (some (((1000 : Int32) * (r1 - r16)) / r1)))) (fun y14 => pl (if y14 < x3 then y14 else x3) (fun x19 => pl (if x4 < y14 then y14 else x4) (fun x21 => lp_X1_uneven_16 F i0 r1 n x19 x21 (x5 + 1)))) := rfl
def fn_X1_uneven (F : St) (i0 : Nat) (p1 : Int32) : Option (Int32) :=
  ob (fn_X1_ofRing F i0 p1) (fun r1 => ob3 (lp_X1_uneven_16 F i0 r1 300 (1000 : Int32) (0 : Int32) (0 : Int32)) (fun x6 x7 x8 => some (x7 - x6)))
theorem yd_X1_uneven : yX1_uneven.cls = RX1 ∧ yX1_uneven.cls ≠ "java/lang/invoke/MethodHandle" ∧ yX1_uneven.cls ≠ "java/lang/invoke/VarHandle" ∧ (parseMethodDescriptor yX1_uneven.desc).map (fun d => d.parameters.length) = some 1 := by decide +kernel
set_option maxHeartbeats 4000000 in
theorem met_X1_uneven (l : Launch) {D : va_G} {dA : WK} {a : Ix → Nat} (hD : wD D dA a) {F : St} {i0 : Nat} {p1 : Int32} {rz : Int32} (hv0 : wVd dA (1, i0, 0)) (h : fn_X1_uneven F i0 p1 = some rz) : Mi l yX1_uneven cX1_uneven 7 .int 1 24 D dA a F [.ref (a (1, i0, 0)), .int p1] F rz := by
  refine fun sz => mst (Qc := fun sz => wQi D dA a sz F rz) (by decide) (Nat.le_of_ble_eq_true rfl) ?_ sz
  intro p e s m below meth c S hr hlk hK hW ls hl
  have hl : lv_has ls 7 [(0, .ref (a (1, i0, 0))), (1, .int p1)] := hl
  have hx := S.1
  have hb := S.2.1
  generalize ([.ref (a (1, i0, 0)), .int p1] : List Value).toArray = av at S ⊢
  unfold fn_X1_uneven at h
  obtain ⟨H, eH⟩ : ∃ z, z = s.heap := ⟨_, rfl⟩
  obtain ⟨locs, eL⟩ : ∃ z : List Loc, z = [] := ⟨_, rfl⟩
  show WX p l e (rmL 1 24) s m av below meth c (wQi D dA a s.heap.size F rz) dA a s.heap [] (F0 m 0 ls [])
  have hW : wS D dA a s F H locs := by rw [eH, eL]; exact wS_in hW
  refine wx_in eH eL ?_
  clear eH eL
  refine lv_aload_n hx hb dX1_uneven_0 rfl (lv_at hl 0 rfl) ?_
  refine lv_iload_n hx hb dX1_uneven_1 rfl (lv_at hl 1 rfl) ?_
  obtain ⟨r1, hc2, h⟩ := ob_e h
  refine wk_i (va_runV (As := [.int p1]) (rest := []) S (met_X1_ofRing l hD hv0 hc2 H.size) (cwV 1 S.2.2.2.2 (lw_V q797 q799 qs19 q56 q800) rfl rfl rfl yd_X1_ofRing ⟨Nat.le_of_ble_eq_true rfl, Nat.le_of_ble_eq_true rfl⟩) (wpreV hK hW hv0 rfl rfl _) rfl rfl hl.1 rfl (lv_room (Nat.le_of_ble_eq_true rfl)) dX1_uneven_2 ⟨Nat.le_refl 0, Nat.le_refl 0⟩) hW (fun H locs hW => ?_)
  refine lv_istore_n (lv' := [(2, .int r1), (0, .ref (a (1, i0, 0))), (1, .int p1)]) hx hb dX1_uneven_5 rfl hl (by decide) rfl (fun ls hl => ?_)
  refine lv_sipush (v := (1000 : Int32)) hx hb dX1_uneven_6 (by decide) ?_
  refine lv_istore_n (lv' := [(3, .int (1000 : Int32)), (2, .int r1), (0, .ref (a (1, i0, 0))), (1, .int p1)]) hx hb dX1_uneven_9 rfl hl (by decide) rfl (fun ls hl => ?_)
  refine lv_iconst (v := (0 : Int32)) hx hb dX1_uneven_10 (by decide) ?_
  refine lv_istore (lv' := [(4, .int (0 : Int32)), (3, .int (1000 : Int32)), (2, .int r1), (0, .ref (a (1, i0, 0))), (1, .int p1)]) hx hb dX1_uneven_11 hl (by decide) rfl (fun ls hl => ?_)
  refine lv_iconst (v := (0 : Int32)) hx hb dX1_uneven_13 (by decide) ?_
  refine lv_istore (lv' := [(5, .int (0 : Int32)), (4, .int (0 : Int32)), (3, .int (1000 : Int32)), (2, .int r1), (0, .ref (a (1, i0, 0))), (1, .int p1)]) hx hb dX1_uneven_14 hl (by decide) rfl (fun ls hl => ?_)
  have L10 : ∀ (n : Nat) (x3 : Int32) (x4 : Int32) (x5 : Int32) (x6 : Int32) (x7 : Int32) (x8 : Int32), lp_X1_uneven_16 F i0 r1 n x3 x4 x5 = some (x6, x7, x8) → (∀ (H : Heap) (locs : List Loc) (ls : Array Slot), wS D dA a s F H locs → lv_has ls 7 [(3, .int x6), (4, .int x7)] → WX p l e (rmL 1 24) s m av below meth c (wQi D dA a s.heap.size F rz) dA a H locs (F0 m 74 ls [])) → ∀ (H : Heap) (locs : List Loc) (ls : Array Slot), wS D dA a s F H locs → lv_has ls 7 [(0, .ref (a (1, i0, 0))), (2, .int r1), (3, .int x3), (4, .int x4), (5, .int x5)] → WX p l e (rmL 1 24) s m av below meth c (wQi D dA a s.heap.size F rz) dA a H locs (F0 m 16 ls []) := by
    intro n
    induction n with
    | zero =>
      intro x3 x4 x5 x6 x7 x8 h
      exact absurd (show (none : Option (Int32 × Int32 × Int32)) = some (x6, x7, x8) from h) (by simp)
    | succ n ih =>
      intro x3 x4 x5 x6 x7 x8 h K9 H locs ls hW hl
      have h := lp_X1_uneven_16_s.symm.trans h
      refine lv_iload hx hb dX1_uneven_16 (lv_at hl 4 rfl) ?_
      refine lv_aload_n hx hb dX1_uneven_18 rfl (lv_at hl 0 rfl) ?_
      refine gf_1_4 S hK hW hv0 q155 dX1_uneven_19 ?_
      refine gn_0_0 S hK hW (vq_1_4 hv0) q267 dX1_uneven_22 ?_
      refine lv_icmp_ge (tgt := 74) hx hb dX1_uneven_25 (by decide) (fun c11 => ?_) (fun c11 => ?_)
      · have h := if_t h c11
        cases h
        exact K9 H locs ls hW (lv_sub hl [2, 3] rfl)
      · have h := if_f h c11
        refine lv_iload_n hx hb dX1_uneven_28 rfl (lv_at hl 1 rfl) ?_
        obtain ⟨y14, hz13, h⟩ := ob_e h
        have K15 : ∀ (H : Heap) (locs : List Loc) (ls : Array Slot), wS D dA a s F H locs → lv_has ls 7 [(0, .ref (a (1, i0, 0))), (2, .int r1), (3, .int x3), (4, .int x4), (5, .int x5)] → WX p l e (rmL 1 24) s m av below meth c (wQi D dA a s.heap.size F rz) dA a H locs (F0 m 50 ls [.int y14]) := by
          intro H locs ls hW hl
          refine lv_istore (lv' := [(6, .int y14), (0, .ref (a (1, i0, 0))), (2, .int r1), (3, .int x3), (4, .int x4), (5, .int x5)]) hx hb dX1_uneven_50 hl (by decide) rfl (fun ls hl => ?_)
          refine lv_iload_n hx hb dX1_uneven_52 rfl (lv_at hl 3 rfl) ?_
          refine lv_iload hx hb dX1_uneven_53 (lv_at hl 0 rfl) ?_
          refine va_mmin hx hb (S.2.2.1.trans hl.1.symm) S.2.2.2.1 (S.2.2.2.2 _ q735) (S.2.2.2.2 _ q736) (S.2.2.2.2 _ q79) (S.2.2.2.2 _ q737) (Nat.le_of_ble_eq_true rfl) (Nat.le_of_ble_eq_true rfl) (Nat.zero_le _) (Nat.zero_le _) dX1_uneven_55 ?_
          obtain ⟨x19, e20, h⟩ := pl_e h
          refine lv_nm e20 ?_
          refine lv_istore_n (lv' := [(3, .int x19), (6, .int y14), (0, .ref (a (1, i0, 0))), (2, .int r1), (4, .int x4), (5, .int x5)]) hx hb dX1_uneven_58 rfl hl (by decide) rfl (fun ls hl => ?_)
          refine lv_iload hx hb dX1_uneven_59 (lv_at hl 4 rfl) ?_
          refine lv_iload hx hb dX1_uneven_61 (lv_at hl 1 rfl) ?_
          refine va_mmax hx hb (S.2.2.1.trans hl.1.symm) S.2.2.2.1 (S.2.2.2.2 _ q768) (S.2.2.2.2 _ q769) (S.2.2.2.2 _ q79) (S.2.2.2.2 _ q770) (Nat.le_of_ble_eq_true rfl) (Nat.le_of_ble_eq_true rfl) (Nat.zero_le _) (Nat.zero_le _) dX1_uneven_63 ?_
          obtain ⟨x21, e22, h⟩ := pl_e h
          refine lv_nm e22 ?_
          refine lv_istore (lv' := [(4, .int x21), (3, .int x19), (6, .int y14), (0, .ref (a (1, i0, 0))), (2, .int r1), (5, .int x5)]) hx hb dX1_uneven_66 hl (by decide) rfl (fun ls hl => ?_)
          refine lv_iinc (v := (x5 + 1)) (lv' := [(5, .int (x5 + 1)), (4, .int x21), (3, .int x19), (6, .int y14), (0, .ref (a (1, i0, 0))), (2, .int r1)]) hx hb dX1_uneven_68 hl (k := 5) rfl rfl (by decide) rfl (fun ls hl => ?_)
          refine lv_goto (tgt := 16) hx hb dX1_uneven_71 (by decide) ?_
          exact ih _ _ _ _ _ _ h K9 H locs ls hW (lv_sub hl [4, 5, 2, 1, 0] rfl)
        clear h
        refine lv_if_ne (tgt := 36) hx hb dX1_uneven_29 (by decide) (fun c12 => ?_) (fun c12 => ?_)
        · have h := if_f hz13 c12
          refine lv_sipush (v := (1000 : Int32)) hx hb dX1_uneven_36 (by decide) ?_
          refine lv_iload_n hx hb dX1_uneven_39 rfl (lv_at hl 1 rfl) ?_
          refine lv_aload_n hx hb dX1_uneven_40 rfl (lv_at hl 0 rfl) ?_
          refine lv_iload hx hb dX1_uneven_41 (lv_at hl 4 rfl) ?_
          obtain ⟨r16, hc17, h⟩ := ob_e h
          refine wk_i (va_runV (As := [.int x5]) (rest := [.int r1, .int (1000 : Int32)]) S (met_X1_leftIn l hD hv0 hc17 H.size) (cwV 1 S.2.2.2.2 (lw_V q805 q806 q807 q56 q808) rfl rfl rfl yd_X1_leftIn ⟨Nat.le_of_ble_eq_true rfl, Nat.le_of_ble_eq_true rfl⟩) (wpreV hK hW hv0 rfl rfl _) rfl rfl hl.1 rfl (lv_room (Nat.le_of_ble_eq_true rfl)) dX1_uneven_43 ⟨Nat.le_refl 0, Nat.le_refl 0⟩) hW (fun H locs hW => ?_)
          refine lv_isub hx hb dX1_uneven_46 ?_
          refine lv_imul hx hb dX1_uneven_47 ?_
          refine lv_iload_n hx hb dX1_uneven_48 rfl (lv_at hl 1 rfl) ?_
          obtain ⟨g18, h⟩ := og_e h
          refine lv_idiv hx hb dX1_uneven_49 (nzb_e g18) ?_
          cases h
          exact K15 H locs ls hW (lv_sub hl [0, 1, 2, 3, 4] rfl)
        · have h := if_t hz13 c12
          refine lv_iconst (v := (0 : Int32)) hx hb dX1_uneven_32 (by decide) ?_
          refine lv_goto (tgt := 50) hx hb dX1_uneven_33 (by decide) ?_
          cases h
          exact K15 H locs ls hW (lv_sub hl [0, 1, 2, 3, 4] rfl)
  obtain ⟨x6, x7, x8, hz23, h⟩ := ob3_e h
  refine L10 300 (1000 : Int32) (0 : Int32) (0 : Int32) x6 x7 x8 hz23 (fun H locs ls hW hl => ?_) H locs ls hW (lv_sub hl [4, 3, 2, 1, 0] rfl)
  refine lv_iload hx hb dX1_uneven_74 (lv_at hl 1 rfl) ?_
  refine lv_iload_n hx hb dX1_uneven_76 rfl (lv_at hl 0 rfl) ?_
  refine lv_isub hx hb dX1_uneven_77 ?_
  cases h
  exact we_i S hr hlk hW dX1_uneven_78
