set_option maxRecDepth 100000
/-loop lp_X0_isRight_15-/
def lp_X0_isRight_15 (p2 : Int32) : Nat → Int32 → Int32 → Option (Int32 × Int32)
  | 0, _, _ => none
  | n + 1, x3, x4 => if p2 ≤ x4 then some (x3, x4) else pl (x3 * (6 : Int32)) (fun x10 => lp_X0_isRight_15 p2 n x10 (x4 + 1))
theorem lp_X0_isRight_15_s {p2 : Int32} {n : Nat} {x3 : Int32} {x4 : Int32} : lp_X0_isRight_15 p2 (n + 1) x3 x4 = if p2 ≤ x4 then some (x3, x4) else pl (x3 * (6 : Int32)) (fun x10 => lp_X0_isRight_15 p2 n x10 (x4 + 1)) := rfl
/-loop lp_X0_isRight_37-/
def lp_X0_isRight_37 (p1 : Int32) (p2 : Int32) : Nat → St → Int32 → Int32 → Int32 → Option (St × Int32 × Int32 × Int32)
  | 0, _, _, _, _ => none
  | n + 1, F16, x13, x14, x15 => if p2 ≤ x15 then some (F16, x13, x14, x15) else if x13 = 0 then some (F16, x13, x14, x15) else og (nzb x14) (ob2 (fn_X6_turn F16 ((p1 / x14) - (p1 / x14) / (6 : Int32) * (6 : Int32))) (fun F26 r27 => pl (if (1 : Int32) < (x14 / (6 : Int32)) then (x14 / (6 : Int32)) else (1 : Int32)) (fun x29 => lp_X0_isRight_37 p1 p2 n F26 r27 x29 (x15 + 1))))
theorem lp_X0_isRight_37_s {p1 : Int32} {p2 : Int32} {n : Nat} {F16 : St} {x13 : Int32} {x14 : Int32} {x15 : Int32} : lp_X0_isRight_37 p1 p2 (n + 1) F16 x13 x14 x15 = if p2 ≤ x15 then some (F16, x13, x14, x15) else if x13 = 0 then some (F16, x13, x14, x15) else og (nzb x14) (ob2 (fn_X6_turn F16 ((p1 / x14) - (p1 / x14) / (6 : Int32) * (6 : Int32))) (fun F26 r27 => pl (if (1 : Int32) < (x14 / (6 : Int32)) then (x14 / (6 : Int32)) else (1 : Int32)) (fun x29 => lp_X0_isRight_37 p1 p2 n F26 r27 x29 (x15 + 1)))) := rfl
def fn_X0_isRight (F : St) (p1 : Int32) (p2 : Int32) : Option (St × Int32) :=
  ob (fn_X6_lay F) (fun F1 => ob2 (lp_X0_isRight_15 p2 300 (1 : Int32) (1 : Int32)) (fun x5 x6 => ob4 (lp_X0_isRight_37 p1 p2 300 F1 (1 : Int32) x5 (0 : Int32)) (fun F17 x18 x19 x20 => if x18 = 0 then some (F17, (0 : Int32)) else ob2 (fn_X5_taste_19 F17) (fun F33 r34 => if r34 = 0 then some (F33, (1 : Int32)) else some (F33, (0 : Int32))))))
theorem yd_X0_isRight : yX0_isRight.cls = RX0 ∧ yX0_isRight.cls ≠ "java/lang/invoke/MethodHandle" ∧ yX0_isRight.cls ≠ "java/lang/invoke/VarHandle" ∧ (parseMethodDescriptor yX0_isRight.desc).map (fun d => d.parameters.length) = some 2 := by decide +kernel
set_option maxHeartbeats 4000000 in
theorem met_X0_isRight (l : Launch) {D : va_G} {dA : WK} {a : Ix → Nat} (hD : wD D dA a) {F : St} {p1 : Int32} {p2 : Int32} {Fz : St} {rz : Int32} (hv0 : wVd dA (0, 0, 0)) (h : fn_X0_isRight F p1 p2 = some (Fz, rz)) : Mi l yX0_isRight cX0_isRight 6 .boolean 6 138 D dA a F [.ref (a (0, 0, 0)), .int p1, .int p2] Fz rz := by
  refine fun sz => mst (Qc := fun sz => wQi D dA a sz Fz rz) (by decide) (Nat.le_of_ble_eq_true rfl) ?_ sz
  intro p e s m below meth c S hr hlk hK hW ls hl
  have hl : lv_has ls 6 [(0, .ref (a (0, 0, 0))), (1, .int p1), (2, .int p2)] := hl
  have hx := S.1
  have hb := S.2.1
  generalize ([.ref (a (0, 0, 0)), .int p1, .int p2] : List Value).toArray = av at S ⊢
  unfold fn_X0_isRight at h
  obtain ⟨H, eH⟩ : ∃ z, z = s.heap := ⟨_, rfl⟩
  obtain ⟨locs, eL⟩ : ∃ z : List Loc, z = [] := ⟨_, rfl⟩
  show WX p l e (rmL 6 138) s m av below meth c (wQi D dA a s.heap.size Fz rz) dA a s.heap [] (F0 m 0 ls [])
  have hW : wS D dA a s F H locs := by rw [eH, eL]; exact wS_in hW
  refine wx_in eH eL ?_
  clear eH eL
  refine lv_aload_n hx hb dX0_isRight_0 rfl (lv_at hl 0 rfl) ?_
  refine gf_0_23 S hK hW hv0 q328 dX0_isRight_1 ?_
  obtain ⟨F1, hc2, h⟩ := ob_e h
  refine wk_v (va_runV (As := []) (rest := []) S (met_X6_lay l hD (vq_0_23 hv0) hc2 H.size) (cwV 0 S.2.2.2.2 (lw_V q889 q890 q891 q61 q892) rfl rfl rfl yd_X6_lay ⟨Nat.le_of_ble_eq_true rfl, Nat.le_of_ble_eq_true rfl⟩) (wpreV hK hW (vq_0_23 hv0) rfl rfl _) rfl rfl hl.1 rfl (lv_room (Nat.le_of_ble_eq_true rfl)) dX0_isRight_4 ⟨Nat.le_refl 0, Nat.le_refl 0⟩) hW (fun H locs hW => ?_)
  refine lv_iconst (v := (1 : Int32)) hx hb dX0_isRight_7 (by decide) ?_
  refine lv_istore_n (lv' := [(3, .int (1 : Int32)), (0, .ref (a (0, 0, 0))), (1, .int p1), (2, .int p2)]) hx hb dX0_isRight_8 rfl hl (by decide) rfl (fun ls hl => ?_)
  refine lv_iconst (v := (1 : Int32)) hx hb dX0_isRight_9 (by decide) ?_
  refine lv_istore (lv' := [(4, .int (1 : Int32)), (3, .int (1 : Int32)), (0, .ref (a (0, 0, 0))), (1, .int p1), (2, .int p2)]) hx hb dX0_isRight_10 hl (by decide) rfl (fun ls hl => ?_)
  refine lv_iconst (v := (1 : Int32)) hx hb dX0_isRight_12 (by decide) ?_
  refine lv_istore (lv' := [(5, .int (1 : Int32)), (4, .int (1 : Int32)), (3, .int (1 : Int32)), (0, .ref (a (0, 0, 0))), (1, .int p1), (2, .int p2)]) hx hb dX0_isRight_13 hl (by decide) rfl (fun ls hl => ?_)
  have L8 : ∀ (n : Nat) (x3 : Int32) (x4 : Int32) (x5 : Int32) (x6 : Int32), lp_X0_isRight_15 p2 n x3 x4 = some (x5, x6) → (∀ (H : Heap) (locs : List Loc) (ls : Array Slot), wS D dA a s F1 H locs → lv_has ls 6 [(0, .ref (a (0, 0, 0))), (1, .int p1), (2, .int p2), (3, .int (1 : Int32)), (4, .int x5)] → WX p l e (rmL 6 138) s m av below meth c (wQi D dA a s.heap.size Fz rz) dA a H locs (F0 m 34 ls [])) → ∀ (H : Heap) (locs : List Loc) (ls : Array Slot), wS D dA a s F1 H locs → lv_has ls 6 [(0, .ref (a (0, 0, 0))), (1, .int p1), (2, .int p2), (3, .int (1 : Int32)), (4, .int x3), (5, .int x4)] → WX p l e (rmL 6 138) s m av below meth c (wQi D dA a s.heap.size Fz rz) dA a H locs (F0 m 15 ls []) := by
    intro n
    induction n with
    | zero =>
      intro x3 x4 x5 x6 h
      exact absurd (show (none : Option (Int32 × Int32)) = some (x5, x6) from h) (by simp)
    | succ n ih =>
      intro x3 x4 x5 x6 h K7 H locs ls hW hl
      have h := lp_X0_isRight_15_s.symm.trans h
      refine lv_iload hx hb dX0_isRight_15 (lv_at hl 5 rfl) ?_
      refine lv_iload_n hx hb dX0_isRight_17 rfl (lv_at hl 2 rfl) ?_
      refine lv_icmp_ge (tgt := 34) hx hb dX0_isRight_18 (by decide) (fun c9 => ?_) (fun c9 => ?_)
      · have h := if_t h c9
        cases h
        exact K7 H locs ls hW (lv_sub hl [0, 1, 2, 3, 4] rfl)
      · have h := if_f h c9
        refine lv_iload hx hb dX0_isRight_21 (lv_at hl 4 rfl) ?_
        refine lv_bipush (v := (6 : Int32)) hx hb dX0_isRight_23 (by decide) ?_
        refine lv_imul hx hb dX0_isRight_25 ?_
        obtain ⟨x10, e11, h⟩ := pl_e h
        refine lv_nm e11 ?_
        refine lv_istore (lv' := [(4, .int x10), (0, .ref (a (0, 0, 0))), (1, .int p1), (2, .int p2), (3, .int (1 : Int32)), (5, .int x4)]) hx hb dX0_isRight_26 hl (by decide) rfl (fun ls hl => ?_)
        refine lv_iinc (v := (x4 + 1)) (lv' := [(5, .int (x4 + 1)), (4, .int x10), (0, .ref (a (0, 0, 0))), (1, .int p1), (2, .int p2), (3, .int (1 : Int32))]) hx hb dX0_isRight_28 hl (k := 5) rfl rfl (by decide) rfl (fun ls hl => ?_)
        refine lv_goto (tgt := 15) hx hb dX0_isRight_31 (by decide) ?_
        exact ih _ _ _ _ h K7 H locs ls hW (lv_sub hl [2, 3, 4, 5, 1, 0] rfl)
  obtain ⟨x5, x6, hz12, h⟩ := ob2_e h
  refine L8 300 (1 : Int32) (1 : Int32) x5 x6 hz12 (fun H locs ls hW hl => ?_) H locs ls hW (lv_sub hl [3, 4, 5, 2, 1, 0] rfl)
  refine lv_iconst (v := (0 : Int32)) hx hb dX0_isRight_34 (by decide) ?_
  refine lv_istore (lv' := [(5, .int (0 : Int32)), (0, .ref (a (0, 0, 0))), (1, .int p1), (2, .int p2), (3, .int (1 : Int32)), (4, .int x5)]) hx hb dX0_isRight_35 hl (by decide) rfl (fun ls hl => ?_)
  have L22 : ∀ (n : Nat) (F16 : St) (x13 : Int32) (x14 : Int32) (x15 : Int32) (F17 : St) (x18 : Int32) (x19 : Int32) (x20 : Int32), lp_X0_isRight_37 p1 p2 n F16 x13 x14 x15 = some (F17, x18, x19, x20) → (∀ (H : Heap) (locs : List Loc) (ls : Array Slot), wS D dA a s F17 H locs → lv_has ls 6 [(0, .ref (a (0, 0, 0))), (3, .int x18)] → WX p l e (rmL 6 138) s m av below meth c (wQi D dA a s.heap.size Fz rz) dA a H locs (F0 m 79 ls [])) → ∀ (H : Heap) (locs : List Loc) (ls : Array Slot), wS D dA a s F16 H locs → lv_has ls 6 [(0, .ref (a (0, 0, 0))), (1, .int p1), (2, .int p2), (3, .int x13), (4, .int x14), (5, .int x15)] → WX p l e (rmL 6 138) s m av below meth c (wQi D dA a s.heap.size Fz rz) dA a H locs (F0 m 37 ls []) := by
    intro n
    induction n with
    | zero =>
      intro F16 x13 x14 x15 F17 x18 x19 x20 h
      exact absurd (show (none : Option (St × Int32 × Int32 × Int32)) = some (F17, x18, x19, x20) from h) (by simp)
    | succ n ih =>
      intro F16 x13 x14 x15 F17 x18 x19 x20 h K21 H locs ls hW hl
      have h := lp_X0_isRight_37_s.symm.trans h
      refine lv_iload hx hb dX0_isRight_37 (lv_at hl 5 rfl) ?_
      refine lv_iload_n hx hb dX0_isRight_39 rfl (lv_at hl 2 rfl) ?_
      refine lv_icmp_ge (tgt := 79) hx hb dX0_isRight_40 (by decide) (fun c23 => ?_) (fun c23 => ?_)
      · have h := if_t h c23
        cases h
        exact K21 H locs ls hW (lv_sub hl [0, 3] rfl)
      · have h := if_f h c23
        refine lv_iload_n hx hb dX0_isRight_43 rfl (lv_at hl 3 rfl) ?_
        refine lv_if_eq (tgt := 79) hx hb dX0_isRight_44 (by decide) (fun c24 => ?_) (fun c24 => ?_)
        · have h := if_t h c24
          cases h
          exact K21 H locs ls hW (lv_sub hl [0, 3] rfl)
        · have h := if_f h c24
          refine lv_aload_n hx hb dX0_isRight_47 rfl (lv_at hl 0 rfl) ?_
          refine gf_0_23 S hK hW hv0 q328 dX0_isRight_48 ?_
          refine lv_iload_n hx hb dX0_isRight_51 rfl (lv_at hl 1 rfl) ?_
          refine lv_iload hx hb dX0_isRight_52 (lv_at hl 4 rfl) ?_
          obtain ⟨g25, h⟩ := og_e h
          refine lv_idiv hx hb dX0_isRight_54 (nzb_e g25) ?_
          refine lv_bipush (v := (6 : Int32)) hx hb dX0_isRight_55 (by decide) ?_
          refine lv_irem hx hb dX0_isRight_57 (by decide) ?_
          obtain ⟨F26, r27, hc28, h⟩ := ob2_e h
          refine wk_i (va_runV (As := [.int ((p1 / x14) - (p1 / x14) / (6 : Int32) * (6 : Int32))]) (rest := []) S (met_X6_turn l hD (vq_0_23 hv0) hc28 H.size) (cwV 1 S.2.2.2.2 (lw_V q893 q894 q895 q61 q896) rfl rfl rfl yd_X6_turn ⟨Nat.le_of_ble_eq_true rfl, Nat.le_of_ble_eq_true rfl⟩) (wpreV hK hW (vq_0_23 hv0) rfl rfl _) rfl rfl hl.1 rfl (lv_room (Nat.le_of_ble_eq_true rfl)) dX0_isRight_58 ⟨Nat.le_refl 0, Nat.le_refl 0⟩) hW (fun H locs hW => ?_)
          refine lv_istore_n (lv' := [(3, .int r27), (0, .ref (a (0, 0, 0))), (1, .int p1), (2, .int p2), (4, .int x14), (5, .int x15)]) hx hb dX0_isRight_61 rfl hl (by decide) rfl (fun ls hl => ?_)
          refine lv_iconst (v := (1 : Int32)) hx hb dX0_isRight_62 (by decide) ?_
          refine lv_iload hx hb dX0_isRight_63 (lv_at hl 4 rfl) ?_
          refine lv_bipush (v := (6 : Int32)) hx hb dX0_isRight_65 (by decide) ?_
          refine lv_idiv hx hb dX0_isRight_67 (by decide) ?_
          refine va_mmax hx hb (S.2.2.1.trans hl.1.symm) S.2.2.2.1 (S.2.2.2.2 _ q916) (S.2.2.2.2 _ q769) (S.2.2.2.2 _ q79) (S.2.2.2.2 _ q770) (Nat.le_of_ble_eq_true rfl) (Nat.le_of_ble_eq_true rfl) (Nat.zero_le _) (Nat.zero_le _) dX0_isRight_68 ?_
          obtain ⟨x29, e30, h⟩ := pl_e h
          refine lv_nm e30 ?_
          refine lv_istore (lv' := [(4, .int x29), (3, .int r27), (0, .ref (a (0, 0, 0))), (1, .int p1), (2, .int p2), (5, .int x15)]) hx hb dX0_isRight_71 hl (by decide) rfl (fun ls hl => ?_)
          refine lv_iinc (v := (x15 + 1)) (lv' := [(5, .int (x15 + 1)), (4, .int x29), (3, .int r27), (0, .ref (a (0, 0, 0))), (1, .int p1), (2, .int p2)]) hx hb dX0_isRight_73 hl (k := 5) rfl rfl (by decide) rfl (fun ls hl => ?_)
          refine lv_goto (tgt := 37) hx hb dX0_isRight_76 (by decide) ?_
          exact ih _ _ _ _ _ _ _ _ h K21 H locs ls hW (lv_sub hl [3, 4, 5, 2, 1, 0] rfl)
  obtain ⟨F17, x18, x19, x20, hz31, h⟩ := ob4_e h
  refine L22 300 F1 (1 : Int32) x5 (0 : Int32) F17 x18 x19 x20 hz31 (fun H locs ls hW hl => ?_) H locs ls hW (lv_sub hl [1, 2, 3, 4, 5, 0] rfl)
  refine lv_iload_n hx hb dX0_isRight_79 rfl (lv_at hl 1 rfl) ?_
  refine lv_if_eq (tgt := 97) hx hb dX0_isRight_80 (by decide) (fun c32 => ?_) (fun c32 => ?_)
  · have h := if_t h c32
    refine lv_iconst (v := (0 : Int32)) hx hb dX0_isRight_97 (by decide) ?_
    cases h
    exact we_z S hr hlk rfl hW dX0_isRight_98
  · have h := if_f h c32
    refine lv_aload_n hx hb dX0_isRight_83 rfl (lv_at hl 0 rfl) ?_
    refine gf_0_23 S hK hW hv0 q328 dX0_isRight_84 ?_
    obtain ⟨F33, r34, hc35, h⟩ := ob2_e h
    refine wk_i (va_runU (C := "WaterGrounds$Turned") (owner := "WaterGrounds$Brew") (As := []) (rest := []) S (met_X5_taste_19 l hD (vq_0_23 hv0) hc35 H.size) (va_cwU 0 S.2.2.2.2 (lw_U q904 q905 q907 q830 q60 q835) rfl rfl rfl rfl yd_X5_taste.2 ⟨Nat.le_of_ble_eq_true rfl, Nat.le_of_ble_eq_true rfl⟩) (wpreV hK hW (vq_0_23 hv0) rfl rfl _) rfl rfl hl.1 rfl (lv_room (Nat.le_of_ble_eq_true rfl)) dX0_isRight_87 ⟨Nat.le_refl 0, Nat.le_refl 0⟩) hW (fun H locs hW => ?_)
    refine lv_if_ne (tgt := 97) hx hb dX0_isRight_90 (by decide) (fun c36 => ?_) (fun c36 => ?_)
    · have h := if_f h c36
      refine lv_iconst (v := (0 : Int32)) hx hb dX0_isRight_97 (by decide) ?_
      cases h
      exact we_z S hr hlk rfl hW dX0_isRight_98
    · have h := if_t h c36
      refine lv_iconst (v := (1 : Int32)) hx hb dX0_isRight_93 (by decide) ?_
      refine lv_goto (tgt := 98) hx hb dX0_isRight_94 (by decide) ?_
      cases h
      exact we_z S hr hlk rfl hW dX0_isRight_98
def fn_X0_keep (F : St) (p1 : Int32) : Option (St × Int32) :=
  ob (fn_X0_isIn F p1.toInt64 (0 : Int64) (1 : Int64)) (fun r1 => if r1 = 0 then some (F, (-2 : Int32)) else og (vpb p1 2) (ob (fn_X1_copy F (1 + p1.toNatClampNeg) 0) (fun F6 => pl (fu F6 0 17 0 0 ((F6 0 17 0 0) ||| ((1 : Int32) <<< (p1 &&& 31)))) (fun F8 => some (F8, (F8 1 2 0 0))))))
theorem yd_X0_keep : yX0_keep.cls = RX0 ∧ yX0_keep.cls ≠ "java/lang/invoke/MethodHandle" ∧ yX0_keep.cls ≠ "java/lang/invoke/VarHandle" ∧ (parseMethodDescriptor yX0_keep.desc).map (fun d => d.parameters.length) = some 1 := by decide +kernel
set_option maxHeartbeats 4000000 in
theorem met_X0_keep (l : Launch) {D : va_G} {dA : WK} {a : Ix → Nat} (hD : wD D dA a) {F : St} {p1 : Int32} {Fz : St} {rz : Int32} (hv0 : wVd dA (0, 0, 0)) (h : fn_X0_keep F p1 = some (Fz, rz)) : Mi l yX0_keep cX0_keep 2 .int 2 45 D dA a F [.ref (a (0, 0, 0)), .int p1] Fz rz := by
  refine fun sz => mst (Qc := fun sz => wQi D dA a sz Fz rz) (by decide) (Nat.le_of_ble_eq_true rfl) ?_ sz
  intro p e s m below meth c S hr hlk hK hW ls hl
  have hl : lv_has ls 2 [(0, .ref (a (0, 0, 0))), (1, .int p1)] := hl
  have hx := S.1
  have hb := S.2.1
  generalize ([.ref (a (0, 0, 0)), .int p1] : List Value).toArray = av at S ⊢
  unfold fn_X0_keep at h
  obtain ⟨H, eH⟩ : ∃ z, z = s.heap := ⟨_, rfl⟩
  obtain ⟨locs, eL⟩ : ∃ z : List Loc, z = [] := ⟨_, rfl⟩
  show WX p l e (rmL 2 45) s m av below meth c (wQi D dA a s.heap.size Fz rz) dA a s.heap [] (F0 m 0 ls [])
  have hW : wS D dA a s F H locs := by rw [eH, eL]; exact wS_in hW
  refine wx_in eH eL ?_
  clear eH eL
  refine lv_iload_n hx hb dX0_keep_0 rfl (lv_at hl 1 rfl) ?_
  refine lv_i2l hx hb dX0_keep_1 rfl ?_
  refine lv_lconst (v := (0 : Int64)) hx hb dX0_keep_2 (by decide) ?_
  refine lv_lconst (v := (1 : Int64)) hx hb dX0_keep_3 (by decide) ?_
  obtain ⟨r1, hc2, h⟩ := ob_e h
  refine wk_i (va_runS (As := [.long p1.toInt64, .long (0 : Int64), .long (1 : Int64)]) (rest := []) S (met_X0_isIn l hD hc2 H.size) (va_cwS 3 S.2.2.2.2 (lw_S q389 q390 q55 q391) rfl rfl rfl yd_X0_isIn.2 ⟨Nat.le_of_ble_eq_true rfl, Nat.le_of_ble_eq_true rfl⟩) (wpreS hK hW _) rfl rfl hl.1 rfl (lv_room (Nat.le_of_ble_eq_true rfl)) dX0_keep_4 ⟨Nat.le_refl 0, Nat.le_refl 0⟩) hW (fun H locs hW => ?_)
  refine lv_if_ne (tgt := 13) hx hb dX0_keep_7 (by decide) (fun c3 => ?_) (fun c3 => ?_)
  · have h := if_f h c3
    refine lv_aload_n hx hb dX0_keep_13 rfl (lv_at hl 0 rfl) ?_
    refine gf_0_16 S hK hW hv0 q318 dX0_keep_14 ?_
    refine lv_iload_n hx hb dX0_keep_17 rfl (lv_at hl 1 rfl) ?_
    obtain ⟨g4, h⟩ := og_e h
    refine aald_14 S hK hW (vq_0_16 hv0) g4 rfl dX0_keep_18 ?_
    have v5 := (ve_14 (vq_0_16 hv0) (vpb_lt g4))
    refine lv_aload_n hx hb dX0_keep_19 rfl (lv_at hl 0 rfl) ?_
    refine gf_0_15 S hK hW hv0 q317 dX0_keep_20 ?_
    obtain ⟨F6, hc7, h⟩ := ob_e h
    refine wk_v (va_runV (As := [.ref (a (1, 0, 0))]) (rest := []) S (met_X1_copy l hD v5 (vq_0_15 hv0) hc7 H.size) (cwV 1 S.2.2.2.2 (lw_V q813 q814 q815 q56 q816) rfl rfl rfl yd_X1_copy ⟨Nat.le_of_ble_eq_true rfl, Nat.le_of_ble_eq_true rfl⟩) (wpreV hK hW v5 rfl rfl _) rfl rfl hl.1 rfl (lv_room (Nat.le_of_ble_eq_true rfl)) dX0_keep_23 ⟨Nat.le_refl 0, Nat.le_refl 0⟩) hW (fun H locs hW => ?_)
    refine lv_aload_n hx hb dX0_keep_26 rfl (lv_at hl 0 rfl) ?_
    refine lv_dup hx hb dX0_keep_27 rfl ?_
    refine gf_0_17 S hK hW hv0 q319 dX0_keep_28 ?_
    refine lv_iconst (v := (1 : Int32)) hx hb dX0_keep_31 (by decide) ?_
    refine lv_iload_n hx hb dX0_keep_32 rfl (lv_at hl 1 rfl) ?_
    refine lv_ishl hx hb dX0_keep_33 ?_
    refine lv_ior hx hb dX0_keep_34 ?_
    obtain ⟨F8, e9, h⟩ := pl_e h
    refine pf_0_17 S hK hD hW hv0 e9 q319 dX0_keep_35 (fun H locs hW => ?_)
    refine lv_aload_n hx hb dX0_keep_38 rfl (lv_at hl 0 rfl) ?_
    refine gf_0_15 S hK hW hv0 q317 dX0_keep_39 ?_
    refine gn_1_2 S hK hW (vq_0_15 hv0) q153 dX0_keep_42 ?_
    cases h
    exact we_i S hr hlk hW dX0_keep_45
  · have h := if_t h c3
    refine lv_bipush (v := (-2 : Int32)) hx hb dX0_keep_10 (by decide) ?_
    cases h
    exact we_i S hr hlk hW dX0_keep_12
def fn_X0_knob (F : St) (p1 : Int32) : Option (St × Int32) :=
  ob (fn_X0_isIn F p1.toInt64 (0 : Int64) (5 : Int64)) (fun r1 => if r1 = 0 then some (F, (-2 : Int32)) else ob (fn_X6_lay F) (fun F4 => ob2 (fn_X6_turn F4 p1) (fun F6 r7 => if r7 = 0 then some (F6, (-1 : Int32)) else ob2 (fn_X5_taste_19 F6) (fun F10 r11 => some (F10, r11)))))
theorem yd_X0_knob : yX0_knob.cls = RX0 ∧ yX0_knob.cls ≠ "java/lang/invoke/MethodHandle" ∧ yX0_knob.cls ≠ "java/lang/invoke/VarHandle" ∧ (parseMethodDescriptor yX0_knob.desc).map (fun d => d.parameters.length) = some 1 := by decide +kernel
set_option maxHeartbeats 4000000 in
theorem met_X0_knob (l : Launch) {D : va_G} {dA : WK} {a : Ix → Nat} (hD : wD D dA a) {F : St} {p1 : Int32} {Fz : St} {rz : Int32} (hv0 : wVd dA (0, 0, 0)) (h : fn_X0_knob F p1 = some (Fz, rz)) : Mi l yX0_knob cX0_knob 2 .int 6 138 D dA a F [.ref (a (0, 0, 0)), .int p1] Fz rz := by
  refine fun sz => mst (Qc := fun sz => wQi D dA a sz Fz rz) (by decide) (Nat.le_of_ble_eq_true rfl) ?_ sz
  intro p e s m below meth c S hr hlk hK hW ls hl
  have hl : lv_has ls 2 [(0, .ref (a (0, 0, 0))), (1, .int p1)] := hl
  have hx := S.1
  have hb := S.2.1
  generalize ([.ref (a (0, 0, 0)), .int p1] : List Value).toArray = av at S ⊢
  unfold fn_X0_knob at h
  obtain ⟨H, eH⟩ : ∃ z, z = s.heap := ⟨_, rfl⟩
  obtain ⟨locs, eL⟩ : ∃ z : List Loc, z = [] := ⟨_, rfl⟩
  show WX p l e (rmL 6 138) s m av below meth c (wQi D dA a s.heap.size Fz rz) dA a s.heap [] (F0 m 0 ls [])
  have hW : wS D dA a s F H locs := by rw [eH, eL]; exact wS_in hW
  refine wx_in eH eL ?_
  clear eH eL
  refine lv_iload_n hx hb dX0_knob_0 rfl (lv_at hl 1 rfl) ?_
  refine lv_i2l hx hb dX0_knob_1 rfl ?_
  refine lv_lconst (v := (0 : Int64)) hx hb dX0_knob_2 (by decide) ?_
  refine lv_ldc2 (v := (5 : Int64)) hx hb S.2.2.2.1 (S.2.2.2.2 _ q888) dX0_knob_3 ?_
  obtain ⟨r1, hc2, h⟩ := ob_e h
  refine wk_i (va_runS (As := [.long p1.toInt64, .long (0 : Int64), .long (5 : Int64)]) (rest := []) S (met_X0_isIn l hD hc2 H.size) (va_cwS 3 S.2.2.2.2 (lw_S q389 q390 q55 q391) rfl rfl rfl yd_X0_isIn.2 ⟨Nat.le_of_ble_eq_true rfl, Nat.le_of_ble_eq_true rfl⟩) (wpreS hK hW _) rfl rfl hl.1 rfl (lv_room (Nat.le_of_ble_eq_true rfl)) dX0_knob_6 ⟨Nat.le_refl 0, Nat.le_refl 0⟩) hW (fun H locs hW => ?_)
  refine lv_if_ne (tgt := 15) hx hb dX0_knob_9 (by decide) (fun c3 => ?_) (fun c3 => ?_)
  · have h := if_f h c3
    refine lv_aload_n hx hb dX0_knob_15 rfl (lv_at hl 0 rfl) ?_
    refine gf_0_23 S hK hW hv0 q328 dX0_knob_16 ?_
    obtain ⟨F4, hc5, h⟩ := ob_e h
    refine wk_v (va_runV (As := []) (rest := []) S (met_X6_lay l hD (vq_0_23 hv0) hc5 H.size) (cwV 0 S.2.2.2.2 (lw_V q889 q890 q891 q61 q892) rfl rfl rfl yd_X6_lay ⟨Nat.le_of_ble_eq_true rfl, Nat.le_of_ble_eq_true rfl⟩) (wpreV hK hW (vq_0_23 hv0) rfl rfl _) rfl rfl hl.1 rfl (lv_room (Nat.le_of_ble_eq_true rfl)) dX0_knob_19 ⟨Nat.le_refl 0, Nat.le_refl 0⟩) hW (fun H locs hW => ?_)
    refine lv_aload_n hx hb dX0_knob_22 rfl (lv_at hl 0 rfl) ?_
    refine gf_0_23 S hK hW hv0 q328 dX0_knob_23 ?_
    refine lv_iload_n hx hb dX0_knob_26 rfl (lv_at hl 1 rfl) ?_
    obtain ⟨F6, r7, hc8, h⟩ := ob2_e h
    refine wk_i (va_runV (As := [.int p1]) (rest := []) S (met_X6_turn l hD (vq_0_23 hv0) hc8 H.size) (cwV 1 S.2.2.2.2 (lw_V q893 q894 q895 q61 q896) rfl rfl rfl yd_X6_turn ⟨Nat.le_of_ble_eq_true rfl, Nat.le_of_ble_eq_true rfl⟩) (wpreV hK hW (vq_0_23 hv0) rfl rfl _) rfl rfl hl.1 rfl (lv_room (Nat.le_of_ble_eq_true rfl)) dX0_knob_27 ⟨Nat.le_refl 0, Nat.le_refl 0⟩) hW (fun H locs hW => ?_)
    refine lv_if_eq (tgt := 43) hx hb dX0_knob_30 (by decide) (fun c9 => ?_) (fun c9 => ?_)
    · have h := if_t h c9
      refine lv_iconst (v := (-1 : Int32)) hx hb dX0_knob_43 (by decide) ?_
      cases h
      exact we_i S hr hlk hW dX0_knob_44
    · have h := if_f h c9
      refine lv_aload_n hx hb dX0_knob_33 rfl (lv_at hl 0 rfl) ?_
      refine gf_0_23 S hK hW hv0 q328 dX0_knob_34 ?_
      obtain ⟨F10, r11, hc12, h⟩ := ob2_e h
      refine wk_i (va_runU (C := "WaterGrounds$Turned") (owner := "WaterGrounds$Brew") (As := []) (rest := []) S (met_X5_taste_19 l hD (vq_0_23 hv0) hc12 H.size) (va_cwU 0 S.2.2.2.2 (lw_U q904 q905 q907 q830 q60 q835) rfl rfl rfl rfl yd_X5_taste.2 ⟨Nat.le_of_ble_eq_true rfl, Nat.le_of_ble_eq_true rfl⟩) (wpreV hK hW (vq_0_23 hv0) rfl rfl _) rfl rfl hl.1 rfl (lv_room (Nat.le_of_ble_eq_true rfl)) dX0_knob_37 ⟨Nat.le_refl 0, Nat.le_refl 0⟩) hW (fun H locs hW => ?_)
      refine lv_goto (tgt := 44) hx hb dX0_knob_40 (by decide) ?_
      cases h
      exact we_i S hr hlk hW dX0_knob_44
  · have h := if_t h c3
    refine lv_bipush (v := (-2 : Int32)) hx hb dX0_knob_12 (by decide) ?_
    cases h
    exact we_i S hr hlk hW dX0_knob_14
/-loop lp_X0_little_15-/
def lp_X0_little_15 : Nat → St → Option ((St × Int32) ⊕ (St))
  | 0, _ => none
  | n + 1, F5 => if (20 : Int32) < (F5 20 3 0 0) then some (Sum.inr F5) else ob2 (fn_X5_taste_20 F5) (fun F10 r11 => if r11 = (3 : Int32) then pl (fu F10 20 3 0 0 ((F10 20 3 0 0) + (1 : Int32))) (fun F14 => lp_X0_little_15 n F14) else some (Sum.inl (F10, (F10 20 3 0 0))))
theorem lp_X0_little_15_s {n : Nat} {F5 : St} : lp_X0_little_15 (n + 1) F5 = if (20 : Int32) < (F5 20 3 0 0) then some (Sum.inr F5) else ob2 (fn_X5_taste_20 F5) (fun F10 r11 => if r11 = (3 : Int32) then pl (fu F10 20 3 0 0 ((F10 20 3 0 0) + (1 : Int32))) (fun F14 => lp_X0_little_15 n F14) else some (Sum.inl (F10, (F10 20 3 0 0)))) := rfl
def fn_X0_little (F : St) : Option (St × Int32) :=
  ob (fn_X7_lay F) (fun F1 => pl (fu F1 20 3 0 0 (1 : Int32)) (fun F3 => obE1 (lp_X0_little_15 300 F3) (fun y => some y) (fun F6 => some (F6, (-1 : Int32)))))
theorem yd_X0_little : yX0_little.cls = RX0 ∧ yX0_little.cls ≠ "java/lang/invoke/MethodHandle" ∧ yX0_little.cls ≠ "java/lang/invoke/VarHandle" ∧ (parseMethodDescriptor yX0_little.desc).map (fun d => d.parameters.length) = some 0 := by decide +kernel
set_option maxHeartbeats 4000000 in
theorem met_X0_little (l : Launch) {D : va_G} {dA : WK} {a : Ix → Nat} (hD : wD D dA a) {F : St} {Fz : St} {rz : Int32} (hv0 : wVd dA (0, 0, 0)) (h : fn_X0_little F = some (Fz, rz)) : Mi l yX0_little cX0_little 1 .int 6 138 D dA a F [.ref (a (0, 0, 0))] Fz rz := by
  refine fun sz => mst (Qc := fun sz => wQi D dA a sz Fz rz) (by decide) (Nat.le_of_ble_eq_true rfl) ?_ sz
  intro p e s m below meth c S hr hlk hK hW ls hl
  have hl : lv_has ls 1 [(0, .ref (a (0, 0, 0)))] := hl
  have hx := S.1
  have hb := S.2.1
  generalize ([.ref (a (0, 0, 0))] : List Value).toArray = av at S ⊢
  unfold fn_X0_little at h
  obtain ⟨H, eH⟩ : ∃ z, z = s.heap := ⟨_, rfl⟩
  obtain ⟨locs, eL⟩ : ∃ z : List Loc, z = [] := ⟨_, rfl⟩
  show WX p l e (rmL 6 138) s m av below meth c (wQi D dA a s.heap.size Fz rz) dA a s.heap [] (F0 m 0 ls [])
  have hW : wS D dA a s F H locs := by rw [eH, eL]; exact wS_in hW
  refine wx_in eH eL ?_
  clear eH eL
  refine lv_aload_n hx hb dX0_little_0 rfl (lv_at hl 0 rfl) ?_
  refine gf_0_24 S hK hW hv0 q329 dX0_little_1 ?_
  obtain ⟨F1, hc2, h⟩ := ob_e h
  refine wk_v (va_runV (As := []) (rest := []) S (met_X7_lay l hD (vq_0_24 hv0) hc2 H.size) (cwV 0 S.2.2.2.2 (lw_V q924 q925 q926 q62 q927) rfl rfl rfl yd_X7_lay ⟨Nat.le_of_ble_eq_true rfl, Nat.le_of_ble_eq_true rfl⟩) (wpreV hK hW (vq_0_24 hv0) rfl rfl _) rfl rfl hl.1 rfl (lv_room (Nat.le_of_ble_eq_true rfl)) dX0_little_4 ⟨Nat.le_refl 0, Nat.le_refl 0⟩) hW (fun H locs hW => ?_)
  refine lv_aload_n hx hb dX0_little_7 rfl (lv_at hl 0 rfl) ?_
  refine gf_0_24 S hK hW hv0 q329 dX0_little_8 ?_
  refine lv_iconst (v := (1 : Int32)) hx hb dX0_little_11 (by decide) ?_
  obtain ⟨F3, e4, h⟩ := pl_e h
  refine pn_20_3 S hK hD hW (vq_0_24 hv0) e4 q245 dX0_little_12 (fun H locs hW => ?_)
  have L8 : ∀ (n : Nat) (F5 : St) (Rr : (St × Int32) ⊕ (St)), lp_X0_little_15 n F5 = some Rr → (∀ y, Rr = Sum.inl y → some y = some (Fz, rz)) → (∀ (F6 : St), Rr = Sum.inr F6 → ∀ (H : Heap) (locs : List Loc) (ls : Array Slot), wS D dA a s F6 H locs → lv_has ls 1 [] → WX p l e (rmL 6 138) s m av below meth c (wQi D dA a s.heap.size Fz rz) dA a H locs (F0 m 62 ls [])) → ∀ (H : Heap) (locs : List Loc) (ls : Array Slot), wS D dA a s F5 H locs → lv_has ls 1 [(0, .ref (a (0, 0, 0)))] → WX p l e (rmL 6 138) s m av below meth c (wQi D dA a s.heap.size Fz rz) dA a H locs (F0 m 15 ls []) := by
    intro n
    induction n with
    | zero =>
      intro F5 Rr h
      exact absurd (show (none : Option ((St × Int32) ⊕ (St))) = some Rr from h) (by simp)
    | succ n ih =>
      intro F5 Rr h hfin K7 H locs ls hW hl
      have h := lp_X0_little_15_s.symm.trans h
      refine lv_aload_n hx hb dX0_little_15 rfl (lv_at hl 0 rfl) ?_
      refine gf_0_24 S hK hW hv0 q329 dX0_little_16 ?_
      refine gn_20_3 S hK hW (vq_0_24 hv0) q245 dX0_little_19 ?_
      refine lv_bipush (v := (20 : Int32)) hx hb dX0_little_22 (by decide) ?_
      refine lv_icmp_gt (tgt := 62) hx hb dX0_little_24 (by decide) (fun c9 => ?_) (fun c9 => ?_)
      · have h := if_t h c9
        cases h
        exact K7 _ rfl H locs ls hW (lv_sub hl [] rfl)
      · have h := if_f h c9
        refine lv_aload_n hx hb dX0_little_27 rfl (lv_at hl 0 rfl) ?_
        refine gf_0_24 S hK hW hv0 q329 dX0_little_28 ?_
        obtain ⟨F10, r11, hc12, h⟩ := ob2_e h
        refine wk_i (va_runU (C := "WaterGrounds$Tried") (owner := "WaterGrounds$Brew") (As := []) (rest := []) S (met_X5_taste_20 l hD (vq_0_24 hv0) hc12 H.size) (va_cwU 0 S.2.2.2.2 (lw_U q928 q929 q930 q830 q60 q835) rfl rfl rfl rfl yd_X5_taste.2 ⟨Nat.le_of_ble_eq_true rfl, Nat.le_of_ble_eq_true rfl⟩) (wpreV hK hW (vq_0_24 hv0) rfl rfl _) rfl rfl hl.1 rfl (lv_room (Nat.le_of_ble_eq_true rfl)) dX0_little_31 ⟨Nat.le_refl 0, Nat.le_refl 0⟩) hW (fun H locs hW => ?_)
        refine lv_iconst (v := (3 : Int32)) hx hb dX0_little_34 (by decide) ?_
        refine lv_icmp_eq (tgt := 46) hx hb dX0_little_35 (by decide) (fun c13 => ?_) (fun c13 => ?_)
        · have h := if_t h c13
          refine lv_aload_n hx hb dX0_little_46 rfl (lv_at hl 0 rfl) ?_
          refine gf_0_24 S hK hW hv0 q329 dX0_little_47 ?_
          refine lv_dup hx hb dX0_little_50 rfl ?_
          refine gn_20_3 S hK hW (vq_0_24 hv0) q245 dX0_little_51 ?_
          refine lv_iconst (v := (1 : Int32)) hx hb dX0_little_54 (by decide) ?_
          refine lv_iadd hx hb dX0_little_55 ?_
          obtain ⟨F14, e15, h⟩ := pl_e h
          refine pn_20_3 S hK hD hW (vq_0_24 hv0) e15 q245 dX0_little_56 (fun H locs hW => ?_)
          refine lv_goto (tgt := 15) hx hb dX0_little_59 (by decide) ?_
          exact ih _ _ h hfin K7 H locs ls hW (lv_sub hl [0] rfl)
        · have h := if_f h c13
          refine lv_aload_n hx hb dX0_little_38 rfl (lv_at hl 0 rfl) ?_
          refine gf_0_24 S hK hW hv0 q329 dX0_little_39 ?_
          refine gn_20_3 S hK hW (vq_0_24 hv0) q245 dX0_little_42 ?_
          cases h
          have h := hfin _ rfl
          cases h
          exact we_i S hr hlk hW dX0_little_45
  rcases obE1_e h with ⟨y, hz16, h⟩ | ⟨F6, hz16, h⟩
  · exact L8 300 F3 _ hz16 (fun y2 hy => by cases hy; exact h) (fun _ ht => by cases ht) H locs ls hW (lv_sub hl [0] rfl)
  · refine L8 300 F3 _ hz16 (fun y2 hy => by cases hy) (fun _ ht H locs ls hW hl => ?_) H locs ls hW (lv_sub hl [0] rfl)
    cases ht
    refine lv_iconst (v := (-1 : Int32)) hx hb dX0_little_62 (by decide) ?_
    cases h
    exact we_i S hr hlk hW dX0_little_63
def fn_X0_pour (F : St) (p1 : Int32) (p2 : Int32) : Option (Int32) :=
  if p1 < 0 then some (-3 : Int32) else ob (fn_X0_isIn F p2.toInt64 (0 : Int64) (2 : Int64)) (fun r2 => if r2 = 0 then some (-3 : Int32) else if (F 0 14 0 0) ≤ p1 then some (-1 : Int32) else og (vpb p1 12) (og (vpb p2 3) (some (F 13 0 p1.toNatClampNeg p2.toNatClampNeg))))
theorem yd_X0_pour : yX0_pour.cls = RX0 ∧ yX0_pour.cls ≠ "java/lang/invoke/MethodHandle" ∧ yX0_pour.cls ≠ "java/lang/invoke/VarHandle" ∧ (parseMethodDescriptor yX0_pour.desc).map (fun d => d.parameters.length) = some 2 := by decide +kernel
set_option maxHeartbeats 4000000 in
theorem met_X0_pour (l : Launch) {D : va_G} {dA : WK} {a : Ix → Nat} (hD : wD D dA a) {F : St} {p1 : Int32} {p2 : Int32} {rz : Int32} (hv0 : wVd dA (0, 0, 0)) (h : fn_X0_pour F p1 p2 = some rz) : Mi l yX0_pour cX0_pour 3 .int 1 25 D dA a F [.ref (a (0, 0, 0)), .int p1, .int p2] F rz := by
  refine fun sz => mst (Qc := fun sz => wQi D dA a sz F rz) (by decide) (Nat.le_of_ble_eq_true rfl) ?_ sz
  intro p e s m below meth c S hr hlk hK hW ls hl
  have hl : lv_has ls 3 [(0, .ref (a (0, 0, 0))), (1, .int p1), (2, .int p2)] := hl
  have hx := S.1
  have hb := S.2.1
  generalize ([.ref (a (0, 0, 0)), .int p1, .int p2] : List Value).toArray = av at S ⊢
  unfold fn_X0_pour at h
  obtain ⟨H, eH⟩ : ∃ z, z = s.heap := ⟨_, rfl⟩
  obtain ⟨locs, eL⟩ : ∃ z : List Loc, z = [] := ⟨_, rfl⟩
  show WX p l e (rmL 1 25) s m av below meth c (wQi D dA a s.heap.size F rz) dA a s.heap [] (F0 m 0 ls [])
  have hW : wS D dA a s F H locs := by rw [eH, eL]; exact wS_in hW
  refine wx_in eH eL ?_
  clear eH eL
  refine lv_iload_n hx hb dX0_pour_0 rfl (lv_at hl 1 rfl) ?_
  refine lv_if_lt (tgt := 16) hx hb dX0_pour_1 (by decide) (fun c1 => ?_) (fun c1 => ?_)
  · have h := if_t h c1
    refine lv_bipush (v := (-3 : Int32)) hx hb dX0_pour_16 (by decide) ?_
    cases h
    exact we_i S hr hlk hW dX0_pour_18
  · have h := if_f h c1
    refine lv_iload_n hx hb dX0_pour_4 rfl (lv_at hl 2 rfl) ?_
    refine lv_i2l hx hb dX0_pour_5 rfl ?_
    refine lv_lconst (v := (0 : Int64)) hx hb dX0_pour_6 (by decide) ?_
    refine lv_ldc2 (v := (2 : Int64)) hx hb S.2.2.2.1 (S.2.2.2.2 _ q713) dX0_pour_7 ?_
    obtain ⟨r2, hc3, h⟩ := ob_e h
    refine wk_i (va_runS (As := [.long p2.toInt64, .long (0 : Int64), .long (2 : Int64)]) (rest := []) S (met_X0_isIn l hD hc3 H.size) (va_cwS 3 S.2.2.2.2 (lw_S q389 q390 q55 q391) rfl rfl rfl yd_X0_isIn.2 ⟨Nat.le_of_ble_eq_true rfl, Nat.le_of_ble_eq_true rfl⟩) (wpreS hK hW _) rfl rfl hl.1 rfl (lv_room (Nat.le_of_ble_eq_true rfl)) dX0_pour_10 ⟨Nat.le_refl 0, Nat.le_refl 0⟩) hW (fun H locs hW => ?_)
    refine lv_if_ne (tgt := 19) hx hb dX0_pour_13 (by decide) (fun c4 => ?_) (fun c4 => ?_)
    · have h := if_f h c4
      refine lv_iload_n hx hb dX0_pour_19 rfl (lv_at hl 1 rfl) ?_
      refine lv_aload_n hx hb dX0_pour_20 rfl (lv_at hl 0 rfl) ?_
      refine gf_0_14 S hK hW hv0 q316 dX0_pour_21 ?_
      refine lv_icmp_ge (tgt := 38) hx hb dX0_pour_24 (by decide) (fun c5 => ?_) (fun c5 => ?_)
      · have h := if_t h c5
        refine lv_iconst (v := (-1 : Int32)) hx hb dX0_pour_38 (by decide) ?_
        cases h
        exact we_i S hr hlk hW dX0_pour_39
      · have h := if_f h c5
        refine lv_aload_n hx hb dX0_pour_27 rfl (lv_at hl 0 rfl) ?_
        refine gf_0_13 S hK hW hv0 q311 dX0_pour_28 ?_
        refine lv_iload_n hx hb dX0_pour_31 rfl (lv_at hl 1 rfl) ?_
        obtain ⟨g6, h⟩ := og_e h
        refine aald_12 S hK hW (vq_0_13 hv0) g6 rfl dX0_pour_32 ?_
        have v7 := (ve_12 (vq_0_13 hv0) (vpb_lt g6))
        refine lv_iload_n hx hb dX0_pour_33 rfl (lv_at hl 2 rfl) ?_
        obtain ⟨g8, h⟩ := og_e h
        refine ald_13 S hK hW v7 g8 rfl dX0_pour_34 ?_
        refine lv_goto (tgt := 39) hx hb dX0_pour_35 (by decide) ?_
        cases h
        exact we_i S hr hlk hW dX0_pour_39
    · have h := if_t h c4
      refine lv_bipush (v := (-3 : Int32)) hx hb dX0_pour_16 (by decide) ?_
      cases h
      exact we_i S hr hlk hW dX0_pour_18
/-loop lp_X0_power_5-/
def lp_X0_power_5 (p0 : Int32) (p1 : Int32) : Nat → Int64 → Int32 → Option (Int64 × Int32)
  | 0, _, _ => none
  | n + 1, x1, x2 => if p1 ≤ x2 then some (x1, x2) else pl (x1 * p0.toInt64) (fun x8 => lp_X0_power_5 p0 p1 n x8 (x2 + 1))
theorem lp_X0_power_5_s {p0 : Int32} {p1 : Int32} {n : Nat} {x1 : Int64} {x2 : Int32} : lp_X0_power_5 p0 p1 (n + 1) x1 x2 = if p1 ≤ x2 then some (x1, x2) else pl (x1 * p0.toInt64) (fun x8 => lp_X0_power_5 p0 p1 n x8 (x2 + 1)) := rfl
def fn_X0_power (F : St) (p0 : Int32) (p1 : Int32) : Option (Int64) :=
  ob2 (lp_X0_power_5 p0 p1 300 (1 : Int64) (0 : Int32)) (fun x3 x4 => some x3)
theorem yd_X0_power : yX0_power.cls = RX0 ∧ yX0_power.cls ≠ "java/lang/invoke/MethodHandle" ∧ yX0_power.cls ≠ "java/lang/invoke/VarHandle" ∧ (parseMethodDescriptor yX0_power.desc).map (fun d => d.parameters.length) = some 2 := by decide +kernel
set_option maxHeartbeats 4000000 in
theorem met_X0_power (l : Launch) {D : va_G} {dA : WK} {a : Ix → Nat} (hD : wD D dA a) {F : St} {p0 : Int32} {p1 : Int32} {rz : Int64} (h : fn_X0_power F p0 p1 = some rz) : Ml l yX0_power cX0_power 5 0 0 D dA a F [.int p0, .int p1] F rz := by
  refine fun sz => mst (Qc := fun sz => wQl D dA a sz F rz) (by decide) (Nat.le_of_ble_eq_true rfl) ?_ sz
  intro p e s m below meth c S hr hlk hK hW ls hl
  have hl : lv_has ls 5 [(0, .int p0), (1, .int p1)] := hl
  have hx := S.1
  have hb := S.2.1
  generalize ([.int p0, .int p1] : List Value).toArray = av at S ⊢
  unfold fn_X0_power at h
  obtain ⟨H, eH⟩ : ∃ z, z = s.heap := ⟨_, rfl⟩
  obtain ⟨locs, eL⟩ : ∃ z : List Loc, z = [] := ⟨_, rfl⟩
  show WX p l e (rmL 0 0) s m av below meth c (wQl D dA a s.heap.size F rz) dA a s.heap [] (F0 m 0 ls [])
  have hW : wS D dA a s F H locs := by rw [eH, eL]; exact wS_in hW
  refine wx_in eH eL ?_
  clear eH eL
  refine lv_lconst (v := (1 : Int64)) hx hb dX0_power_0 (by decide) ?_
  refine lv_lstore_n (lv' := [(2, .long (1 : Int64)), (0, .int p0), (1, .int p1)]) hx hb dX0_power_1 rfl hl (by decide) rfl (fun ls hl => ?_)
  refine lv_iconst (v := (0 : Int32)) hx hb dX0_power_2 (by decide) ?_
  refine lv_istore (lv' := [(4, .int (0 : Int32)), (2, .long (1 : Int64)), (0, .int p0), (1, .int p1)]) hx hb dX0_power_3 hl (by decide) rfl (fun ls hl => ?_)
  have L6 : ∀ (n : Nat) (x1 : Int64) (x2 : Int32) (x3 : Int64) (x4 : Int32), lp_X0_power_5 p0 p1 n x1 x2 = some (x3, x4) → (∀ (H : Heap) (locs : List Loc) (ls : Array Slot), wS D dA a s F H locs → lv_has ls 5 [(2, .long x3)] → WX p l e (rmL 0 0) s m av below meth c (wQl D dA a s.heap.size F rz) dA a H locs (F0 m 22 ls [])) → ∀ (H : Heap) (locs : List Loc) (ls : Array Slot), wS D dA a s F H locs → lv_has ls 5 [(0, .int p0), (1, .int p1), (2, .long x1), (4, .int x2)] → WX p l e (rmL 0 0) s m av below meth c (wQl D dA a s.heap.size F rz) dA a H locs (F0 m 5 ls []) := by
    intro n
    induction n with
    | zero =>
      intro x1 x2 x3 x4 h
      exact absurd (show (none : Option (Int64 × Int32)) = some (x3, x4) from h) (by simp)
    | succ n ih =>
      intro x1 x2 x3 x4 h K5 H locs ls hW hl
      have h := lp_X0_power_5_s.symm.trans h
      refine lv_iload hx hb dX0_power_5 (lv_at hl 3 rfl) ?_
      refine lv_iload_n hx hb dX0_power_7 rfl (lv_at hl 1 rfl) ?_
      refine lv_icmp_ge (tgt := 22) hx hb dX0_power_8 (by decide) (fun c7 => ?_) (fun c7 => ?_)
      · have h := if_t h c7
        cases h
        exact K5 H locs ls hW (lv_sub hl [2] rfl)
      · have h := if_f h c7
        refine lv_lload_n hx hb dX0_power_11 rfl (lv_at hl 2 rfl) ?_
        refine lv_iload_n hx hb dX0_power_12 rfl (lv_at hl 0 rfl) ?_
        refine lv_i2l hx hb dX0_power_13 rfl ?_
        refine lv_lmul hx hb dX0_power_14 ?_
        obtain ⟨x8, e9, h⟩ := pl_e h
        refine lv_nml e9 ?_
        refine lv_lstore_n (lv' := [(2, .long x8), (0, .int p0), (1, .int p1), (4, .int x2)]) hx hb dX0_power_15 rfl hl (by decide) rfl (fun ls hl => ?_)
        refine lv_iinc (v := (x2 + 1)) (lv' := [(4, .int (x2 + 1)), (2, .long x8), (0, .int p0), (1, .int p1)]) hx hb dX0_power_16 hl (k := 3) rfl rfl (by decide) rfl (fun ls hl => ?_)
        refine lv_goto (tgt := 5) hx hb dX0_power_19 (by decide) ?_
        exact ih _ _ _ _ h K5 H locs ls hW (lv_sub hl [2, 3, 1, 0] rfl)
  obtain ⟨x3, x4, hz10, h⟩ := ob2_e h
  refine L6 300 (1 : Int64) (0 : Int32) x3 x4 hz10 (fun H locs ls hW hl => ?_) H locs ls hW (lv_sub hl [2, 3, 1, 0] rfl)
  refine lv_lload_n hx hb dX0_power_22 rfl (lv_at hl 0 rfl) ?_
  cases h
  exact we_l S hr hlk hW dX0_power_23
/-loop lp_X0_ran_11-/
def lp_X0_ran_11 (F1 : St) : Nat → Int32 → Int32 → Option (Int32 × Int32)
  | 0, _, _ => none
  | n + 1, x3, x4 => if (F1 0 0 0 0) ≤ x4 then some (x3, x4) else ob (fn_X1_leftIn F1 3 x4) (fun r10 => ob (fn_X1_leftIn F1 3 x3) (fun r12 => ob (if r12 ≤ r10 then some x3 else some x4) (fun y16 => lp_X0_ran_11 F1 n y16 (x4 + 1))))
theorem lp_X0_ran_11_s {F1 : St} {n : Nat} {x3 : Int32} {x4 : Int32} : lp_X0_ran_11 F1 (n + 1) x3 x4 = if (F1 0 0 0 0) ≤ x4 then some (x3, x4) else ob (fn_X1_leftIn F1 3 x4) (fun r10 => ob (fn_X1_leftIn F1 3 x3) (fun r12 => ob (if r12 ≤ r10 then some x3 else some x4) (fun y16 => lp_X0_ran_11 F1 n y16 (x4 + 1)))) := rfl
def fn_X0_ran (F : St) : Option (St × Int32) :=
  ob (fn_X5_run F) (fun F1 => ob2 (lp_X0_ran_11 F1 300 (0 : Int32) (1 : Int32)) (fun x5 x6 => some (F1, x5)))
theorem yd_X0_ran : yX0_ran.cls = RX0 ∧ yX0_ran.cls ≠ "java/lang/invoke/MethodHandle" ∧ yX0_ran.cls ≠ "java/lang/invoke/VarHandle" ∧ (parseMethodDescriptor yX0_ran.desc).map (fun d => d.parameters.length) = some 0 := by decide +kernel
set_option maxHeartbeats 4000000 in
theorem met_X0_ran (l : Launch) {D : va_G} {dA : WK} {a : Ix → Nat} (hD : wD D dA a) {F : St} {Fz : St} {rz : Int32} (hv0 : wVd dA (0, 0, 0)) (h : fn_X0_ran F = some (Fz, rz)) : Mi l yX0_ran cX0_ran 3 .int 5 116 D dA a F [.ref (a (0, 0, 0))] Fz rz := by
  refine fun sz => mst (Qc := fun sz => wQi D dA a sz Fz rz) (by decide) (Nat.le_of_ble_eq_true rfl) ?_ sz
  intro p e s m below meth c S hr hlk hK hW ls hl
  have hl : lv_has ls 3 [(0, .ref (a (0, 0, 0)))] := hl
  have hx := S.1
  have hb := S.2.1
  generalize ([.ref (a (0, 0, 0))] : List Value).toArray = av at S ⊢
  unfold fn_X0_ran at h
  obtain ⟨H, eH⟩ : ∃ z, z = s.heap := ⟨_, rfl⟩
  obtain ⟨locs, eL⟩ : ∃ z : List Loc, z = [] := ⟨_, rfl⟩
  show WX p l e (rmL 5 116) s m av below meth c (wQi D dA a s.heap.size Fz rz) dA a s.heap [] (F0 m 0 ls [])
  have hW : wS D dA a s F H locs := by rw [eH, eL]; exact wS_in hW
  refine wx_in eH eL ?_
  clear eH eL
  refine lv_aload_n hx hb dX0_ran_0 rfl (lv_at hl 0 rfl) ?_
  refine gf_0_22 S hK hW hv0 q327 dX0_ran_1 ?_
  obtain ⟨F1, hc2, h⟩ := ob_e h
  refine wk_v (va_runV (As := []) (rest := []) S (met_X5_run l hD (vq_0_22 hv0) hc2 H.size) (cwV 0 S.2.2.2.2 (lw_V q950 q837 q838 q60 q842) rfl rfl rfl yd_X5_run ⟨Nat.le_of_ble_eq_true rfl, Nat.le_of_ble_eq_true rfl⟩) (wpreV hK hW (vq_0_22 hv0) rfl rfl _) rfl rfl hl.1 rfl (lv_room (Nat.le_of_ble_eq_true rfl)) dX0_ran_4 ⟨Nat.le_refl 0, Nat.le_refl 0⟩) hW (fun H locs hW => ?_)
  refine lv_iconst (v := (0 : Int32)) hx hb dX0_ran_7 (by decide) ?_
  refine lv_istore_n (lv' := [(1, .int (0 : Int32)), (0, .ref (a (0, 0, 0)))]) hx hb dX0_ran_8 rfl hl (by decide) rfl (fun ls hl => ?_)
  refine lv_iconst (v := (1 : Int32)) hx hb dX0_ran_9 (by decide) ?_
  refine lv_istore_n (lv' := [(2, .int (1 : Int32)), (1, .int (0 : Int32)), (0, .ref (a (0, 0, 0)))]) hx hb dX0_ran_10 rfl hl (by decide) rfl (fun ls hl => ?_)
  have L8 : ∀ (n : Nat) (x3 : Int32) (x4 : Int32) (x5 : Int32) (x6 : Int32), lp_X0_ran_11 F1 n x3 x4 = some (x5, x6) → (∀ (H : Heap) (locs : List Loc) (ls : Array Slot), wS D dA a s F1 H locs → lv_has ls 3 [(1, .int x5)] → WX p l e (rmL 5 116) s m av below meth c (wQi D dA a s.heap.size Fz rz) dA a H locs (F0 m 50 ls [])) → ∀ (H : Heap) (locs : List Loc) (ls : Array Slot), wS D dA a s F1 H locs → lv_has ls 3 [(0, .ref (a (0, 0, 0))), (1, .int x3), (2, .int x4)] → WX p l e (rmL 5 116) s m av below meth c (wQi D dA a s.heap.size Fz rz) dA a H locs (F0 m 11 ls []) := by
    intro n
    induction n with
    | zero =>
      intro x3 x4 x5 x6 h
      exact absurd (show (none : Option (Int32 × Int32)) = some (x5, x6) from h) (by simp)
    | succ n ih =>
      intro x3 x4 x5 x6 h K7 H locs ls hW hl
      have h := lp_X0_ran_11_s.symm.trans h
      refine lv_iload_n hx hb dX0_ran_11 rfl (lv_at hl 2 rfl) ?_
      refine lv_aload_n hx hb dX0_ran_12 rfl (lv_at hl 0 rfl) ?_
      refine gf_0_0 S hK hW hv0 q265 dX0_ran_13 ?_
      refine lv_icmp_ge (tgt := 50) hx hb dX0_ran_16 (by decide) (fun c9 => ?_) (fun c9 => ?_)
      · have h := if_t h c9
        cases h
        exact K7 H locs ls hW (lv_sub hl [1] rfl)
      · have h := if_f h c9
        refine lv_aload_n hx hb dX0_ran_19 rfl (lv_at hl 0 rfl) ?_
        refine gf_0_18 S hK hW hv0 q320 dX0_ran_20 ?_
        refine lv_iload_n hx hb dX0_ran_23 rfl (lv_at hl 2 rfl) ?_
        obtain ⟨r10, hc11, h⟩ := ob_e h
        refine wk_i (va_runV (As := [.int x4]) (rest := []) S (met_X1_leftIn l hD (vq_0_18 hv0) hc11 H.size) (cwV 1 S.2.2.2.2 (lw_V q951 q806 q807 q56 q808) rfl rfl rfl yd_X1_leftIn ⟨Nat.le_of_ble_eq_true rfl, Nat.le_of_ble_eq_true rfl⟩) (wpreV hK hW (vq_0_18 hv0) rfl rfl _) rfl rfl hl.1 rfl (lv_room (Nat.le_of_ble_eq_true rfl)) dX0_ran_24 ⟨Nat.le_refl 0, Nat.le_refl 0⟩) hW (fun H locs hW => ?_)
        refine lv_aload_n hx hb dX0_ran_27 rfl (lv_at hl 0 rfl) ?_
        refine gf_0_18 S hK hW hv0 q320 dX0_ran_28 ?_
        refine lv_iload_n hx hb dX0_ran_31 rfl (lv_at hl 1 rfl) ?_
        obtain ⟨r12, hc13, h⟩ := ob_e h
        refine wk_i (va_runV (As := [.int x3]) (rest := [.int r10]) S (met_X1_leftIn l hD (vq_0_18 hv0) hc13 H.size) (cwV 1 S.2.2.2.2 (lw_V q951 q806 q807 q56 q808) rfl rfl rfl yd_X1_leftIn ⟨Nat.le_of_ble_eq_true rfl, Nat.le_of_ble_eq_true rfl⟩) (wpreV hK hW (vq_0_18 hv0) rfl rfl _) rfl rfl hl.1 rfl (lv_room (Nat.le_of_ble_eq_true rfl)) dX0_ran_32 ⟨Nat.le_refl 0, Nat.le_refl 0⟩) hW (fun H locs hW => ?_)
        obtain ⟨y16, hz15, h⟩ := ob_e h
        have K17 : ∀ (H : Heap) (locs : List Loc) (ls : Array Slot), wS D dA a s F1 H locs → lv_has ls 3 [(0, .ref (a (0, 0, 0))), (2, .int x4)] → WX p l e (rmL 5 116) s m av below meth c (wQi D dA a s.heap.size Fz rz) dA a H locs (F0 m 43 ls [.int y16]) := by
          intro H locs ls hW hl
          refine lv_istore_n (lv' := [(1, .int y16), (0, .ref (a (0, 0, 0))), (2, .int x4)]) hx hb dX0_ran_43 rfl hl (by decide) rfl (fun ls hl => ?_)
          refine lv_iinc (v := (x4 + 1)) (lv' := [(2, .int (x4 + 1)), (1, .int y16), (0, .ref (a (0, 0, 0)))]) hx hb dX0_ran_44 hl (k := 2) rfl rfl (by decide) rfl (fun ls hl => ?_)
          refine lv_goto (tgt := 11) hx hb dX0_ran_47 (by decide) ?_
          exact ih _ _ _ _ h K7 H locs ls hW (lv_sub hl [2, 1, 0] rfl)
        clear h
        refine lv_icmp_ge (tgt := 42) hx hb dX0_ran_35 (by decide) (fun c14 => ?_) (fun c14 => ?_)
        · have h := if_t hz15 c14
          refine lv_iload_n hx hb dX0_ran_42 rfl (lv_at hl 1 rfl) ?_
          cases h
          exact K17 H locs ls hW (lv_sub hl [0, 2] rfl)
        · have h := if_f hz15 c14
          refine lv_iload_n hx hb dX0_ran_38 rfl (lv_at hl 2 rfl) ?_
          refine lv_goto (tgt := 43) hx hb dX0_ran_39 (by decide) ?_
          cases h
          exact K17 H locs ls hW (lv_sub hl [0, 2] rfl)
  obtain ⟨x5, x6, hz18, h⟩ := ob2_e h
  refine L8 300 (0 : Int32) (1 : Int32) x5 x6 hz18 (fun H locs ls hW hl => ?_) H locs ls hW (lv_sub hl [2, 1, 0] rfl)
  refine lv_iload_n hx hb dX0_ran_50 rfl (lv_at hl 0 rfl) ?_
  cases h
  exact we_i S hr hlk hW dX0_ran_51
/-loop lp_X0_right_20-/
def lp_X0_right_20 (p1 : Int32) (x2 : Int32) (x3 : Int32) : Nat → St → Int32 → Option ((St × Int32) ⊕ (St × Int32))
  | 0, _, _ => none
  | n + 1, F12, x11 => if x2 ≤ x11 then some (Sum.inr (F12, x11)) else ob2 (fn_X0_isRight F12 x11 x3) (fun F18 r19 => if r19 = 0 then lp_X0_right_20 p1 x2 x3 n F18 (x11 + 1) else if p1 = (-1 : Int32) then some (Sum.inl (F18, x3)) else if x3 ≤ p1 then some (Sum.inl (F18, (-1 : Int32))) else ob (fn_X0_figure F18 x11 ((x3 - (1 : Int32)) - p1)) (fun r24 => some (Sum.inl (F18, r24))))
theorem lp_X0_right_20_s {p1 : Int32} {x2 : Int32} {x3 : Int32} {n : Nat} {F12 : St} {x11 : Int32} : lp_X0_right_20 p1 x2 x3 (n + 1) F12 x11 = if x2 ≤ x11 then some (Sum.inr (F12, x11)) else ob2 (fn_X0_isRight F12 x11 x3) (fun F18 r19 => if r19 = 0 then lp_X0_right_20 p1 x2 x3 n F18 (x11 + 1) else if p1 = (-1 : Int32) then some (Sum.inl (F18, x3)) else if x3 ≤ p1 then some (Sum.inl (F18, (-1 : Int32))) else ob (fn_X0_figure F18 x11 ((x3 - (1 : Int32)) - p1)) (fun r24 => some (Sum.inl (F18, r24)))) := rfl
/-loop lp_X0_right_12-/
def lp_X0_right_12 (p1 : Int32) : Nat → St → Int32 → Int32 → Option ((St × Int32) ⊕ (St × Int32 × Int32))
  | 0, _, _, _ => none
  | n + 1, F4, x2, x3 => if (3 : Int32) < x3 then some (Sum.inr (F4, x2, x3)) else obE2 (lp_X0_right_20 p1 x2 x3 300 F4 (0 : Int32)) (fun y => some (Sum.inl y)) (fun F13 x14 => pl (x2 * (6 : Int32)) (fun x27 => lp_X0_right_12 p1 n F13 x27 (x3 + 1)))
theorem lp_X0_right_12_s {p1 : Int32} {n : Nat} {F4 : St} {x2 : Int32} {x3 : Int32} : lp_X0_right_12 p1 (n + 1) F4 x2 x3 = if (3 : Int32) < x3 then some (Sum.inr (F4, x2, x3)) else obE2 (lp_X0_right_20 p1 x2 x3 300 F4 (0 : Int32)) (fun y => some (Sum.inl y)) (fun F13 x14 => pl (x2 * (6 : Int32)) (fun x27 => lp_X0_right_12 p1 n F13 x27 (x3 + 1))) := rfl
def fn_X0_right (F : St) (p1 : Int32) : Option (St × Int32) :=
  if (-1 : Int32) ≤ p1 then obE3 (lp_X0_right_12 p1 300 F (1 : Int32) (0 : Int32)) (fun y => some y) (fun F5 x6 x7 => some (F5, (-1 : Int32))) else some (F, (-3 : Int32))
theorem yd_X0_right : yX0_right.cls = RX0 ∧ yX0_right.cls ≠ "java/lang/invoke/MethodHandle" ∧ yX0_right.cls ≠ "java/lang/invoke/VarHandle" ∧ (parseMethodDescriptor yX0_right.desc).map (fun d => d.parameters.length) = some 1 := by decide +kernel
set_option maxHeartbeats 4000000 in
theorem met_X0_right (l : Launch) {D : va_G} {dA : WK} {a : Ix → Nat} (hD : wD D dA a) {F : St} {p1 : Int32} {Fz : St} {rz : Int32} (hv0 : wVd dA (0, 0, 0)) (h : fn_X0_right F p1 = some (Fz, rz)) : Mi l yX0_right cX0_right 5 .int 7 163 D dA a F [.ref (a (0, 0, 0)), .int p1] Fz rz := by
  refine fun sz => mst (Qc := fun sz => wQi D dA a sz Fz rz) (by decide) (Nat.le_of_ble_eq_true rfl) ?_ sz
  intro p e s m below meth c S hr hlk hK hW ls hl
  have hl : lv_has ls 5 [(0, .ref (a (0, 0, 0))), (1, .int p1)] := hl
  have hx := S.1
  have hb := S.2.1
  generalize ([.ref (a (0, 0, 0)), .int p1] : List Value).toArray = av at S ⊢
  unfold fn_X0_right at h
  obtain ⟨H, eH⟩ : ∃ z, z = s.heap := ⟨_, rfl⟩
  obtain ⟨locs, eL⟩ : ∃ z : List Loc, z = [] := ⟨_, rfl⟩
  show WX p l e (rmL 7 163) s m av below meth c (wQi D dA a s.heap.size Fz rz) dA a s.heap [] (F0 m 0 ls [])
  have hW : wS D dA a s F H locs := by rw [eH, eL]; exact wS_in hW
  refine wx_in eH eL ?_
  clear eH eL
  refine lv_iload_n hx hb dX0_right_0 rfl (lv_at hl 1 rfl) ?_
  refine lv_iconst (v := (-1 : Int32)) hx hb dX0_right_1 (by decide) ?_
  refine lv_icmp_ge (tgt := 8) hx hb dX0_right_2 (by decide) (fun c1 => ?_) (fun c1 => ?_)
  · have h := if_t h c1
    refine lv_iconst (v := (1 : Int32)) hx hb dX0_right_8 (by decide) ?_
    refine lv_istore_n (lv' := [(2, .int (1 : Int32)), (0, .ref (a (0, 0, 0))), (1, .int p1)]) hx hb dX0_right_9 rfl hl (by decide) rfl (fun ls hl => ?_)
    refine lv_iconst (v := (0 : Int32)) hx hb dX0_right_10 (by decide) ?_
    refine lv_istore_n (lv' := [(3, .int (0 : Int32)), (2, .int (1 : Int32)), (0, .ref (a (0, 0, 0))), (1, .int p1)]) hx hb dX0_right_11 rfl hl (by decide) rfl (fun ls hl => ?_)
    have L9 : ∀ (n : Nat) (F4 : St) (x2 : Int32) (x3 : Int32) (Rr : (St × Int32) ⊕ (St × Int32 × Int32)), lp_X0_right_12 p1 n F4 x2 x3 = some Rr → (∀ y, Rr = Sum.inl y → some y = some (Fz, rz)) → (∀ (F5 : St) (x6 : Int32) (x7 : Int32), Rr = Sum.inr (F5, x6, x7) → ∀ (H : Heap) (locs : List Loc) (ls : Array Slot), wS D dA a s F5 H locs → lv_has ls 5 [] → WX p l e (rmL 7 163) s m av below meth c (wQi D dA a s.heap.size Fz rz) dA a H locs (F0 m 82 ls [])) → ∀ (H : Heap) (locs : List Loc) (ls : Array Slot), wS D dA a s F4 H locs → lv_has ls 5 [(0, .ref (a (0, 0, 0))), (1, .int p1), (2, .int x2), (3, .int x3)] → WX p l e (rmL 7 163) s m av below meth c (wQi D dA a s.heap.size Fz rz) dA a H locs (F0 m 12 ls []) := by
      intro n
      induction n with
      | zero =>
        intro F4 x2 x3 Rr h
        exact absurd (show (none : Option ((St × Int32) ⊕ (St × Int32 × Int32))) = some Rr from h) (by simp)
      | succ n ih =>
        intro F4 x2 x3 Rr h hfin K8 H locs ls hW hl
        have h := lp_X0_right_12_s.symm.trans h
        refine lv_iload_n hx hb dX0_right_12 rfl (lv_at hl 3 rfl) ?_
        refine lv_iconst (v := (3 : Int32)) hx hb dX0_right_13 (by decide) ?_
        refine lv_icmp_gt (tgt := 82) hx hb dX0_right_14 (by decide) (fun c10 => ?_) (fun c10 => ?_)
        · have h := if_t h c10
          cases h
          exact K8 _ _ _ rfl H locs ls hW (lv_sub hl [] rfl)
        · have h := if_f h c10
          refine lv_iconst (v := (0 : Int32)) hx hb dX0_right_17 (by decide) ?_
          refine lv_istore (lv' := [(4, .int (0 : Int32)), (0, .ref (a (0, 0, 0))), (1, .int p1), (2, .int x2), (3, .int x3)]) hx hb dX0_right_18 hl (by decide) rfl (fun ls hl => ?_)
          have L16 : ∀ (n : Nat) (F12 : St) (x11 : Int32) (Rr : (St × Int32) ⊕ (St × Int32)), lp_X0_right_20 p1 x2 x3 n F12 x11 = some Rr → (∀ y, Rr = Sum.inl y → some y = some (Fz, rz)) → (∀ (F13 : St) (x14 : Int32), Rr = Sum.inr (F13, x14) → ∀ (H : Heap) (locs : List Loc) (ls : Array Slot), wS D dA a s F13 H locs → lv_has ls 5 [(0, .ref (a (0, 0, 0))), (1, .int p1), (2, .int x2), (3, .int x3)] → WX p l e (rmL 7 163) s m av below meth c (wQi D dA a s.heap.size Fz rz) dA a H locs (F0 m 71 ls [])) → ∀ (H : Heap) (locs : List Loc) (ls : Array Slot), wS D dA a s F12 H locs → lv_has ls 5 [(0, .ref (a (0, 0, 0))), (1, .int p1), (2, .int x2), (3, .int x3), (4, .int x11)] → WX p l e (rmL 7 163) s m av below meth c (wQi D dA a s.heap.size Fz rz) dA a H locs (F0 m 20 ls []) := by
            intro n
            induction n with
            | zero =>
              intro F12 x11 Rr h
              exact absurd (show (none : Option ((St × Int32) ⊕ (St × Int32))) = some Rr from h) (by simp)
            | succ n ih =>
              intro F12 x11 Rr h hfin K15 H locs ls hW hl
              have h := lp_X0_right_20_s.symm.trans h
              refine lv_iload hx hb dX0_right_20 (lv_at hl 4 rfl) ?_
              refine lv_iload_n hx hb dX0_right_22 rfl (lv_at hl 2 rfl) ?_
              refine lv_icmp_ge (tgt := 71) hx hb dX0_right_23 (by decide) (fun c17 => ?_) (fun c17 => ?_)
              · have h := if_t h c17
                cases h
                exact K15 _ _ rfl H locs ls hW (lv_sub hl [0, 1, 2, 3] rfl)
              · have h := if_f h c17
                refine lv_aload_n hx hb dX0_right_26 rfl (lv_at hl 0 rfl) ?_
                refine lv_iload hx hb dX0_right_27 (lv_at hl 4 rfl) ?_
                refine lv_iload_n hx hb dX0_right_29 rfl (lv_at hl 3 rfl) ?_
                obtain ⟨F18, r19, hc20, h⟩ := ob2_e h
                refine wk_i (va_runV (As := [.int x11, .int x3]) (rest := []) S (met_X0_isRight l hD hv0 hc20 H.size) (cwV 2 S.2.2.2.2 (lw_V q912 q914 qs20 q55 q915) rfl rfl rfl yd_X0_isRight ⟨Nat.le_of_ble_eq_true rfl, Nat.le_of_ble_eq_true rfl⟩) (wpreV hK hW hv0 rfl rfl _) rfl rfl hl.1 rfl (lv_room (Nat.le_of_ble_eq_true rfl)) dX0_right_30 ⟨Nat.le_refl 0, Nat.le_refl 0⟩) hW (fun H locs hW => ?_)
                refine lv_if_eq (tgt := 65) hx hb dX0_right_33 (by decide) (fun c21 => ?_) (fun c21 => ?_)
                · have h := if_t h c21
                  refine lv_iinc (v := (x11 + 1)) (lv' := [(4, .int (x11 + 1)), (0, .ref (a (0, 0, 0))), (1, .int p1), (2, .int x2), (3, .int x3)]) hx hb dX0_right_65 hl (k := 4) rfl rfl (by decide) rfl (fun ls hl => ?_)
                  refine lv_goto (tgt := 20) hx hb dX0_right_68 (by decide) ?_
                  exact ih _ _ _ h hfin K15 H locs ls hW (lv_sub hl [1, 2, 3, 4, 0] rfl)
                · have h := if_f h c21
                  refine lv_iload_n hx hb dX0_right_36 rfl (lv_at hl 1 rfl) ?_
                  refine lv_iconst (v := (-1 : Int32)) hx hb dX0_right_37 (by decide) ?_
                  refine lv_icmp_ne (tgt := 45) hx hb dX0_right_38 (by decide) (fun c22 => ?_) (fun c22 => ?_)
                  · have h := if_f h c22
                    refine lv_iload_n hx hb dX0_right_45 rfl (lv_at hl 1 rfl) ?_
                    refine lv_iload_n hx hb dX0_right_46 rfl (lv_at hl 3 rfl) ?_
                    refine lv_icmp_ge (tgt := 63) hx hb dX0_right_47 (by decide) (fun c23 => ?_) (fun c23 => ?_)
                    · have h := if_t h c23
                      refine lv_iconst (v := (-1 : Int32)) hx hb dX0_right_63 (by decide) ?_
                      cases h
                      have h := hfin _ rfl
                      cases h
                      exact we_i S hr hlk hW dX0_right_64
                    · have h := if_f h c23
                      refine lv_iload hx hb dX0_right_50 (lv_at hl 4 rfl) ?_
                      refine lv_iload_n hx hb dX0_right_52 rfl (lv_at hl 3 rfl) ?_
                      refine lv_iconst (v := (1 : Int32)) hx hb dX0_right_53 (by decide) ?_
                      refine lv_isub hx hb dX0_right_54 ?_
                      refine lv_iload_n hx hb dX0_right_55 rfl (lv_at hl 1 rfl) ?_
                      refine lv_isub hx hb dX0_right_56 ?_
                      obtain ⟨r24, hc25, h⟩ := ob_e h
                      refine wk_i (va_runS (As := [.int x11, .int ((x3 - (1 : Int32)) - p1)]) (rest := []) S (met_X0_figure l hD hc25 H.size) (va_cwS 2 S.2.2.2.2 (lw_S q917 q918 q55 q919) rfl rfl rfl yd_X0_figure.2 ⟨Nat.le_of_ble_eq_true rfl, Nat.le_of_ble_eq_true rfl⟩) (wpreS hK hW _) rfl rfl hl.1 rfl (lv_room (Nat.le_of_ble_eq_true rfl)) dX0_right_57 ⟨Nat.le_refl 0, Nat.le_refl 0⟩) hW (fun H locs hW => ?_)
                      refine lv_goto (tgt := 64) hx hb dX0_right_60 (by decide) ?_
                      cases h
                      have h := hfin _ rfl
                      cases h
                      exact we_i S hr hlk hW dX0_right_64
                  · have h := if_t h c22
                    refine lv_iload_n hx hb dX0_right_41 rfl (lv_at hl 3 rfl) ?_
                    refine lv_goto (tgt := 64) hx hb dX0_right_42 (by decide) ?_
                    cases h
                    have h := hfin _ rfl
                    cases h
                    exact we_i S hr hlk hW dX0_right_64
          rcases obE2_e h with ⟨y, hz26, h⟩ | ⟨F13, x14, hz26, h⟩
          · exact L16 300 F4 (0 : Int32) _ hz26 (fun y2 hy => by cases hy; exact (by cases h; exact hfin _ rfl)) (fun _ _ ht => by cases ht) H locs ls hW (lv_sub hl [1, 2, 3, 4, 0] rfl)
          · refine L16 300 F4 (0 : Int32) _ hz26 (fun y2 hy => by cases hy) (fun _ _ ht H locs ls hW hl => ?_) H locs ls hW (lv_sub hl [1, 2, 3, 4, 0] rfl)
            cases ht
            refine lv_iload_n hx hb dX0_right_71 rfl (lv_at hl 2 rfl) ?_
            refine lv_bipush (v := (6 : Int32)) hx hb dX0_right_72 (by decide) ?_
            refine lv_imul hx hb dX0_right_74 ?_
            obtain ⟨x27, e28, h⟩ := pl_e h
            refine lv_nm e28 ?_
            refine lv_istore_n (lv' := [(2, .int x27), (0, .ref (a (0, 0, 0))), (1, .int p1), (3, .int x3)]) hx hb dX0_right_75 rfl hl (by decide) rfl (fun ls hl => ?_)
            refine lv_iinc (v := (x3 + 1)) (lv' := [(3, .int (x3 + 1)), (2, .int x27), (0, .ref (a (0, 0, 0))), (1, .int p1)]) hx hb dX0_right_76 hl (k := 3) rfl rfl (by decide) rfl (fun ls hl => ?_)
            refine lv_goto (tgt := 12) hx hb dX0_right_79 (by decide) ?_
            exact ih _ _ _ _ h hfin K8 H locs ls hW (lv_sub hl [2, 3, 1, 0] rfl)
    rcases obE3_e h with ⟨y, hz29, h⟩ | ⟨F5, x6, x7, hz29, h⟩
    · exact L9 300 F (1 : Int32) (0 : Int32) _ hz29 (fun y2 hy => by cases hy; exact h) (fun _ _ _ ht => by cases ht) H locs ls hW (lv_sub hl [2, 3, 1, 0] rfl)
    · refine L9 300 F (1 : Int32) (0 : Int32) _ hz29 (fun y2 hy => by cases hy) (fun _ _ _ ht H locs ls hW hl => ?_) H locs ls hW (lv_sub hl [2, 3, 1, 0] rfl)
      cases ht
      refine lv_iconst (v := (-1 : Int32)) hx hb dX0_right_82 (by decide) ?_
      cases h
      exact we_i S hr hlk hW dX0_right_83
  · have h := if_f h c1
    refine lv_bipush (v := (-3 : Int32)) hx hb dX0_right_5 (by decide) ?_
    cases h
    exact we_i S hr hlk hW dX0_right_7
/-loop lp_X0_runs_21-/
def lp_X0_runs_21 (F1 : St) (x4 : Int32) : Nat → Int32 → Int32 → Option (Int32 × Int32)
  | 0, _, _ => none
  | n + 1, x10, x11 => if (F1 0 1 0 0) ≤ x11 then some (x10, x11) else ob (fn_X1_looseOf F1 3 x4 x11 (F1 0 8 0 0) (1 : Int32)) (fun r17 => ob (if r17 = (95 : Int32) then ob (fn_X1_looseOf F1 3 x4 x11 (F1 0 8 0 0) (0 : Int32)) (fun r23 => if (95 : Int32) ≤ r23 then some (0 : Int32) else some (1 : Int32)) else some (0 : Int32)) (fun y21 => ob (if y21 = 0 then some (0 : Int32) else some ((1 : Int32) <<< ((((4 : Int32) * x11) + x4) &&& 31))) (fun y28 => pl (x10 ||| y28) (fun x30 => lp_X0_runs_21 F1 x4 n x30 (x11 + 1)))))
theorem lp_X0_runs_21_s {F1 : St} {x4 : Int32} {n : Nat} {x10 : Int32} {x11 : Int32} : lp_X0_runs_21 F1 x4 (n + 1) x10 x11 = if (F1 0 1 0 0) ≤ x11 then some (x10, x11) else ob (fn_X1_looseOf F1 3 x4 x11 (F1 0 8 0 0) (1 : Int32)) (fun r17 => ob (if r17 = (95 : Int32) then ob (fn_X1_looseOf F1 3 x4 x11 (F1 0 8 0 0) (0 : Int32)) (fun r23 => if (95 : Int32) ≤ r23 then some (0 : Int32) else some (1 : Int32)) else some (0 : Int32)) (fun y21 => ob (if y21 = 0 then some (0 : Int32) else some ((1 : Int32) <<< ((((4 : Int32) * x11) + x4) &&& 31))) (fun y28 => pl (x10 ||| y28) (fun x30 => lp_X0_runs_21 F1 x4 n x30 (x11 + 1))))) := rfl
/-loop lp_X0_runs_11-/
def lp_X0_runs_11 (F1 : St) : Nat → Int32 → Int32 → Option (Int32 × Int32)
  | 0, _, _ => none
  | n + 1, x3, x4 => if (F1 0 0 0 0) ≤ x4 then some (x3, x4) else ob2 (lp_X0_runs_21 F1 x4 300 x3 (0 : Int32)) (fun x12 x13 => lp_X0_runs_11 F1 n x12 (x4 + 1))
theorem lp_X0_runs_11_s {F1 : St} {n : Nat} {x3 : Int32} {x4 : Int32} : lp_X0_runs_11 F1 (n + 1) x3 x4 = if (F1 0 0 0 0) ≤ x4 then some (x3, x4) else ob2 (lp_X0_runs_21 F1 x4 300 x3 (0 : Int32)) (fun x12 x13 => lp_X0_runs_11 F1 n x12 (x4 + 1)) := rfl
def fn_X0_runs (F : St) : Option (St × Int32) :=
  ob (fn_X5_run F) (fun F1 => ob2 (lp_X0_runs_11 F1 300 (0 : Int32) (0 : Int32)) (fun x5 x6 => some (F1, x5)))
theorem yd_X0_runs : yX0_runs.cls = RX0 ∧ yX0_runs.cls ≠ "java/lang/invoke/MethodHandle" ∧ yX0_runs.cls ≠ "java/lang/invoke/VarHandle" ∧ (parseMethodDescriptor yX0_runs.desc).map (fun d => d.parameters.length) = some 0 := by decide +kernel
set_option maxHeartbeats 4000000 in
theorem met_X0_runs (l : Launch) {D : va_G} {dA : WK} {a : Ix → Nat} (hD : wD D dA a) {F : St} {Fz : St} {rz : Int32} (hv0 : wVd dA (0, 0, 0)) (h : fn_X0_runs F = some (Fz, rz)) : Mi l yX0_runs cX0_runs 5 .int 5 116 D dA a F [.ref (a (0, 0, 0))] Fz rz := by
  refine fun sz => mst (Qc := fun sz => wQi D dA a sz Fz rz) (by decide) (Nat.le_of_ble_eq_true rfl) ?_ sz
  intro p e s m below meth c S hr hlk hK hW ls hl
  have hl : lv_has ls 5 [(0, .ref (a (0, 0, 0)))] := hl
  have hx := S.1
  have hb := S.2.1
  generalize ([.ref (a (0, 0, 0))] : List Value).toArray = av at S ⊢
  unfold fn_X0_runs at h
  obtain ⟨H, eH⟩ : ∃ z, z = s.heap := ⟨_, rfl⟩
  obtain ⟨locs, eL⟩ : ∃ z : List Loc, z = [] := ⟨_, rfl⟩
  show WX p l e (rmL 5 116) s m av below meth c (wQi D dA a s.heap.size Fz rz) dA a s.heap [] (F0 m 0 ls [])
  have hW : wS D dA a s F H locs := by rw [eH, eL]; exact wS_in hW
  refine wx_in eH eL ?_
  clear eH eL
  refine lv_aload_n hx hb dX0_runs_0 rfl (lv_at hl 0 rfl) ?_
  refine gf_0_22 S hK hW hv0 q327 dX0_runs_1 ?_
  obtain ⟨F1, hc2, h⟩ := ob_e h
  refine wk_v (va_runV (As := []) (rest := []) S (met_X5_run l hD (vq_0_22 hv0) hc2 H.size) (cwV 0 S.2.2.2.2 (lw_V q950 q837 q838 q60 q842) rfl rfl rfl yd_X5_run ⟨Nat.le_of_ble_eq_true rfl, Nat.le_of_ble_eq_true rfl⟩) (wpreV hK hW (vq_0_22 hv0) rfl rfl _) rfl rfl hl.1 rfl (lv_room (Nat.le_of_ble_eq_true rfl)) dX0_runs_4 ⟨Nat.le_refl 0, Nat.le_refl 0⟩) hW (fun H locs hW => ?_)
  refine lv_iconst (v := (0 : Int32)) hx hb dX0_runs_7 (by decide) ?_
  refine lv_istore_n (lv' := [(1, .int (0 : Int32)), (0, .ref (a (0, 0, 0)))]) hx hb dX0_runs_8 rfl hl (by decide) rfl (fun ls hl => ?_)
  refine lv_iconst (v := (0 : Int32)) hx hb dX0_runs_9 (by decide) ?_
  refine lv_istore_n (lv' := [(2, .int (0 : Int32)), (1, .int (0 : Int32)), (0, .ref (a (0, 0, 0)))]) hx hb dX0_runs_10 rfl hl (by decide) rfl (fun ls hl => ?_)
  have L8 : ∀ (n : Nat) (x3 : Int32) (x4 : Int32) (x5 : Int32) (x6 : Int32), lp_X0_runs_11 F1 n x3 x4 = some (x5, x6) → (∀ (H : Heap) (locs : List Loc) (ls : Array Slot), wS D dA a s F1 H locs → lv_has ls 5 [(1, .int x5)] → WX p l e (rmL 5 116) s m av below meth c (wQi D dA a s.heap.size Fz rz) dA a H locs (F0 m 105 ls [])) → ∀ (H : Heap) (locs : List Loc) (ls : Array Slot), wS D dA a s F1 H locs → lv_has ls 5 [(0, .ref (a (0, 0, 0))), (1, .int x3), (2, .int x4)] → WX p l e (rmL 5 116) s m av below meth c (wQi D dA a s.heap.size Fz rz) dA a H locs (F0 m 11 ls []) := by
    intro n
    induction n with
    | zero =>
      intro x3 x4 x5 x6 h
      exact absurd (show (none : Option (Int32 × Int32)) = some (x5, x6) from h) (by simp)
    | succ n ih =>
      intro x3 x4 x5 x6 h K7 H locs ls hW hl
      have h := lp_X0_runs_11_s.symm.trans h
      refine lv_iload_n hx hb dX0_runs_11 rfl (lv_at hl 2 rfl) ?_
      refine lv_aload_n hx hb dX0_runs_12 rfl (lv_at hl 0 rfl) ?_
      refine gf_0_0 S hK hW hv0 q265 dX0_runs_13 ?_
      refine lv_icmp_ge (tgt := 105) hx hb dX0_runs_16 (by decide) (fun c9 => ?_) (fun c9 => ?_)
      · have h := if_t h c9
        cases h
        exact K7 H locs ls hW (lv_sub hl [1] rfl)
      · have h := if_f h c9
        refine lv_iconst (v := (0 : Int32)) hx hb dX0_runs_19 (by decide) ?_
        refine lv_istore_n (lv' := [(3, .int (0 : Int32)), (0, .ref (a (0, 0, 0))), (1, .int x3), (2, .int x4)]) hx hb dX0_runs_20 rfl hl (by decide) rfl (fun ls hl => ?_)
        have L15 : ∀ (n : Nat) (x10 : Int32) (x11 : Int32) (x12 : Int32) (x13 : Int32), lp_X0_runs_21 F1 x4 n x10 x11 = some (x12, x13) → (∀ (H : Heap) (locs : List Loc) (ls : Array Slot), wS D dA a s F1 H locs → lv_has ls 5 [(0, .ref (a (0, 0, 0))), (1, .int x12), (2, .int x4)] → WX p l e (rmL 5 116) s m av below meth c (wQi D dA a s.heap.size Fz rz) dA a H locs (F0 m 99 ls [])) → ∀ (H : Heap) (locs : List Loc) (ls : Array Slot), wS D dA a s F1 H locs → lv_has ls 5 [(0, .ref (a (0, 0, 0))), (1, .int x10), (2, .int x4), (3, .int x11)] → WX p l e (rmL 5 116) s m av below meth c (wQi D dA a s.heap.size Fz rz) dA a H locs (F0 m 21 ls []) := by
          intro n
          induction n with
          | zero =>
            intro x10 x11 x12 x13 h
            exact absurd (show (none : Option (Int32 × Int32)) = some (x12, x13) from h) (by simp)
          | succ n ih =>
            intro x10 x11 x12 x13 h K14 H locs ls hW hl
            have h := lp_X0_runs_21_s.symm.trans h
            refine lv_iload_n hx hb dX0_runs_21 rfl (lv_at hl 3 rfl) ?_
            refine lv_aload_n hx hb dX0_runs_22 rfl (lv_at hl 0 rfl) ?_
            refine gf_0_1 S hK hW hv0 q269 dX0_runs_23 ?_
            refine lv_icmp_ge (tgt := 99) hx hb dX0_runs_26 (by decide) (fun c16 => ?_) (fun c16 => ?_)
            · have h := if_t h c16
              cases h
              exact K14 H locs ls hW (lv_sub hl [0, 1, 2] rfl)
            · have h := if_f h c16
              refine lv_aload_n hx hb dX0_runs_29 rfl (lv_at hl 0 rfl) ?_
              refine gf_0_18 S hK hW hv0 q320 dX0_runs_30 ?_
              refine lv_iload_n hx hb dX0_runs_33 rfl (lv_at hl 2 rfl) ?_
              refine lv_iload_n hx hb dX0_runs_34 rfl (lv_at hl 3 rfl) ?_
              refine lv_aload_n hx hb dX0_runs_35 rfl (lv_at hl 0 rfl) ?_
              refine gf_0_8 S hK hW hv0 q295 dX0_runs_36 ?_
              refine lv_iconst (v := (1 : Int32)) hx hb dX0_runs_39 (by decide) ?_
              obtain ⟨r17, hc18, h⟩ := ob_e h
              refine wk_i (va_runV (As := [.int x4, .int x11, .int (F1 0 8 0 0), .int (1 : Int32)]) (rest := []) S (met_X1_looseOf l hD (vq_0_18 hv0) hc18 H.size) (cwV 4 S.2.2.2.2 (lw_V q780 q765 q766 q56 q767) rfl rfl rfl yd_X1_looseOf ⟨Nat.le_of_ble_eq_true rfl, Nat.le_of_ble_eq_true rfl⟩) (wpreV hK hW (vq_0_18 hv0) rfl rfl _) rfl rfl hl.1 rfl (lv_room (Nat.le_of_ble_eq_true rfl)) dX0_runs_40 ⟨Nat.le_refl 0, Nat.le_refl 0⟩) hW (fun H locs hW => ?_)
              refine lv_bipush (v := (95 : Int32)) hx hb dX0_runs_43 (by decide) ?_
              obtain ⟨y21, hz20, h⟩ := ob_e h
              have K22 : ∀ (H : Heap) (locs : List Loc) (ls : Array Slot), wS D dA a s F1 H locs → lv_has ls 5 [(0, .ref (a (0, 0, 0))), (1, .int x10), (2, .int x4), (3, .int x11)] → WX p l e (rmL 5 116) s m av below meth c (wQi D dA a s.heap.size Fz rz) dA a H locs (F0 m 72 ls [.int y21]) := by
                intro H locs ls hW hl
                refine lv_istore (lv' := [(4, .int y21), (0, .ref (a (0, 0, 0))), (1, .int x10), (2, .int x4), (3, .int x11)]) hx hb dX0_runs_72 hl (by decide) rfl (fun ls hl => ?_)
                refine lv_iload_n hx hb dX0_runs_74 rfl (lv_at hl 2 rfl) ?_
                refine lv_iload hx hb dX0_runs_75 (lv_at hl 0 rfl) ?_
                obtain ⟨y28, hz27, h⟩ := ob_e h
                have K29 : ∀ (H : Heap) (locs : List Loc) (ls : Array Slot), wS D dA a s F1 H locs → lv_has ls 5 [(0, .ref (a (0, 0, 0))), (2, .int x4), (3, .int x11)] → WX p l e (rmL 5 116) s m av below meth c (wQi D dA a s.heap.size Fz rz) dA a H locs (F0 m 91 ls [.int y28, .int x10]) := by
                  intro H locs ls hW hl
                  refine lv_ior hx hb dX0_runs_91 ?_
                  obtain ⟨x30, e31, h⟩ := pl_e h
                  refine lv_nm e31 ?_
                  refine lv_istore_n (lv' := [(1, .int x30), (0, .ref (a (0, 0, 0))), (2, .int x4), (3, .int x11)]) hx hb dX0_runs_92 rfl hl (by decide) rfl (fun ls hl => ?_)
                  refine lv_iinc (v := (x11 + 1)) (lv' := [(3, .int (x11 + 1)), (1, .int x30), (0, .ref (a (0, 0, 0))), (2, .int x4)]) hx hb dX0_runs_93 hl (k := 3) rfl rfl (by decide) rfl (fun ls hl => ?_)
                  refine lv_goto (tgt := 21) hx hb dX0_runs_96 (by decide) ?_
                  exact ih _ _ _ _ h K14 H locs ls hW (lv_sub hl [2, 1, 3, 0] rfl)
                clear h
                refine lv_if_eq (tgt := 90) hx hb dX0_runs_77 (by decide) (fun c26 => ?_) (fun c26 => ?_)
                · have h := if_t hz27 c26
                  refine lv_iconst (v := (0 : Int32)) hx hb dX0_runs_90 (by decide) ?_
                  cases h
                  exact K29 H locs ls hW (lv_sub hl [1, 3, 4] rfl)
                · have h := if_f hz27 c26
                  refine lv_iconst (v := (1 : Int32)) hx hb dX0_runs_80 (by decide) ?_
                  refine lv_iconst (v := (4 : Int32)) hx hb dX0_runs_81 (by decide) ?_
                  refine lv_iload_n hx hb dX0_runs_82 rfl (lv_at hl 4 rfl) ?_
                  refine lv_imul hx hb dX0_runs_83 ?_
                  refine lv_iload_n hx hb dX0_runs_84 rfl (lv_at hl 3 rfl) ?_
                  refine lv_iadd hx hb dX0_runs_85 ?_
                  refine lv_ishl hx hb dX0_runs_86 ?_
                  refine lv_goto (tgt := 91) hx hb dX0_runs_87 (by decide) ?_
                  cases h
                  exact K29 H locs ls hW (lv_sub hl [1, 3, 4] rfl)
              clear h
              refine lv_icmp_ne (tgt := 71) hx hb dX0_runs_45 (by decide) (fun c19 => ?_) (fun c19 => ?_)
              · have h := if_f hz20 c19
                refine lv_iconst (v := (0 : Int32)) hx hb dX0_runs_71 (by decide) ?_
                cases h
                exact K22 H locs ls hW (lv_sub hl [0, 1, 2, 3] rfl)
              · have h := if_t hz20 c19
                refine lv_aload_n hx hb dX0_runs_48 rfl (lv_at hl 0 rfl) ?_
                refine gf_0_18 S hK hW hv0 q320 dX0_runs_49 ?_
                refine lv_iload_n hx hb dX0_runs_52 rfl (lv_at hl 2 rfl) ?_
                refine lv_iload_n hx hb dX0_runs_53 rfl (lv_at hl 3 rfl) ?_
                refine lv_aload_n hx hb dX0_runs_54 rfl (lv_at hl 0 rfl) ?_
                refine gf_0_8 S hK hW hv0 q295 dX0_runs_55 ?_
                refine lv_iconst (v := (0 : Int32)) hx hb dX0_runs_58 (by decide) ?_
                obtain ⟨r23, hc24, h⟩ := ob_e h
                refine wk_i (va_runV (As := [.int x4, .int x11, .int (F1 0 8 0 0), .int (0 : Int32)]) (rest := []) S (met_X1_looseOf l hD (vq_0_18 hv0) hc24 H.size) (cwV 4 S.2.2.2.2 (lw_V q780 q765 q766 q56 q767) rfl rfl rfl yd_X1_looseOf ⟨Nat.le_of_ble_eq_true rfl, Nat.le_of_ble_eq_true rfl⟩) (wpreV hK hW (vq_0_18 hv0) rfl rfl _) rfl rfl hl.1 rfl (lv_room (Nat.le_of_ble_eq_true rfl)) dX0_runs_59 ⟨Nat.le_refl 0, Nat.le_refl 0⟩) hW (fun H locs hW => ?_)
                refine lv_bipush (v := (95 : Int32)) hx hb dX0_runs_62 (by decide) ?_
                refine lv_icmp_ge (tgt := 71) hx hb dX0_runs_64 (by decide) (fun c25 => ?_) (fun c25 => ?_)
                · have h := if_t h c25
                  refine lv_iconst (v := (0 : Int32)) hx hb dX0_runs_71 (by decide) ?_
                  cases h
                  exact K22 H locs ls hW (lv_sub hl [0, 1, 2, 3] rfl)
                · have h := if_f h c25
                  refine lv_iconst (v := (1 : Int32)) hx hb dX0_runs_67 (by decide) ?_
                  refine lv_goto (tgt := 72) hx hb dX0_runs_68 (by decide) ?_
                  cases h
                  exact K22 H locs ls hW (lv_sub hl [0, 1, 2, 3] rfl)
        obtain ⟨x12, x13, hz32, h⟩ := ob2_e h
        refine L15 300 x3 (0 : Int32) x12 x13 hz32 (fun H locs ls hW hl => ?_) H locs ls hW (lv_sub hl [1, 2, 3, 0] rfl)
        refine lv_iinc (v := (x4 + 1)) (lv' := [(2, .int (x4 + 1)), (0, .ref (a (0, 0, 0))), (1, .int x12)]) hx hb dX0_runs_99 hl (k := 2) rfl rfl (by decide) rfl (fun ls hl => ?_)
        refine lv_goto (tgt := 11) hx hb dX0_runs_102 (by decide) ?_
        exact ih _ _ _ _ h K7 H locs ls hW (lv_sub hl [1, 2, 0] rfl)
  obtain ⟨x5, x6, hz33, h⟩ := ob2_e h
  refine L8 300 (0 : Int32) (0 : Int32) x5 x6 hz33 (fun H locs ls hW hl => ?_) H locs ls hW (lv_sub hl [2, 1, 0] rfl)
  refine lv_iload_n hx hb dX0_runs_105 rfl (lv_at hl 0 rfl) ?_
  cases h
  exact we_i S hr hlk hW dX0_runs_106
def fn_X0_stuff (F : St) (p1 : Int32) (p2 : Int32) : Option (Int32) :=
  ob (fn_X0_isIn F p1.toInt64 (0 : Int64) (2 : Int64)) (fun r1 => if r1 = 0 then some (-2 : Int32) else if p2 = 0 then og (vpb p1 3) (some (F 23 0 0 p1.toNatClampNeg)) else if p2 = (1 : Int32) then og (vpb p1 3) (some (F 24 0 0 p1.toNatClampNeg)) else some (-3 : Int32))
theorem yd_X0_stuff : yX0_stuff.cls = RX0 ∧ yX0_stuff.cls ≠ "java/lang/invoke/MethodHandle" ∧ yX0_stuff.cls ≠ "java/lang/invoke/VarHandle" ∧ (parseMethodDescriptor yX0_stuff.desc).map (fun d => d.parameters.length) = some 2 := by decide +kernel
set_option maxHeartbeats 4000000 in
theorem met_X0_stuff (l : Launch) {D : va_G} {dA : WK} {a : Ix → Nat} (hD : wD D dA a) {F : St} {p1 : Int32} {p2 : Int32} {rz : Int32} (hv0 : wVd dA (0, 0, 0)) (h : fn_X0_stuff F p1 p2 = some rz) : Mi l yX0_stuff cX0_stuff 3 .int 1 25 D dA a F [.ref (a (0, 0, 0)), .int p1, .int p2] F rz := by
  refine fun sz => mst (Qc := fun sz => wQi D dA a sz F rz) (by decide) (Nat.le_of_ble_eq_true rfl) ?_ sz
  intro p e s m below meth c S hr hlk hK hW ls hl
  have hl : lv_has ls 3 [(0, .ref (a (0, 0, 0))), (1, .int p1), (2, .int p2)] := hl
  have hx := S.1
  have hb := S.2.1
  generalize ([.ref (a (0, 0, 0)), .int p1, .int p2] : List Value).toArray = av at S ⊢
  unfold fn_X0_stuff at h
  obtain ⟨H, eH⟩ : ∃ z, z = s.heap := ⟨_, rfl⟩
  obtain ⟨locs, eL⟩ : ∃ z : List Loc, z = [] := ⟨_, rfl⟩
  show WX p l e (rmL 1 25) s m av below meth c (wQi D dA a s.heap.size F rz) dA a s.heap [] (F0 m 0 ls [])
  have hW : wS D dA a s F H locs := by rw [eH, eL]; exact wS_in hW
  refine wx_in eH eL ?_
  clear eH eL
  refine lv_iload_n hx hb dX0_stuff_0 rfl (lv_at hl 1 rfl) ?_
  refine lv_i2l hx hb dX0_stuff_1 rfl ?_
  refine lv_lconst (v := (0 : Int64)) hx hb dX0_stuff_2 (by decide) ?_
  refine lv_ldc2 (v := (2 : Int64)) hx hb S.2.2.2.1 (S.2.2.2.2 _ q713) dX0_stuff_3 ?_
  obtain ⟨r1, hc2, h⟩ := ob_e h
  refine wk_i (va_runS (As := [.long p1.toInt64, .long (0 : Int64), .long (2 : Int64)]) (rest := []) S (met_X0_isIn l hD hc2 H.size) (va_cwS 3 S.2.2.2.2 (lw_S q389 q390 q55 q391) rfl rfl rfl yd_X0_isIn.2 ⟨Nat.le_of_ble_eq_true rfl, Nat.le_of_ble_eq_true rfl⟩) (wpreS hK hW _) rfl rfl hl.1 rfl (lv_room (Nat.le_of_ble_eq_true rfl)) dX0_stuff_6 ⟨Nat.le_refl 0, Nat.le_refl 0⟩) hW (fun H locs hW => ?_)
  refine lv_if_ne (tgt := 15) hx hb dX0_stuff_9 (by decide) (fun c3 => ?_) (fun c3 => ?_)
  · have h := if_f h c3
    refine lv_iload_n hx hb dX0_stuff_15 rfl (lv_at hl 2 rfl) ?_
    refine lv_if_ne (tgt := 28) hx hb dX0_stuff_16 (by decide) (fun c4 => ?_) (fun c4 => ?_)
    · have h := if_f h c4
      refine lv_iload_n hx hb dX0_stuff_28 rfl (lv_at hl 2 rfl) ?_
      refine lv_iconst (v := (1 : Int32)) hx hb dX0_stuff_29 (by decide) ?_
      refine lv_icmp_ne (tgt := 42) hx hb dX0_stuff_30 (by decide) (fun c5 => ?_) (fun c5 => ?_)
      · have h := if_f h c5
        refine lv_bipush (v := (-3 : Int32)) hx hb dX0_stuff_42 (by decide) ?_
        cases h
        exact we_i S hr hlk hW dX0_stuff_44
      · have h := if_t h c5
        refine lv_aload_n hx hb dX0_stuff_33 rfl (lv_at hl 0 rfl) ?_
        refine gf_0_3 S hK hW hv0 q277 dX0_stuff_34 ?_
        refine lv_iload_n hx hb dX0_stuff_37 rfl (lv_at hl 1 rfl) ?_
        obtain ⟨g6, h⟩ := og_e h
        refine ald_24 S hK hW (vq_0_3 hv0) g6 rfl dX0_stuff_38 ?_
        refine lv_goto (tgt := 44) hx hb dX0_stuff_39 (by decide) ?_
        cases h
        exact we_i S hr hlk hW dX0_stuff_44
    · have h := if_t h c4
      refine lv_aload_n hx hb dX0_stuff_19 rfl (lv_at hl 0 rfl) ?_
      refine gf_0_2 S hK hW hv0 q274 dX0_stuff_20 ?_
      refine lv_iload_n hx hb dX0_stuff_23 rfl (lv_at hl 1 rfl) ?_
      obtain ⟨g7, h⟩ := og_e h
      refine ald_23 S hK hW (vq_0_2 hv0) g7 rfl dX0_stuff_24 ?_
      refine lv_goto (tgt := 44) hx hb dX0_stuff_25 (by decide) ?_
      cases h
      exact we_i S hr hlk hW dX0_stuff_44
  · have h := if_t h c3
    refine lv_bipush (v := (-2 : Int32)) hx hb dX0_stuff_12 (by decide) ?_
    cases h
    exact we_i S hr hlk hW dX0_stuff_14
/-loop lp_X0_takes_38-/
def lp_X0_takes_38 (p1 : Int32) (p2 : Int32) : Nat → St → Option (St)
  | 0, _ => none
  | n + 1, F9 => if (60 : Int32) ≤ (F9 1 2 3 0) then some F9 else if p1 ≤ (F9 2 1 (64 + 3) 0) then some F9 else ob (fn_X1_go F9 3 p2 (F9 0 9 0 0)) (fun F15 => lp_X0_takes_38 p1 p2 n F15)
theorem lp_X0_takes_38_s {p1 : Int32} {p2 : Int32} {n : Nat} {F9 : St} : lp_X0_takes_38 p1 p2 (n + 1) F9 = if (60 : Int32) ≤ (F9 1 2 3 0) then some F9 else if p1 ≤ (F9 2 1 (64 + 3) 0) then some F9 else ob (fn_X1_go F9 3 p2 (F9 0 9 0 0)) (fun F15 => lp_X0_takes_38 p1 p2 n F15) := rfl
def fn_X0_takes (F : St) (p1 : Int32) (p2 : Int32) : Option (St × Int32) :=
  ob (fn_X0_isIn F p1.toInt64 (1 : Int64) (9999 : Int64)) (fun r1 => if r1 = 0 then some (F, (-3 : Int32)) else ob (fn_X0_isIn F p2.toInt64 (0 : Int64) (10 : Int64)) (fun r4 => if r4 = 0 then some (F, (-3 : Int32)) else ob (fn_X1_begin F 3 (F 0 10 0 0)) (fun F7 => ob (lp_X0_takes_38 p1 p2 300 F7) (fun F10 => if p1 ≤ (F10 2 1 (64 + 3) 0) then some (F10, (F10 1 2 3 0)) else some (F10, (-1 : Int32))))))
theorem yd_X0_takes : yX0_takes.cls = RX0 ∧ yX0_takes.cls ≠ "java/lang/invoke/MethodHandle" ∧ yX0_takes.cls ≠ "java/lang/invoke/VarHandle" ∧ (parseMethodDescriptor yX0_takes.desc).map (fun d => d.parameters.length) = some 2 := by decide +kernel
set_option maxHeartbeats 4000000 in
theorem met_X0_takes (l : Launch) {D : va_G} {dA : WK} {a : Ix → Nat} (hD : wD D dA a) {F : St} {p1 : Int32} {p2 : Int32} {Fz : St} {rz : Int32} (hv0 : wVd dA (0, 0, 0)) (h : fn_X0_takes F p1 p2 = some (Fz, rz)) : Mi l yX0_takes cX0_takes 3 .int 4 96 D dA a F [.ref (a (0, 0, 0)), .int p1, .int p2] Fz rz := by
  refine fun sz => mst (Qc := fun sz => wQi D dA a sz Fz rz) (by decide) (Nat.le_of_ble_eq_true rfl) ?_ sz
  intro p e s m below meth c S hr hlk hK hW ls hl
  have hl : lv_has ls 3 [(0, .ref (a (0, 0, 0))), (1, .int p1), (2, .int p2)] := hl
  have hx := S.1
  have hb := S.2.1
  generalize ([.ref (a (0, 0, 0)), .int p1, .int p2] : List Value).toArray = av at S ⊢
  unfold fn_X0_takes at h
  obtain ⟨H, eH⟩ : ∃ z, z = s.heap := ⟨_, rfl⟩
  obtain ⟨locs, eL⟩ : ∃ z : List Loc, z = [] := ⟨_, rfl⟩
  show WX p l e (rmL 4 96) s m av below meth c (wQi D dA a s.heap.size Fz rz) dA a s.heap [] (F0 m 0 ls [])
  have hW : wS D dA a s F H locs := by rw [eH, eL]; exact wS_in hW
  refine wx_in eH eL ?_
  clear eH eL
  refine lv_iload_n hx hb dX0_takes_0 rfl (lv_at hl 1 rfl) ?_
  refine lv_i2l hx hb dX0_takes_1 rfl ?_
  refine lv_lconst (v := (1 : Int64)) hx hb dX0_takes_2 (by decide) ?_
  refine lv_ldc2 (v := (9999 : Int64)) hx hb S.2.2.2.1 (S.2.2.2.2 _ q940) dX0_takes_3 ?_
  obtain ⟨r1, hc2, h⟩ := ob_e h
  refine wk_i (va_runS (As := [.long p1.toInt64, .long (1 : Int64), .long (9999 : Int64)]) (rest := []) S (met_X0_isIn l hD hc2 H.size) (va_cwS 3 S.2.2.2.2 (lw_S q389 q390 q55 q391) rfl rfl rfl yd_X0_isIn.2 ⟨Nat.le_of_ble_eq_true rfl, Nat.le_of_ble_eq_true rfl⟩) (wpreS hK hW _) rfl rfl hl.1 rfl (lv_room (Nat.le_of_ble_eq_true rfl)) dX0_takes_6 ⟨Nat.le_refl 0, Nat.le_refl 0⟩) hW (fun H locs hW => ?_)
  refine lv_if_eq (tgt := 24) hx hb dX0_takes_9 (by decide) (fun c3 => ?_) (fun c3 => ?_)
  · have h := if_t h c3
    refine lv_bipush (v := (-3 : Int32)) hx hb dX0_takes_24 (by decide) ?_
    cases h
    exact we_i S hr hlk hW dX0_takes_26
  · have h := if_f h c3
    refine lv_iload_n hx hb dX0_takes_12 rfl (lv_at hl 2 rfl) ?_
    refine lv_i2l hx hb dX0_takes_13 rfl ?_
    refine lv_lconst (v := (0 : Int64)) hx hb dX0_takes_14 (by decide) ?_
    refine lv_ldc2 (v := (10 : Int64)) hx hb S.2.2.2.1 (S.2.2.2.2 _ q941) dX0_takes_15 ?_
    obtain ⟨r4, hc5, h⟩ := ob_e h
    refine wk_i (va_runS (As := [.long p2.toInt64, .long (0 : Int64), .long (10 : Int64)]) (rest := []) S (met_X0_isIn l hD hc5 H.size) (va_cwS 3 S.2.2.2.2 (lw_S q389 q390 q55 q391) rfl rfl rfl yd_X0_isIn.2 ⟨Nat.le_of_ble_eq_true rfl, Nat.le_of_ble_eq_true rfl⟩) (wpreS hK hW _) rfl rfl hl.1 rfl (lv_room (Nat.le_of_ble_eq_true rfl)) dX0_takes_18 ⟨Nat.le_refl 0, Nat.le_refl 0⟩) hW (fun H locs hW => ?_)
    refine lv_if_ne (tgt := 27) hx hb dX0_takes_21 (by decide) (fun c6 => ?_) (fun c6 => ?_)
    · have h := if_f h c6
      refine lv_aload_n hx hb dX0_takes_27 rfl (lv_at hl 0 rfl) ?_
      refine gf_0_18 S hK hW hv0 q320 dX0_takes_28 ?_
      refine lv_aload_n hx hb dX0_takes_31 rfl (lv_at hl 0 rfl) ?_
      refine gf_0_10 S hK hW hv0 q301 dX0_takes_32 ?_
      obtain ⟨F7, hc8, h⟩ := ob_e h
      refine wk_v (va_runV (As := [.int (F 0 10 0 0)]) (rest := []) S (met_X1_begin l hD (vq_0_18 hv0) hc8 H.size) (cwV 1 S.2.2.2.2 (lw_V q257 q258 q259 q56 q260) rfl rfl rfl yd_X1_begin ⟨Nat.le_of_ble_eq_true rfl, Nat.le_of_ble_eq_true rfl⟩) (wpreV hK hW (vq_0_18 hv0) rfl rfl _) rfl rfl hl.1 rfl (lv_room (Nat.le_of_ble_eq_true rfl)) dX0_takes_35 ⟨Nat.le_refl 0, Nat.le_refl 0⟩) hW (fun H locs hW => ?_)
      have L12 : ∀ (n : Nat) (F9 : St) (F10 : St), lp_X0_takes_38 p1 p2 n F9 = some F10 → (∀ (H : Heap) (locs : List Loc) (ls : Array Slot), wS D dA a s F10 H locs → lv_has ls 3 [(0, .ref (a (0, 0, 0))), (1, .int p1)] → WX p l e (rmL 4 96) s m av below meth c (wQi D dA a s.heap.size Fz rz) dA a H locs (F0 m 79 ls [])) → ∀ (H : Heap) (locs : List Loc) (ls : Array Slot), wS D dA a s F9 H locs → lv_has ls 3 [(0, .ref (a (0, 0, 0))), (1, .int p1), (2, .int p2)] → WX p l e (rmL 4 96) s m av below meth c (wQi D dA a s.heap.size Fz rz) dA a H locs (F0 m 38 ls []) := by
        intro n
        induction n with
        | zero =>
          intro F9 F10 h
          exact absurd (show (none : Option (St)) = some F10 from h) (by simp)
        | succ n ih =>
          intro F9 F10 h K11 H locs ls hW hl
          have h := lp_X0_takes_38_s.symm.trans h
          refine lv_aload_n hx hb dX0_takes_38 rfl (lv_at hl 0 rfl) ?_
          refine gf_0_18 S hK hW hv0 q320 dX0_takes_39 ?_
          refine gn_1_2 S hK hW (vq_0_18 hv0) q153 dX0_takes_42 ?_
          refine lv_bipush (v := (60 : Int32)) hx hb dX0_takes_45 (by decide) ?_
          refine lv_icmp_ge (tgt := 79) hx hb dX0_takes_47 (by decide) (fun c13 => ?_) (fun c13 => ?_)
          · have h := if_t h c13
            cases h
            exact K11 H locs ls hW (lv_sub hl [0, 1] rfl)
          · have h := if_f h c13
            refine lv_aload_n hx hb dX0_takes_50 rfl (lv_at hl 0 rfl) ?_
            refine gf_0_18 S hK hW hv0 q320 dX0_takes_51 ?_
            refine gn_1_1 S hK hW (vq_0_18 hv0) q150 dX0_takes_54 ?_
            refine gn_2_1 S hK hW (vq_1_1 (vq_0_18 hv0)) q129 dX0_takes_57 ?_
            refine lv_iload_n hx hb dX0_takes_60 rfl (lv_at hl 1 rfl) ?_
            refine lv_icmp_ge (tgt := 79) hx hb dX0_takes_61 (by decide) (fun c14 => ?_) (fun c14 => ?_)
            · have h := if_t h c14
              cases h
              exact K11 H locs ls hW (lv_sub hl [0, 1] rfl)
            · have h := if_f h c14
              refine lv_aload_n hx hb dX0_takes_64 rfl (lv_at hl 0 rfl) ?_
              refine gf_0_18 S hK hW hv0 q320 dX0_takes_65 ?_
              refine lv_iload_n hx hb dX0_takes_68 rfl (lv_at hl 2 rfl) ?_
              refine lv_aload_n hx hb dX0_takes_69 rfl (lv_at hl 0 rfl) ?_
              refine gf_0_9 S hK hW hv0 q297 dX0_takes_70 ?_
              obtain ⟨F15, hc16, h⟩ := ob_e h
              refine wk_v (va_runV (As := [.int p2, .int (F9 0 9 0 0)]) (rest := []) S (met_X1_go l hD (vq_0_18 hv0) hc16 H.size) (cwV 2 S.2.2.2.2 (lw_V q723 q724 q725 q56 q726) rfl rfl rfl yd_X1_go ⟨Nat.le_of_ble_eq_true rfl, Nat.le_of_ble_eq_true rfl⟩) (wpreV hK hW (vq_0_18 hv0) rfl rfl _) rfl rfl hl.1 rfl (lv_room (Nat.le_of_ble_eq_true rfl)) dX0_takes_73 ⟨Nat.le_refl 0, Nat.le_refl 0⟩) hW (fun H locs hW => ?_)
              refine lv_goto (tgt := 38) hx hb dX0_takes_76 (by decide) ?_
              exact ih _ _ h K11 H locs ls hW (lv_sub hl [0, 1, 2] rfl)
      obtain ⟨F10, hz17, h⟩ := ob_e h
      refine L12 300 F7 F10 hz17 (fun H locs ls hW hl => ?_) H locs ls hW (lv_sub hl [0, 1, 2] rfl)
      refine lv_aload_n hx hb dX0_takes_79 rfl (lv_at hl 0 rfl) ?_
      refine gf_0_18 S hK hW hv0 q320 dX0_takes_80 ?_
      refine gn_1_1 S hK hW (vq_0_18 hv0) q150 dX0_takes_83 ?_
      refine gn_2_1 S hK hW (vq_1_1 (vq_0_18 hv0)) q129 dX0_takes_86 ?_
      refine lv_iload_n hx hb dX0_takes_89 rfl (lv_at hl 1 rfl) ?_
      refine lv_icmp_ge (tgt := 97) hx hb dX0_takes_90 (by decide) (fun c18 => ?_) (fun c18 => ?_)
      · have h := if_t h c18
        refine lv_aload_n hx hb dX0_takes_97 rfl (lv_at hl 0 rfl) ?_
        refine gf_0_18 S hK hW hv0 q320 dX0_takes_98 ?_
        refine gn_1_2 S hK hW (vq_0_18 hv0) q153 dX0_takes_101 ?_
        cases h
        exact we_i S hr hlk hW dX0_takes_104
      · have h := if_f h c18
        refine lv_iconst (v := (-1 : Int32)) hx hb dX0_takes_93 (by decide) ?_
        refine lv_goto (tgt := 104) hx hb dX0_takes_94 (by decide) ?_
        cases h
        exact we_i S hr hlk hW dX0_takes_104
    · have h := if_t h c6
      refine lv_bipush (v := (-3 : Int32)) hx hb dX0_takes_24 (by decide) ?_
      cases h
      exact we_i S hr hlk hW dX0_takes_26
def fn_X0_taste (F : St) (p1 : Int32) : Option (St × Int32) :=
  ob (fn_X0_isIn F p1.toInt64 (0 : Int64) (3 : Int64)) (fun r1 => if r1 = 0 then some (F, (-3 : Int32)) else ob2 (fn_X5_taste F) (fun F4 r5 => if p1 = 0 then some (F4, r5) else if p1 = (1 : Int32) then ob (fn_X1_strong F4 3) (fun r14 => some (F4, r14)) else if p1 = (2 : Int32) then ob (fn_X1_out F4 3 (F4 0 10 0 0)) (fun r12 => some (F4, r12)) else ob (fn_X1_uneven F4 3 (F4 0 10 0 0)) (fun r10 => some (F4, r10))))
theorem yd_X0_taste : yX0_taste.cls = RX0 ∧ yX0_taste.cls ≠ "java/lang/invoke/MethodHandle" ∧ yX0_taste.cls ≠ "java/lang/invoke/VarHandle" ∧ (parseMethodDescriptor yX0_taste.desc).map (fun d => d.parameters.length) = some 1 := by decide +kernel
set_option maxHeartbeats 4000000 in
theorem met_X0_taste (l : Launch) {D : va_G} {dA : WK} {a : Ix → Nat} (hD : wD D dA a) {F : St} {p1 : Int32} {Fz : St} {rz : Int32} (hv0 : wVd dA (0, 0, 0)) (h : fn_X0_taste F p1 = some (Fz, rz)) : Mi l yX0_taste cX0_taste 3 .int 6 138 D dA a F [.ref (a (0, 0, 0)), .int p1] Fz rz := by
  refine fun sz => mst (Qc := fun sz => wQi D dA a sz Fz rz) (by decide) (Nat.le_of_ble_eq_true rfl) ?_ sz
  intro p e s m below meth c S hr hlk hK hW ls hl
  have hl : lv_has ls 3 [(0, .ref (a (0, 0, 0))), (1, .int p1)] := hl
  have hx := S.1
  have hb := S.2.1
  generalize ([.ref (a (0, 0, 0)), .int p1] : List Value).toArray = av at S ⊢
  unfold fn_X0_taste at h
  obtain ⟨H, eH⟩ : ∃ z, z = s.heap := ⟨_, rfl⟩
  obtain ⟨locs, eL⟩ : ∃ z : List Loc, z = [] := ⟨_, rfl⟩
  show WX p l e (rmL 6 138) s m av below meth c (wQi D dA a s.heap.size Fz rz) dA a s.heap [] (F0 m 0 ls [])
  have hW : wS D dA a s F H locs := by rw [eH, eL]; exact wS_in hW
  refine wx_in eH eL ?_
  clear eH eL
  refine lv_iload_n hx hb dX0_taste_0 rfl (lv_at hl 1 rfl) ?_
  refine lv_i2l hx hb dX0_taste_1 rfl ?_
  refine lv_lconst (v := (0 : Int64)) hx hb dX0_taste_2 (by decide) ?_
  refine lv_ldc2 (v := (3 : Int64)) hx hb S.2.2.2.1 (S.2.2.2.2 _ q779) dX0_taste_3 ?_
  obtain ⟨r1, hc2, h⟩ := ob_e h
  refine wk_i (va_runS (As := [.long p1.toInt64, .long (0 : Int64), .long (3 : Int64)]) (rest := []) S (met_X0_isIn l hD hc2 H.size) (va_cwS 3 S.2.2.2.2 (lw_S q389 q390 q55 q391) rfl rfl rfl yd_X0_isIn.2 ⟨Nat.le_of_ble_eq_true rfl, Nat.le_of_ble_eq_true rfl⟩) (wpreS hK hW _) rfl rfl hl.1 rfl (lv_room (Nat.le_of_ble_eq_true rfl)) dX0_taste_6 ⟨Nat.le_refl 0, Nat.le_refl 0⟩) hW (fun H locs hW => ?_)
  refine lv_if_ne (tgt := 15) hx hb dX0_taste_9 (by decide) (fun c3 => ?_) (fun c3 => ?_)
  · have h := if_f h c3
    refine lv_aload_n hx hb dX0_taste_15 rfl (lv_at hl 0 rfl) ?_
    refine gf_0_22 S hK hW hv0 q327 dX0_taste_16 ?_
    obtain ⟨F4, r5, hc6, h⟩ := ob2_e h
    refine wk_i (va_runV (As := []) (rest := []) S (met_X5_taste l hD (vq_0_22 hv0) hc6 H.size) (cwV 0 S.2.2.2.2 (lw_V q829 q830 q831 q60 q835) rfl rfl rfl yd_X5_taste ⟨Nat.le_of_ble_eq_true rfl, Nat.le_of_ble_eq_true rfl⟩) (wpreV hK hW (vq_0_22 hv0) rfl rfl _) rfl rfl hl.1 rfl (lv_room (Nat.le_of_ble_eq_true rfl)) dX0_taste_19 ⟨Nat.le_refl 0, Nat.le_refl 0⟩) hW (fun H locs hW => ?_)
    refine lv_istore_n (lv' := [(2, .int r5), (0, .ref (a (0, 0, 0))), (1, .int p1)]) hx hb dX0_taste_22 rfl hl (by decide) rfl (fun ls hl => ?_)
    refine lv_iload_n hx hb dX0_taste_23 rfl (lv_at hl 2 rfl) ?_
    refine lv_if_ne (tgt := 31) hx hb dX0_taste_24 (by decide) (fun c7 => ?_) (fun c7 => ?_)
    · have h := if_f h c7
      refine lv_iload_n hx hb dX0_taste_31 rfl (lv_at hl 2 rfl) ?_
      refine lv_iconst (v := (1 : Int32)) hx hb dX0_taste_32 (by decide) ?_
      refine lv_icmp_ne (tgt := 46) hx hb dX0_taste_33 (by decide) (fun c8 => ?_) (fun c8 => ?_)
      · have h := if_f h c8
        refine lv_iload_n hx hb dX0_taste_46 rfl (lv_at hl 2 rfl) ?_
        refine lv_iconst (v := (2 : Int32)) hx hb dX0_taste_47 (by decide) ?_
        refine lv_icmp_ne (tgt := 65) hx hb dX0_taste_48 (by decide) (fun c9 => ?_) (fun c9 => ?_)
        · have h := if_f h c9
          refine lv_aload_n hx hb dX0_taste_65 rfl (lv_at hl 1 rfl) ?_
          refine gf_0_18 S hK hW hv0 q320 dX0_taste_66 ?_
          refine lv_aload_n hx hb dX0_taste_69 rfl (lv_at hl 1 rfl) ?_
          refine gf_0_10 S hK hW hv0 q301 dX0_taste_70 ?_
          obtain ⟨r10, hc11, h⟩ := ob_e h
          refine wk_i (va_runV (As := [.int (F4 0 10 0 0)]) (rest := []) S (met_X1_uneven l hD (vq_0_18 hv0) hc11 H.size) (cwV 1 S.2.2.2.2 (lw_V q801 q802 q803 q56 q804) rfl rfl rfl yd_X1_uneven ⟨Nat.le_of_ble_eq_true rfl, Nat.le_of_ble_eq_true rfl⟩) (wpreV hK hW (vq_0_18 hv0) rfl rfl _) rfl rfl hl.1 rfl (lv_room (Nat.le_of_ble_eq_true rfl)) dX0_taste_73 ⟨Nat.le_refl 0, Nat.le_refl 0⟩) hW (fun H locs hW => ?_)
          cases h
          exact we_i S hr hlk hW dX0_taste_76
        · have h := if_t h c9
          refine lv_aload_n hx hb dX0_taste_51 rfl (lv_at hl 1 rfl) ?_
          refine gf_0_18 S hK hW hv0 q320 dX0_taste_52 ?_
          refine lv_aload_n hx hb dX0_taste_55 rfl (lv_at hl 1 rfl) ?_
          refine gf_0_10 S hK hW hv0 q301 dX0_taste_56 ?_
          obtain ⟨r12, hc13, h⟩ := ob_e h
          refine wk_i (va_runV (As := [.int (F4 0 10 0 0)]) (rest := []) S (met_X1_out l hD (vq_0_18 hv0) hc13 H.size) (cwV 1 S.2.2.2.2 (lw_V q793 q794 q795 q56 q796) rfl rfl rfl yd_X1_out ⟨Nat.le_of_ble_eq_true rfl, Nat.le_of_ble_eq_true rfl⟩) (wpreV hK hW (vq_0_18 hv0) rfl rfl _) rfl rfl hl.1 rfl (lv_room (Nat.le_of_ble_eq_true rfl)) dX0_taste_59 ⟨Nat.le_refl 0, Nat.le_refl 0⟩) hW (fun H locs hW => ?_)
          refine lv_goto (tgt := 76) hx hb dX0_taste_62 (by decide) ?_
          cases h
          exact we_i S hr hlk hW dX0_taste_76
      · have h := if_t h c8
        refine lv_aload_n hx hb dX0_taste_36 rfl (lv_at hl 1 rfl) ?_
        refine gf_0_18 S hK hW hv0 q320 dX0_taste_37 ?_
        obtain ⟨r14, hc15, h⟩ := ob_e h
        refine wk_i (va_runV (As := []) (rest := []) S (met_X1_strong l hD (vq_0_18 hv0) hc15 H.size) (cwV 0 S.2.2.2.2 (lw_V q785 q786 q787 q56 q788) rfl rfl rfl yd_X1_strong ⟨Nat.le_of_ble_eq_true rfl, Nat.le_of_ble_eq_true rfl⟩) (wpreV hK hW (vq_0_18 hv0) rfl rfl _) rfl rfl hl.1 rfl (lv_room (Nat.le_of_ble_eq_true rfl)) dX0_taste_40 ⟨Nat.le_refl 0, Nat.le_refl 0⟩) hW (fun H locs hW => ?_)
        refine lv_goto (tgt := 76) hx hb dX0_taste_43 (by decide) ?_
        cases h
        exact we_i S hr hlk hW dX0_taste_76
    · have h := if_t h c7
      refine lv_iload_n hx hb dX0_taste_27 rfl (lv_at hl 0 rfl) ?_
      refine lv_goto (tgt := 76) hx hb dX0_taste_28 (by decide) ?_
      cases h
      exact we_i S hr hlk hW dX0_taste_76
  · have h := if_t h c3
    refine lv_bipush (v := (-3 : Int32)) hx hb dX0_taste_12 (by decide) ?_
    cases h
    exact we_i S hr hlk hW dX0_taste_14
/-loop lp_X0_write_33-/
def lp_X0_write_33 (p1 : Int64) (p2 : Int32) : Nat → St → Int32 → Option (St × Int32)
  | 0, _, _ => none
  | n + 1, F6, x5 => if p2 ≤ x5 then some (F6, x5) else og (vpb (F6 0 20 0 0) 200) (pl (fu F6 15 0 0 (F6 0 20 0 0).toNatClampNeg (vp_nar .byte (((p1 >>> (((8 : Int32) * x5).toInt64 &&& 63)).toInt32).toInt8.toInt32))) (fun F13 => pl (fu F13 0 20 0 0 ((F13 0 20 0 0) + (1 : Int32))) (fun F15 => lp_X0_write_33 p1 p2 n F15 (x5 + 1))))
theorem lp_X0_write_33_s {p1 : Int64} {p2 : Int32} {n : Nat} {F6 : St} {x5 : Int32} : lp_X0_write_33 p1 p2 (n + 1) F6 x5 = if p2 ≤ x5 then some (F6, x5) else og (vpb (F6 0 20 0 0) 200) (pl (fu F6 15 0 0 (F6 0 20 0 0).toNatClampNeg (vp_nar .byte (((p1 >>> (((8 : Int32) * x5).toInt64 &&& 63)).toInt32).toInt8.toInt32))) (fun F13 => pl (fu F13 0 20 0 0 ((F13 0 20 0 0) + (1 : Int32))) (fun F15 => lp_X0_write_33 p1 p2 n F15 (x5 + 1)))) := rfl
def fn_X0_write (F : St) (p1 : Int64) (p2 : Int32) : Option (St × Int32) :=
  ob (fn_X0_isIn F p2.toInt64 (1 : Int64) (8 : Int64)) (fun r1 => if r1 = 0 then some (F, (-3 : Int32)) else if ((F 0 20 0 0) + p2) ≤ (200 : Int32) then ob2 (lp_X0_write_33 p1 p2 300 F (0 : Int32)) (fun F7 x8 => some (F7, (F7 0 20 0 0))) else some (F, (-5 : Int32)))
theorem yd_X0_write : yX0_write.cls = RX0 ∧ yX0_write.cls ≠ "java/lang/invoke/MethodHandle" ∧ yX0_write.cls ≠ "java/lang/invoke/VarHandle" ∧ (parseMethodDescriptor yX0_write.desc).map (fun d => d.parameters.length) = some 2 := by decide +kernel
set_option maxHeartbeats 4000000 in
theorem met_X0_write (l : Launch) {D : va_G} {dA : WK} {a : Ix → Nat} (hD : wD D dA a) {F : St} {p1 : Int64} {p2 : Int32} {Fz : St} {rz : Int32} (hv0 : wVd dA (0, 0, 0)) (h : fn_X0_write F p1 p2 = some (Fz, rz)) : Mi l yX0_write cX0_write 5 .int 1 25 D dA a F [.ref (a (0, 0, 0)), .long p1, .int p2] Fz rz := by
  refine fun sz => mst (Qc := fun sz => wQi D dA a sz Fz rz) (by decide) (Nat.le_of_ble_eq_true rfl) ?_ sz
  intro p e s m below meth c S hr hlk hK hW ls hl
  have hl : lv_has ls 5 [(0, .ref (a (0, 0, 0))), (1, .long p1), (3, .int p2)] := hl
  have hx := S.1
  have hb := S.2.1
  generalize ([.ref (a (0, 0, 0)), .long p1, .int p2] : List Value).toArray = av at S ⊢
  unfold fn_X0_write at h
  obtain ⟨H, eH⟩ : ∃ z, z = s.heap := ⟨_, rfl⟩
  obtain ⟨locs, eL⟩ : ∃ z : List Loc, z = [] := ⟨_, rfl⟩
  show WX p l e (rmL 1 25) s m av below meth c (wQi D dA a s.heap.size Fz rz) dA a s.heap [] (F0 m 0 ls [])
  have hW : wS D dA a s F H locs := by rw [eH, eL]; exact wS_in hW
  refine wx_in eH eL ?_
  clear eH eL
  refine lv_iload_n hx hb dX0_write_0 rfl (lv_at hl 2 rfl) ?_
  refine lv_i2l hx hb dX0_write_1 rfl ?_
  refine lv_lconst (v := (1 : Int64)) hx hb dX0_write_2 (by decide) ?_
  refine lv_ldc2 (v := (8 : Int64)) hx hb S.2.2.2.1 (S.2.2.2.2 _ q388) dX0_write_3 ?_
  obtain ⟨r1, hc2, h⟩ := ob_e h
  refine wk_i (va_runS (As := [.long p2.toInt64, .long (1 : Int64), .long (8 : Int64)]) (rest := []) S (met_X0_isIn l hD hc2 H.size) (va_cwS 3 S.2.2.2.2 (lw_S q389 q390 q55 q391) rfl rfl rfl yd_X0_isIn.2 ⟨Nat.le_of_ble_eq_true rfl, Nat.le_of_ble_eq_true rfl⟩) (wpreS hK hW _) rfl rfl hl.1 rfl (lv_room (Nat.le_of_ble_eq_true rfl)) dX0_write_6 ⟨Nat.le_refl 0, Nat.le_refl 0⟩) hW (fun H locs hW => ?_)
  refine lv_if_ne (tgt := 15) hx hb dX0_write_9 (by decide) (fun c3 => ?_) (fun c3 => ?_)
  · have h := if_f h c3
    refine lv_aload_n hx hb dX0_write_15 rfl (lv_at hl 0 rfl) ?_
    refine gf_0_20 S hK hW hv0 q325 dX0_write_16 ?_
    refine lv_iload_n hx hb dX0_write_19 rfl (lv_at hl 2 rfl) ?_
    refine lv_iadd hx hb dX0_write_20 ?_
    refine lv_sipush (v := (200 : Int32)) hx hb dX0_write_21 (by decide) ?_
    refine lv_icmp_le (tgt := 30) hx hb dX0_write_24 (by decide) (fun c4 => ?_) (fun c4 => ?_)
    · have h := if_t h c4
      refine lv_iconst (v := (0 : Int32)) hx hb dX0_write_30 (by decide) ?_
      refine lv_istore (lv' := [(4, .int (0 : Int32)), (0, .ref (a (0, 0, 0))), (1, .long p1), (3, .int p2)]) hx hb dX0_write_31 hl (by decide) rfl (fun ls hl => ?_)
      have L10 : ∀ (n : Nat) (F6 : St) (x5 : Int32) (F7 : St) (x8 : Int32), lp_X0_write_33 p1 p2 n F6 x5 = some (F7, x8) → (∀ (H : Heap) (locs : List Loc) (ls : Array Slot), wS D dA a s F7 H locs → lv_has ls 5 [(0, .ref (a (0, 0, 0)))] → WX p l e (rmL 1 25) s m av below meth c (wQi D dA a s.heap.size Fz rz) dA a H locs (F0 m 73 ls [])) → ∀ (H : Heap) (locs : List Loc) (ls : Array Slot), wS D dA a s F6 H locs → lv_has ls 5 [(0, .ref (a (0, 0, 0))), (1, .long p1), (3, .int p2), (4, .int x5)] → WX p l e (rmL 1 25) s m av below meth c (wQi D dA a s.heap.size Fz rz) dA a H locs (F0 m 33 ls []) := by
        intro n
        induction n with
        | zero =>
          intro F6 x5 F7 x8 h
          exact absurd (show (none : Option (St × Int32)) = some (F7, x8) from h) (by simp)
        | succ n ih =>
          intro F6 x5 F7 x8 h K9 H locs ls hW hl
          have h := lp_X0_write_33_s.symm.trans h
          refine lv_iload hx hb dX0_write_33 (lv_at hl 3 rfl) ?_
          refine lv_iload_n hx hb dX0_write_35 rfl (lv_at hl 2 rfl) ?_
          refine lv_icmp_ge (tgt := 73) hx hb dX0_write_36 (by decide) (fun c11 => ?_) (fun c11 => ?_)
          · have h := if_t h c11
            cases h
            exact K9 H locs ls hW (lv_sub hl [0] rfl)
          · have h := if_f h c11
            refine lv_aload_n hx hb dX0_write_39 rfl (lv_at hl 0 rfl) ?_
            refine gf_0_19 S hK hW hv0 q323 dX0_write_40 ?_
            refine lv_aload_n hx hb dX0_write_43 rfl (lv_at hl 0 rfl) ?_
            refine gf_0_20 S hK hW hv0 q325 dX0_write_44 ?_
            refine lv_lload_n hx hb dX0_write_47 rfl (lv_at hl 1 rfl) ?_
            refine lv_bipush (v := (8 : Int32)) hx hb dX0_write_48 (by decide) ?_
            refine lv_iload hx hb dX0_write_50 (lv_at hl 3 rfl) ?_
            refine lv_imul hx hb dX0_write_52 ?_
            refine lv_lshr hx hb dX0_write_53 rfl ?_
            refine lv_l2i hx hb dX0_write_54 rfl ?_
            refine lv_i2b hx hb dX0_write_55 rfl ?_
            obtain ⟨g12, h⟩ := og_e h
            obtain ⟨F13, e14, h⟩ := pl_e h
            refine ast_15 S hK hD hW (vq_0_19 hv0) g12 rfl e14 dX0_write_56 (fun H locs hW => ?_)
            refine lv_aload_n hx hb dX0_write_57 rfl (lv_at hl 0 rfl) ?_
            refine lv_dup hx hb dX0_write_58 rfl ?_
            refine gf_0_20 S hK hW hv0 q325 dX0_write_59 ?_
            refine lv_iconst (v := (1 : Int32)) hx hb dX0_write_62 (by decide) ?_
            refine lv_iadd hx hb dX0_write_63 ?_
            obtain ⟨F15, e16, h⟩ := pl_e h
            refine pf_0_20 S hK hD hW hv0 e16 q325 dX0_write_64 (fun H locs hW => ?_)
            refine lv_iinc (v := (x5 + 1)) (lv' := [(4, .int (x5 + 1)), (0, .ref (a (0, 0, 0))), (1, .long p1), (3, .int p2)]) hx hb dX0_write_67 hl (k := 3) rfl rfl (by decide) rfl (fun ls hl => ?_)
            refine lv_goto (tgt := 33) hx hb dX0_write_70 (by decide) ?_
            exact ih _ _ _ _ h K9 H locs ls hW (lv_sub hl [1, 2, 3, 0] rfl)
      obtain ⟨F7, x8, hz17, h⟩ := ob2_e h
      refine L10 300 F (0 : Int32) F7 x8 hz17 (fun H locs ls hW hl => ?_) H locs ls hW (lv_sub hl [1, 2, 3, 0] rfl)
      refine lv_aload_n hx hb dX0_write_73 rfl (lv_at hl 0 rfl) ?_
      refine gf_0_20 S hK hW hv0 q325 dX0_write_74 ?_
      cases h
      exact we_i S hr hlk hW dX0_write_77
    · have h := if_f h c4
      refine lv_bipush (v := (-5 : Int32)) hx hb dX0_write_27 (by decide) ?_
      cases h
      exact we_i S hr hlk hW dX0_write_29
  · have h := if_t h c3
    refine lv_bipush (v := (-3 : Int32)) hx hb dX0_write_12 (by decide) ?_
    cases h
    exact we_i S hr hlk hW dX0_write_14
