set_option maxRecDepth 100000
def fn_X8_isCell (F : St) (p1 : Int32) : Option (Int32) :=
  if (F 30 0 0 0) ≤ (p1 - p1 / (4 : Int32) * (4 : Int32)) then some (0 : Int32) else if (F 30 1 0 0) ≤ (p1 / (4 : Int32)) then some (0 : Int32) else some (1 : Int32)
theorem yd_X8_isCell : yX8_isCell.cls = RX8 ∧ yX8_isCell.cls ≠ "java/lang/invoke/MethodHandle" ∧ yX8_isCell.cls ≠ "java/lang/invoke/VarHandle" ∧ (parseMethodDescriptor yX8_isCell.desc).map (fun d => d.parameters.length) = some 1 := by decide +kernel
set_option maxHeartbeats 4000000 in
theorem met_X8_isCell (l : Launch) {D : va_G} {dA : WK} {a : Ix → Nat} (hD : wD D dA a) {F : St} {p1 : Int32} {rz : Int32} (hv0 : wVd dA (30, 0, 0)) (h : fn_X8_isCell F p1 = some rz) : Mi l yX8_isCell cX8_isCell 2 .boolean 0 0 D dA a F [.ref (a (30, 0, 0)), .int p1] F rz := by
  refine fun sz => mst (Qc := fun sz => wQi D dA a sz F rz) (by decide) (Nat.le_of_ble_eq_true rfl) ?_ sz
  intro p e s m below meth c S hr hlk hK hW ls hl
  have hl : lv_has ls 2 [(0, .ref (a (30, 0, 0))), (1, .int p1)] := hl
  have hx := S.1
  have hb := S.2.1
  generalize ([.ref (a (30, 0, 0)), .int p1] : List Value).toArray = av at S ⊢
  unfold fn_X8_isCell at h
  obtain ⟨H, eH⟩ : ∃ z, z = s.heap := ⟨_, rfl⟩
  obtain ⟨locs, eL⟩ : ∃ z : List Loc, z = [] := ⟨_, rfl⟩
  show WX p l e (rmL 0 0) s m av below meth c (wQi D dA a s.heap.size F rz) dA a s.heap [] (F0 m 0 ls [])
  have hW : wS D dA a s F H locs := by rw [eH, eL]; exact wS_in hW
  refine wx_in eH eL ?_
  clear eH eL
  refine lv_iload_n hx hb dX8_isCell_0 rfl (lv_at hl 1 rfl) ?_
  refine lv_iconst (v := (4 : Int32)) hx hb dX8_isCell_1 (by decide) ?_
  refine lv_irem hx hb dX8_isCell_2 (by decide) ?_
  refine lv_aload_n hx hb dX8_isCell_3 rfl (lv_at hl 0 rfl) ?_
  refine gf_30_0 S hK hW hv0 q985 dX8_isCell_4 ?_
  refine lv_icmp_ge (tgt := 24) hx hb dX8_isCell_7 (by decide) (fun c1 => ?_) (fun c1 => ?_)
  · have h := if_t h c1
    refine lv_iconst (v := (0 : Int32)) hx hb dX8_isCell_24 (by decide) ?_
    cases h
    exact we_z S hr hlk rfl hW dX8_isCell_25
  · have h := if_f h c1
    refine lv_iload_n hx hb dX8_isCell_10 rfl (lv_at hl 1 rfl) ?_
    refine lv_iconst (v := (4 : Int32)) hx hb dX8_isCell_11 (by decide) ?_
    refine lv_idiv hx hb dX8_isCell_12 (by decide) ?_
    refine lv_aload_n hx hb dX8_isCell_13 rfl (lv_at hl 0 rfl) ?_
    refine gf_30_1 S hK hW hv0 q986 dX8_isCell_14 ?_
    refine lv_icmp_ge (tgt := 24) hx hb dX8_isCell_17 (by decide) (fun c2 => ?_) (fun c2 => ?_)
    · have h := if_t h c2
      refine lv_iconst (v := (0 : Int32)) hx hb dX8_isCell_24 (by decide) ?_
      cases h
      exact we_z S hr hlk rfl hW dX8_isCell_25
    · have h := if_f h c2
      refine lv_iconst (v := (1 : Int32)) hx hb dX8_isCell_20 (by decide) ?_
      refine lv_goto (tgt := 25) hx hb dX8_isCell_21 (by decide) ?_
      cases h
      exact we_z S hr hlk rfl hW dX8_isCell_25
/-loop lp_X8_begin_2-/
def lp_X8_begin_2 : Nat → St → Int32 → Option (St × Int32)
  | 0, _, _ => none
  | n + 1, F2, x1 => if (138 : Int32) ≤ x1 then some (F2, x1) else og (vpb x1 138) (pl (fu F2 40 0 0 x1.toNatClampNeg (0 : Int32)) (fun F9 => lp_X8_begin_2 n F9 (x1 + 1)))
theorem lp_X8_begin_2_s {n : Nat} {F2 : St} {x1 : Int32} : lp_X8_begin_2 (n + 1) F2 x1 = if (138 : Int32) ≤ x1 then some (F2, x1) else og (vpb x1 138) (pl (fu F2 40 0 0 x1.toNatClampNeg (0 : Int32)) (fun F9 => lp_X8_begin_2 n F9 (x1 + 1))) := rfl
/-loop lp_X8_begin_24-/
def lp_X8_begin_24 : Nat → St → Int32 → Option (St × Int32)
  | 0, _, _ => none
  | n + 1, F13, x12 => if (16 : Int32) ≤ x12 then some (F13, x12) else ob (fn_X8_isCell F13 x12) (fun r19 => ob (if r19 = 0 then some F13 else pl ((F13 31 0 0 0) * (F13 30 11 0 0)) (fun x25 => og (vpb ((32 : Int32) + x12) 138) (pl (fu F13 40 0 0 ((32 : Int32) + x12).toNatClampNeg x25) (fun F28 => pl (fu F28 40 0 0 133 ((F28 40 0 0 133) + x25)) (fun F30 => og (vpb ((134 : Int32) + (x12 - x12 / (4 : Int32) * (4 : Int32))) 138) (pl (fu F30 40 0 0 ((134 : Int32) + (x12 - x12 / (4 : Int32) * (4 : Int32))).toNatClampNeg ((F30 40 0 0 ((134 : Int32) + (x12 - x12 / (4 : Int32) * (4 : Int32))).toNatClampNeg) + x25)) (fun F33 => ob (fn_X8_isCell F33 x12) (fun r35 => if r35 = 0 then some F33 else pl ((F33 31 0 0 1) * (F33 30 11 0 0)) (fun x38 => og (vpb ((48 : Int32) + x12) 138) (pl (fu F33 40 0 0 ((48 : Int32) + x12).toNatClampNeg x38) (fun F41 => pl (fu F41 40 0 0 133 ((F41 40 0 0 133) + x38)) (fun F43 => pl (fu F43 40 0 0 ((134 : Int32) + (x12 - x12 / (4 : Int32) * (4 : Int32))).toNatClampNeg ((F43 40 0 0 ((134 : Int32) + (x12 - x12 / (4 : Int32) * (4 : Int32))).toNatClampNeg) + x38)) (fun F45 => ob (fn_X8_isCell F45 x12) (fun r47 => if r47 = 0 then some F45 else pl ((F45 31 0 0 2) * (F45 30 11 0 0)) (fun x50 => og (vpb ((64 : Int32) + x12) 138) (pl (fu F45 40 0 0 ((64 : Int32) + x12).toNatClampNeg x50) (fun F53 => pl (fu F53 40 0 0 133 ((F53 40 0 0 133) + x50)) (fun F55 => pl (fu F55 40 0 0 ((134 : Int32) + (x12 - x12 / (4 : Int32) * (4 : Int32))).toNatClampNeg ((F55 40 0 0 ((134 : Int32) + (x12 - x12 / (4 : Int32) * (4 : Int32))).toNatClampNeg) + x50)) (fun F57 => some F57))))))))))))))))))) (fun F23 => lp_X8_begin_24 n F23 (x12 + 1)))
theorem lp_X8_begin_24_s {n : Nat} {F13 : St} {x12 : Int32} : lp_X8_begin_24 (n + 1) F13 x12 = if (16 : Int32) ≤ x12 then some (F13, x12) else ob (fn_X8_isCell F13 x12) (fun r19 => ob (if r19 = 0 then some F13 else pl ((F13 31 0 0 0) * (F13 30 11 0 0)) (fun x25 => og (vpb ((32 : Int32) + x12) 138) (pl (fu F13 40 0 0 ((32 : Int32) + x12).toNatClampNeg x25) (fun F28 => pl (fu F28 40 0 0 133 ((F28 40 0 0 133) + x25)) (fun F30 => og (vpb ((134 : Int32) + (x12 - x12 / (4 : Int32) * (4 : Int32))) 138) (pl (fu F30 40 0 0 ((134 : Int32) + (x12 - x12 / (4 : Int32) * (4 : Int32))).toNatClampNeg ((F30 40 0 0 ((134 : Int32) + (x12 - x12 / (4 : Int32) * (4 : Int32))).toNatClampNeg) + x25)) (fun F33 => ob (fn_X8_isCell F33 x12) (fun r35 => if r35 = 0 then some F33 else pl ((F33 31 0 0 1) * (F33 30 11 0 0)) (fun x38 => og (vpb ((48 : Int32) + x12) 138) (pl (fu F33 40 0 0 ((48 : Int32) + x12).toNatClampNeg x38) (fun F41 => pl (fu F41 40 0 0 133 ((F41 40 0 0 133) + x38)) (fun F43 => pl (fu F43 40 0 0 ((134 : Int32) + (x12 - x12 / (4 : Int32) * (4 : Int32))).toNatClampNeg ((F43 40 0 0 ((134 : Int32) + (x12 - x12 / (4 : Int32) * (4 : Int32))).toNatClampNeg) + x38)) (fun F45 => ob (fn_X8_isCell F45 x12) (fun r47 => if r47 = 0 then some F45 else pl ((F45 31 0 0 2) * (F45 30 11 0 0)) (fun x50 => og (vpb ((64 : Int32) + x12) 138) (pl (fu F45 40 0 0 ((64 : Int32) + x12).toNatClampNeg x50) (fun F53 => pl (fu F53 40 0 0 133 ((F53 40 0 0 133) + x50)) (fun F55 => pl (fu F55 40 0 0 ((134 : Int32) + (x12 - x12 / (4 : Int32) * (4 : Int32))).toNatClampNeg ((F55 40 0 0 ((134 : Int32) + (x12 - x12 / (4 : Int32) * (4 : Int32))).toNatClampNeg) + x50)) (fun F57 => some F57))))))))))))))))))) (fun F23 => lp_X8_begin_24 n F23 (x12 + 1))) := rfl
def fn_X8_begin (F : St) : Option (St) :=
  ob2 (lp_X8_begin_2 300 F (0 : Int32)) (fun F3 x4 => ob2 (lp_X8_begin_24 300 F3 (0 : Int32)) (fun F14 x15 => some F14))
theorem yd_X8_begin : yX8_begin.cls = RX8 ∧ yX8_begin.cls ≠ "java/lang/invoke/MethodHandle" ∧ yX8_begin.cls ≠ "java/lang/invoke/VarHandle" ∧ (parseMethodDescriptor yX8_begin.desc).map (fun d => d.parameters.length) = some 0 := by decide +kernel
set_option maxHeartbeats 4000000 in
theorem met_X8_begin (l : Launch) {D : va_G} {dA : WK} {a : Ix → Nat} (hD : wD D dA a) {F : St} {Fz : St} (hv0 : wVd dA (30, 0, 0)) (h : fn_X8_begin F = some Fz) : Mv l yX8_begin cX8_begin 4 1 21 D dA a F [.ref (a (30, 0, 0))] Fz := by
  refine fun sz => mst (Qc := fun sz => wQv D dA a sz Fz) (by decide) (Nat.le_of_ble_eq_true rfl) ?_ sz
  intro p e s m below meth c S hr hlk hK hW ls hl
  have hl : lv_has ls 4 [(0, .ref (a (30, 0, 0)))] := hl
  have hx := S.1
  have hb := S.2.1
  generalize ([.ref (a (30, 0, 0))] : List Value).toArray = av at S ⊢
  unfold fn_X8_begin at h
  obtain ⟨H, eH⟩ : ∃ z, z = s.heap := ⟨_, rfl⟩
  obtain ⟨locs, eL⟩ : ∃ z : List Loc, z = [] := ⟨_, rfl⟩
  show WX p l e (rmL 1 21) s m av below meth c (wQv D dA a s.heap.size Fz) dA a s.heap [] (F0 m 0 ls [])
  have hW : wS D dA a s F H locs := by rw [eH, eL]; exact wS_in hW
  refine wx_in eH eL ?_
  clear eH eL
  refine lv_iconst (v := (0 : Int32)) hx hb dX8_begin_0 (by decide) ?_
  refine lv_istore_n (lv' := [(1, .int (0 : Int32)), (0, .ref (a (30, 0, 0)))]) hx hb dX8_begin_1 rfl hl (by decide) rfl (fun ls hl => ?_)
  have L6 : ∀ (n : Nat) (F2 : St) (x1 : Int32) (F3 : St) (x4 : Int32), lp_X8_begin_2 n F2 x1 = some (F3, x4) → (∀ (H : Heap) (locs : List Loc) (ls : Array Slot), wS D dA a s F3 H locs → lv_has ls 4 [(0, .ref (a (30, 0, 0)))] → WX p l e (rmL 1 21) s m av below meth c (wQv D dA a s.heap.size Fz) dA a H locs (F0 m 22 ls [])) → ∀ (H : Heap) (locs : List Loc) (ls : Array Slot), wS D dA a s F2 H locs → lv_has ls 4 [(0, .ref (a (30, 0, 0))), (1, .int x1)] → WX p l e (rmL 1 21) s m av below meth c (wQv D dA a s.heap.size Fz) dA a H locs (F0 m 2 ls []) := by
    intro n
    induction n with
    | zero =>
      intro F2 x1 F3 x4 h
      exact absurd (show (none : Option (St × Int32)) = some (F3, x4) from h) (by simp)
    | succ n ih =>
      intro F2 x1 F3 x4 h K5 H locs ls hW hl
      have h := lp_X8_begin_2_s.symm.trans h
      refine lv_iload_n hx hb dX8_begin_2 rfl (lv_at hl 1 rfl) ?_
      refine lv_sipush (v := (138 : Int32)) hx hb dX8_begin_3 (by decide) ?_
      refine lv_icmp_ge (tgt := 22) hx hb dX8_begin_6 (by decide) (fun c7 => ?_) (fun c7 => ?_)
      · have h := if_t h c7
        cases h
        exact K5 H locs ls hW (lv_sub hl [0] rfl)
      · have h := if_f h c7
        refine lv_aload_n hx hb dX8_begin_9 rfl (lv_at hl 0 rfl) ?_
        refine gf_30_30 S hK hW hv0 q1015 dX8_begin_10 ?_
        refine lv_iload_n hx hb dX8_begin_13 rfl (lv_at hl 1 rfl) ?_
        refine lv_iconst (v := (0 : Int32)) hx hb dX8_begin_14 (by decide) ?_
        obtain ⟨g8, h⟩ := og_e h
        obtain ⟨F9, e10, h⟩ := pl_e h
        refine ast_40 S hK hD hW (vq_30_30 hv0) g8 rfl e10 dX8_begin_15 (fun H locs hW => ?_)
        refine lv_iinc (v := (x1 + 1)) (lv' := [(1, .int (x1 + 1)), (0, .ref (a (30, 0, 0)))]) hx hb dX8_begin_16 hl (k := 1) rfl rfl (by decide) rfl (fun ls hl => ?_)
        refine lv_goto (tgt := 2) hx hb dX8_begin_19 (by decide) ?_
        exact ih _ _ _ _ h K5 H locs ls hW (lv_sub hl [1, 0] rfl)
  obtain ⟨F3, x4, hz11, h⟩ := ob2_e h
  refine L6 300 F (0 : Int32) F3 x4 hz11 (fun H locs ls hW hl => ?_) H locs ls hW (lv_sub hl [1, 0] rfl)
  refine lv_iconst (v := (0 : Int32)) hx hb dX8_begin_22 (by decide) ?_
  refine lv_istore_n (lv' := [(1, .int (0 : Int32)), (0, .ref (a (30, 0, 0)))]) hx hb dX8_begin_23 rfl hl (by decide) rfl (fun ls hl => ?_)
  have L17 : ∀ (n : Nat) (F13 : St) (x12 : Int32) (F14 : St) (x15 : Int32), lp_X8_begin_24 n F13 x12 = some (F14, x15) → (∀ (H : Heap) (locs : List Loc) (ls : Array Slot), wS D dA a s F14 H locs → lv_has ls 4 [] → WX p l e (rmL 1 21) s m av below meth c (wQv D dA a s.heap.size Fz) dA a H locs (F0 m 112 ls [])) → ∀ (H : Heap) (locs : List Loc) (ls : Array Slot), wS D dA a s F13 H locs → lv_has ls 4 [(0, .ref (a (30, 0, 0))), (1, .int x12)] → WX p l e (rmL 1 21) s m av below meth c (wQv D dA a s.heap.size Fz) dA a H locs (F0 m 24 ls []) := by
    intro n
    induction n with
    | zero =>
      intro F13 x12 F14 x15 h
      exact absurd (show (none : Option (St × Int32)) = some (F14, x15) from h) (by simp)
    | succ n ih =>
      intro F13 x12 F14 x15 h K16 H locs ls hW hl
      have h := lp_X8_begin_24_s.symm.trans h
      refine lv_iload_n hx hb dX8_begin_24 rfl (lv_at hl 1 rfl) ?_
      refine lv_bipush (v := (16 : Int32)) hx hb dX8_begin_25 (by decide) ?_
      refine lv_icmp_ge (tgt := 112) hx hb dX8_begin_27 (by decide) (fun c18 => ?_) (fun c18 => ?_)
      · have h := if_t h c18
        cases h
        exact K16 H locs ls hW (lv_sub hl [] rfl)
      · have h := if_f h c18
        refine lv_iconst (v := (0 : Int32)) hx hb dX8_begin_30 (by decide) ?_
        refine lv_istore_n (lv' := [(2, .int (0 : Int32)), (0, .ref (a (30, 0, 0))), (1, .int x12)]) hx hb dX8_begin_31 rfl hl (by decide) rfl (fun ls hl => ?_)
        refine lv_iload_n hx hb dX8_begin_32 rfl (lv_at hl 0 rfl) ?_
        refine lv_iconst (v := (3 : Int32)) hx hb dX8_begin_33 (by decide) ?_
        refine lv_icmp_ge (tgt := 106) hx hb dX8_begin_34 (by decide) (fun c => absurd c (by decide)) (fun _ => ?_)
        refine lv_aload_n hx hb dX8_begin_37 rfl (lv_at hl 1 rfl) ?_
        refine lv_iload_n hx hb dX8_begin_38 rfl (lv_at hl 2 rfl) ?_
        obtain ⟨r19, hc20, h⟩ := ob_e h
        refine wk_i (va_runV (As := [.int x12]) (rest := []) S (met_X8_isCell l hD hv0 hc20 H.size) (cwV 1 S.2.2.2.2 (lw_V q981 q983 qs23 q63 q984) rfl rfl rfl yd_X8_isCell ⟨Nat.le_of_ble_eq_true rfl, Nat.le_of_ble_eq_true rfl⟩) (wpreV hK hW hv0 rfl rfl _) rfl rfl hl.1 rfl (lv_room (Nat.le_of_ble_eq_true rfl)) dX8_begin_39 ⟨Nat.le_refl 0, Nat.le_refl 0⟩) hW (fun H locs hW => ?_)
        obtain ⟨F23, hz22, h⟩ := ob_e h
        have K24 : ∀ (H : Heap) (locs : List Loc) (ls : Array Slot), wS D dA a s F23 H locs → lv_has ls 4 [(0, .ref (a (30, 0, 0))), (1, .int x12)] → WX p l e (rmL 1 21) s m av below meth c (wQv D dA a s.heap.size Fz) dA a H locs (F0 m 106 ls []) := by
          intro H locs ls hW hl
          refine lv_iinc (v := (x12 + 1)) (lv' := [(1, .int (x12 + 1)), (0, .ref (a (30, 0, 0)))]) hx hb dX8_begin_106 hl (k := 1) rfl rfl (by decide) rfl (fun ls hl => ?_)
          refine lv_goto (tgt := 24) hx hb dX8_begin_109 (by decide) ?_
          exact ih _ _ _ _ h K16 H locs ls hW (lv_sub hl [1, 0] rfl)
        clear h
        refine lv_if_eq (tgt := 106) hx hb dX8_begin_42 (by decide) (fun c21 => ?_) (fun c21 => ?_)
        · have h := if_t hz22 c21
          cases h
          exact K24 H locs ls hW (lv_sub hl [1, 2] rfl)
        · have h := if_f hz22 c21
          refine lv_aload_n hx hb dX8_begin_45 rfl (lv_at hl 1 rfl) ?_
          refine gf_30_2 S hK hW hv0 q987 dX8_begin_46 ?_
          refine lv_iload_n hx hb dX8_begin_49 rfl (lv_at hl 0 rfl) ?_
          refine ald_31 (z := 0) S hK hW (vq_30_2 hv0) (by decide) (by decide) dX8_begin_50 ?_
          refine lv_aload_n hx hb dX8_begin_51 rfl (lv_at hl 1 rfl) ?_
          refine gf_30_11 S hK hW hv0 q996 dX8_begin_52 ?_
          refine lv_imul hx hb dX8_begin_55 ?_
          obtain ⟨x25, e26, h⟩ := pl_e h
          refine lv_nm e26 ?_
          refine lv_istore_n (lv' := [(3, .int x25), (2, .int (0 : Int32)), (0, .ref (a (30, 0, 0))), (1, .int x12)]) hx hb dX8_begin_56 rfl hl (by decide) rfl (fun ls hl => ?_)
          refine lv_aload_n hx hb dX8_begin_57 rfl (lv_at hl 2 rfl) ?_
          refine gf_30_30 S hK hW hv0 q1015 dX8_begin_58 ?_
          refine lv_bipush (v := (32 : Int32)) hx hb dX8_begin_61 (by decide) ?_
          refine lv_bipush (v := (16 : Int32)) hx hb dX8_begin_63 (by decide) ?_
          refine lv_iload_n hx hb dX8_begin_65 rfl (lv_at hl 1 rfl) ?_
          refine lv_imul hx hb dX8_begin_66 ?_
          refine lv_nm (y := (0 : Int32)) (by decide) ?_
          refine lv_iadd hx hb dX8_begin_67 ?_
          refine lv_nm (y := (32 : Int32)) (by decide) ?_
          refine lv_iload_n hx hb dX8_begin_68 rfl (lv_at hl 3 rfl) ?_
          refine lv_iadd hx hb dX8_begin_69 ?_
          refine lv_iload_n hx hb dX8_begin_70 rfl (lv_at hl 0 rfl) ?_
          obtain ⟨g27, h⟩ := og_e h
          obtain ⟨F28, e29, h⟩ := pl_e h
          refine ast_40 S hK hD hW (vq_30_30 hv0) g27 rfl e29 dX8_begin_71 (fun H locs hW => ?_)
          refine lv_aload_n hx hb dX8_begin_72 rfl (lv_at hl 2 rfl) ?_
          refine gf_30_30 S hK hW hv0 q1015 dX8_begin_73 ?_
          refine lv_sipush (v := (133 : Int32)) hx hb dX8_begin_76 (by decide) ?_
          refine lv_dup2_11 hx hb dX8_begin_79 rfl rfl ?_
          refine ald_40 (z := 133) S hK hW (vq_30_30 hv0) (by decide) (by decide) dX8_begin_80 ?_
          refine lv_iload_n hx hb dX8_begin_81 rfl (lv_at hl 0 rfl) ?_
          refine lv_iadd hx hb dX8_begin_82 ?_
          obtain ⟨F30, e31, h⟩ := pl_e h
          refine ast_40 (z := 133) S hK hD hW (vq_30_30 hv0) (by decide) (by decide) e31 dX8_begin_83 (fun H locs hW => ?_)
          refine lv_aload_n hx hb dX8_begin_84 rfl (lv_at hl 2 rfl) ?_
          refine gf_30_30 S hK hW hv0 q1015 dX8_begin_85 ?_
          refine lv_sipush (v := (134 : Int32)) hx hb dX8_begin_88 (by decide) ?_
          refine lv_iload_n hx hb dX8_begin_91 rfl (lv_at hl 3 rfl) ?_
          refine lv_iconst (v := (4 : Int32)) hx hb dX8_begin_92 (by decide) ?_
          refine lv_irem hx hb dX8_begin_93 (by decide) ?_
          refine lv_iadd hx hb dX8_begin_94 ?_
          refine lv_dup2_11 hx hb dX8_begin_95 rfl rfl ?_
          obtain ⟨g32, h⟩ := og_e h
          refine ald_40 S hK hW (vq_30_30 hv0) g32 rfl dX8_begin_96 ?_
          refine lv_iload_n hx hb dX8_begin_97 rfl (lv_at hl 0 rfl) ?_
          refine lv_iadd hx hb dX8_begin_98 ?_
          obtain ⟨F33, e34, h⟩ := pl_e h
          refine ast_40 S hK hD hW (vq_30_30 hv0) g32 rfl e34 dX8_begin_99 (fun H locs hW => ?_)
          refine lv_iinc (v := (1 : Int32)) (lv' := [(2, .int (1 : Int32)), (3, .int x25), (0, .ref (a (30, 0, 0))), (1, .int x12)]) hx hb dX8_begin_100 hl (k := 1) rfl (by decide) (by decide) rfl (fun ls hl => ?_)
          refine lv_goto (tgt := 32) hx hb dX8_begin_103 (by decide) ?_
          refine lv_iload_n hx hb dX8_begin_32 rfl (lv_at hl 0 rfl) ?_
          refine lv_iconst (v := (3 : Int32)) hx hb dX8_begin_33 (by decide) ?_
          refine lv_icmp_ge (tgt := 106) hx hb dX8_begin_34 (by decide) (fun c => absurd c (by decide)) (fun _ => ?_)
          refine lv_aload_n hx hb dX8_begin_37 rfl (lv_at hl 2 rfl) ?_
          refine lv_iload_n hx hb dX8_begin_38 rfl (lv_at hl 3 rfl) ?_
          obtain ⟨r35, hc36, h⟩ := ob_e h
          refine wk_i (va_runV (As := [.int x12]) (rest := []) S (met_X8_isCell l hD hv0 hc36 H.size) (cwV 1 S.2.2.2.2 (lw_V q981 q983 qs23 q63 q984) rfl rfl rfl yd_X8_isCell ⟨Nat.le_of_ble_eq_true rfl, Nat.le_of_ble_eq_true rfl⟩) (wpreV hK hW hv0 rfl rfl _) rfl rfl hl.1 rfl (lv_room (Nat.le_of_ble_eq_true rfl)) dX8_begin_39 ⟨Nat.le_refl 0, Nat.le_refl 0⟩) hW (fun H locs hW => ?_)
          refine lv_if_eq (tgt := 106) hx hb dX8_begin_42 (by decide) (fun c37 => ?_) (fun c37 => ?_)
          · have h := if_t h c37
            cases h
            exact K24 H locs ls hW (lv_sub hl [2, 3] rfl)
          · have h := if_f h c37
            refine lv_aload_n hx hb dX8_begin_45 rfl (lv_at hl 2 rfl) ?_
            refine gf_30_2 S hK hW hv0 q987 dX8_begin_46 ?_
            refine lv_iload_n hx hb dX8_begin_49 rfl (lv_at hl 0 rfl) ?_
            refine ald_31 (z := 1) S hK hW (vq_30_2 hv0) (by decide) (by decide) dX8_begin_50 ?_
            refine lv_aload_n hx hb dX8_begin_51 rfl (lv_at hl 2 rfl) ?_
            refine gf_30_11 S hK hW hv0 q996 dX8_begin_52 ?_
            refine lv_imul hx hb dX8_begin_55 ?_
            obtain ⟨x38, e39, h⟩ := pl_e h
            refine lv_nm e39 ?_
            refine lv_istore_n (lv' := [(3, .int x38), (2, .int (1 : Int32)), (0, .ref (a (30, 0, 0))), (1, .int x12)]) hx hb dX8_begin_56 rfl hl (by decide) rfl (fun ls hl => ?_)
            refine lv_aload_n hx hb dX8_begin_57 rfl (lv_at hl 2 rfl) ?_
            refine gf_30_30 S hK hW hv0 q1015 dX8_begin_58 ?_
            refine lv_bipush (v := (32 : Int32)) hx hb dX8_begin_61 (by decide) ?_
            refine lv_bipush (v := (16 : Int32)) hx hb dX8_begin_63 (by decide) ?_
            refine lv_iload_n hx hb dX8_begin_65 rfl (lv_at hl 1 rfl) ?_
            refine lv_imul hx hb dX8_begin_66 ?_
            refine lv_nm (y := (16 : Int32)) (by decide) ?_
            refine lv_iadd hx hb dX8_begin_67 ?_
            refine lv_nm (y := (48 : Int32)) (by decide) ?_
            refine lv_iload_n hx hb dX8_begin_68 rfl (lv_at hl 3 rfl) ?_
            refine lv_iadd hx hb dX8_begin_69 ?_
            refine lv_iload_n hx hb dX8_begin_70 rfl (lv_at hl 0 rfl) ?_
            obtain ⟨g40, h⟩ := og_e h
            obtain ⟨F41, e42, h⟩ := pl_e h
            refine ast_40 S hK hD hW (vq_30_30 hv0) g40 rfl e42 dX8_begin_71 (fun H locs hW => ?_)
            refine lv_aload_n hx hb dX8_begin_72 rfl (lv_at hl 2 rfl) ?_
            refine gf_30_30 S hK hW hv0 q1015 dX8_begin_73 ?_
            refine lv_sipush (v := (133 : Int32)) hx hb dX8_begin_76 (by decide) ?_
            refine lv_dup2_11 hx hb dX8_begin_79 rfl rfl ?_
            refine ald_40 (z := 133) S hK hW (vq_30_30 hv0) (by decide) (by decide) dX8_begin_80 ?_
            refine lv_iload_n hx hb dX8_begin_81 rfl (lv_at hl 0 rfl) ?_
            refine lv_iadd hx hb dX8_begin_82 ?_
            obtain ⟨F43, e44, h⟩ := pl_e h
            refine ast_40 (z := 133) S hK hD hW (vq_30_30 hv0) (by decide) (by decide) e44 dX8_begin_83 (fun H locs hW => ?_)
            refine lv_aload_n hx hb dX8_begin_84 rfl (lv_at hl 2 rfl) ?_
            refine gf_30_30 S hK hW hv0 q1015 dX8_begin_85 ?_
            refine lv_sipush (v := (134 : Int32)) hx hb dX8_begin_88 (by decide) ?_
            refine lv_iload_n hx hb dX8_begin_91 rfl (lv_at hl 3 rfl) ?_
            refine lv_iconst (v := (4 : Int32)) hx hb dX8_begin_92 (by decide) ?_
            refine lv_irem hx hb dX8_begin_93 (by decide) ?_
            refine lv_iadd hx hb dX8_begin_94 ?_
            refine lv_dup2_11 hx hb dX8_begin_95 rfl rfl ?_
            refine ald_40 S hK hW (vq_30_30 hv0) g32 rfl dX8_begin_96 ?_
            refine lv_iload_n hx hb dX8_begin_97 rfl (lv_at hl 0 rfl) ?_
            refine lv_iadd hx hb dX8_begin_98 ?_
            obtain ⟨F45, e46, h⟩ := pl_e h
            refine ast_40 S hK hD hW (vq_30_30 hv0) g32 rfl e46 dX8_begin_99 (fun H locs hW => ?_)
            refine lv_iinc (v := (2 : Int32)) (lv' := [(2, .int (2 : Int32)), (3, .int x38), (0, .ref (a (30, 0, 0))), (1, .int x12)]) hx hb dX8_begin_100 hl (k := 1) rfl (by decide) (by decide) rfl (fun ls hl => ?_)
            refine lv_goto (tgt := 32) hx hb dX8_begin_103 (by decide) ?_
            refine lv_iload_n hx hb dX8_begin_32 rfl (lv_at hl 0 rfl) ?_
            refine lv_iconst (v := (3 : Int32)) hx hb dX8_begin_33 (by decide) ?_
            refine lv_icmp_ge (tgt := 106) hx hb dX8_begin_34 (by decide) (fun c => absurd c (by decide)) (fun _ => ?_)
            refine lv_aload_n hx hb dX8_begin_37 rfl (lv_at hl 2 rfl) ?_
            refine lv_iload_n hx hb dX8_begin_38 rfl (lv_at hl 3 rfl) ?_
            obtain ⟨r47, hc48, h⟩ := ob_e h
            refine wk_i (va_runV (As := [.int x12]) (rest := []) S (met_X8_isCell l hD hv0 hc48 H.size) (cwV 1 S.2.2.2.2 (lw_V q981 q983 qs23 q63 q984) rfl rfl rfl yd_X8_isCell ⟨Nat.le_of_ble_eq_true rfl, Nat.le_of_ble_eq_true rfl⟩) (wpreV hK hW hv0 rfl rfl _) rfl rfl hl.1 rfl (lv_room (Nat.le_of_ble_eq_true rfl)) dX8_begin_39 ⟨Nat.le_refl 0, Nat.le_refl 0⟩) hW (fun H locs hW => ?_)
            refine lv_if_eq (tgt := 106) hx hb dX8_begin_42 (by decide) (fun c49 => ?_) (fun c49 => ?_)
            · have h := if_t h c49
              cases h
              exact K24 H locs ls hW (lv_sub hl [2, 3] rfl)
            · have h := if_f h c49
              refine lv_aload_n hx hb dX8_begin_45 rfl (lv_at hl 2 rfl) ?_
              refine gf_30_2 S hK hW hv0 q987 dX8_begin_46 ?_
              refine lv_iload_n hx hb dX8_begin_49 rfl (lv_at hl 0 rfl) ?_
              refine ald_31 (z := 2) S hK hW (vq_30_2 hv0) (by decide) (by decide) dX8_begin_50 ?_
              refine lv_aload_n hx hb dX8_begin_51 rfl (lv_at hl 2 rfl) ?_
              refine gf_30_11 S hK hW hv0 q996 dX8_begin_52 ?_
              refine lv_imul hx hb dX8_begin_55 ?_
              obtain ⟨x50, e51, h⟩ := pl_e h
              refine lv_nm e51 ?_
              refine lv_istore_n (lv' := [(3, .int x50), (2, .int (2 : Int32)), (0, .ref (a (30, 0, 0))), (1, .int x12)]) hx hb dX8_begin_56 rfl hl (by decide) rfl (fun ls hl => ?_)
              refine lv_aload_n hx hb dX8_begin_57 rfl (lv_at hl 2 rfl) ?_
              refine gf_30_30 S hK hW hv0 q1015 dX8_begin_58 ?_
              refine lv_bipush (v := (32 : Int32)) hx hb dX8_begin_61 (by decide) ?_
              refine lv_bipush (v := (16 : Int32)) hx hb dX8_begin_63 (by decide) ?_
              refine lv_iload_n hx hb dX8_begin_65 rfl (lv_at hl 1 rfl) ?_
              refine lv_imul hx hb dX8_begin_66 ?_
              refine lv_nm (y := (32 : Int32)) (by decide) ?_
              refine lv_iadd hx hb dX8_begin_67 ?_
              refine lv_nm (y := (64 : Int32)) (by decide) ?_
              refine lv_iload_n hx hb dX8_begin_68 rfl (lv_at hl 3 rfl) ?_
              refine lv_iadd hx hb dX8_begin_69 ?_
              refine lv_iload_n hx hb dX8_begin_70 rfl (lv_at hl 0 rfl) ?_
              obtain ⟨g52, h⟩ := og_e h
              obtain ⟨F53, e54, h⟩ := pl_e h
              refine ast_40 S hK hD hW (vq_30_30 hv0) g52 rfl e54 dX8_begin_71 (fun H locs hW => ?_)
              refine lv_aload_n hx hb dX8_begin_72 rfl (lv_at hl 2 rfl) ?_
              refine gf_30_30 S hK hW hv0 q1015 dX8_begin_73 ?_
              refine lv_sipush (v := (133 : Int32)) hx hb dX8_begin_76 (by decide) ?_
              refine lv_dup2_11 hx hb dX8_begin_79 rfl rfl ?_
              refine ald_40 (z := 133) S hK hW (vq_30_30 hv0) (by decide) (by decide) dX8_begin_80 ?_
              refine lv_iload_n hx hb dX8_begin_81 rfl (lv_at hl 0 rfl) ?_
              refine lv_iadd hx hb dX8_begin_82 ?_
              obtain ⟨F55, e56, h⟩ := pl_e h
              refine ast_40 (z := 133) S hK hD hW (vq_30_30 hv0) (by decide) (by decide) e56 dX8_begin_83 (fun H locs hW => ?_)
              refine lv_aload_n hx hb dX8_begin_84 rfl (lv_at hl 2 rfl) ?_
              refine gf_30_30 S hK hW hv0 q1015 dX8_begin_85 ?_
              refine lv_sipush (v := (134 : Int32)) hx hb dX8_begin_88 (by decide) ?_
              refine lv_iload_n hx hb dX8_begin_91 rfl (lv_at hl 3 rfl) ?_
              refine lv_iconst (v := (4 : Int32)) hx hb dX8_begin_92 (by decide) ?_
              refine lv_irem hx hb dX8_begin_93 (by decide) ?_
              refine lv_iadd hx hb dX8_begin_94 ?_
              refine lv_dup2_11 hx hb dX8_begin_95 rfl rfl ?_
              refine ald_40 S hK hW (vq_30_30 hv0) g32 rfl dX8_begin_96 ?_
              refine lv_iload_n hx hb dX8_begin_97 rfl (lv_at hl 0 rfl) ?_
              refine lv_iadd hx hb dX8_begin_98 ?_
              obtain ⟨F57, e58, h⟩ := pl_e h
              refine ast_40 S hK hD hW (vq_30_30 hv0) g32 rfl e58 dX8_begin_99 (fun H locs hW => ?_)
              refine lv_iinc (v := (3 : Int32)) (lv' := [(2, .int (3 : Int32)), (3, .int x50), (0, .ref (a (30, 0, 0))), (1, .int x12)]) hx hb dX8_begin_100 hl (k := 1) rfl (by decide) (by decide) rfl (fun ls hl => ?_)
              refine lv_goto (tgt := 32) hx hb dX8_begin_103 (by decide) ?_
              refine lv_iload_n hx hb dX8_begin_32 rfl (lv_at hl 0 rfl) ?_
              refine lv_iconst (v := (3 : Int32)) hx hb dX8_begin_33 (by decide) ?_
              refine lv_icmp_ge (tgt := 106) hx hb dX8_begin_34 (by decide) (fun _ => ?_) (fun c => absurd c (by decide))
              cases h
              exact K24 H locs ls hW (lv_sub hl [2, 3] rfl)
  obtain ⟨F14, x15, hz59, h⟩ := ob2_e h
  refine L17 300 F3 (0 : Int32) F14 x15 hz59 (fun H locs ls hW hl => ?_) H locs ls hW (lv_sub hl [1, 0] rfl)
  cases h
  exact we_v S hr hlk hW dX8_begin_112
def fn_X8_again (F : St) : Option (St × Int32) :=
  pl (F 40 0 0 132) (fun x1 => ob (fn_X8_begin F) (fun F3 => some (F3, x1)))
theorem yd_X8_again : yX8_again.cls = RX8 ∧ yX8_again.cls ≠ "java/lang/invoke/MethodHandle" ∧ yX8_again.cls ≠ "java/lang/invoke/VarHandle" ∧ (parseMethodDescriptor yX8_again.desc).map (fun d => d.parameters.length) = some 0 := by decide +kernel
set_option maxHeartbeats 4000000 in
theorem met_X8_again (l : Launch) {D : va_G} {dA : WK} {a : Ix → Nat} (hD : wD D dA a) {F : St} {Fz : St} {rz : Int32} (hv0 : wVd dA (30, 0, 0)) (h : fn_X8_again F = some (Fz, rz)) : Mi l yX8_again cX8_again 2 .int 2 44 D dA a F [.ref (a (30, 0, 0))] Fz rz := by
  refine fun sz => mst (Qc := fun sz => wQi D dA a sz Fz rz) (by decide) (Nat.le_of_ble_eq_true rfl) ?_ sz
  intro p e s m below meth c S hr hlk hK hW ls hl
  have hl : lv_has ls 2 [(0, .ref (a (30, 0, 0)))] := hl
  have hx := S.1
  have hb := S.2.1
  generalize ([.ref (a (30, 0, 0))] : List Value).toArray = av at S ⊢
  unfold fn_X8_again at h
  obtain ⟨H, eH⟩ : ∃ z, z = s.heap := ⟨_, rfl⟩
  obtain ⟨locs, eL⟩ : ∃ z : List Loc, z = [] := ⟨_, rfl⟩
  show WX p l e (rmL 2 44) s m av below meth c (wQi D dA a s.heap.size Fz rz) dA a s.heap [] (F0 m 0 ls [])
  have hW : wS D dA a s F H locs := by rw [eH, eL]; exact wS_in hW
  refine wx_in eH eL ?_
  clear eH eL
  refine lv_aload_n hx hb dX8_again_0 rfl (lv_at hl 0 rfl) ?_
  refine gf_30_30 S hK hW hv0 q1015 dX8_again_1 ?_
  refine lv_sipush (v := (132 : Int32)) hx hb dX8_again_4 (by decide) ?_
  refine ald_40 (z := 132) S hK hW (vq_30_30 hv0) (by decide) (by decide) dX8_again_7 ?_
  obtain ⟨x1, e2, h⟩ := pl_e h
  refine lv_nm e2 ?_
  refine lv_istore_n (lv' := [(1, .int x1), (0, .ref (a (30, 0, 0)))]) hx hb dX8_again_8 rfl hl (by decide) rfl (fun ls hl => ?_)
  refine lv_aload_n hx hb dX8_again_9 rfl (lv_at hl 1 rfl) ?_
  obtain ⟨F3, hc4, h⟩ := ob_e h
  refine wk_v (va_runV (As := []) (rest := []) S (met_X8_begin l hD hv0 hc4 H.size) (cwV 0 S.2.2.2.2 (lw_V q977 q979 qs22 q63 q980) rfl rfl rfl yd_X8_begin ⟨Nat.le_of_ble_eq_true rfl, Nat.le_of_ble_eq_true rfl⟩) (wpreV hK hW hv0 rfl rfl _) rfl rfl hl.1 rfl (lv_room (Nat.le_of_ble_eq_true rfl)) dX8_again_10 ⟨Nat.le_refl 0, Nat.le_refl 0⟩) hW (fun H locs hW => ?_)
  refine lv_iload_n hx hb dX8_again_13 rfl (lv_at hl 0 rfl) ?_
  cases h
  exact we_i S hr hlk hW dX8_again_14
def fn_X8_allIn (F : St) (p1 : Int32) : Option (Int64) :=
  og (vpb ((134 : Int32) + p1) 138) (if (F 40 0 0 ((134 : Int32) + p1).toNatClampNeg) = 0 then some (1 : Int64) else some ((F 40 0 0 ((134 : Int32) + p1).toNatClampNeg).toInt64))
theorem yd_X8_allIn : yX8_allIn.cls = RX8 ∧ yX8_allIn.cls ≠ "java/lang/invoke/MethodHandle" ∧ yX8_allIn.cls ≠ "java/lang/invoke/VarHandle" ∧ (parseMethodDescriptor yX8_allIn.desc).map (fun d => d.parameters.length) = some 1 := by decide +kernel
set_option maxHeartbeats 4000000 in
theorem met_X8_allIn (l : Launch) {D : va_G} {dA : WK} {a : Ix → Nat} (hD : wD D dA a) {F : St} {p1 : Int32} {rz : Int64} (hv0 : wVd dA (30, 0, 0)) (h : fn_X8_allIn F p1 = some rz) : Ml l yX8_allIn cX8_allIn 2 0 0 D dA a F [.ref (a (30, 0, 0)), .int p1] F rz := by
  refine fun sz => mst (Qc := fun sz => wQl D dA a sz F rz) (by decide) (Nat.le_of_ble_eq_true rfl) ?_ sz
  intro p e s m below meth c S hr hlk hK hW ls hl
  have hl : lv_has ls 2 [(0, .ref (a (30, 0, 0))), (1, .int p1)] := hl
  have hx := S.1
  have hb := S.2.1
  generalize ([.ref (a (30, 0, 0)), .int p1] : List Value).toArray = av at S ⊢
  unfold fn_X8_allIn at h
  obtain ⟨H, eH⟩ : ∃ z, z = s.heap := ⟨_, rfl⟩
  obtain ⟨locs, eL⟩ : ∃ z : List Loc, z = [] := ⟨_, rfl⟩
  show WX p l e (rmL 0 0) s m av below meth c (wQl D dA a s.heap.size F rz) dA a s.heap [] (F0 m 0 ls [])
  have hW : wS D dA a s F H locs := by rw [eH, eL]; exact wS_in hW
  refine wx_in eH eL ?_
  clear eH eL
  refine lv_aload_n hx hb dX8_allIn_0 rfl (lv_at hl 0 rfl) ?_
  refine gf_30_30 S hK hW hv0 q1015 dX8_allIn_1 ?_
  refine lv_sipush (v := (134 : Int32)) hx hb dX8_allIn_4 (by decide) ?_
  refine lv_iload_n hx hb dX8_allIn_7 rfl (lv_at hl 1 rfl) ?_
  refine lv_iadd hx hb dX8_allIn_8 ?_
  obtain ⟨g1, h⟩ := og_e h
  refine ald_40 S hK hW (vq_30_30 hv0) g1 rfl dX8_allIn_9 ?_
  refine lv_if_ne (tgt := 17) hx hb dX8_allIn_10 (by decide) (fun c2 => ?_) (fun c2 => ?_)
  · have h := if_f h c2
    refine lv_aload_n hx hb dX8_allIn_17 rfl (lv_at hl 0 rfl) ?_
    refine gf_30_30 S hK hW hv0 q1015 dX8_allIn_18 ?_
    refine lv_sipush (v := (134 : Int32)) hx hb dX8_allIn_21 (by decide) ?_
    refine lv_iload_n hx hb dX8_allIn_24 rfl (lv_at hl 1 rfl) ?_
    refine lv_iadd hx hb dX8_allIn_25 ?_
    refine ald_40 S hK hW (vq_30_30 hv0) g1 rfl dX8_allIn_26 ?_
    refine lv_i2l hx hb dX8_allIn_27 rfl ?_
    cases h
    exact we_l S hr hlk hW dX8_allIn_28
  · have h := if_t h c2
    refine lv_lconst (v := (1 : Int64)) hx hb dX8_allIn_13 (by decide) ?_
    refine lv_goto (tgt := 28) hx hb dX8_allIn_14 (by decide) ?_
    cases h
    exact we_l S hr hlk hW dX8_allIn_28
def fn_X8_in (F : St) (p0 : Int32) (p1 : Int32) (p2 : Int32) : Option (Int32) :=
  if p0 < p1 then some (0 : Int32) else if p2 < p0 then some (0 : Int32) else some (1 : Int32)
theorem yd_X8_in : yX8_in.cls = RX8 ∧ yX8_in.cls ≠ "java/lang/invoke/MethodHandle" ∧ yX8_in.cls ≠ "java/lang/invoke/VarHandle" ∧ (parseMethodDescriptor yX8_in.desc).map (fun d => d.parameters.length) = some 3 := by decide +kernel
set_option maxHeartbeats 4000000 in
theorem met_X8_in (l : Launch) {D : va_G} {dA : WK} {a : Ix → Nat} (hD : wD D dA a) {F : St} {p0 : Int32} {p1 : Int32} {p2 : Int32} {rz : Int32} (h : fn_X8_in F p0 p1 p2 = some rz) : Mi l yX8_in cX8_in 3 .boolean 0 0 D dA a F [.int p0, .int p1, .int p2] F rz := by
  refine fun sz => mst (Qc := fun sz => wQi D dA a sz F rz) (by decide) (Nat.le_of_ble_eq_true rfl) ?_ sz
  intro p e s m below meth c S hr hlk hK hW ls hl
  have hl : lv_has ls 3 [(0, .int p0), (1, .int p1), (2, .int p2)] := hl
  have hx := S.1
  have hb := S.2.1
  generalize ([.int p0, .int p1, .int p2] : List Value).toArray = av at S ⊢
  unfold fn_X8_in at h
  obtain ⟨H, eH⟩ : ∃ z, z = s.heap := ⟨_, rfl⟩
  obtain ⟨locs, eL⟩ : ∃ z : List Loc, z = [] := ⟨_, rfl⟩
  show WX p l e (rmL 0 0) s m av below meth c (wQi D dA a s.heap.size F rz) dA a s.heap [] (F0 m 0 ls [])
  have hW : wS D dA a s F H locs := by rw [eH, eL]; exact wS_in hW
  refine wx_in eH eL ?_
  clear eH eL
  refine lv_iload_n hx hb dX8_in_0 rfl (lv_at hl 0 rfl) ?_
  refine lv_iload_n hx hb dX8_in_1 rfl (lv_at hl 1 rfl) ?_
  refine lv_icmp_lt (tgt := 14) hx hb dX8_in_2 (by decide) (fun c1 => ?_) (fun c1 => ?_)
  · have h := if_t h c1
    refine lv_iconst (v := (0 : Int32)) hx hb dX8_in_14 (by decide) ?_
    cases h
    exact we_z S hr hlk rfl hW dX8_in_15
  · have h := if_f h c1
    refine lv_iload_n hx hb dX8_in_5 rfl (lv_at hl 0 rfl) ?_
    refine lv_iload_n hx hb dX8_in_6 rfl (lv_at hl 2 rfl) ?_
    refine lv_icmp_gt (tgt := 14) hx hb dX8_in_7 (by decide) (fun c2 => ?_) (fun c2 => ?_)
    · have h := if_t h c2
      refine lv_iconst (v := (0 : Int32)) hx hb dX8_in_14 (by decide) ?_
      cases h
      exact we_z S hr hlk rfl hW dX8_in_15
    · have h := if_f h c2
      refine lv_iconst (v := (1 : Int32)) hx hb dX8_in_10 (by decide) ?_
      refine lv_goto (tgt := 15) hx hb dX8_in_11 (by decide) ?_
      cases h
      exact we_z S hr hlk rfl hW dX8_in_15
/-loop lp_X8_nextToken_0-/
def lp_X8_nextToken_0 : Nat → St → Option (St)
  | 0, _ => none
  | n + 1, F1 => if (F1 30 18 0 0) ≤ (F1 30 20 0 0) then some F1 else og (vpb (F1 30 20 0 0) 200) (if (F1 38 0 0 (F1 30 20 0 0).toNatClampNeg) = (32 : Int32) then pl (fu F1 30 20 0 0 ((F1 30 20 0 0) + (1 : Int32))) (fun F8 => lp_X8_nextToken_0 n F8) else some F1)
theorem lp_X8_nextToken_0_s {n : Nat} {F1 : St} : lp_X8_nextToken_0 (n + 1) F1 = if (F1 30 18 0 0) ≤ (F1 30 20 0 0) then some F1 else og (vpb (F1 30 20 0 0) 200) (if (F1 38 0 0 (F1 30 20 0 0).toNatClampNeg) = (32 : Int32) then pl (fu F1 30 20 0 0 ((F1 30 20 0 0) + (1 : Int32))) (fun F8 => lp_X8_nextToken_0 n F8) else some F1) := rfl
/-loop lp_X8_nextToken_241-/
def lp_X8_nextToken_241 : Nat → St → Option (St)
  | 0, _ => none
  | n + 1, F33 => if (F33 30 18 0 0) ≤ (F33 30 20 0 0) then some F33 else og (vpb (F33 30 20 0 0) 200) (ob (fn_X8_in F33 (F33 38 0 0 (F33 30 20 0 0).toNatClampNeg) (48 : Int32) (57 : Int32)) (fun r39 => if r39 = 0 then some F33 else ob (if (3 : Int32) ≤ (F33 30 23 0 0) then some (F33 30 24 0 0) else some ((((10 : Int32) * (F33 30 24 0 0)) + (F33 38 0 0 (F33 30 20 0 0).toNatClampNeg)) - (48 : Int32))) (fun y44 => pl (fu F33 30 24 0 0 y44) (fun F46 => pl (fu F46 30 23 0 0 ((F46 30 23 0 0) + (1 : Int32))) (fun F48 => pl (fu F48 30 20 0 0 ((F48 30 20 0 0) + (1 : Int32))) (fun F50 => lp_X8_nextToken_241 n F50))))))
theorem lp_X8_nextToken_241_s {n : Nat} {F33 : St} : lp_X8_nextToken_241 (n + 1) F33 = if (F33 30 18 0 0) ≤ (F33 30 20 0 0) then some F33 else og (vpb (F33 30 20 0 0) 200) (ob (fn_X8_in F33 (F33 38 0 0 (F33 30 20 0 0).toNatClampNeg) (48 : Int32) (57 : Int32)) (fun r39 => if r39 = 0 then some F33 else ob (if (3 : Int32) ≤ (F33 30 23 0 0) then some (F33 30 24 0 0) else some ((((10 : Int32) * (F33 30 24 0 0)) + (F33 38 0 0 (F33 30 20 0 0).toNatClampNeg)) - (48 : Int32))) (fun y44 => pl (fu F33 30 24 0 0 y44) (fun F46 => pl (fu F46 30 23 0 0 ((F46 30 23 0 0) + (1 : Int32))) (fun F48 => pl (fu F48 30 20 0 0 ((F48 30 20 0 0) + (1 : Int32))) (fun F50 => lp_X8_nextToken_241 n F50)))))) := rfl
/-loop lp_X8_nextToken_101-/
def lp_X8_nextToken_101 : Nat → St → Option (St)
  | 0, _ => none
  | n + 1, F61 => if (F61 30 18 0 0) ≤ (F61 30 20 0 0) then some F61 else og (vpb (F61 30 20 0 0) 200) (ob (fn_X8_in F61 (F61 38 0 0 (F61 30 20 0 0).toNatClampNeg) (97 : Int32) (122 : Int32)) (fun r67 => if r67 = 0 then some F61 else ob (if (9 : Int32) ≤ ((F61 30 20 0 0) - (F61 30 21 0 0)) then some (-4 : Int64) else some ((((27 : Int64) * (jn (F61 30 22 0 0) (F61 30 64 0 0))) + (F61 38 0 0 (F61 30 20 0 0).toNatClampNeg).toInt64) - (96 : Int64))) (fun y72 => pl (fu (fu F61 30 22 0 0 (jhi y72)) 30 64 0 0 (jlo y72)) (fun F74 => pl (fu F74 30 20 0 0 ((F74 30 20 0 0) + (1 : Int32))) (fun F76 => lp_X8_nextToken_101 n F76)))))
theorem lp_X8_nextToken_101_s {n : Nat} {F61 : St} : lp_X8_nextToken_101 (n + 1) F61 = if (F61 30 18 0 0) ≤ (F61 30 20 0 0) then some F61 else og (vpb (F61 30 20 0 0) 200) (ob (fn_X8_in F61 (F61 38 0 0 (F61 30 20 0 0).toNatClampNeg) (97 : Int32) (122 : Int32)) (fun r67 => if r67 = 0 then some F61 else ob (if (9 : Int32) ≤ ((F61 30 20 0 0) - (F61 30 21 0 0)) then some (-4 : Int64) else some ((((27 : Int64) * (jn (F61 30 22 0 0) (F61 30 64 0 0))) + (F61 38 0 0 (F61 30 20 0 0).toNatClampNeg).toInt64) - (96 : Int64))) (fun y72 => pl (fu (fu F61 30 22 0 0 (jhi y72)) 30 64 0 0 (jlo y72)) (fun F74 => pl (fu F74 30 20 0 0 ((F74 30 20 0 0) + (1 : Int32))) (fun F76 => lp_X8_nextToken_101 n F76))))) := rfl
def fn_X8_nextToken (F : St) : Option (St) :=
  ob (lp_X8_nextToken_0 300 F) (fun F2 => pl (fu F2 30 21 0 0 (F2 30 20 0 0)) (fun F11 => pl (fu F11 30 23 0 0 (0 : Int32)) (fun F13 => pl (fu F13 30 24 0 0 (0 : Int32)) (fun F15 => if (F15 30 20 0 0) = (F15 30 18 0 0) then pl (fu (fu F15 30 22 0 0 (jhi (-2 : Int64))) 30 64 0 0 (jlo (-2 : Int64))) (fun F85 => some F85) else og (vpb (F15 30 20 0 0) 200) (ob (fn_X8_in F15 (F15 38 0 0 (F15 30 20 0 0).toNatClampNeg) (97 : Int32) (122 : Int32)) (fun r19 => if r19 = 0 then ob (fn_X8_in F15 (F15 38 0 0 (F15 30 20 0 0).toNatClampNeg) (48 : Int32) (57 : Int32)) (fun r22 => if r22 = 0 then ob (if (F15 38 0 0 (F15 30 20 0 0).toNatClampNeg) = (59 : Int32) then some (-3 : Int64) else some (-4 : Int64)) (fun y27 => pl (fu (fu F15 30 22 0 0 (jhi y27)) 30 64 0 0 (jlo y27)) (fun F29 => pl (fu F29 30 20 0 0 ((F29 30 20 0 0) + (1 : Int32))) (fun F31 => some F31))) else ob (lp_X8_nextToken_241 300 F15) (fun F34 => ob (if (F34 30 23 0 0) ≤ (3 : Int32) then some (-1 : Int64) else some (-4 : Int64)) (fun y55 => pl (fu (fu F34 30 22 0 0 (jhi y55)) 30 64 0 0 (jlo y55)) (fun F57 => some F57)))) else pl (fu (fu F15 30 22 0 0 (jhi (0 : Int64))) 30 64 0 0 (jlo (0 : Int64))) (fun F59 => ob (lp_X8_nextToken_101 300 F59) (fun F62 => ob (if ((F62 30 20 0 0) - (F62 30 21 0 0)) ≤ (9 : Int32) then some (jn (F62 30 22 0 0) (F62 30 64 0 0)) else some (-4 : Int64)) (fun y81 => pl (fu (fu F62 30 22 0 0 (jhi y81)) 30 64 0 0 (jlo y81)) (fun F83 => some F83))))))))))
theorem yd_X8_nextToken : yX8_nextToken.cls = RX8 ∧ yX8_nextToken.cls ≠ "java/lang/invoke/MethodHandle" ∧ yX8_nextToken.cls ≠ "java/lang/invoke/VarHandle" ∧ (parseMethodDescriptor yX8_nextToken.desc).map (fun d => d.parameters.length) = some 0 := by decide +kernel
set_option maxHeartbeats 4000000 in
theorem met_X8_nextToken (l : Launch) {D : va_G} {dA : WK} {a : Ix → Nat} (hD : wD D dA a) {F : St} {Fz : St} (hv0 : wVd dA (30, 0, 0)) (h : fn_X8_nextToken F = some Fz) : Mv l yX8_nextToken cX8_nextToken 1 1 22 D dA a F [.ref (a (30, 0, 0))] Fz := by
  refine fun sz => mst (Qc := fun sz => wQv D dA a sz Fz) (by decide) (Nat.le_of_ble_eq_true rfl) ?_ sz
  intro p e s m below meth c S hr hlk hK hW ls hl
  have hl : lv_has ls 1 [(0, .ref (a (30, 0, 0)))] := hl
  have hx := S.1
  have hb := S.2.1
  generalize ([.ref (a (30, 0, 0))] : List Value).toArray = av at S ⊢
  unfold fn_X8_nextToken at h
  obtain ⟨H, eH⟩ : ∃ z, z = s.heap := ⟨_, rfl⟩
  obtain ⟨locs, eL⟩ : ∃ z : List Loc, z = [] := ⟨_, rfl⟩
  show WX p l e (rmL 1 22) s m av below meth c (wQv D dA a s.heap.size Fz) dA a s.heap [] (F0 m 0 ls [])
  have hW : wS D dA a s F H locs := by rw [eH, eL]; exact wS_in hW
  refine wx_in eH eL ?_
  clear eH eL
  have L4 : ∀ (n : Nat) (F1 : St) (F2 : St), lp_X8_nextToken_0 n F1 = some F2 → (∀ (H : Heap) (locs : List Loc) (ls : Array Slot), wS D dA a s F2 H locs → lv_has ls 1 [(0, .ref (a (30, 0, 0)))] → WX p l e (rmL 1 22) s m av below meth c (wQv D dA a s.heap.size Fz) dA a H locs (F0 m 38 ls [])) → ∀ (H : Heap) (locs : List Loc) (ls : Array Slot), wS D dA a s F1 H locs → lv_has ls 1 [(0, .ref (a (30, 0, 0)))] → WX p l e (rmL 1 22) s m av below meth c (wQv D dA a s.heap.size Fz) dA a H locs (F0 m 0 ls []) := by
    intro n
    induction n with
    | zero =>
      intro F1 F2 h
      exact absurd (show (none : Option (St)) = some F2 from h) (by simp)
    | succ n ih =>
      intro F1 F2 h K3 H locs ls hW hl
      have h := lp_X8_nextToken_0_s.symm.trans h
      refine lv_aload_n hx hb dX8_nextToken_0 rfl (lv_at hl 0 rfl) ?_
      refine gf_30_20 S hK hW hv0 q1005 dX8_nextToken_1 ?_
      refine lv_aload_n hx hb dX8_nextToken_4 rfl (lv_at hl 0 rfl) ?_
      refine gf_30_18 S hK hW hv0 q1003 dX8_nextToken_5 ?_
      refine lv_icmp_ge (tgt := 38) hx hb dX8_nextToken_8 (by decide) (fun c5 => ?_) (fun c5 => ?_)
      · have h := if_t h c5
        cases h
        exact K3 H locs ls hW (lv_sub hl [0] rfl)
      · have h := if_f h c5
        refine lv_aload_n hx hb dX8_nextToken_11 rfl (lv_at hl 0 rfl) ?_
        refine gf_30_19 S hK hW hv0 q1004 dX8_nextToken_12 ?_
        refine lv_aload_n hx hb dX8_nextToken_15 rfl (lv_at hl 0 rfl) ?_
        refine gf_30_20 S hK hW hv0 q1005 dX8_nextToken_16 ?_
        obtain ⟨g6, h⟩ := og_e h
        refine ald_38 S hK hW (vq_30_19 hv0) g6 rfl dX8_nextToken_19 ?_
        refine lv_bipush (v := (32 : Int32)) hx hb dX8_nextToken_20 (by decide) ?_
        refine lv_icmp_ne (tgt := 38) hx hb dX8_nextToken_22 (by decide) (fun c7 => ?_) (fun c7 => ?_)
        · have h := if_f h c7
          cases h
          exact K3 H locs ls hW (lv_sub hl [0] rfl)
        · have h := if_t h c7
          refine lv_aload_n hx hb dX8_nextToken_25 rfl (lv_at hl 0 rfl) ?_
          refine lv_dup hx hb dX8_nextToken_26 rfl ?_
          refine gf_30_20 S hK hW hv0 q1005 dX8_nextToken_27 ?_
          refine lv_iconst (v := (1 : Int32)) hx hb dX8_nextToken_30 (by decide) ?_
          refine lv_iadd hx hb dX8_nextToken_31 ?_
          obtain ⟨F8, e9, h⟩ := pl_e h
          refine pf_30_20 S hK hD hW hv0 e9 q1005 dX8_nextToken_32 (fun H locs hW => ?_)
          refine lv_goto (tgt := 0) hx hb dX8_nextToken_35 (by decide) ?_
          exact ih _ _ h K3 H locs ls hW (lv_sub hl [0] rfl)
  obtain ⟨F2, hz10, h⟩ := ob_e h
  refine L4 300 F F2 hz10 (fun H locs ls hW hl => ?_) H locs ls hW (lv_sub hl [0] rfl)
  refine lv_aload_n hx hb dX8_nextToken_38 rfl (lv_at hl 0 rfl) ?_
  refine lv_aload_n hx hb dX8_nextToken_39 rfl (lv_at hl 0 rfl) ?_
  refine gf_30_20 S hK hW hv0 q1005 dX8_nextToken_40 ?_
  obtain ⟨F11, e12, h⟩ := pl_e h
  refine pf_30_21 S hK hD hW hv0 e12 q1006 dX8_nextToken_43 (fun H locs hW => ?_)
  refine lv_aload_n hx hb dX8_nextToken_46 rfl (lv_at hl 0 rfl) ?_
  refine lv_iconst (v := (0 : Int32)) hx hb dX8_nextToken_47 (by decide) ?_
  obtain ⟨F13, e14, h⟩ := pl_e h
  refine pf_30_23 S hK hD hW hv0 e14 q1008 dX8_nextToken_48 (fun H locs hW => ?_)
  refine lv_aload_n hx hb dX8_nextToken_51 rfl (lv_at hl 0 rfl) ?_
  refine lv_iconst (v := (0 : Int32)) hx hb dX8_nextToken_52 (by decide) ?_
  obtain ⟨F15, e16, h⟩ := pl_e h
  refine pf_30_24 S hK hD hW hv0 e16 q1009 dX8_nextToken_53 (fun H locs hW => ?_)
  refine lv_aload_n hx hb dX8_nextToken_56 rfl (lv_at hl 0 rfl) ?_
  refine gf_30_20 S hK hW hv0 q1005 dX8_nextToken_57 ?_
  refine lv_aload_n hx hb dX8_nextToken_60 rfl (lv_at hl 0 rfl) ?_
  refine gf_30_18 S hK hW hv0 q1003 dX8_nextToken_61 ?_
  refine lv_icmp_ne (tgt := 77) hx hb dX8_nextToken_64 (by decide) (fun c17 => ?_) (fun c17 => ?_)
  · have h := if_f h c17
    refine lv_aload_n hx hb dX8_nextToken_77 rfl (lv_at hl 0 rfl) ?_
    refine gf_30_19 S hK hW hv0 q1004 dX8_nextToken_78 ?_
    refine lv_aload_n hx hb dX8_nextToken_81 rfl (lv_at hl 0 rfl) ?_
    refine gf_30_20 S hK hW hv0 q1005 dX8_nextToken_82 ?_
    obtain ⟨g18, h⟩ := og_e h
    refine ald_38 S hK hW (vq_30_19 hv0) g18 rfl dX8_nextToken_85 ?_
    refine lv_bipush (v := (97 : Int32)) hx hb dX8_nextToken_86 (by decide) ?_
    refine lv_bipush (v := (122 : Int32)) hx hb dX8_nextToken_88 (by decide) ?_
    obtain ⟨r19, hc20, h⟩ := ob_e h
    refine wk_i (va_runS (As := [.int (F15 38 0 0 (F15 30 20 0 0).toNatClampNeg), .int (97 : Int32), .int (122 : Int32)]) (rest := []) S (met_X8_in l hD hc20 H.size) (va_cwS 3 S.2.2.2.2 (lw_S q1117 q1118 q63 q1119) rfl rfl rfl yd_X8_in.2 ⟨Nat.le_of_ble_eq_true rfl, Nat.le_of_ble_eq_true rfl⟩) (wpreS hK hW _) rfl rfl hl.1 rfl (lv_room (Nat.le_of_ble_eq_true rfl)) dX8_nextToken_90 ⟨Nat.le_refl 0, Nat.le_refl 0⟩) hW (fun H locs hW => ?_)
    refine lv_if_eq (tgt := 222) hx hb dX8_nextToken_93 (by decide) (fun c21 => ?_) (fun c21 => ?_)
    · have h := if_t h c21
      refine lv_aload_n hx hb dX8_nextToken_222 rfl (lv_at hl 0 rfl) ?_
      refine gf_30_19 S hK hW hv0 q1004 dX8_nextToken_223 ?_
      refine lv_aload_n hx hb dX8_nextToken_226 rfl (lv_at hl 0 rfl) ?_
      refine gf_30_20 S hK hW hv0 q1005 dX8_nextToken_227 ?_
      refine ald_38 S hK hW (vq_30_19 hv0) g18 rfl dX8_nextToken_230 ?_
      refine lv_bipush (v := (48 : Int32)) hx hb dX8_nextToken_231 (by decide) ?_
      refine lv_bipush (v := (57 : Int32)) hx hb dX8_nextToken_233 (by decide) ?_
      obtain ⟨r22, hc23, h⟩ := ob_e h
      refine wk_i (va_runS (As := [.int (F15 38 0 0 (F15 30 20 0 0).toNatClampNeg), .int (48 : Int32), .int (57 : Int32)]) (rest := []) S (met_X8_in l hD hc23 H.size) (va_cwS 3 S.2.2.2.2 (lw_S q1117 q1118 q63 q1119) rfl rfl rfl yd_X8_in.2 ⟨Nat.le_of_ble_eq_true rfl, Nat.le_of_ble_eq_true rfl⟩) (wpreS hK hW _) rfl rfl hl.1 rfl (lv_room (Nat.le_of_ble_eq_true rfl)) dX8_nextToken_235 ⟨Nat.le_refl 0, Nat.le_refl 0⟩) hW (fun H locs hW => ?_)
      refine lv_if_eq (tgt := 357) hx hb dX8_nextToken_238 (by decide) (fun c24 => ?_) (fun c24 => ?_)
      · have h := if_t h c24
        refine lv_aload_n hx hb dX8_nextToken_357 rfl (lv_at hl 0 rfl) ?_
        refine lv_aload_n hx hb dX8_nextToken_358 rfl (lv_at hl 0 rfl) ?_
        refine gf_30_19 S hK hW hv0 q1004 dX8_nextToken_359 ?_
        refine lv_aload_n hx hb dX8_nextToken_362 rfl (lv_at hl 0 rfl) ?_
        refine gf_30_20 S hK hW hv0 q1005 dX8_nextToken_363 ?_
        refine ald_38 S hK hW (vq_30_19 hv0) g18 rfl dX8_nextToken_366 ?_
        refine lv_bipush (v := (59 : Int32)) hx hb dX8_nextToken_367 (by decide) ?_
        obtain ⟨y27, hz26, h⟩ := ob_e h
        have K28 : ∀ (H : Heap) (locs : List Loc) (ls : Array Slot), wS D dA a s F15 H locs → lv_has ls 1 [(0, .ref (a (30, 0, 0)))] → WX p l e (rmL 1 22) s m av below meth c (wQv D dA a s.heap.size Fz) dA a H locs (F0 m 381 ls [.long y27, .ref (a (30, 0, 0))]) := by
          intro H locs ls hW hl
          obtain ⟨F29, e30, h⟩ := pl_e h
          refine pf_30_22 S hK hD hW hv0 e30 q1007 dX8_nextToken_381 (fun H locs hW => ?_)
          refine lv_aload_n hx hb dX8_nextToken_384 rfl (lv_at hl 0 rfl) ?_
          refine lv_dup hx hb dX8_nextToken_385 rfl ?_
          refine gf_30_20 S hK hW hv0 q1005 dX8_nextToken_386 ?_
          refine lv_iconst (v := (1 : Int32)) hx hb dX8_nextToken_389 (by decide) ?_
          refine lv_iadd hx hb dX8_nextToken_390 ?_
          obtain ⟨F31, e32, h⟩ := pl_e h
          refine pf_30_20 S hK hD hW hv0 e32 q1005 dX8_nextToken_391 (fun H locs hW => ?_)
          cases h
          exact we_v S hr hlk hW dX8_nextToken_394
        clear h
        refine lv_icmp_ne (tgt := 378) hx hb dX8_nextToken_369 (by decide) (fun c25 => ?_) (fun c25 => ?_)
        · have h := if_f hz26 c25
          refine lv_ldc2 (v := (-4 : Int64)) hx hb S.2.2.2.1 (S.2.2.2.2 _ q1144) dX8_nextToken_378 ?_
          cases h
          exact K28 H locs ls hW (lv_sub hl [0] rfl)
        · have h := if_t hz26 c25
          refine lv_ldc2 (v := (-3 : Int64)) hx hb S.2.2.2.1 (S.2.2.2.2 _ q1146) dX8_nextToken_372 ?_
          refine lv_goto (tgt := 381) hx hb dX8_nextToken_375 (by decide) ?_
          cases h
          exact K28 H locs ls hW (lv_sub hl [0] rfl)
      · have h := if_f h c24
        have L36 : ∀ (n : Nat) (F33 : St) (F34 : St), lp_X8_nextToken_241 n F33 = some F34 → (∀ (H : Heap) (locs : List Loc) (ls : Array Slot), wS D dA a s F34 H locs → lv_has ls 1 [(0, .ref (a (30, 0, 0)))] → WX p l e (rmL 1 22) s m av below meth c (wQv D dA a s.heap.size Fz) dA a H locs (F0 m 333 ls [])) → ∀ (H : Heap) (locs : List Loc) (ls : Array Slot), wS D dA a s F33 H locs → lv_has ls 1 [(0, .ref (a (30, 0, 0)))] → WX p l e (rmL 1 22) s m av below meth c (wQv D dA a s.heap.size Fz) dA a H locs (F0 m 241 ls []) := by
          intro n
          induction n with
          | zero =>
            intro F33 F34 h
            exact absurd (show (none : Option (St)) = some F34 from h) (by simp)
          | succ n ih =>
            intro F33 F34 h K35 H locs ls hW hl
            have h := lp_X8_nextToken_241_s.symm.trans h
            refine lv_aload_n hx hb dX8_nextToken_241 rfl (lv_at hl 0 rfl) ?_
            refine gf_30_20 S hK hW hv0 q1005 dX8_nextToken_242 ?_
            refine lv_aload_n hx hb dX8_nextToken_245 rfl (lv_at hl 0 rfl) ?_
            refine gf_30_18 S hK hW hv0 q1003 dX8_nextToken_246 ?_
            refine lv_icmp_ge (tgt := 333) hx hb dX8_nextToken_249 (by decide) (fun c37 => ?_) (fun c37 => ?_)
            · have h := if_t h c37
              cases h
              exact K35 H locs ls hW (lv_sub hl [0] rfl)
            · have h := if_f h c37
              refine lv_aload_n hx hb dX8_nextToken_252 rfl (lv_at hl 0 rfl) ?_
              refine gf_30_19 S hK hW hv0 q1004 dX8_nextToken_253 ?_
              refine lv_aload_n hx hb dX8_nextToken_256 rfl (lv_at hl 0 rfl) ?_
              refine gf_30_20 S hK hW hv0 q1005 dX8_nextToken_257 ?_
              obtain ⟨g38, h⟩ := og_e h
              refine ald_38 S hK hW (vq_30_19 hv0) g38 rfl dX8_nextToken_260 ?_
              refine lv_bipush (v := (48 : Int32)) hx hb dX8_nextToken_261 (by decide) ?_
              refine lv_bipush (v := (57 : Int32)) hx hb dX8_nextToken_263 (by decide) ?_
              obtain ⟨r39, hc40, h⟩ := ob_e h
              refine wk_i (va_runS (As := [.int (F33 38 0 0 (F33 30 20 0 0).toNatClampNeg), .int (48 : Int32), .int (57 : Int32)]) (rest := []) S (met_X8_in l hD hc40 H.size) (va_cwS 3 S.2.2.2.2 (lw_S q1117 q1118 q63 q1119) rfl rfl rfl yd_X8_in.2 ⟨Nat.le_of_ble_eq_true rfl, Nat.le_of_ble_eq_true rfl⟩) (wpreS hK hW _) rfl rfl hl.1 rfl (lv_room (Nat.le_of_ble_eq_true rfl)) dX8_nextToken_265 ⟨Nat.le_refl 0, Nat.le_refl 0⟩) hW (fun H locs hW => ?_)
              refine lv_if_eq (tgt := 333) hx hb dX8_nextToken_268 (by decide) (fun c41 => ?_) (fun c41 => ?_)
              · have h := if_t h c41
                cases h
                exact K35 H locs ls hW (lv_sub hl [0] rfl)
              · have h := if_f h c41
                refine lv_aload_n hx hb dX8_nextToken_271 rfl (lv_at hl 0 rfl) ?_
                refine lv_aload_n hx hb dX8_nextToken_272 rfl (lv_at hl 0 rfl) ?_
                refine gf_30_23 S hK hW hv0 q1008 dX8_nextToken_273 ?_
                refine lv_iconst (v := (3 : Int32)) hx hb dX8_nextToken_276 (by decide) ?_
                obtain ⟨y44, hz43, h⟩ := ob_e h
                have K45 : ∀ (H : Heap) (locs : List Loc) (ls : Array Slot), wS D dA a s F33 H locs → lv_has ls 1 [(0, .ref (a (30, 0, 0)))] → WX p l e (rmL 1 22) s m av below meth c (wQv D dA a s.heap.size Fz) dA a H locs (F0 m 307 ls [.int y44, .ref (a (30, 0, 0))]) := by
                  intro H locs ls hW hl
                  obtain ⟨F46, e47, h⟩ := pl_e h
                  refine pf_30_24 S hK hD hW hv0 e47 q1009 dX8_nextToken_307 (fun H locs hW => ?_)
                  refine lv_aload_n hx hb dX8_nextToken_310 rfl (lv_at hl 0 rfl) ?_
                  refine lv_dup hx hb dX8_nextToken_311 rfl ?_
                  refine gf_30_23 S hK hW hv0 q1008 dX8_nextToken_312 ?_
                  refine lv_iconst (v := (1 : Int32)) hx hb dX8_nextToken_315 (by decide) ?_
                  refine lv_iadd hx hb dX8_nextToken_316 ?_
                  obtain ⟨F48, e49, h⟩ := pl_e h
                  refine pf_30_23 S hK hD hW hv0 e49 q1008 dX8_nextToken_317 (fun H locs hW => ?_)
                  refine lv_aload_n hx hb dX8_nextToken_320 rfl (lv_at hl 0 rfl) ?_
                  refine lv_dup hx hb dX8_nextToken_321 rfl ?_
                  refine gf_30_20 S hK hW hv0 q1005 dX8_nextToken_322 ?_
                  refine lv_iconst (v := (1 : Int32)) hx hb dX8_nextToken_325 (by decide) ?_
                  refine lv_iadd hx hb dX8_nextToken_326 ?_
                  obtain ⟨F50, e51, h⟩ := pl_e h
                  refine pf_30_20 S hK hD hW hv0 e51 q1005 dX8_nextToken_327 (fun H locs hW => ?_)
                  refine lv_goto (tgt := 241) hx hb dX8_nextToken_330 (by decide) ?_
                  exact ih _ _ h K35 H locs ls hW (lv_sub hl [0] rfl)
                clear h
                refine lv_icmp_ge (tgt := 303) hx hb dX8_nextToken_277 (by decide) (fun c42 => ?_) (fun c42 => ?_)
                · have h := if_t hz43 c42
                  refine lv_aload_n hx hb dX8_nextToken_303 rfl (lv_at hl 0 rfl) ?_
                  refine gf_30_24 S hK hW hv0 q1009 dX8_nextToken_304 ?_
                  cases h
                  exact K45 H locs ls hW (lv_sub hl [0] rfl)
                · have h := if_f hz43 c42
                  refine lv_bipush (v := (10 : Int32)) hx hb dX8_nextToken_280 (by decide) ?_
                  refine lv_aload_n hx hb dX8_nextToken_282 rfl (lv_at hl 0 rfl) ?_
                  refine gf_30_24 S hK hW hv0 q1009 dX8_nextToken_283 ?_
                  refine lv_imul hx hb dX8_nextToken_286 ?_
                  refine lv_aload_n hx hb dX8_nextToken_287 rfl (lv_at hl 0 rfl) ?_
                  refine gf_30_19 S hK hW hv0 q1004 dX8_nextToken_288 ?_
                  refine lv_aload_n hx hb dX8_nextToken_291 rfl (lv_at hl 0 rfl) ?_
                  refine gf_30_20 S hK hW hv0 q1005 dX8_nextToken_292 ?_
                  refine ald_38 S hK hW (vq_30_19 hv0) g38 rfl dX8_nextToken_295 ?_
                  refine lv_iadd hx hb dX8_nextToken_296 ?_
                  refine lv_bipush (v := (48 : Int32)) hx hb dX8_nextToken_297 (by decide) ?_
                  refine lv_isub hx hb dX8_nextToken_299 ?_
                  refine lv_goto (tgt := 307) hx hb dX8_nextToken_300 (by decide) ?_
                  cases h
                  exact K45 H locs ls hW (lv_sub hl [0] rfl)
        obtain ⟨F34, hz52, h⟩ := ob_e h
        refine L36 300 F15 F34 hz52 (fun H locs ls hW hl => ?_) H locs ls hW (lv_sub hl [0] rfl)
        refine lv_aload_n hx hb dX8_nextToken_333 rfl (lv_at hl 0 rfl) ?_
        refine lv_aload_n hx hb dX8_nextToken_334 rfl (lv_at hl 0 rfl) ?_
        refine gf_30_23 S hK hW hv0 q1008 dX8_nextToken_335 ?_
        refine lv_iconst (v := (3 : Int32)) hx hb dX8_nextToken_338 (by decide) ?_
        obtain ⟨y55, hz54, h⟩ := ob_e h
        have K56 : ∀ (H : Heap) (locs : List Loc) (ls : Array Slot), wS D dA a s F34 H locs → lv_has ls 1 [] → WX p l e (rmL 1 22) s m av below meth c (wQv D dA a s.heap.size Fz) dA a H locs (F0 m 351 ls [.long y55, .ref (a (30, 0, 0))]) := by
          intro H locs ls hW hl
          obtain ⟨F57, e58, h⟩ := pl_e h
          refine pf_30_22 S hK hD hW hv0 e58 q1007 dX8_nextToken_351 (fun H locs hW => ?_)
          refine lv_goto (tgt := 394) hx hb dX8_nextToken_354 (by decide) ?_
          cases h
          exact we_v S hr hlk hW dX8_nextToken_394
        clear h
        refine lv_icmp_le (tgt := 348) hx hb dX8_nextToken_339 (by decide) (fun c53 => ?_) (fun c53 => ?_)
        · have h := if_t hz54 c53
          refine lv_ldc2 (v := (-1 : Int64)) hx hb S.2.2.2.1 (S.2.2.2.2 _ q1145) dX8_nextToken_348 ?_
          cases h
          exact K56 H locs ls hW (lv_sub hl [] rfl)
        · have h := if_f hz54 c53
          refine lv_ldc2 (v := (-4 : Int64)) hx hb S.2.2.2.1 (S.2.2.2.2 _ q1144) dX8_nextToken_342 ?_
          refine lv_goto (tgt := 351) hx hb dX8_nextToken_345 (by decide) ?_
          cases h
          exact K56 H locs ls hW (lv_sub hl [] rfl)
    · have h := if_f h c21
      refine lv_aload_n hx hb dX8_nextToken_96 rfl (lv_at hl 0 rfl) ?_
      refine lv_lconst (v := (0 : Int64)) hx hb dX8_nextToken_97 (by decide) ?_
      obtain ⟨F59, e60, h⟩ := pl_e h
      refine pf_30_22 S hK hD hW hv0 e60 q1007 dX8_nextToken_98 (fun H locs hW => ?_)
      have L64 : ∀ (n : Nat) (F61 : St) (F62 : St), lp_X8_nextToken_101 n F61 = some F62 → (∀ (H : Heap) (locs : List Loc) (ls : Array Slot), wS D dA a s F62 H locs → lv_has ls 1 [(0, .ref (a (30, 0, 0)))] → WX p l e (rmL 1 22) s m av below meth c (wQv D dA a s.heap.size Fz) dA a H locs (F0 m 191 ls [])) → ∀ (H : Heap) (locs : List Loc) (ls : Array Slot), wS D dA a s F61 H locs → lv_has ls 1 [(0, .ref (a (30, 0, 0)))] → WX p l e (rmL 1 22) s m av below meth c (wQv D dA a s.heap.size Fz) dA a H locs (F0 m 101 ls []) := by
        intro n
        induction n with
        | zero =>
          intro F61 F62 h
          exact absurd (show (none : Option (St)) = some F62 from h) (by simp)
        | succ n ih =>
          intro F61 F62 h K63 H locs ls hW hl
          have h := lp_X8_nextToken_101_s.symm.trans h
          refine lv_aload_n hx hb dX8_nextToken_101 rfl (lv_at hl 0 rfl) ?_
          refine gf_30_20 S hK hW hv0 q1005 dX8_nextToken_102 ?_
          refine lv_aload_n hx hb dX8_nextToken_105 rfl (lv_at hl 0 rfl) ?_
          refine gf_30_18 S hK hW hv0 q1003 dX8_nextToken_106 ?_
          refine lv_icmp_ge (tgt := 191) hx hb dX8_nextToken_109 (by decide) (fun c65 => ?_) (fun c65 => ?_)
          · have h := if_t h c65
            cases h
            exact K63 H locs ls hW (lv_sub hl [0] rfl)
          · have h := if_f h c65
            refine lv_aload_n hx hb dX8_nextToken_112 rfl (lv_at hl 0 rfl) ?_
            refine gf_30_19 S hK hW hv0 q1004 dX8_nextToken_113 ?_
            refine lv_aload_n hx hb dX8_nextToken_116 rfl (lv_at hl 0 rfl) ?_
            refine gf_30_20 S hK hW hv0 q1005 dX8_nextToken_117 ?_
            obtain ⟨g66, h⟩ := og_e h
            refine ald_38 S hK hW (vq_30_19 hv0) g66 rfl dX8_nextToken_120 ?_
            refine lv_bipush (v := (97 : Int32)) hx hb dX8_nextToken_121 (by decide) ?_
            refine lv_bipush (v := (122 : Int32)) hx hb dX8_nextToken_123 (by decide) ?_
            obtain ⟨r67, hc68, h⟩ := ob_e h
            refine wk_i (va_runS (As := [.int (F61 38 0 0 (F61 30 20 0 0).toNatClampNeg), .int (97 : Int32), .int (122 : Int32)]) (rest := []) S (met_X8_in l hD hc68 H.size) (va_cwS 3 S.2.2.2.2 (lw_S q1117 q1118 q63 q1119) rfl rfl rfl yd_X8_in.2 ⟨Nat.le_of_ble_eq_true rfl, Nat.le_of_ble_eq_true rfl⟩) (wpreS hK hW _) rfl rfl hl.1 rfl (lv_room (Nat.le_of_ble_eq_true rfl)) dX8_nextToken_125 ⟨Nat.le_refl 0, Nat.le_refl 0⟩) hW (fun H locs hW => ?_)
            refine lv_if_eq (tgt := 191) hx hb dX8_nextToken_128 (by decide) (fun c69 => ?_) (fun c69 => ?_)
            · have h := if_t h c69
              cases h
              exact K63 H locs ls hW (lv_sub hl [0] rfl)
            · have h := if_f h c69
              refine lv_aload_n hx hb dX8_nextToken_131 rfl (lv_at hl 0 rfl) ?_
              refine lv_aload_n hx hb dX8_nextToken_132 rfl (lv_at hl 0 rfl) ?_
              refine gf_30_20 S hK hW hv0 q1005 dX8_nextToken_133 ?_
              refine lv_aload_n hx hb dX8_nextToken_136 rfl (lv_at hl 0 rfl) ?_
              refine gf_30_21 S hK hW hv0 q1006 dX8_nextToken_137 ?_
              refine lv_isub hx hb dX8_nextToken_140 ?_
              refine lv_bipush (v := (9 : Int32)) hx hb dX8_nextToken_141 (by decide) ?_
              obtain ⟨y72, hz71, h⟩ := ob_e h
              have K73 : ∀ (H : Heap) (locs : List Loc) (ls : Array Slot), wS D dA a s F61 H locs → lv_has ls 1 [(0, .ref (a (30, 0, 0)))] → WX p l e (rmL 1 22) s m av below meth c (wQv D dA a s.heap.size Fz) dA a H locs (F0 m 175 ls [.long y72, .ref (a (30, 0, 0))]) := by
                intro H locs ls hW hl
                obtain ⟨F74, e75, h⟩ := pl_e h
                refine pf_30_22 S hK hD hW hv0 e75 q1007 dX8_nextToken_175 (fun H locs hW => ?_)
                refine lv_aload_n hx hb dX8_nextToken_178 rfl (lv_at hl 0 rfl) ?_
                refine lv_dup hx hb dX8_nextToken_179 rfl ?_
                refine gf_30_20 S hK hW hv0 q1005 dX8_nextToken_180 ?_
                refine lv_iconst (v := (1 : Int32)) hx hb dX8_nextToken_183 (by decide) ?_
                refine lv_iadd hx hb dX8_nextToken_184 ?_
                obtain ⟨F76, e77, h⟩ := pl_e h
                refine pf_30_20 S hK hD hW hv0 e77 q1005 dX8_nextToken_185 (fun H locs hW => ?_)
                refine lv_goto (tgt := 101) hx hb dX8_nextToken_188 (by decide) ?_
                exact ih _ _ h K63 H locs ls hW (lv_sub hl [0] rfl)
              clear h
              refine lv_icmp_ge (tgt := 172) hx hb dX8_nextToken_143 (by decide) (fun c70 => ?_) (fun c70 => ?_)
              · have h := if_t hz71 c70
                refine lv_ldc2 (v := (-4 : Int64)) hx hb S.2.2.2.1 (S.2.2.2.2 _ q1144) dX8_nextToken_172 ?_
                cases h
                exact K73 H locs ls hW (lv_sub hl [0] rfl)
              · have h := if_f hz71 c70
                refine lv_ldc2 (v := (27 : Int64)) hx hb S.2.2.2.1 (S.2.2.2.2 _ q1142) dX8_nextToken_146 ?_
                refine lv_aload_n hx hb dX8_nextToken_149 rfl (lv_at hl 0 rfl) ?_
                refine gf_30_22 S hK hW hv0 q1007 dX8_nextToken_150 ?_
                refine lv_lmul hx hb dX8_nextToken_153 ?_
                refine lv_aload_n hx hb dX8_nextToken_154 rfl (lv_at hl 0 rfl) ?_
                refine gf_30_19 S hK hW hv0 q1004 dX8_nextToken_155 ?_
                refine lv_aload_n hx hb dX8_nextToken_158 rfl (lv_at hl 0 rfl) ?_
                refine gf_30_20 S hK hW hv0 q1005 dX8_nextToken_159 ?_
                refine ald_38 S hK hW (vq_30_19 hv0) g66 rfl dX8_nextToken_162 ?_
                refine lv_i2l hx hb dX8_nextToken_163 rfl ?_
                refine lv_ladd hx hb dX8_nextToken_164 ?_
                refine lv_ldc2 (v := (96 : Int64)) hx hb S.2.2.2.1 (S.2.2.2.2 _ q1143) dX8_nextToken_165 ?_
                refine lv_lsub hx hb dX8_nextToken_168 ?_
                refine lv_goto (tgt := 175) hx hb dX8_nextToken_169 (by decide) ?_
                cases h
                exact K73 H locs ls hW (lv_sub hl [0] rfl)
      obtain ⟨F62, hz78, h⟩ := ob_e h
      refine L64 300 F59 F62 hz78 (fun H locs ls hW hl => ?_) H locs ls hW (lv_sub hl [0] rfl)
      refine lv_aload_n hx hb dX8_nextToken_191 rfl (lv_at hl 0 rfl) ?_
      refine lv_aload_n hx hb dX8_nextToken_192 rfl (lv_at hl 0 rfl) ?_
      refine gf_30_20 S hK hW hv0 q1005 dX8_nextToken_193 ?_
      refine lv_aload_n hx hb dX8_nextToken_196 rfl (lv_at hl 0 rfl) ?_
      refine gf_30_21 S hK hW hv0 q1006 dX8_nextToken_197 ?_
      refine lv_isub hx hb dX8_nextToken_200 ?_
      refine lv_bipush (v := (9 : Int32)) hx hb dX8_nextToken_201 (by decide) ?_
      obtain ⟨y81, hz80, h⟩ := ob_e h
      have K82 : ∀ (H : Heap) (locs : List Loc) (ls : Array Slot), wS D dA a s F62 H locs → lv_has ls 1 [] → WX p l e (rmL 1 22) s m av below meth c (wQv D dA a s.heap.size Fz) dA a H locs (F0 m 216 ls [.long y81, .ref (a (30, 0, 0))]) := by
        intro H locs ls hW hl
        obtain ⟨F83, e84, h⟩ := pl_e h
        refine pf_30_22 S hK hD hW hv0 e84 q1007 dX8_nextToken_216 (fun H locs hW => ?_)
        refine lv_goto (tgt := 394) hx hb dX8_nextToken_219 (by decide) ?_
        cases h
        exact we_v S hr hlk hW dX8_nextToken_394
      clear h
      refine lv_icmp_le (tgt := 212) hx hb dX8_nextToken_203 (by decide) (fun c79 => ?_) (fun c79 => ?_)
      · have h := if_t hz80 c79
        refine lv_aload_n hx hb dX8_nextToken_212 rfl (lv_at hl 0 rfl) ?_
        refine gf_30_22 S hK hW hv0 q1007 dX8_nextToken_213 ?_
        cases h
        exact K82 H locs ls hW (lv_sub hl [] rfl)
      · have h := if_f hz80 c79
        refine lv_ldc2 (v := (-4 : Int64)) hx hb S.2.2.2.1 (S.2.2.2.2 _ q1144) dX8_nextToken_206 ?_
        refine lv_goto (tgt := 216) hx hb dX8_nextToken_209 (by decide) ?_
        cases h
        exact K82 H locs ls hW (lv_sub hl [] rfl)
  · have h := if_t h c17
    refine lv_aload_n hx hb dX8_nextToken_67 rfl (lv_at hl 0 rfl) ?_
    refine lv_ldc2 (v := (-2 : Int64)) hx hb S.2.2.2.1 (S.2.2.2.2 _ q1141) dX8_nextToken_68 ?_
    obtain ⟨F85, e86, h⟩ := pl_e h
    refine pf_30_22 S hK hD hW hv0 e86 q1007 dX8_nextToken_71 (fun H locs hW => ?_)
    refine lv_goto (tgt := 394) hx hb dX8_nextToken_74 (by decide) ?_
    cases h
    exact we_v S hr hlk hW dX8_nextToken_394
def fn_X8_fails (F : St) : Option (St × Int32) :=
  pl (fu F 30 25 0 0 (F 30 21 0 0)) (fun F1 => some (F1, (0 : Int32)))
theorem yd_X8_fails : yX8_fails.cls = RX8 ∧ yX8_fails.cls ≠ "java/lang/invoke/MethodHandle" ∧ yX8_fails.cls ≠ "java/lang/invoke/VarHandle" ∧ (parseMethodDescriptor yX8_fails.desc).map (fun d => d.parameters.length) = some 0 := by decide +kernel
set_option maxHeartbeats 4000000 in
theorem met_X8_fails (l : Launch) {D : va_G} {dA : WK} {a : Ix → Nat} (hD : wD D dA a) {F : St} {Fz : St} {rz : Int32} (hv0 : wVd dA (30, 0, 0)) (h : fn_X8_fails F = some (Fz, rz)) : Mi l yX8_fails cX8_fails 1 .boolean 0 0 D dA a F [.ref (a (30, 0, 0))] Fz rz := by
  refine fun sz => mst (Qc := fun sz => wQi D dA a sz Fz rz) (by decide) (Nat.le_of_ble_eq_true rfl) ?_ sz
  intro p e s m below meth c S hr hlk hK hW ls hl
  have hl : lv_has ls 1 [(0, .ref (a (30, 0, 0)))] := hl
  have hx := S.1
  have hb := S.2.1
  generalize ([.ref (a (30, 0, 0))] : List Value).toArray = av at S ⊢
  unfold fn_X8_fails at h
  obtain ⟨H, eH⟩ : ∃ z, z = s.heap := ⟨_, rfl⟩
  obtain ⟨locs, eL⟩ : ∃ z : List Loc, z = [] := ⟨_, rfl⟩
  show WX p l e (rmL 0 0) s m av below meth c (wQi D dA a s.heap.size Fz rz) dA a s.heap [] (F0 m 0 ls [])
  have hW : wS D dA a s F H locs := by rw [eH, eL]; exact wS_in hW
  refine wx_in eH eL ?_
  clear eH eL
  refine lv_aload_n hx hb dX8_fails_0 rfl (lv_at hl 0 rfl) ?_
  refine lv_aload_n hx hb dX8_fails_1 rfl (lv_at hl 0 rfl) ?_
  refine gf_30_21 S hK hW hv0 q1006 dX8_fails_2 ?_
  obtain ⟨F1, e2, h⟩ := pl_e h
  refine pf_30_25 S hK hD hW hv0 e2 q1010 dX8_fails_5 (fun H locs hW => ?_)
  refine lv_iconst (v := (0 : Int32)) hx hb dX8_fails_8 (by decide) ?_
  cases h
  exact we_z S hr hlk rfl hW dX8_fails_9
def fn_X8_isNumber (F : St) (p1 : Int32) (p2 : Int32) (p3 : Int32) : Option (St × Int32) :=
  ob (fn_X8_nextToken F) (fun F1 => if (lg_cmp (jn (F1 30 22 0 0) (F1 30 64 0 0)) (-1 : Int64)) = 0 then ob (fn_X8_in F1 (F1 30 24 0 0) p2 p3) (fun r8 => if r8 = 0 then ob2 (fn_X8_fails F1) (fun F14 r15 => og (bzb r15) (some (F14, r15))) else og (vpb p1 60) (pl (fu F1 39 0 0 p1.toNatClampNeg (F1 30 24 0 0)) (fun F12 => some (F12, (1 : Int32))))) else ob2 (fn_X8_fails F1) (fun F4 r5 => og (bzb r5) (some (F4, r5))))
theorem yd_X8_isNumber : yX8_isNumber.cls = RX8 ∧ yX8_isNumber.cls ≠ "java/lang/invoke/MethodHandle" ∧ yX8_isNumber.cls ≠ "java/lang/invoke/VarHandle" ∧ (parseMethodDescriptor yX8_isNumber.desc).map (fun d => d.parameters.length) = some 3 := by decide +kernel
set_option maxHeartbeats 4000000 in
theorem met_X8_isNumber (l : Launch) {D : va_G} {dA : WK} {a : Ix → Nat} (hD : wD D dA a) {F : St} {p1 : Int32} {p2 : Int32} {p3 : Int32} {Fz : St} {rz : Int32} (hv0 : wVd dA (30, 0, 0)) (h : fn_X8_isNumber F p1 p2 p3 = some (Fz, rz)) : Mi l yX8_isNumber cX8_isNumber 4 .boolean 2 42 D dA a F [.ref (a (30, 0, 0)), .int p1, .int p2, .int p3] Fz rz := by
  refine fun sz => mst (Qc := fun sz => wQi D dA a sz Fz rz) (by decide) (Nat.le_of_ble_eq_true rfl) ?_ sz
  intro p e s m below meth c S hr hlk hK hW ls hl
  have hl : lv_has ls 4 [(0, .ref (a (30, 0, 0))), (1, .int p1), (2, .int p2), (3, .int p3)] := hl
  have hx := S.1
  have hb := S.2.1
  generalize ([.ref (a (30, 0, 0)), .int p1, .int p2, .int p3] : List Value).toArray = av at S ⊢
  unfold fn_X8_isNumber at h
  obtain ⟨H, eH⟩ : ∃ z, z = s.heap := ⟨_, rfl⟩
  obtain ⟨locs, eL⟩ : ∃ z : List Loc, z = [] := ⟨_, rfl⟩
  show WX p l e (rmL 2 42) s m av below meth c (wQi D dA a s.heap.size Fz rz) dA a s.heap [] (F0 m 0 ls [])
  have hW : wS D dA a s F H locs := by rw [eH, eL]; exact wS_in hW
  refine wx_in eH eL ?_
  clear eH eL
  refine lv_aload_n hx hb dX8_isNumber_0 rfl (lv_at hl 0 rfl) ?_
  obtain ⟨F1, hc2, h⟩ := ob_e h
  refine wk_v (va_runV (As := []) (rest := []) S (met_X8_nextToken l hD hv0 hc2 H.size) (cwV 0 S.2.2.2.2 (lw_V q1137 q1139 qs26 q63 q1140) rfl rfl rfl yd_X8_nextToken ⟨Nat.le_of_ble_eq_true rfl, Nat.le_of_ble_eq_true rfl⟩) (wpreV hK hW hv0 rfl rfl _) rfl rfl hl.1 rfl (lv_room (Nat.le_of_ble_eq_true rfl)) dX8_isNumber_1 ⟨Nat.le_refl 0, Nat.le_refl 0⟩) hW (fun H locs hW => ?_)
  refine lv_aload_n hx hb dX8_isNumber_4 rfl (lv_at hl 0 rfl) ?_
  refine gf_30_22 S hK hW hv0 q1007 dX8_isNumber_5 ?_
  refine lv_ldc2 (v := (-1 : Int64)) hx hb S.2.2.2.1 (S.2.2.2.2 _ q1145) dX8_isNumber_8 ?_
  refine W.lcmp hx hb dX8_isNumber_11 ?_
  refine lv_if_ne (tgt := 27) hx hb dX8_isNumber_12 (by decide) (fun c3 => ?_) (fun c3 => ?_)
  · have h := if_f h c3
    refine lv_aload_n hx hb dX8_isNumber_27 rfl (lv_at hl 0 rfl) ?_
    obtain ⟨F4, r5, hc6, h⟩ := ob2_e h
    refine wk_i (va_runV (As := []) (rest := []) S (met_X8_fails l hD hv0 hc6 H.size) (cwV 0 S.2.2.2.2 (lw_V q1170 q1172 qs29 q63 q1173) rfl rfl rfl yd_X8_fails ⟨Nat.le_of_ble_eq_true rfl, Nat.le_of_ble_eq_true rfl⟩) (wpreV hK hW hv0 rfl rfl _) rfl rfl hl.1 rfl (lv_room (Nat.le_of_ble_eq_true rfl)) dX8_isNumber_28 ⟨Nat.le_refl 0, Nat.le_refl 0⟩) hW (fun H locs hW => ?_)
    obtain ⟨g7, h⟩ := og_e h
    cases h
    exact we_z S hr hlk (bzb_e g7) hW dX8_isNumber_31
  · have h := if_t h c3
    refine lv_aload_n hx hb dX8_isNumber_15 rfl (lv_at hl 0 rfl) ?_
    refine gf_30_24 S hK hW hv0 q1009 dX8_isNumber_16 ?_
    refine lv_iload_n hx hb dX8_isNumber_19 rfl (lv_at hl 2 rfl) ?_
    refine lv_iload_n hx hb dX8_isNumber_20 rfl (lv_at hl 3 rfl) ?_
    obtain ⟨r8, hc9, h⟩ := ob_e h
    refine wk_i (va_runS (As := [.int (F1 30 24 0 0), .int p2, .int p3]) (rest := []) S (met_X8_in l hD hc9 H.size) (va_cwS 3 S.2.2.2.2 (lw_S q1117 q1118 q63 q1119) rfl rfl rfl yd_X8_in.2 ⟨Nat.le_of_ble_eq_true rfl, Nat.le_of_ble_eq_true rfl⟩) (wpreS hK hW _) rfl rfl hl.1 rfl (lv_room (Nat.le_of_ble_eq_true rfl)) dX8_isNumber_21 ⟨Nat.le_refl 0, Nat.le_refl 0⟩) hW (fun H locs hW => ?_)
    refine lv_if_ne (tgt := 32) hx hb dX8_isNumber_24 (by decide) (fun c10 => ?_) (fun c10 => ?_)
    · have h := if_f h c10
      refine lv_aload_n hx hb dX8_isNumber_32 rfl (lv_at hl 0 rfl) ?_
      refine gf_30_27 S hK hW hv0 q1012 dX8_isNumber_33 ?_
      refine lv_iload_n hx hb dX8_isNumber_36 rfl (lv_at hl 1 rfl) ?_
      refine lv_aload_n hx hb dX8_isNumber_37 rfl (lv_at hl 0 rfl) ?_
      refine gf_30_24 S hK hW hv0 q1009 dX8_isNumber_38 ?_
      obtain ⟨g11, h⟩ := og_e h
      obtain ⟨F12, e13, h⟩ := pl_e h
      refine ast_39 S hK hD hW (vq_30_27 hv0) g11 rfl e13 dX8_isNumber_41 (fun H locs hW => ?_)
      refine lv_iconst (v := (1 : Int32)) hx hb dX8_isNumber_42 (by decide) ?_
      cases h
      exact we_z S hr hlk rfl hW dX8_isNumber_43
    · have h := if_t h c10
      refine lv_aload_n hx hb dX8_isNumber_27 rfl (lv_at hl 0 rfl) ?_
      obtain ⟨F14, r15, hc16, h⟩ := ob2_e h
      refine wk_i (va_runV (As := []) (rest := []) S (met_X8_fails l hD hv0 hc16 H.size) (cwV 0 S.2.2.2.2 (lw_V q1170 q1172 qs29 q63 q1173) rfl rfl rfl yd_X8_fails ⟨Nat.le_of_ble_eq_true rfl, Nat.le_of_ble_eq_true rfl⟩) (wpreV hK hW hv0 rfl rfl _) rfl rfl hl.1 rfl (lv_room (Nat.le_of_ble_eq_true rfl)) dX8_isNumber_28 ⟨Nat.le_refl 0, Nat.le_refl 0⟩) hW (fun H locs hW => ?_)
      obtain ⟨g17, h⟩ := og_e h
      cases h
      exact we_z S hr hlk (bzb_e g17) hW dX8_isNumber_31
def fn_X8_areThree (F : St) (p1 : Int32) (p2 : Int32) : Option (St × Int32) :=
  ob2 (fn_X8_isNumber F (p1 + (1 : Int32)) (0 : Int32) p2) (fun F1 r2 => if r2 = 0 then some (F1, (0 : Int32)) else ob2 (fn_X8_isNumber F1 (p1 + (2 : Int32)) (0 : Int32) p2) (fun F5 r6 => if r6 = 0 then some (F5, (0 : Int32)) else ob2 (fn_X8_isNumber F5 (p1 + (3 : Int32)) (0 : Int32) p2) (fun F9 r10 => if r10 = 0 then some (F9, (0 : Int32)) else some (F9, (1 : Int32)))))
theorem yd_X8_areThree : yX8_areThree.cls = RX8 ∧ yX8_areThree.cls ≠ "java/lang/invoke/MethodHandle" ∧ yX8_areThree.cls ≠ "java/lang/invoke/VarHandle" ∧ (parseMethodDescriptor yX8_areThree.desc).map (fun d => d.parameters.length) = some 2 := by decide +kernel
set_option maxHeartbeats 4000000 in
theorem met_X8_areThree (l : Launch) {D : va_G} {dA : WK} {a : Ix → Nat} (hD : wD D dA a) {F : St} {p1 : Int32} {p2 : Int32} {Fz : St} {rz : Int32} (hv0 : wVd dA (30, 0, 0)) (h : fn_X8_areThree F p1 p2 = some (Fz, rz)) : Mi l yX8_areThree cX8_areThree 3 .boolean 3 65 D dA a F [.ref (a (30, 0, 0)), .int p1, .int p2] Fz rz := by
  refine fun sz => mst (Qc := fun sz => wQi D dA a sz Fz rz) (by decide) (Nat.le_of_ble_eq_true rfl) ?_ sz
  intro p e s m below meth c S hr hlk hK hW ls hl
  have hl : lv_has ls 3 [(0, .ref (a (30, 0, 0))), (1, .int p1), (2, .int p2)] := hl
  have hx := S.1
  have hb := S.2.1
  generalize ([.ref (a (30, 0, 0)), .int p1, .int p2] : List Value).toArray = av at S ⊢
  unfold fn_X8_areThree at h
  obtain ⟨H, eH⟩ : ∃ z, z = s.heap := ⟨_, rfl⟩
  obtain ⟨locs, eL⟩ : ∃ z : List Loc, z = [] := ⟨_, rfl⟩
  show WX p l e (rmL 3 65) s m av below meth c (wQi D dA a s.heap.size Fz rz) dA a s.heap [] (F0 m 0 ls [])
  have hW : wS D dA a s F H locs := by rw [eH, eL]; exact wS_in hW
  refine wx_in eH eL ?_
  clear eH eL
  refine lv_aload_n hx hb dX8_areThree_0 rfl (lv_at hl 0 rfl) ?_
  refine lv_iload_n hx hb dX8_areThree_1 rfl (lv_at hl 1 rfl) ?_
  refine lv_iconst (v := (1 : Int32)) hx hb dX8_areThree_2 (by decide) ?_
  refine lv_iadd hx hb dX8_areThree_3 ?_
  refine lv_iconst (v := (0 : Int32)) hx hb dX8_areThree_4 (by decide) ?_
  refine lv_iload_n hx hb dX8_areThree_5 rfl (lv_at hl 2 rfl) ?_
  obtain ⟨F1, r2, hc3, h⟩ := ob2_e h
  refine wk_i (va_runV (As := [.int (p1 + (1 : Int32)), .int (0 : Int32), .int p2]) (rest := []) S (met_X8_isNumber l hD hv0 hc3 H.size) (cwV 3 S.2.2.2.2 (lw_V q1166 q1168 qs28 q63 q1169) rfl rfl rfl yd_X8_isNumber ⟨Nat.le_of_ble_eq_true rfl, Nat.le_of_ble_eq_true rfl⟩) (wpreV hK hW hv0 rfl rfl _) rfl rfl hl.1 rfl (lv_room (Nat.le_of_ble_eq_true rfl)) dX8_areThree_6 ⟨Nat.le_refl 0, Nat.le_refl 0⟩) hW (fun H locs hW => ?_)
  refine lv_if_eq (tgt := 40) hx hb dX8_areThree_9 (by decide) (fun c4 => ?_) (fun c4 => ?_)
  · have h := if_t h c4
    refine lv_iconst (v := (0 : Int32)) hx hb dX8_areThree_40 (by decide) ?_
    cases h
    exact we_z S hr hlk rfl hW dX8_areThree_41
  · have h := if_f h c4
    refine lv_aload_n hx hb dX8_areThree_12 rfl (lv_at hl 0 rfl) ?_
    refine lv_iload_n hx hb dX8_areThree_13 rfl (lv_at hl 1 rfl) ?_
    refine lv_iconst (v := (2 : Int32)) hx hb dX8_areThree_14 (by decide) ?_
    refine lv_iadd hx hb dX8_areThree_15 ?_
    refine lv_iconst (v := (0 : Int32)) hx hb dX8_areThree_16 (by decide) ?_
    refine lv_iload_n hx hb dX8_areThree_17 rfl (lv_at hl 2 rfl) ?_
    obtain ⟨F5, r6, hc7, h⟩ := ob2_e h
    refine wk_i (va_runV (As := [.int (p1 + (2 : Int32)), .int (0 : Int32), .int p2]) (rest := []) S (met_X8_isNumber l hD hv0 hc7 H.size) (cwV 3 S.2.2.2.2 (lw_V q1166 q1168 qs28 q63 q1169) rfl rfl rfl yd_X8_isNumber ⟨Nat.le_of_ble_eq_true rfl, Nat.le_of_ble_eq_true rfl⟩) (wpreV hK hW hv0 rfl rfl _) rfl rfl hl.1 rfl (lv_room (Nat.le_of_ble_eq_true rfl)) dX8_areThree_18 ⟨Nat.le_refl 0, Nat.le_refl 0⟩) hW (fun H locs hW => ?_)
    refine lv_if_eq (tgt := 40) hx hb dX8_areThree_21 (by decide) (fun c8 => ?_) (fun c8 => ?_)
    · have h := if_t h c8
      refine lv_iconst (v := (0 : Int32)) hx hb dX8_areThree_40 (by decide) ?_
      cases h
      exact we_z S hr hlk rfl hW dX8_areThree_41
    · have h := if_f h c8
      refine lv_aload_n hx hb dX8_areThree_24 rfl (lv_at hl 0 rfl) ?_
      refine lv_iload_n hx hb dX8_areThree_25 rfl (lv_at hl 1 rfl) ?_
      refine lv_iconst (v := (3 : Int32)) hx hb dX8_areThree_26 (by decide) ?_
      refine lv_iadd hx hb dX8_areThree_27 ?_
      refine lv_iconst (v := (0 : Int32)) hx hb dX8_areThree_28 (by decide) ?_
      refine lv_iload_n hx hb dX8_areThree_29 rfl (lv_at hl 2 rfl) ?_
      obtain ⟨F9, r10, hc11, h⟩ := ob2_e h
      refine wk_i (va_runV (As := [.int (p1 + (3 : Int32)), .int (0 : Int32), .int p2]) (rest := []) S (met_X8_isNumber l hD hv0 hc11 H.size) (cwV 3 S.2.2.2.2 (lw_V q1166 q1168 qs28 q63 q1169) rfl rfl rfl yd_X8_isNumber ⟨Nat.le_of_ble_eq_true rfl, Nat.le_of_ble_eq_true rfl⟩) (wpreV hK hW hv0 rfl rfl _) rfl rfl hl.1 rfl (lv_room (Nat.le_of_ble_eq_true rfl)) dX8_areThree_30 ⟨Nat.le_refl 0, Nat.le_refl 0⟩) hW (fun H locs hW => ?_)
      refine lv_if_eq (tgt := 40) hx hb dX8_areThree_33 (by decide) (fun c12 => ?_) (fun c12 => ?_)
      · have h := if_t h c12
        refine lv_iconst (v := (0 : Int32)) hx hb dX8_areThree_40 (by decide) ?_
        cases h
        exact we_z S hr hlk rfl hW dX8_areThree_41
      · have h := if_f h c12
        refine lv_iconst (v := (1 : Int32)) hx hb dX8_areThree_36 (by decide) ?_
        refine lv_goto (tgt := 41) hx hb dX8_areThree_37 (by decide) ?_
        cases h
        exact we_z S hr hlk rfl hW dX8_areThree_41
/-loop lp_X8_copy_42_40_3-/
def lp_X8_copy_42_40_3 (p1 : Int32) (p3 : Int32) : Nat → St → Int32 → Option (St × Int32)
  | 0, _, _ => none
  | n + 1, F2, x1 => if (138 : Int32) ≤ x1 then some (F2, x1) else og (vpb (p1 + x1) 276) (og (vpb (p3 + x1) 138) (pl (fu F2 40 0 0 (p3 + x1).toNatClampNeg (F2 42 0 0 (p1 + x1).toNatClampNeg)) (fun F10 => lp_X8_copy_42_40_3 p1 p3 n F10 (x1 + 1))))
theorem lp_X8_copy_42_40_3_s {p1 : Int32} {p3 : Int32} {n : Nat} {F2 : St} {x1 : Int32} : lp_X8_copy_42_40_3 p1 p3 (n + 1) F2 x1 = if (138 : Int32) ≤ x1 then some (F2, x1) else og (vpb (p1 + x1) 276) (og (vpb (p3 + x1) 138) (pl (fu F2 40 0 0 (p3 + x1).toNatClampNeg (F2 42 0 0 (p1 + x1).toNatClampNeg)) (fun F10 => lp_X8_copy_42_40_3 p1 p3 n F10 (x1 + 1)))) := rfl
def fn_X8_copy_42_40 (F : St) (p1 : Int32) (p3 : Int32) : Option (St) :=
  ob2 (lp_X8_copy_42_40_3 p1 p3 300 F (0 : Int32)) (fun F3 x4 => some F3)
theorem yd_X8_copy : yX8_copy.cls = RX8 ∧ yX8_copy.cls ≠ "java/lang/invoke/MethodHandle" ∧ yX8_copy.cls ≠ "java/lang/invoke/VarHandle" ∧ (parseMethodDescriptor yX8_copy.desc).map (fun d => d.parameters.length) = some 4 := by decide +kernel
set_option maxHeartbeats 4000000 in
theorem met_X8_copy_42_40 (l : Launch) {D : va_G} {dA : WK} {a : Ix → Nat} (hD : wD D dA a) {F : St} {p1 : Int32} {p3 : Int32} {Fz : St} (hv0 : wVd dA (42, 0, 0)) (hv2 : wVd dA (40, 0, 0)) (h : fn_X8_copy_42_40 F p1 p3 = some Fz) : Mv l yX8_copy cX8_copy 5 0 0 D dA a F [.ref (a (42, 0, 0)), .int p1, .ref (a (40, 0, 0)), .int p3] Fz := by
  refine fun sz => mst (Qc := fun sz => wQv D dA a sz Fz) (by decide) (Nat.le_of_ble_eq_true rfl) ?_ sz
  intro p e s m below meth c S hr hlk hK hW ls hl
  have hl : lv_has ls 5 [(0, .ref (a (42, 0, 0))), (1, .int p1), (2, .ref (a (40, 0, 0))), (3, .int p3)] := hl
  have hx := S.1
  have hb := S.2.1
  generalize ([.ref (a (42, 0, 0)), .int p1, .ref (a (40, 0, 0)), .int p3] : List Value).toArray = av at S ⊢
  unfold fn_X8_copy_42_40 at h
  obtain ⟨H, eH⟩ : ∃ z, z = s.heap := ⟨_, rfl⟩
  obtain ⟨locs, eL⟩ : ∃ z : List Loc, z = [] := ⟨_, rfl⟩
  show WX p l e (rmL 0 0) s m av below meth c (wQv D dA a s.heap.size Fz) dA a s.heap [] (F0 m 0 ls [])
  have hW : wS D dA a s F H locs := by rw [eH, eL]; exact wS_in hW
  refine wx_in eH eL ?_
  clear eH eL
  refine lv_iconst (v := (0 : Int32)) hx hb dX8_copy_0 (by decide) ?_
  refine lv_istore (lv' := [(4, .int (0 : Int32)), (0, .ref (a (42, 0, 0))), (1, .int p1), (2, .ref (a (40, 0, 0))), (3, .int p3)]) hx hb dX8_copy_1 hl (by decide) rfl (fun ls hl => ?_)
  have L6 : ∀ (n : Nat) (F2 : St) (x1 : Int32) (F3 : St) (x4 : Int32), lp_X8_copy_42_40_3 p1 p3 n F2 x1 = some (F3, x4) → (∀ (H : Heap) (locs : List Loc) (ls : Array Slot), wS D dA a s F3 H locs → lv_has ls 5 [] → WX p l e (rmL 0 0) s m av below meth c (wQv D dA a s.heap.size Fz) dA a H locs (F0 m 29 ls [])) → ∀ (H : Heap) (locs : List Loc) (ls : Array Slot), wS D dA a s F2 H locs → lv_has ls 5 [(0, .ref (a (42, 0, 0))), (1, .int p1), (2, .ref (a (40, 0, 0))), (3, .int p3), (4, .int x1)] → WX p l e (rmL 0 0) s m av below meth c (wQv D dA a s.heap.size Fz) dA a H locs (F0 m 3 ls []) := by
    intro n
    induction n with
    | zero =>
      intro F2 x1 F3 x4 h
      exact absurd (show (none : Option (St × Int32)) = some (F3, x4) from h) (by simp)
    | succ n ih =>
      intro F2 x1 F3 x4 h K5 H locs ls hW hl
      have h := lp_X8_copy_42_40_3_s.symm.trans h
      refine lv_iload hx hb dX8_copy_3 (lv_at hl 4 rfl) ?_
      refine lv_sipush (v := (138 : Int32)) hx hb dX8_copy_5 (by decide) ?_
      refine lv_icmp_ge (tgt := 29) hx hb dX8_copy_8 (by decide) (fun c7 => ?_) (fun c7 => ?_)
      · have h := if_t h c7
        cases h
        exact K5 H locs ls hW (lv_sub hl [] rfl)
      · have h := if_f h c7
        refine lv_aload_n hx hb dX8_copy_11 rfl (lv_at hl 2 rfl) ?_
        refine lv_iload_n hx hb dX8_copy_12 rfl (lv_at hl 3 rfl) ?_
        refine lv_iload hx hb dX8_copy_13 (lv_at hl 4 rfl) ?_
        refine lv_iadd hx hb dX8_copy_15 ?_
        refine lv_aload_n hx hb dX8_copy_16 rfl (lv_at hl 0 rfl) ?_
        refine lv_iload_n hx hb dX8_copy_17 rfl (lv_at hl 1 rfl) ?_
        refine lv_iload hx hb dX8_copy_18 (lv_at hl 4 rfl) ?_
        refine lv_iadd hx hb dX8_copy_20 ?_
        obtain ⟨g8, h⟩ := og_e h
        refine ald_42 S hK hW hv0 g8 rfl dX8_copy_21 ?_
        obtain ⟨g9, h⟩ := og_e h
        obtain ⟨F10, e11, h⟩ := pl_e h
        refine ast_40 S hK hD hW hv2 g9 rfl e11 dX8_copy_22 (fun H locs hW => ?_)
        refine lv_iinc (v := (x1 + 1)) (lv' := [(4, .int (x1 + 1)), (0, .ref (a (42, 0, 0))), (1, .int p1), (2, .ref (a (40, 0, 0))), (3, .int p3)]) hx hb dX8_copy_23 hl (k := 4) rfl rfl (by decide) rfl (fun ls hl => ?_)
        refine lv_goto (tgt := 3) hx hb dX8_copy_26 (by decide) ?_
        exact ih _ _ _ _ h K5 H locs ls hW (lv_sub hl [1, 2, 3, 4, 0] rfl)
  obtain ⟨F3, x4, hz12, h⟩ := ob2_e h
  refine L6 300 F (0 : Int32) F3 x4 hz12 (fun H locs ls hW hl => ?_) H locs ls hW (lv_sub hl [1, 2, 3, 4, 0] rfl)
  cases h
  exact we_v S hr hlk hW dX8_copy_29
def fn_X8_back (F : St) (p1 : Int32) : Option (St × Int32) :=
  ob (fn_X8_in F p1 (0 : Int32) (1 : Int32)) (fun r1 => if r1 = 0 then some (F, (-2 : Int32)) else og (vpb p1 2) (if (F 43 0 0 p1.toNatClampNeg) = 0 then some (F, (-4 : Int32)) else ob (fn_X8_copy_42_40 F ((138 : Int32) * p1) (0 : Int32)) (fun F6 => some (F6, (F6 40 0 0 132)))))
theorem yd_X8_back : yX8_back.cls = RX8 ∧ yX8_back.cls ≠ "java/lang/invoke/MethodHandle" ∧ yX8_back.cls ≠ "java/lang/invoke/VarHandle" ∧ (parseMethodDescriptor yX8_back.desc).map (fun d => d.parameters.length) = some 1 := by decide +kernel
set_option maxHeartbeats 4000000 in
theorem met_X8_back (l : Launch) {D : va_G} {dA : WK} {a : Ix → Nat} (hD : wD D dA a) {F : St} {p1 : Int32} {Fz : St} {rz : Int32} (hv0 : wVd dA (30, 0, 0)) (h : fn_X8_back F p1 = some (Fz, rz)) : Mi l yX8_back cX8_back 2 .int 1 24 D dA a F [.ref (a (30, 0, 0)), .int p1] Fz rz := by
  refine fun sz => mst (Qc := fun sz => wQi D dA a sz Fz rz) (by decide) (Nat.le_of_ble_eq_true rfl) ?_ sz
  intro p e s m below meth c S hr hlk hK hW ls hl
  have hl : lv_has ls 2 [(0, .ref (a (30, 0, 0))), (1, .int p1)] := hl
  have hx := S.1
  have hb := S.2.1
  generalize ([.ref (a (30, 0, 0)), .int p1] : List Value).toArray = av at S ⊢
  unfold fn_X8_back at h
  obtain ⟨H, eH⟩ : ∃ z, z = s.heap := ⟨_, rfl⟩
  obtain ⟨locs, eL⟩ : ∃ z : List Loc, z = [] := ⟨_, rfl⟩
  show WX p l e (rmL 1 24) s m av below meth c (wQi D dA a s.heap.size Fz rz) dA a s.heap [] (F0 m 0 ls [])
  have hW : wS D dA a s F H locs := by rw [eH, eL]; exact wS_in hW
  refine wx_in eH eL ?_
  clear eH eL
  refine lv_iload_n hx hb dX8_back_0 rfl (lv_at hl 1 rfl) ?_
  refine lv_iconst (v := (0 : Int32)) hx hb dX8_back_1 (by decide) ?_
  refine lv_iconst (v := (1 : Int32)) hx hb dX8_back_2 (by decide) ?_
  obtain ⟨r1, hc2, h⟩ := ob_e h
  refine wk_i (va_runS (As := [.int p1, .int (0 : Int32), .int (1 : Int32)]) (rest := []) S (met_X8_in l hD hc2 H.size) (va_cwS 3 S.2.2.2.2 (lw_S q1117 q1118 q63 q1119) rfl rfl rfl yd_X8_in.2 ⟨Nat.le_of_ble_eq_true rfl, Nat.le_of_ble_eq_true rfl⟩) (wpreS hK hW _) rfl rfl hl.1 rfl (lv_room (Nat.le_of_ble_eq_true rfl)) dX8_back_3 ⟨Nat.le_refl 0, Nat.le_refl 0⟩) hW (fun H locs hW => ?_)
  refine lv_if_ne (tgt := 12) hx hb dX8_back_6 (by decide) (fun c3 => ?_) (fun c3 => ?_)
  · have h := if_f h c3
    refine lv_aload_n hx hb dX8_back_12 rfl (lv_at hl 0 rfl) ?_
    refine gf_30_33 S hK hW hv0 q1018 dX8_back_13 ?_
    refine lv_iload_n hx hb dX8_back_16 rfl (lv_at hl 1 rfl) ?_
    obtain ⟨g4, h⟩ := og_e h
    refine ald_43 S hK hW (vq_30_33 hv0) g4 rfl dX8_back_17 ?_
    refine lv_if_ne (tgt := 24) hx hb dX8_back_18 (by decide) (fun c5 => ?_) (fun c5 => ?_)
    · have h := if_f h c5
      refine lv_aload_n hx hb dX8_back_24 rfl (lv_at hl 0 rfl) ?_
      refine gf_30_32 S hK hW hv0 q1017 dX8_back_25 ?_
      refine lv_sipush (v := (138 : Int32)) hx hb dX8_back_28 (by decide) ?_
      refine lv_iload_n hx hb dX8_back_31 rfl (lv_at hl 1 rfl) ?_
      refine lv_imul hx hb dX8_back_32 ?_
      refine lv_aload_n hx hb dX8_back_33 rfl (lv_at hl 0 rfl) ?_
      refine gf_30_30 S hK hW hv0 q1015 dX8_back_34 ?_
      refine lv_iconst (v := (0 : Int32)) hx hb dX8_back_37 (by decide) ?_
      obtain ⟨F6, hc7, h⟩ := ob_e h
      refine wk_v (va_runS (As := [.ref (a (42, 0, 0)), .int ((138 : Int32) * p1), .ref (a (40, 0, 0)), .int (0 : Int32)]) (rest := []) S (met_X8_copy_42_40 l hD (vq_30_32 hv0) (vq_30_30 hv0) hc7 H.size) (va_cwS 4 S.2.2.2.2 (lw_S q1280 q1281 q63 q1282) rfl rfl rfl yd_X8_copy.2 ⟨Nat.le_of_ble_eq_true rfl, Nat.le_of_ble_eq_true rfl⟩) (wpreS hK hW _) rfl rfl hl.1 rfl (lv_room (Nat.le_of_ble_eq_true rfl)) dX8_back_38 ⟨Nat.le_refl 0, Nat.le_refl 0⟩) hW (fun H locs hW => ?_)
      refine lv_aload_n hx hb dX8_back_41 rfl (lv_at hl 0 rfl) ?_
      refine gf_30_30 S hK hW hv0 q1015 dX8_back_42 ?_
      refine lv_sipush (v := (132 : Int32)) hx hb dX8_back_45 (by decide) ?_
      refine ald_40 (z := 132) S hK hW (vq_30_30 hv0) (by decide) (by decide) dX8_back_48 ?_
      cases h
      exact we_i S hr hlk hW dX8_back_49
    · have h := if_t h c5
      refine lv_bipush (v := (-4 : Int32)) hx hb dX8_back_21 (by decide) ?_
      cases h
      exact we_i S hr hlk hW dX8_back_23
  · have h := if_t h c3
    refine lv_bipush (v := (-2 : Int32)) hx hb dX8_back_9 (by decide) ?_
    cases h
    exact we_i S hr hlk hW dX8_back_11
/-loop lp_X8_blind_52-/
def lp_X8_blind_52 (p1 : Int32) : Nat → Int64 → Int32 → Option (Int64 × Int32)
  | 0, _, _ => none
  | n + 1, x13, x14 => if p1 ≤ x14 then some (x13, x14) else pl (x13 * (10 : Int64)) (fun x20 => lp_X8_blind_52 p1 n x20 (x14 + 1))
theorem lp_X8_blind_52_s {p1 : Int32} {n : Nat} {x13 : Int64} {x14 : Int32} : lp_X8_blind_52 p1 (n + 1) x13 x14 = if p1 ≤ x14 then some (x13, x14) else pl (x13 * (10 : Int64)) (fun x20 => lp_X8_blind_52 p1 n x20 (x14 + 1)) := rfl
/-loop lp_X8_blind_87-/
def lp_X8_blind_87 (p1 : Int32) (x24 : Int32) : Nat → Int64 → Int32 → Option (Int64 × Int32)
  | 0, _, _ => none
  | n + 1, x30, x31 => if x24 < x31 then some (x30, x31) else og (nzl x31.toInt64) (pl ((x30 * ((p1 - x24) + x31).toInt64) / x31.toInt64) (fun x38 => lp_X8_blind_87 p1 x24 n x38 (x31 + 1)))
theorem lp_X8_blind_87_s {p1 : Int32} {x24 : Int32} {n : Nat} {x30 : Int64} {x31 : Int32} : lp_X8_blind_87 p1 x24 (n + 1) x30 x31 = if x24 < x31 then some (x30, x31) else og (nzl x31.toInt64) (pl ((x30 * ((p1 - x24) + x31).toInt64) / x31.toInt64) (fun x38 => lp_X8_blind_87 p1 x24 n x38 (x31 + 1))) := rfl
/-loop lp_X8_blind_120-/
def lp_X8_blind_120 (p1 : Int32) (p3 : Int32) (x24 : Int32) : Nat → Int64 → Int32 → Option (Int64 × Int32)
  | 0, _, _ => none
  | n + 1, x41, x42 => if p1 ≤ x42 then some (x41, x42) else ob (if x24 ≤ x42 then some (((10 : Int32) - p3).toInt64) else some p3.toInt64) (fun y50 => pl (x41 * y50) (fun x52 => lp_X8_blind_120 p1 p3 x24 n x52 (x42 + 1)))
theorem lp_X8_blind_120_s {p1 : Int32} {p3 : Int32} {x24 : Int32} {n : Nat} {x41 : Int64} {x42 : Int32} : lp_X8_blind_120 p1 p3 x24 (n + 1) x41 x42 = if p1 ≤ x42 then some (x41, x42) else ob (if x24 ≤ x42 then some (((10 : Int32) - p3).toInt64) else some p3.toInt64) (fun y50 => pl (x41 * y50) (fun x52 => lp_X8_blind_120 p1 p3 x24 n x52 (x42 + 1))) := rfl
/-loop lp_X8_blind_75-/
def lp_X8_blind_75 (p1 : Int32) (p3 : Int32) : Nat → Int64 → Int32 → Option (Int64 × Int32)
  | 0, _, _ => none
  | n + 1, x23, x24 => if p1 < x24 then some (x23, x24) else ob2 (lp_X8_blind_87 p1 x24 300 (1 : Int64) (1 : Int32)) (fun x32 x33 => ob2 (lp_X8_blind_120 p1 p3 x24 300 x32 (0 : Int32)) (fun x43 x44 => pl (x23 + x43) (fun x55 => lp_X8_blind_75 p1 p3 n x55 (x24 + 1))))
theorem lp_X8_blind_75_s {p1 : Int32} {p3 : Int32} {n : Nat} {x23 : Int64} {x24 : Int32} : lp_X8_blind_75 p1 p3 (n + 1) x23 x24 = if p1 < x24 then some (x23, x24) else ob2 (lp_X8_blind_87 p1 x24 300 (1 : Int64) (1 : Int32)) (fun x32 x33 => ob2 (lp_X8_blind_120 p1 p3 x24 300 x32 (0 : Int32)) (fun x43 x44 => pl (x23 + x43) (fun x55 => lp_X8_blind_75 p1 p3 n x55 (x24 + 1)))) := rfl
/-loop lp_X8_blind_175-/
def lp_X8_blind_175 : Nat → Int64 → Int64 → Option (Int64 × Int64)
  | 0, _, _ => none
  | n + 1, x58, x59 => if (lg_cmp x59 (0 : Int64)) = 0 then some (x58, x59) else og (nzl x59) (pl (x58 - x58 / x59 * x59) (fun x66 => lp_X8_blind_175 n x59 x66))
theorem lp_X8_blind_175_s {n : Nat} {x58 : Int64} {x59 : Int64} : lp_X8_blind_175 (n + 1) x58 x59 = if (lg_cmp x59 (0 : Int64)) = 0 then some (x58, x59) else og (nzl x59) (pl (x58 - x58 / x59 * x59) (fun x66 => lp_X8_blind_175 n x59 x66)) := rfl
def fn_X8_blind (F : St) (p1 : Int32) (p2 : Int32) (p3 : Int32) (p4 : Int32) : Option (Int64) :=
  ob (fn_X8_in F p1 (1 : Int32) (10 : Int32)) (fun r1 => if r1 = 0 then some (-3 : Int64) else ob (fn_X8_in F p2 (0 : Int32) p1) (fun r4 => if r4 = 0 then some (-3 : Int64) else ob (fn_X8_in F p3 (0 : Int32) (10 : Int32)) (fun r7 => if r7 = 0 then some (-3 : Int64) else ob (fn_X8_in F p4 (0 : Int32) (1 : Int32)) (fun r10 => if r10 = 0 then some (-3 : Int64) else ob2 (lp_X8_blind_52 p1 300 (1 : Int64) (0 : Int32)) (fun x15 x16 => ob2 (lp_X8_blind_75 p1 p3 300 (0 : Int64) p2) (fun x25 x26 => ob2 (lp_X8_blind_175 300 x25 x15) (fun x60 x61 => if p4 = 0 then og (nzl x60) (some (x25 / x60)) else og (nzl x60) (some (x15 / x60)))))))))
theorem yd_X8_blind : yX8_blind.cls = RX8 ∧ yX8_blind.cls ≠ "java/lang/invoke/MethodHandle" ∧ yX8_blind.cls ≠ "java/lang/invoke/VarHandle" ∧ (parseMethodDescriptor yX8_blind.desc).map (fun d => d.parameters.length) = some 4 := by decide +kernel
set_option maxHeartbeats 4000000 in
theorem met_X8_blind (l : Launch) {D : va_G} {dA : WK} {a : Ix → Nat} (hD : wD D dA a) {F : St} {p1 : Int32} {p2 : Int32} {p3 : Int32} {p4 : Int32} {rz : Int64} (hv0 : wVd dA (30, 0, 0)) (h : fn_X8_blind F p1 p2 p3 p4 = some rz) : Ml l yX8_blind cX8_blind 15 1 22 D dA a F [.ref (a (30, 0, 0)), .int p1, .int p2, .int p3, .int p4] F rz := by
  refine fun sz => mst (Qc := fun sz => wQl D dA a sz F rz) (by decide) (Nat.le_of_ble_eq_true rfl) ?_ sz
  intro p e s m below meth c S hr hlk hK hW ls hl
  have hl : lv_has ls 15 [(0, .ref (a (30, 0, 0))), (1, .int p1), (2, .int p2), (3, .int p3), (4, .int p4)] := hl
  have hx := S.1
  have hb := S.2.1
  generalize ([.ref (a (30, 0, 0)), .int p1, .int p2, .int p3, .int p4] : List Value).toArray = av at S ⊢
  unfold fn_X8_blind at h
  obtain ⟨H, eH⟩ : ∃ z, z = s.heap := ⟨_, rfl⟩
  obtain ⟨locs, eL⟩ : ∃ z : List Loc, z = [] := ⟨_, rfl⟩
  show WX p l e (rmL 1 22) s m av below meth c (wQl D dA a s.heap.size F rz) dA a s.heap [] (F0 m 0 ls [])
  have hW : wS D dA a s F H locs := by rw [eH, eL]; exact wS_in hW
  refine wx_in eH eL ?_
  clear eH eL
  refine lv_iload_n hx hb dX8_blind_0 rfl (lv_at hl 1 rfl) ?_
  refine lv_iconst (v := (1 : Int32)) hx hb dX8_blind_1 (by decide) ?_
  refine lv_bipush (v := (10 : Int32)) hx hb dX8_blind_2 (by decide) ?_
  obtain ⟨r1, hc2, h⟩ := ob_e h
  refine wk_i (va_runS (As := [.int p1, .int (1 : Int32), .int (10 : Int32)]) (rest := []) S (met_X8_in l hD hc2 H.size) (va_cwS 3 S.2.2.2.2 (lw_S q1117 q1118 q63 q1119) rfl rfl rfl yd_X8_in.2 ⟨Nat.le_of_ble_eq_true rfl, Nat.le_of_ble_eq_true rfl⟩) (wpreS hK hW _) rfl rfl hl.1 rfl (lv_room (Nat.le_of_ble_eq_true rfl)) dX8_blind_4 ⟨Nat.le_refl 0, Nat.le_refl 0⟩) hW (fun H locs hW => ?_)
  refine lv_if_eq (tgt := 39) hx hb dX8_blind_7 (by decide) (fun c3 => ?_) (fun c3 => ?_)
  · have h := if_t h c3
    refine lv_ldc2 (v := (-3 : Int64)) hx hb S.2.2.2.1 (S.2.2.2.2 _ q1146) dX8_blind_39 ?_
    cases h
    exact we_l S hr hlk hW dX8_blind_42
  · have h := if_f h c3
    refine lv_iload_n hx hb dX8_blind_10 rfl (lv_at hl 2 rfl) ?_
    refine lv_iconst (v := (0 : Int32)) hx hb dX8_blind_11 (by decide) ?_
    refine lv_iload_n hx hb dX8_blind_12 rfl (lv_at hl 1 rfl) ?_
    obtain ⟨r4, hc5, h⟩ := ob_e h
    refine wk_i (va_runS (As := [.int p2, .int (0 : Int32), .int p1]) (rest := []) S (met_X8_in l hD hc5 H.size) (va_cwS 3 S.2.2.2.2 (lw_S q1117 q1118 q63 q1119) rfl rfl rfl yd_X8_in.2 ⟨Nat.le_of_ble_eq_true rfl, Nat.le_of_ble_eq_true rfl⟩) (wpreS hK hW _) rfl rfl hl.1 rfl (lv_room (Nat.le_of_ble_eq_true rfl)) dX8_blind_13 ⟨Nat.le_refl 0, Nat.le_refl 0⟩) hW (fun H locs hW => ?_)
    refine lv_if_eq (tgt := 39) hx hb dX8_blind_16 (by decide) (fun c6 => ?_) (fun c6 => ?_)
    · have h := if_t h c6
      refine lv_ldc2 (v := (-3 : Int64)) hx hb S.2.2.2.1 (S.2.2.2.2 _ q1146) dX8_blind_39 ?_
      cases h
      exact we_l S hr hlk hW dX8_blind_42
    · have h := if_f h c6
      refine lv_iload_n hx hb dX8_blind_19 rfl (lv_at hl 3 rfl) ?_
      refine lv_iconst (v := (0 : Int32)) hx hb dX8_blind_20 (by decide) ?_
      refine lv_bipush (v := (10 : Int32)) hx hb dX8_blind_21 (by decide) ?_
      obtain ⟨r7, hc8, h⟩ := ob_e h
      refine wk_i (va_runS (As := [.int p3, .int (0 : Int32), .int (10 : Int32)]) (rest := []) S (met_X8_in l hD hc8 H.size) (va_cwS 3 S.2.2.2.2 (lw_S q1117 q1118 q63 q1119) rfl rfl rfl yd_X8_in.2 ⟨Nat.le_of_ble_eq_true rfl, Nat.le_of_ble_eq_true rfl⟩) (wpreS hK hW _) rfl rfl hl.1 rfl (lv_room (Nat.le_of_ble_eq_true rfl)) dX8_blind_23 ⟨Nat.le_refl 0, Nat.le_refl 0⟩) hW (fun H locs hW => ?_)
      refine lv_if_eq (tgt := 39) hx hb dX8_blind_26 (by decide) (fun c9 => ?_) (fun c9 => ?_)
      · have h := if_t h c9
        refine lv_ldc2 (v := (-3 : Int64)) hx hb S.2.2.2.1 (S.2.2.2.2 _ q1146) dX8_blind_39 ?_
        cases h
        exact we_l S hr hlk hW dX8_blind_42
      · have h := if_f h c9
        refine lv_iload hx hb dX8_blind_29 (lv_at hl 4 rfl) ?_
        refine lv_iconst (v := (0 : Int32)) hx hb dX8_blind_31 (by decide) ?_
        refine lv_iconst (v := (1 : Int32)) hx hb dX8_blind_32 (by decide) ?_
        obtain ⟨r10, hc11, h⟩ := ob_e h
        refine wk_i (va_runS (As := [.int p4, .int (0 : Int32), .int (1 : Int32)]) (rest := []) S (met_X8_in l hD hc11 H.size) (va_cwS 3 S.2.2.2.2 (lw_S q1117 q1118 q63 q1119) rfl rfl rfl yd_X8_in.2 ⟨Nat.le_of_ble_eq_true rfl, Nat.le_of_ble_eq_true rfl⟩) (wpreS hK hW _) rfl rfl hl.1 rfl (lv_room (Nat.le_of_ble_eq_true rfl)) dX8_blind_33 ⟨Nat.le_refl 0, Nat.le_refl 0⟩) hW (fun H locs hW => ?_)
        refine lv_if_ne (tgt := 43) hx hb dX8_blind_36 (by decide) (fun c12 => ?_) (fun c12 => ?_)
        · have h := if_f h c12
          refine lv_lconst (v := (0 : Int64)) hx hb dX8_blind_43 (by decide) ?_
          refine lv_lstore (lv' := [(5, .long (0 : Int64)), (0, .ref (a (30, 0, 0))), (1, .int p1), (2, .int p2), (3, .int p3), (4, .int p4)]) hx hb dX8_blind_44 hl (by decide) rfl (fun ls hl => ?_)
          refine lv_lconst (v := (1 : Int64)) hx hb dX8_blind_46 (by decide) ?_
          refine lv_lstore (lv' := [(7, .long (1 : Int64)), (5, .long (0 : Int64)), (0, .ref (a (30, 0, 0))), (1, .int p1), (2, .int p2), (3, .int p3), (4, .int p4)]) hx hb dX8_blind_47 hl (by decide) rfl (fun ls hl => ?_)
          refine lv_iconst (v := (0 : Int32)) hx hb dX8_blind_49 (by decide) ?_
          refine lv_istore (lv' := [(9, .int (0 : Int32)), (7, .long (1 : Int64)), (5, .long (0 : Int64)), (0, .ref (a (30, 0, 0))), (1, .int p1), (2, .int p2), (3, .int p3), (4, .int p4)]) hx hb dX8_blind_50 hl (by decide) rfl (fun ls hl => ?_)
          have L18 : ∀ (n : Nat) (x13 : Int64) (x14 : Int32) (x15 : Int64) (x16 : Int32), lp_X8_blind_52 p1 n x13 x14 = some (x15, x16) → (∀ (H : Heap) (locs : List Loc) (ls : Array Slot), wS D dA a s F H locs → lv_has ls 15 [(1, .int p1), (2, .int p2), (3, .int p3), (4, .int p4), (5, .long (0 : Int64)), (7, .long x15)] → WX p l e (rmL 1 22) s m av below meth c (wQl D dA a s.heap.size F rz) dA a H locs (F0 m 72 ls [])) → ∀ (H : Heap) (locs : List Loc) (ls : Array Slot), wS D dA a s F H locs → lv_has ls 15 [(1, .int p1), (2, .int p2), (3, .int p3), (4, .int p4), (5, .long (0 : Int64)), (7, .long x13), (9, .int x14)] → WX p l e (rmL 1 22) s m av below meth c (wQl D dA a s.heap.size F rz) dA a H locs (F0 m 52 ls []) := by
            intro n
            induction n with
            | zero =>
              intro x13 x14 x15 x16 h
              exact absurd (show (none : Option (Int64 × Int32)) = some (x15, x16) from h) (by simp)
            | succ n ih =>
              intro x13 x14 x15 x16 h K17 H locs ls hW hl
              have h := lp_X8_blind_52_s.symm.trans h
              refine lv_iload hx hb dX8_blind_52 (lv_at hl 6 rfl) ?_
              refine lv_iload_n hx hb dX8_blind_54 rfl (lv_at hl 0 rfl) ?_
              refine lv_icmp_ge (tgt := 72) hx hb dX8_blind_55 (by decide) (fun c19 => ?_) (fun c19 => ?_)
              · have h := if_t h c19
                cases h
                exact K17 H locs ls hW (lv_sub hl [0, 1, 2, 3, 4, 5] rfl)
              · have h := if_f h c19
                refine lv_lload hx hb dX8_blind_58 (lv_at hl 5 rfl) ?_
                refine lv_ldc2 (v := (10 : Int64)) hx hb S.2.2.2.1 (S.2.2.2.2 _ q1347) dX8_blind_60 ?_
                refine lv_lmul hx hb dX8_blind_63 ?_
                obtain ⟨x20, e21, h⟩ := pl_e h
                refine lv_nml e21 ?_
                refine lv_lstore (lv' := [(7, .long x20), (1, .int p1), (2, .int p2), (3, .int p3), (4, .int p4), (5, .long (0 : Int64)), (9, .int x14)]) hx hb dX8_blind_64 hl (by decide) rfl (fun ls hl => ?_)
                refine lv_iinc (v := (x14 + 1)) (lv' := [(9, .int (x14 + 1)), (7, .long x20), (1, .int p1), (2, .int p2), (3, .int p3), (4, .int p4), (5, .long (0 : Int64))]) hx hb dX8_blind_66 hl (k := 6) rfl rfl (by decide) rfl (fun ls hl => ?_)
                refine lv_goto (tgt := 52) hx hb dX8_blind_69 (by decide) ?_
                exact ih _ _ _ _ h K17 H locs ls hW (lv_sub hl [2, 3, 4, 5, 6, 1, 0] rfl)
          obtain ⟨x15, x16, hz22, h⟩ := ob2_e h
          refine L18 300 (1 : Int64) (0 : Int32) x15 x16 hz22 (fun H locs ls hW hl => ?_) H locs ls hW (lv_sub hl [4, 5, 6, 7, 2, 1, 0] rfl)
          refine lv_iload_n hx hb dX8_blind_72 rfl (lv_at hl 1 rfl) ?_
          refine lv_istore (lv' := [(9, .int p2), (1, .int p1), (2, .int p2), (3, .int p3), (4, .int p4), (5, .long (0 : Int64)), (7, .long x15)]) hx hb dX8_blind_73 hl (by decide) rfl (fun ls hl => ?_)
          have L28 : ∀ (n : Nat) (x23 : Int64) (x24 : Int32) (x25 : Int64) (x26 : Int32), lp_X8_blind_75 p1 p3 n x23 x24 = some (x25, x26) → (∀ (H : Heap) (locs : List Loc) (ls : Array Slot), wS D dA a s F H locs → lv_has ls 15 [(4, .int p4), (5, .long x25), (7, .long x15)] → WX p l e (rmL 1 22) s m av below meth c (wQl D dA a s.heap.size F rz) dA a H locs (F0 m 167 ls [])) → ∀ (H : Heap) (locs : List Loc) (ls : Array Slot), wS D dA a s F H locs → lv_has ls 15 [(1, .int p1), (3, .int p3), (4, .int p4), (5, .long x23), (7, .long x15), (9, .int x24)] → WX p l e (rmL 1 22) s m av below meth c (wQl D dA a s.heap.size F rz) dA a H locs (F0 m 75 ls []) := by
            intro n
            induction n with
            | zero =>
              intro x23 x24 x25 x26 h
              exact absurd (show (none : Option (Int64 × Int32)) = some (x25, x26) from h) (by simp)
            | succ n ih =>
              intro x23 x24 x25 x26 h K27 H locs ls hW hl
              have h := lp_X8_blind_75_s.symm.trans h
              refine lv_iload hx hb dX8_blind_75 (lv_at hl 5 rfl) ?_
              refine lv_iload_n hx hb dX8_blind_77 rfl (lv_at hl 0 rfl) ?_
              refine lv_icmp_gt (tgt := 167) hx hb dX8_blind_78 (by decide) (fun c29 => ?_) (fun c29 => ?_)
              · have h := if_t h c29
                cases h
                exact K27 H locs ls hW (lv_sub hl [2, 3, 4] rfl)
              · have h := if_f h c29
                refine lv_lconst (v := (1 : Int64)) hx hb dX8_blind_81 (by decide) ?_
                refine lv_lstore (lv' := [(10, .long (1 : Int64)), (1, .int p1), (3, .int p3), (4, .int p4), (5, .long x23), (7, .long x15), (9, .int x24)]) hx hb dX8_blind_82 hl (by decide) rfl (fun ls hl => ?_)
                refine lv_iconst (v := (1 : Int32)) hx hb dX8_blind_84 (by decide) ?_
                refine lv_istore (lv' := [(12, .int (1 : Int32)), (10, .long (1 : Int64)), (1, .int p1), (3, .int p3), (4, .int p4), (5, .long x23), (7, .long x15), (9, .int x24)]) hx hb dX8_blind_85 hl (by decide) rfl (fun ls hl => ?_)
                have L35 : ∀ (n : Nat) (x30 : Int64) (x31 : Int32) (x32 : Int64) (x33 : Int32), lp_X8_blind_87 p1 x24 n x30 x31 = some (x32, x33) → (∀ (H : Heap) (locs : List Loc) (ls : Array Slot), wS D dA a s F H locs → lv_has ls 15 [(1, .int p1), (3, .int p3), (4, .int p4), (5, .long x23), (7, .long x15), (9, .int x24), (10, .long x32)] → WX p l e (rmL 1 22) s m av below meth c (wQl D dA a s.heap.size F rz) dA a H locs (F0 m 117 ls [])) → ∀ (H : Heap) (locs : List Loc) (ls : Array Slot), wS D dA a s F H locs → lv_has ls 15 [(1, .int p1), (3, .int p3), (4, .int p4), (5, .long x23), (7, .long x15), (9, .int x24), (10, .long x30), (12, .int x31)] → WX p l e (rmL 1 22) s m av below meth c (wQl D dA a s.heap.size F rz) dA a H locs (F0 m 87 ls []) := by
                  intro n
                  induction n with
                  | zero =>
                    intro x30 x31 x32 x33 h
                    exact absurd (show (none : Option (Int64 × Int32)) = some (x32, x33) from h) (by simp)
                  | succ n ih =>
                    intro x30 x31 x32 x33 h K34 H locs ls hW hl
                    have h := lp_X8_blind_87_s.symm.trans h
                    refine lv_iload hx hb dX8_blind_87 (lv_at hl 7 rfl) ?_
                    refine lv_iload hx hb dX8_blind_89 (lv_at hl 5 rfl) ?_
                    refine lv_icmp_gt (tgt := 117) hx hb dX8_blind_91 (by decide) (fun c36 => ?_) (fun c36 => ?_)
                    · have h := if_t h c36
                      cases h
                      exact K34 H locs ls hW (lv_sub hl [0, 1, 2, 3, 4, 5, 6] rfl)
                    · have h := if_f h c36
                      refine lv_lload hx hb dX8_blind_94 (lv_at hl 6 rfl) ?_
                      refine lv_iload_n hx hb dX8_blind_96 rfl (lv_at hl 0 rfl) ?_
                      refine lv_iload hx hb dX8_blind_97 (lv_at hl 5 rfl) ?_
                      refine lv_isub hx hb dX8_blind_99 ?_
                      refine lv_iload hx hb dX8_blind_100 (lv_at hl 7 rfl) ?_
                      refine lv_iadd hx hb dX8_blind_102 ?_
                      refine lv_i2l hx hb dX8_blind_103 rfl ?_
                      refine lv_lmul hx hb dX8_blind_104 ?_
                      refine lv_iload hx hb dX8_blind_105 (lv_at hl 7 rfl) ?_
                      refine lv_i2l hx hb dX8_blind_107 rfl ?_
                      obtain ⟨g37, h⟩ := og_e h
                      refine lv_ldiv hx hb dX8_blind_108 (nzl_e g37) ?_
                      obtain ⟨x38, e39, h⟩ := pl_e h
                      refine lv_nml e39 ?_
                      refine lv_lstore (lv' := [(10, .long x38), (1, .int p1), (3, .int p3), (4, .int p4), (5, .long x23), (7, .long x15), (9, .int x24), (12, .int x31)]) hx hb dX8_blind_109 hl (by decide) rfl (fun ls hl => ?_)
                      refine lv_iinc (v := (x31 + 1)) (lv' := [(12, .int (x31 + 1)), (10, .long x38), (1, .int p1), (3, .int p3), (4, .int p4), (5, .long x23), (7, .long x15), (9, .int x24)]) hx hb dX8_blind_111 hl (k := 7) rfl rfl (by decide) rfl (fun ls hl => ?_)
                      refine lv_goto (tgt := 87) hx hb dX8_blind_114 (by decide) ?_
                      exact ih _ _ _ _ h K34 H locs ls hW (lv_sub hl [2, 3, 4, 5, 6, 7, 1, 0] rfl)
                obtain ⟨x32, x33, hz40, h⟩ := ob2_e h
                refine L35 300 (1 : Int64) (1 : Int32) x32 x33 hz40 (fun H locs ls hW hl => ?_) H locs ls hW (lv_sub hl [2, 3, 4, 5, 6, 7, 1, 0] rfl)
                refine lv_iconst (v := (0 : Int32)) hx hb dX8_blind_117 (by decide) ?_
                refine lv_istore (lv' := [(12, .int (0 : Int32)), (1, .int p1), (3, .int p3), (4, .int p4), (5, .long x23), (7, .long x15), (9, .int x24), (10, .long x32)]) hx hb dX8_blind_118 hl (by decide) rfl (fun ls hl => ?_)
                have L46 : ∀ (n : Nat) (x41 : Int64) (x42 : Int32) (x43 : Int64) (x44 : Int32), lp_X8_blind_120 p1 p3 x24 n x41 x42 = some (x43, x44) → (∀ (H : Heap) (locs : List Loc) (ls : Array Slot), wS D dA a s F H locs → lv_has ls 15 [(1, .int p1), (3, .int p3), (4, .int p4), (5, .long x23), (7, .long x15), (9, .int x24), (10, .long x43)] → WX p l e (rmL 1 22) s m av below meth c (wQl D dA a s.heap.size F rz) dA a H locs (F0 m 154 ls [])) → ∀ (H : Heap) (locs : List Loc) (ls : Array Slot), wS D dA a s F H locs → lv_has ls 15 [(1, .int p1), (3, .int p3), (4, .int p4), (5, .long x23), (7, .long x15), (9, .int x24), (10, .long x41), (12, .int x42)] → WX p l e (rmL 1 22) s m av below meth c (wQl D dA a s.heap.size F rz) dA a H locs (F0 m 120 ls []) := by
                  intro n
                  induction n with
                  | zero =>
                    intro x41 x42 x43 x44 h
                    exact absurd (show (none : Option (Int64 × Int32)) = some (x43, x44) from h) (by simp)
                  | succ n ih =>
                    intro x41 x42 x43 x44 h K45 H locs ls hW hl
                    have h := lp_X8_blind_120_s.symm.trans h
                    refine lv_iload hx hb dX8_blind_120 (lv_at hl 7 rfl) ?_
                    refine lv_iload_n hx hb dX8_blind_122 rfl (lv_at hl 0 rfl) ?_
                    refine lv_icmp_ge (tgt := 154) hx hb dX8_blind_123 (by decide) (fun c47 => ?_) (fun c47 => ?_)
                    · have h := if_t h c47
                      cases h
                      exact K45 H locs ls hW (lv_sub hl [0, 1, 2, 3, 4, 5, 6] rfl)
                    · have h := if_f h c47
                      refine lv_lload hx hb dX8_blind_126 (lv_at hl 6 rfl) ?_
                      refine lv_iload hx hb dX8_blind_128 (lv_at hl 7 rfl) ?_
                      refine lv_iload hx hb dX8_blind_130 (lv_at hl 5 rfl) ?_
                      obtain ⟨y50, hz49, h⟩ := ob_e h
                      have K51 : ∀ (H : Heap) (locs : List Loc) (ls : Array Slot), wS D dA a s F H locs → lv_has ls 15 [(1, .int p1), (3, .int p3), (4, .int p4), (5, .long x23), (7, .long x15), (9, .int x24), (12, .int x42)] → WX p l e (rmL 1 22) s m av below meth c (wQl D dA a s.heap.size F rz) dA a H locs (F0 m 145 ls [.long y50, .long x41]) := by
                        intro H locs ls hW hl
                        refine lv_lmul hx hb dX8_blind_145 ?_
                        obtain ⟨x52, e53, h⟩ := pl_e h
                        refine lv_nml e53 ?_
                        refine lv_lstore (lv' := [(10, .long x52), (1, .int p1), (3, .int p3), (4, .int p4), (5, .long x23), (7, .long x15), (9, .int x24), (12, .int x42)]) hx hb dX8_blind_146 hl (by decide) rfl (fun ls hl => ?_)
                        refine lv_iinc (v := (x42 + 1)) (lv' := [(12, .int (x42 + 1)), (10, .long x52), (1, .int p1), (3, .int p3), (4, .int p4), (5, .long x23), (7, .long x15), (9, .int x24)]) hx hb dX8_blind_148 hl (k := 7) rfl rfl (by decide) rfl (fun ls hl => ?_)
                        refine lv_goto (tgt := 120) hx hb dX8_blind_151 (by decide) ?_
                        exact ih _ _ _ _ h K45 H locs ls hW (lv_sub hl [2, 3, 4, 5, 6, 7, 1, 0] rfl)
                      clear h
                      refine lv_icmp_ge (tgt := 140) hx hb dX8_blind_132 (by decide) (fun c48 => ?_) (fun c48 => ?_)
                      · have h := if_t hz49 c48
                        refine lv_bipush (v := (10 : Int32)) hx hb dX8_blind_140 (by decide) ?_
                        refine lv_iload_n hx hb dX8_blind_142 rfl (lv_at hl 1 rfl) ?_
                        refine lv_isub hx hb dX8_blind_143 ?_
                        refine lv_i2l hx hb dX8_blind_144 rfl ?_
                        cases h
                        exact K51 H locs ls hW (lv_sub hl [0, 1, 2, 3, 4, 5, 7] rfl)
                      · have h := if_f hz49 c48
                        refine lv_iload_n hx hb dX8_blind_135 rfl (lv_at hl 1 rfl) ?_
                        refine lv_i2l hx hb dX8_blind_136 rfl ?_
                        refine lv_goto (tgt := 145) hx hb dX8_blind_137 (by decide) ?_
                        cases h
                        exact K51 H locs ls hW (lv_sub hl [0, 1, 2, 3, 4, 5, 7] rfl)
                obtain ⟨x43, x44, hz54, h⟩ := ob2_e h
                refine L46 300 x32 (0 : Int32) x43 x44 hz54 (fun H locs ls hW hl => ?_) H locs ls hW (lv_sub hl [1, 2, 3, 4, 5, 6, 7, 0] rfl)
                refine lv_lload hx hb dX8_blind_154 (lv_at hl 3 rfl) ?_
                refine lv_lload hx hb dX8_blind_156 (lv_at hl 6 rfl) ?_
                refine lv_ladd hx hb dX8_blind_158 ?_
                obtain ⟨x55, e56, h⟩ := pl_e h
                refine lv_nml e56 ?_
                refine lv_lstore (lv' := [(5, .long x55), (1, .int p1), (3, .int p3), (4, .int p4), (7, .long x15), (9, .int x24), (10, .long x43)]) hx hb dX8_blind_159 hl (by decide) rfl (fun ls hl => ?_)
                refine lv_iinc (v := (x24 + 1)) (lv' := [(9, .int (x24 + 1)), (5, .long x55), (1, .int p1), (3, .int p3), (4, .int p4), (7, .long x15), (10, .long x43)]) hx hb dX8_blind_161 hl (k := 5) rfl rfl (by decide) rfl (fun ls hl => ?_)
                refine lv_goto (tgt := 75) hx hb dX8_blind_164 (by decide) ?_
                exact ih _ _ _ _ h K27 H locs ls hW (lv_sub hl [2, 3, 4, 1, 5, 0] rfl)
          obtain ⟨x25, x26, hz57, h⟩ := ob2_e h
          refine L28 300 (0 : Int64) p2 x25 x26 hz57 (fun H locs ls hW hl => ?_) H locs ls hW (lv_sub hl [1, 3, 4, 5, 6, 0] rfl)
          refine lv_lload hx hb dX8_blind_167 (lv_at hl 1 rfl) ?_
          refine lv_lstore (lv' := [(9, .long x25), (4, .int p4), (5, .long x25), (7, .long x15)]) hx hb dX8_blind_169 hl (by decide) rfl (fun ls hl => ?_)
          refine lv_lload hx hb dX8_blind_171 (lv_at hl 3 rfl) ?_
          refine lv_lstore (lv' := [(11, .long x15), (9, .long x25), (4, .int p4), (5, .long x25), (7, .long x15)]) hx hb dX8_blind_173 hl (by decide) rfl (fun ls hl => ?_)
          have L63 : ∀ (n : Nat) (x58 : Int64) (x59 : Int64) (x60 : Int64) (x61 : Int64), lp_X8_blind_175 n x58 x59 = some (x60, x61) → (∀ (H : Heap) (locs : List Loc) (ls : Array Slot), wS D dA a s F H locs → lv_has ls 15 [(4, .int p4), (5, .long x25), (7, .long x15), (9, .long x60)] → WX p l e (rmL 1 22) s m av below meth c (wQl D dA a s.heap.size F rz) dA a H locs (F0 m 200 ls [])) → ∀ (H : Heap) (locs : List Loc) (ls : Array Slot), wS D dA a s F H locs → lv_has ls 15 [(4, .int p4), (5, .long x25), (7, .long x15), (9, .long x58), (11, .long x59)] → WX p l e (rmL 1 22) s m av below meth c (wQl D dA a s.heap.size F rz) dA a H locs (F0 m 175 ls []) := by
            intro n
            induction n with
            | zero =>
              intro x58 x59 x60 x61 h
              exact absurd (show (none : Option (Int64 × Int64)) = some (x60, x61) from h) (by simp)
            | succ n ih =>
              intro x58 x59 x60 x61 h K62 H locs ls hW hl
              have h := lp_X8_blind_175_s.symm.trans h
              refine lv_lload hx hb dX8_blind_175 (lv_at hl 4 rfl) ?_
              refine lv_lconst (v := (0 : Int64)) hx hb dX8_blind_177 (by decide) ?_
              refine W.lcmp hx hb dX8_blind_178 ?_
              refine lv_if_eq (tgt := 200) hx hb dX8_blind_179 (by decide) (fun c64 => ?_) (fun c64 => ?_)
              · have h := if_t h c64
                cases h
                exact K62 H locs ls hW (lv_sub hl [0, 1, 2, 3] rfl)
              · have h := if_f h c64
                refine lv_lload hx hb dX8_blind_182 (lv_at hl 3 rfl) ?_
                refine lv_lload hx hb dX8_blind_184 (lv_at hl 4 rfl) ?_
                obtain ⟨g65, h⟩ := og_e h
                refine lv_lrem hx hb dX8_blind_186 (nzl_e g65) ?_
                obtain ⟨x66, e67, h⟩ := pl_e h
                refine lv_nml e67 ?_
                refine lv_lstore (lv' := [(13, .long x66), (4, .int p4), (5, .long x25), (7, .long x15), (9, .long x58), (11, .long x59)]) hx hb dX8_blind_187 hl (by decide) rfl (fun ls hl => ?_)
                refine lv_lload hx hb dX8_blind_189 (lv_at hl 5 rfl) ?_
                refine lv_lstore (lv' := [(9, .long x59), (13, .long x66), (4, .int p4), (5, .long x25), (7, .long x15), (11, .long x59)]) hx hb dX8_blind_191 hl (by decide) rfl (fun ls hl => ?_)
                refine lv_lload hx hb dX8_blind_193 (lv_at hl 1 rfl) ?_
                refine lv_lstore (lv' := [(11, .long x66), (9, .long x59), (13, .long x66), (4, .int p4), (5, .long x25), (7, .long x15)]) hx hb dX8_blind_195 hl (by decide) rfl (fun ls hl => ?_)
                refine lv_goto (tgt := 175) hx hb dX8_blind_197 (by decide) ?_
                exact ih _ _ _ _ h K62 H locs ls hW (lv_sub hl [3, 4, 5, 1, 0] rfl)
          obtain ⟨x60, x61, hz68, h⟩ := ob2_e h
          refine L63 300 x25 x15 x60 x61 hz68 (fun H locs ls hW hl => ?_) H locs ls hW (lv_sub hl [2, 3, 4, 1, 0] rfl)
          refine lv_iload hx hb dX8_blind_200 (lv_at hl 0 rfl) ?_
          refine lv_if_ne (tgt := 213) hx hb dX8_blind_202 (by decide) (fun c69 => ?_) (fun c69 => ?_)
          · have h := if_f h c69
            refine lv_lload hx hb dX8_blind_213 (lv_at hl 2 rfl) ?_
            refine lv_lload hx hb dX8_blind_215 (lv_at hl 3 rfl) ?_
            obtain ⟨g70, h⟩ := og_e h
            refine lv_ldiv hx hb dX8_blind_217 (nzl_e g70) ?_
            cases h
            exact we_l S hr hlk hW dX8_blind_218
          · have h := if_t h c69
            refine lv_lload hx hb dX8_blind_205 (lv_at hl 1 rfl) ?_
            refine lv_lload hx hb dX8_blind_207 (lv_at hl 3 rfl) ?_
            obtain ⟨g71, h⟩ := og_e h
            refine lv_ldiv hx hb dX8_blind_209 (nzl_e g71) ?_
            refine lv_goto (tgt := 218) hx hb dX8_blind_210 (by decide) ?_
            cases h
            exact we_l S hr hlk hW dX8_blind_218
        · have h := if_t h c12
          refine lv_ldc2 (v := (-3 : Int64)) hx hb S.2.2.2.1 (S.2.2.2.2 _ q1146) dX8_blind_39 ?_
          cases h
          exact we_l S hr hlk hW dX8_blind_42
def fn_X8_give (F : St) (p1 : Int32) : Option (St) :=
  og (vpb p1 138) (ob (if (F 40 0 0 p1.toNatClampNeg) ≤ (100 : Int32) then some (F 40 0 0 p1.toNatClampNeg) else some (100 : Int32)) (fun y4 => pl ((32 : Int32) + p1) (fun x6 => og (vpb x6 138) (pl ((((((F 40 0 0 x6.toNatClampNeg).toInt64 * (F 32 0 0 0).toInt64) * (F 30 10 0 0).toInt64) * y4.toInt64) / (1000000 : Int64)).toInt32) (fun x9 => pl (fu F 40 0 0 x6.toNatClampNeg ((F 40 0 0 x6.toNatClampNeg) - x9)) (fun F11 => og (vpb ((80 : Int32) + p1) 138) (pl (fu F11 40 0 0 ((80 : Int32) + p1).toNatClampNeg ((F11 40 0 0 ((80 : Int32) + p1).toNatClampNeg) + x9)) (fun F14 => pl ((48 : Int32) + p1) (fun x16 => og (vpb x16 138) (pl ((((((F14 40 0 0 x16.toNatClampNeg).toInt64 * (F14 32 0 0 1).toInt64) * (F14 30 10 0 0).toInt64) * y4.toInt64) / (1000000 : Int64)).toInt32) (fun x19 => pl (fu F14 40 0 0 x16.toNatClampNeg ((F14 40 0 0 x16.toNatClampNeg) - x19)) (fun F21 => og (vpb ((96 : Int32) + p1) 138) (pl (fu F21 40 0 0 ((96 : Int32) + p1).toNatClampNeg ((F21 40 0 0 ((96 : Int32) + p1).toNatClampNeg) + x19)) (fun F24 => pl ((64 : Int32) + p1) (fun x26 => og (vpb x26 138) (pl ((((((F24 40 0 0 x26.toNatClampNeg).toInt64 * (F24 32 0 0 2).toInt64) * (F24 30 10 0 0).toInt64) * y4.toInt64) / (1000000 : Int64)).toInt32) (fun x29 => pl (fu F24 40 0 0 x26.toNatClampNeg ((F24 40 0 0 x26.toNatClampNeg) - x29)) (fun F31 => og (vpb ((112 : Int32) + p1) 138) (pl (fu F31 40 0 0 ((112 : Int32) + p1).toNatClampNeg ((F31 40 0 0 ((112 : Int32) + p1).toNatClampNeg) + x29)) (fun F34 => some F34))))))))))))))))))))
theorem yd_X8_give : yX8_give.cls = RX8 ∧ yX8_give.cls ≠ "java/lang/invoke/MethodHandle" ∧ yX8_give.cls ≠ "java/lang/invoke/VarHandle" ∧ (parseMethodDescriptor yX8_give.desc).map (fun d => d.parameters.length) = some 1 := by decide +kernel
set_option maxHeartbeats 4000000 in
theorem met_X8_give (l : Launch) {D : va_G} {dA : WK} {a : Ix → Nat} (hD : wD D dA a) {F : St} {p1 : Int32} {Fz : St} (hv0 : wVd dA (30, 0, 0)) (h : fn_X8_give F p1 = some Fz) : Mv l yX8_give cX8_give 6 0 0 D dA a F [.ref (a (30, 0, 0)), .int p1] Fz := by
  refine fun sz => mst (Qc := fun sz => wQv D dA a sz Fz) (by decide) (Nat.le_of_ble_eq_true rfl) ?_ sz
  intro p e s m below meth c S hr hlk hK hW ls hl
  have hl : lv_has ls 6 [(0, .ref (a (30, 0, 0))), (1, .int p1)] := hl
  have hx := S.1
  have hb := S.2.1
  generalize ([.ref (a (30, 0, 0)), .int p1] : List Value).toArray = av at S ⊢
  unfold fn_X8_give at h
  obtain ⟨H, eH⟩ : ∃ z, z = s.heap := ⟨_, rfl⟩
  obtain ⟨locs, eL⟩ : ∃ z : List Loc, z = [] := ⟨_, rfl⟩
  show WX p l e (rmL 0 0) s m av below meth c (wQv D dA a s.heap.size Fz) dA a s.heap [] (F0 m 0 ls [])
  have hW : wS D dA a s F H locs := by rw [eH, eL]; exact wS_in hW
  refine wx_in eH eL ?_
  clear eH eL
  refine lv_aload_n hx hb dX8_give_0 rfl (lv_at hl 0 rfl) ?_
  refine gf_30_30 S hK hW hv0 q1015 dX8_give_1 ?_
  refine lv_iload_n hx hb dX8_give_4 rfl (lv_at hl 1 rfl) ?_
  obtain ⟨g1, h⟩ := og_e h
  refine ald_40 S hK hW (vq_30_30 hv0) g1 rfl dX8_give_5 ?_
  refine lv_bipush (v := (100 : Int32)) hx hb dX8_give_6 (by decide) ?_
  obtain ⟨y4, hz3, h⟩ := ob_e h
  have K5 : ∀ (H : Heap) (locs : List Loc) (ls : Array Slot), wS D dA a s F H locs → lv_has ls 6 [(0, .ref (a (30, 0, 0))), (1, .int p1)] → WX p l e (rmL 0 0) s m av below meth c (wQv D dA a s.heap.size Fz) dA a H locs (F0 m 22 ls [.int y4]) := by
    intro H locs ls hW hl
    refine lv_istore_n (lv' := [(2, .int y4), (0, .ref (a (30, 0, 0))), (1, .int p1)]) hx hb dX8_give_22 rfl hl (by decide) rfl (fun ls hl => ?_)
    refine lv_iconst (v := (0 : Int32)) hx hb dX8_give_23 (by decide) ?_
    refine lv_istore_n (lv' := [(3, .int (0 : Int32)), (2, .int y4), (0, .ref (a (30, 0, 0))), (1, .int p1)]) hx hb dX8_give_24 rfl hl (by decide) rfl (fun ls hl => ?_)
    refine lv_iload_n hx hb dX8_give_25 rfl (lv_at hl 0 rfl) ?_
    refine lv_iconst (v := (3 : Int32)) hx hb dX8_give_26 (by decide) ?_
    refine lv_icmp_ge (tgt := 110) hx hb dX8_give_27 (by decide) (fun c => absurd c (by decide)) (fun _ => ?_)
    refine lv_bipush (v := (32 : Int32)) hx hb dX8_give_30 (by decide) ?_
    refine lv_bipush (v := (16 : Int32)) hx hb dX8_give_32 (by decide) ?_
    refine lv_iload_n hx hb dX8_give_34 rfl (lv_at hl 0 rfl) ?_
    refine lv_imul hx hb dX8_give_35 ?_
    refine lv_nm (y := (0 : Int32)) (by decide) ?_
    refine lv_iadd hx hb dX8_give_36 ?_
    refine lv_nm (y := (32 : Int32)) (by decide) ?_
    refine lv_iload_n hx hb dX8_give_37 rfl (lv_at hl 3 rfl) ?_
    refine lv_iadd hx hb dX8_give_38 ?_
    obtain ⟨x6, e7, h⟩ := pl_e h
    refine lv_nm e7 ?_
    refine lv_istore (lv' := [(4, .int x6), (3, .int (0 : Int32)), (2, .int y4), (0, .ref (a (30, 0, 0))), (1, .int p1)]) hx hb dX8_give_39 hl (by decide) rfl (fun ls hl => ?_)
    refine lv_aload_n hx hb dX8_give_41 rfl (lv_at hl 3 rfl) ?_
    refine gf_30_30 S hK hW hv0 q1015 dX8_give_42 ?_
    refine lv_iload hx hb dX8_give_45 (lv_at hl 0 rfl) ?_
    obtain ⟨g8, h⟩ := og_e h
    refine ald_40 S hK hW (vq_30_30 hv0) g8 rfl dX8_give_47 ?_
    refine lv_i2l hx hb dX8_give_48 rfl ?_
    refine lv_aload_n hx hb dX8_give_49 rfl (lv_at hl 3 rfl) ?_
    refine gf_30_3 S hK hW hv0 q988 dX8_give_50 ?_
    refine lv_iload_n hx hb dX8_give_53 rfl (lv_at hl 1 rfl) ?_
    refine ald_32 (z := 0) S hK hW (vq_30_3 hv0) (by decide) (by decide) dX8_give_54 ?_
    refine lv_i2l hx hb dX8_give_55 rfl ?_
    refine lv_lmul hx hb dX8_give_56 ?_
    refine lv_aload_n hx hb dX8_give_57 rfl (lv_at hl 3 rfl) ?_
    refine gf_30_10 S hK hW hv0 q995 dX8_give_58 ?_
    refine lv_i2l hx hb dX8_give_61 rfl ?_
    refine lv_lmul hx hb dX8_give_62 ?_
    refine lv_iload_n hx hb dX8_give_63 rfl (lv_at hl 2 rfl) ?_
    refine lv_i2l hx hb dX8_give_64 rfl ?_
    refine lv_lmul hx hb dX8_give_65 ?_
    refine lv_ldc2 (v := (1000000 : Int64)) hx hb S.2.2.2.1 (S.2.2.2.2 _ q1222) dX8_give_66 ?_
    refine lv_ldiv hx hb dX8_give_69 (by decide) ?_
    refine lv_l2i hx hb dX8_give_70 rfl ?_
    obtain ⟨x9, e10, h⟩ := pl_e h
    refine lv_nm e10 ?_
    refine lv_istore (lv' := [(5, .int x9), (4, .int x6), (3, .int (0 : Int32)), (2, .int y4), (0, .ref (a (30, 0, 0))), (1, .int p1)]) hx hb dX8_give_71 hl (by decide) rfl (fun ls hl => ?_)
    refine lv_aload_n hx hb dX8_give_73 rfl (lv_at hl 4 rfl) ?_
    refine gf_30_30 S hK hW hv0 q1015 dX8_give_74 ?_
    refine lv_iload hx hb dX8_give_77 (lv_at hl 1 rfl) ?_
    refine lv_dup2_11 hx hb dX8_give_79 rfl rfl ?_
    refine ald_40 S hK hW (vq_30_30 hv0) g8 rfl dX8_give_80 ?_
    refine lv_iload hx hb dX8_give_81 (lv_at hl 0 rfl) ?_
    refine lv_isub hx hb dX8_give_83 ?_
    obtain ⟨F11, e12, h⟩ := pl_e h
    refine ast_40 S hK hD hW (vq_30_30 hv0) g8 rfl e12 dX8_give_84 (fun H locs hW => ?_)
    refine lv_aload_n hx hb dX8_give_85 rfl (lv_at hl 4 rfl) ?_
    refine gf_30_30 S hK hW hv0 q1015 dX8_give_86 ?_
    refine lv_bipush (v := (80 : Int32)) hx hb dX8_give_89 (by decide) ?_
    refine lv_bipush (v := (16 : Int32)) hx hb dX8_give_91 (by decide) ?_
    refine lv_iload_n hx hb dX8_give_93 rfl (lv_at hl 2 rfl) ?_
    refine lv_imul hx hb dX8_give_94 ?_
    refine lv_nm (y := (0 : Int32)) (by decide) ?_
    refine lv_iadd hx hb dX8_give_95 ?_
    refine lv_nm (y := (80 : Int32)) (by decide) ?_
    refine lv_iload_n hx hb dX8_give_96 rfl (lv_at hl 5 rfl) ?_
    refine lv_iadd hx hb dX8_give_97 ?_
    refine lv_dup2_11 hx hb dX8_give_98 rfl rfl ?_
    obtain ⟨g13, h⟩ := og_e h
    refine ald_40 S hK hW (vq_30_30 hv0) g13 rfl dX8_give_99 ?_
    refine lv_iload hx hb dX8_give_100 (lv_at hl 0 rfl) ?_
    refine lv_iadd hx hb dX8_give_102 ?_
    obtain ⟨F14, e15, h⟩ := pl_e h
    refine ast_40 S hK hD hW (vq_30_30 hv0) g13 rfl e15 dX8_give_103 (fun H locs hW => ?_)
    refine lv_iinc (v := (1 : Int32)) (lv' := [(3, .int (1 : Int32)), (5, .int x9), (4, .int x6), (2, .int y4), (0, .ref (a (30, 0, 0))), (1, .int p1)]) hx hb dX8_give_104 hl (k := 2) rfl (by decide) (by decide) rfl (fun ls hl => ?_)
    refine lv_goto (tgt := 25) hx hb dX8_give_107 (by decide) ?_
    refine lv_iload_n hx hb dX8_give_25 rfl (lv_at hl 0 rfl) ?_
    refine lv_iconst (v := (3 : Int32)) hx hb dX8_give_26 (by decide) ?_
    refine lv_icmp_ge (tgt := 110) hx hb dX8_give_27 (by decide) (fun c => absurd c (by decide)) (fun _ => ?_)
    refine lv_bipush (v := (32 : Int32)) hx hb dX8_give_30 (by decide) ?_
    refine lv_bipush (v := (16 : Int32)) hx hb dX8_give_32 (by decide) ?_
    refine lv_iload_n hx hb dX8_give_34 rfl (lv_at hl 0 rfl) ?_
    refine lv_imul hx hb dX8_give_35 ?_
    refine lv_nm (y := (16 : Int32)) (by decide) ?_
    refine lv_iadd hx hb dX8_give_36 ?_
    refine lv_nm (y := (48 : Int32)) (by decide) ?_
    refine lv_iload_n hx hb dX8_give_37 rfl (lv_at hl 5 rfl) ?_
    refine lv_iadd hx hb dX8_give_38 ?_
    obtain ⟨x16, e17, h⟩ := pl_e h
    refine lv_nm e17 ?_
    refine lv_istore (lv' := [(4, .int x16), (3, .int (1 : Int32)), (5, .int x9), (2, .int y4), (0, .ref (a (30, 0, 0))), (1, .int p1)]) hx hb dX8_give_39 hl (by decide) rfl (fun ls hl => ?_)
    refine lv_aload_n hx hb dX8_give_41 rfl (lv_at hl 4 rfl) ?_
    refine gf_30_30 S hK hW hv0 q1015 dX8_give_42 ?_
    refine lv_iload hx hb dX8_give_45 (lv_at hl 0 rfl) ?_
    obtain ⟨g18, h⟩ := og_e h
    refine ald_40 S hK hW (vq_30_30 hv0) g18 rfl dX8_give_47 ?_
    refine lv_i2l hx hb dX8_give_48 rfl ?_
    refine lv_aload_n hx hb dX8_give_49 rfl (lv_at hl 4 rfl) ?_
    refine gf_30_3 S hK hW hv0 q988 dX8_give_50 ?_
    refine lv_iload_n hx hb dX8_give_53 rfl (lv_at hl 1 rfl) ?_
    refine ald_32 (z := 1) S hK hW (vq_30_3 hv0) (by decide) (by decide) dX8_give_54 ?_
    refine lv_i2l hx hb dX8_give_55 rfl ?_
    refine lv_lmul hx hb dX8_give_56 ?_
    refine lv_aload_n hx hb dX8_give_57 rfl (lv_at hl 4 rfl) ?_
    refine gf_30_10 S hK hW hv0 q995 dX8_give_58 ?_
    refine lv_i2l hx hb dX8_give_61 rfl ?_
    refine lv_lmul hx hb dX8_give_62 ?_
    refine lv_iload_n hx hb dX8_give_63 rfl (lv_at hl 3 rfl) ?_
    refine lv_i2l hx hb dX8_give_64 rfl ?_
    refine lv_lmul hx hb dX8_give_65 ?_
    refine lv_ldc2 (v := (1000000 : Int64)) hx hb S.2.2.2.1 (S.2.2.2.2 _ q1222) dX8_give_66 ?_
    refine lv_ldiv hx hb dX8_give_69 (by decide) ?_
    refine lv_l2i hx hb dX8_give_70 rfl ?_
    obtain ⟨x19, e20, h⟩ := pl_e h
    refine lv_nm e20 ?_
    refine lv_istore (lv' := [(5, .int x19), (4, .int x16), (3, .int (1 : Int32)), (2, .int y4), (0, .ref (a (30, 0, 0))), (1, .int p1)]) hx hb dX8_give_71 hl (by decide) rfl (fun ls hl => ?_)
    refine lv_aload_n hx hb dX8_give_73 rfl (lv_at hl 4 rfl) ?_
    refine gf_30_30 S hK hW hv0 q1015 dX8_give_74 ?_
    refine lv_iload hx hb dX8_give_77 (lv_at hl 1 rfl) ?_
    refine lv_dup2_11 hx hb dX8_give_79 rfl rfl ?_
    refine ald_40 S hK hW (vq_30_30 hv0) g18 rfl dX8_give_80 ?_
    refine lv_iload hx hb dX8_give_81 (lv_at hl 0 rfl) ?_
    refine lv_isub hx hb dX8_give_83 ?_
    obtain ⟨F21, e22, h⟩ := pl_e h
    refine ast_40 S hK hD hW (vq_30_30 hv0) g18 rfl e22 dX8_give_84 (fun H locs hW => ?_)
    refine lv_aload_n hx hb dX8_give_85 rfl (lv_at hl 4 rfl) ?_
    refine gf_30_30 S hK hW hv0 q1015 dX8_give_86 ?_
    refine lv_bipush (v := (80 : Int32)) hx hb dX8_give_89 (by decide) ?_
    refine lv_bipush (v := (16 : Int32)) hx hb dX8_give_91 (by decide) ?_
    refine lv_iload_n hx hb dX8_give_93 rfl (lv_at hl 2 rfl) ?_
    refine lv_imul hx hb dX8_give_94 ?_
    refine lv_nm (y := (16 : Int32)) (by decide) ?_
    refine lv_iadd hx hb dX8_give_95 ?_
    refine lv_nm (y := (96 : Int32)) (by decide) ?_
    refine lv_iload_n hx hb dX8_give_96 rfl (lv_at hl 5 rfl) ?_
    refine lv_iadd hx hb dX8_give_97 ?_
    refine lv_dup2_11 hx hb dX8_give_98 rfl rfl ?_
    obtain ⟨g23, h⟩ := og_e h
    refine ald_40 S hK hW (vq_30_30 hv0) g23 rfl dX8_give_99 ?_
    refine lv_iload hx hb dX8_give_100 (lv_at hl 0 rfl) ?_
    refine lv_iadd hx hb dX8_give_102 ?_
    obtain ⟨F24, e25, h⟩ := pl_e h
    refine ast_40 S hK hD hW (vq_30_30 hv0) g23 rfl e25 dX8_give_103 (fun H locs hW => ?_)
    refine lv_iinc (v := (2 : Int32)) (lv' := [(3, .int (2 : Int32)), (5, .int x19), (4, .int x16), (2, .int y4), (0, .ref (a (30, 0, 0))), (1, .int p1)]) hx hb dX8_give_104 hl (k := 2) rfl (by decide) (by decide) rfl (fun ls hl => ?_)
    refine lv_goto (tgt := 25) hx hb dX8_give_107 (by decide) ?_
    refine lv_iload_n hx hb dX8_give_25 rfl (lv_at hl 0 rfl) ?_
    refine lv_iconst (v := (3 : Int32)) hx hb dX8_give_26 (by decide) ?_
    refine lv_icmp_ge (tgt := 110) hx hb dX8_give_27 (by decide) (fun c => absurd c (by decide)) (fun _ => ?_)
    refine lv_bipush (v := (32 : Int32)) hx hb dX8_give_30 (by decide) ?_
    refine lv_bipush (v := (16 : Int32)) hx hb dX8_give_32 (by decide) ?_
    refine lv_iload_n hx hb dX8_give_34 rfl (lv_at hl 0 rfl) ?_
    refine lv_imul hx hb dX8_give_35 ?_
    refine lv_nm (y := (32 : Int32)) (by decide) ?_
    refine lv_iadd hx hb dX8_give_36 ?_
    refine lv_nm (y := (64 : Int32)) (by decide) ?_
    refine lv_iload_n hx hb dX8_give_37 rfl (lv_at hl 5 rfl) ?_
    refine lv_iadd hx hb dX8_give_38 ?_
    obtain ⟨x26, e27, h⟩ := pl_e h
    refine lv_nm e27 ?_
    refine lv_istore (lv' := [(4, .int x26), (3, .int (2 : Int32)), (5, .int x19), (2, .int y4), (0, .ref (a (30, 0, 0))), (1, .int p1)]) hx hb dX8_give_39 hl (by decide) rfl (fun ls hl => ?_)
    refine lv_aload_n hx hb dX8_give_41 rfl (lv_at hl 4 rfl) ?_
    refine gf_30_30 S hK hW hv0 q1015 dX8_give_42 ?_
    refine lv_iload hx hb dX8_give_45 (lv_at hl 0 rfl) ?_
    obtain ⟨g28, h⟩ := og_e h
    refine ald_40 S hK hW (vq_30_30 hv0) g28 rfl dX8_give_47 ?_
    refine lv_i2l hx hb dX8_give_48 rfl ?_
    refine lv_aload_n hx hb dX8_give_49 rfl (lv_at hl 4 rfl) ?_
    refine gf_30_3 S hK hW hv0 q988 dX8_give_50 ?_
    refine lv_iload_n hx hb dX8_give_53 rfl (lv_at hl 1 rfl) ?_
    refine ald_32 (z := 2) S hK hW (vq_30_3 hv0) (by decide) (by decide) dX8_give_54 ?_
    refine lv_i2l hx hb dX8_give_55 rfl ?_
    refine lv_lmul hx hb dX8_give_56 ?_
    refine lv_aload_n hx hb dX8_give_57 rfl (lv_at hl 4 rfl) ?_
    refine gf_30_10 S hK hW hv0 q995 dX8_give_58 ?_
    refine lv_i2l hx hb dX8_give_61 rfl ?_
    refine lv_lmul hx hb dX8_give_62 ?_
    refine lv_iload_n hx hb dX8_give_63 rfl (lv_at hl 3 rfl) ?_
    refine lv_i2l hx hb dX8_give_64 rfl ?_
    refine lv_lmul hx hb dX8_give_65 ?_
    refine lv_ldc2 (v := (1000000 : Int64)) hx hb S.2.2.2.1 (S.2.2.2.2 _ q1222) dX8_give_66 ?_
    refine lv_ldiv hx hb dX8_give_69 (by decide) ?_
    refine lv_l2i hx hb dX8_give_70 rfl ?_
    obtain ⟨x29, e30, h⟩ := pl_e h
    refine lv_nm e30 ?_
    refine lv_istore (lv' := [(5, .int x29), (4, .int x26), (3, .int (2 : Int32)), (2, .int y4), (0, .ref (a (30, 0, 0))), (1, .int p1)]) hx hb dX8_give_71 hl (by decide) rfl (fun ls hl => ?_)
    refine lv_aload_n hx hb dX8_give_73 rfl (lv_at hl 4 rfl) ?_
    refine gf_30_30 S hK hW hv0 q1015 dX8_give_74 ?_
    refine lv_iload hx hb dX8_give_77 (lv_at hl 1 rfl) ?_
    refine lv_dup2_11 hx hb dX8_give_79 rfl rfl ?_
    refine ald_40 S hK hW (vq_30_30 hv0) g28 rfl dX8_give_80 ?_
    refine lv_iload hx hb dX8_give_81 (lv_at hl 0 rfl) ?_
    refine lv_isub hx hb dX8_give_83 ?_
    obtain ⟨F31, e32, h⟩ := pl_e h
    refine ast_40 S hK hD hW (vq_30_30 hv0) g28 rfl e32 dX8_give_84 (fun H locs hW => ?_)
    refine lv_aload_n hx hb dX8_give_85 rfl (lv_at hl 4 rfl) ?_
    refine gf_30_30 S hK hW hv0 q1015 dX8_give_86 ?_
    refine lv_bipush (v := (80 : Int32)) hx hb dX8_give_89 (by decide) ?_
    refine lv_bipush (v := (16 : Int32)) hx hb dX8_give_91 (by decide) ?_
    refine lv_iload_n hx hb dX8_give_93 rfl (lv_at hl 2 rfl) ?_
    refine lv_imul hx hb dX8_give_94 ?_
    refine lv_nm (y := (32 : Int32)) (by decide) ?_
    refine lv_iadd hx hb dX8_give_95 ?_
    refine lv_nm (y := (112 : Int32)) (by decide) ?_
    refine lv_iload_n hx hb dX8_give_96 rfl (lv_at hl 5 rfl) ?_
    refine lv_iadd hx hb dX8_give_97 ?_
    refine lv_dup2_11 hx hb dX8_give_98 rfl rfl ?_
    obtain ⟨g33, h⟩ := og_e h
    refine ald_40 S hK hW (vq_30_30 hv0) g33 rfl dX8_give_99 ?_
    refine lv_iload hx hb dX8_give_100 (lv_at hl 0 rfl) ?_
    refine lv_iadd hx hb dX8_give_102 ?_
    obtain ⟨F34, e35, h⟩ := pl_e h
    refine ast_40 S hK hD hW (vq_30_30 hv0) g33 rfl e35 dX8_give_103 (fun H locs hW => ?_)
    refine lv_iinc (v := (3 : Int32)) (lv' := [(3, .int (3 : Int32)), (5, .int x29), (4, .int x26), (2, .int y4), (0, .ref (a (30, 0, 0))), (1, .int p1)]) hx hb dX8_give_104 hl (k := 2) rfl (by decide) (by decide) rfl (fun ls hl => ?_)
    refine lv_goto (tgt := 25) hx hb dX8_give_107 (by decide) ?_
    refine lv_iload_n hx hb dX8_give_25 rfl (lv_at hl 0 rfl) ?_
    refine lv_iconst (v := (3 : Int32)) hx hb dX8_give_26 (by decide) ?_
    refine lv_icmp_ge (tgt := 110) hx hb dX8_give_27 (by decide) (fun _ => ?_) (fun c => absurd c (by decide))
    cases h
    exact we_v S hr hlk hW dX8_give_110
  clear h
  refine lv_icmp_le (tgt := 16) hx hb dX8_give_8 (by decide) (fun c2 => ?_) (fun c2 => ?_)
  · have h := if_t hz3 c2
    refine lv_aload_n hx hb dX8_give_16 rfl (lv_at hl 0 rfl) ?_
    refine gf_30_30 S hK hW hv0 q1015 dX8_give_17 ?_
    refine lv_iload_n hx hb dX8_give_20 rfl (lv_at hl 1 rfl) ?_
    refine ald_40 S hK hW (vq_30_30 hv0) g1 rfl dX8_give_21 ?_
    cases h
    exact K5 H locs ls hW (lv_sub hl [0, 1] rfl)
  · have h := if_f hz3 c2
    refine lv_bipush (v := (100 : Int32)) hx hb dX8_give_11 (by decide) ?_
    refine lv_goto (tgt := 22) hx hb dX8_give_13 (by decide) ?_
    cases h
    exact K5 H locs ls hW (lv_sub hl [0, 1] rfl)
/-loop lp_X8_clearGoings_2-/
def lp_X8_clearGoings_2 : Nat → St → Int32 → Option (St × Int32)
  | 0, _, _ => none
  | n + 1, F2, x1 => if (64 : Int32) ≤ x1 then some (F2, x1) else og (vpb x1 64) (pl (fu F2 44 0 0 x1.toNatClampNeg (0 : Int32)) (fun F9 => lp_X8_clearGoings_2 n F9 (x1 + 1)))
theorem lp_X8_clearGoings_2_s {n : Nat} {F2 : St} {x1 : Int32} : lp_X8_clearGoings_2 (n + 1) F2 x1 = if (64 : Int32) ≤ x1 then some (F2, x1) else og (vpb x1 64) (pl (fu F2 44 0 0 x1.toNatClampNeg (0 : Int32)) (fun F9 => lp_X8_clearGoings_2 n F9 (x1 + 1))) := rfl
def fn_X8_clearGoings (F : St) : Option (St) :=
  ob2 (lp_X8_clearGoings_2 300 F (0 : Int32)) (fun F3 x4 => some F3)
theorem yd_X8_clearGoings : yX8_clearGoings.cls = RX8 ∧ yX8_clearGoings.cls ≠ "java/lang/invoke/MethodHandle" ∧ yX8_clearGoings.cls ≠ "java/lang/invoke/VarHandle" ∧ (parseMethodDescriptor yX8_clearGoings.desc).map (fun d => d.parameters.length) = some 0 := by decide +kernel
set_option maxHeartbeats 4000000 in
theorem met_X8_clearGoings (l : Launch) {D : va_G} {dA : WK} {a : Ix → Nat} (hD : wD D dA a) {F : St} {Fz : St} (hv0 : wVd dA (30, 0, 0)) (h : fn_X8_clearGoings F = some Fz) : Mv l yX8_clearGoings cX8_clearGoings 2 0 0 D dA a F [.ref (a (30, 0, 0))] Fz := by
  refine fun sz => mst (Qc := fun sz => wQv D dA a sz Fz) (by decide) (Nat.le_of_ble_eq_true rfl) ?_ sz
  intro p e s m below meth c S hr hlk hK hW ls hl
  have hl : lv_has ls 2 [(0, .ref (a (30, 0, 0)))] := hl
  have hx := S.1
  have hb := S.2.1
  generalize ([.ref (a (30, 0, 0))] : List Value).toArray = av at S ⊢
  unfold fn_X8_clearGoings at h
  obtain ⟨H, eH⟩ : ∃ z, z = s.heap := ⟨_, rfl⟩
  obtain ⟨locs, eL⟩ : ∃ z : List Loc, z = [] := ⟨_, rfl⟩
  show WX p l e (rmL 0 0) s m av below meth c (wQv D dA a s.heap.size Fz) dA a s.heap [] (F0 m 0 ls [])
  have hW : wS D dA a s F H locs := by rw [eH, eL]; exact wS_in hW
  refine wx_in eH eL ?_
  clear eH eL
  refine lv_iconst (v := (0 : Int32)) hx hb dX8_clearGoings_0 (by decide) ?_
  refine lv_istore_n (lv' := [(1, .int (0 : Int32)), (0, .ref (a (30, 0, 0)))]) hx hb dX8_clearGoings_1 rfl hl (by decide) rfl (fun ls hl => ?_)
  have L6 : ∀ (n : Nat) (F2 : St) (x1 : Int32) (F3 : St) (x4 : Int32), lp_X8_clearGoings_2 n F2 x1 = some (F3, x4) → (∀ (H : Heap) (locs : List Loc) (ls : Array Slot), wS D dA a s F3 H locs → lv_has ls 2 [] → WX p l e (rmL 0 0) s m av below meth c (wQv D dA a s.heap.size Fz) dA a H locs (F0 m 21 ls [])) → ∀ (H : Heap) (locs : List Loc) (ls : Array Slot), wS D dA a s F2 H locs → lv_has ls 2 [(0, .ref (a (30, 0, 0))), (1, .int x1)] → WX p l e (rmL 0 0) s m av below meth c (wQv D dA a s.heap.size Fz) dA a H locs (F0 m 2 ls []) := by
    intro n
    induction n with
    | zero =>
      intro F2 x1 F3 x4 h
      exact absurd (show (none : Option (St × Int32)) = some (F3, x4) from h) (by simp)
    | succ n ih =>
      intro F2 x1 F3 x4 h K5 H locs ls hW hl
      have h := lp_X8_clearGoings_2_s.symm.trans h
      refine lv_iload_n hx hb dX8_clearGoings_2 rfl (lv_at hl 1 rfl) ?_
      refine lv_bipush (v := (64 : Int32)) hx hb dX8_clearGoings_3 (by decide) ?_
      refine lv_icmp_ge (tgt := 21) hx hb dX8_clearGoings_5 (by decide) (fun c7 => ?_) (fun c7 => ?_)
      · have h := if_t h c7
        cases h
        exact K5 H locs ls hW (lv_sub hl [] rfl)
      · have h := if_f h c7
        refine lv_aload_n hx hb dX8_clearGoings_8 rfl (lv_at hl 0 rfl) ?_
        refine gf_30_34 S hK hW hv0 q1019 dX8_clearGoings_9 ?_
        refine lv_iload_n hx hb dX8_clearGoings_12 rfl (lv_at hl 1 rfl) ?_
        refine lv_iconst (v := (0 : Int32)) hx hb dX8_clearGoings_13 (by decide) ?_
        obtain ⟨g8, h⟩ := og_e h
        obtain ⟨F9, e10, h⟩ := pl_e h
        refine ast_44 S hK hD hW (vq_30_34 hv0) g8 rfl e10 dX8_clearGoings_14 (fun H locs hW => ?_)
        refine lv_iinc (v := (x1 + 1)) (lv' := [(1, .int (x1 + 1)), (0, .ref (a (30, 0, 0)))]) hx hb dX8_clearGoings_15 hl (k := 1) rfl rfl (by decide) rfl (fun ls hl => ?_)
        refine lv_goto (tgt := 2) hx hb dX8_clearGoings_18 (by decide) ?_
        exact ih _ _ _ _ h K5 H locs ls hW (lv_sub hl [1, 0] rfl)
  obtain ⟨F3, x4, hz11, h⟩ := ob2_e h
  refine L6 300 F (0 : Int32) F3 x4 hz11 (fun H locs ls hW hl => ?_) H locs ls hW (lv_sub hl [1, 0] rfl)
  cases h
  exact we_v S hr hlk hW dX8_clearGoings_21
def fn_X8_goes (F : St) (p1 : Int32) (p2 : Int32) (p3 : Int32) : Option (St) :=
  og (vpb p1 64) (pl (fu F 44 0 0 p1.toNatClampNeg ((F 44 0 0 p1.toNatClampNeg) - p3)) (fun F2 => ob (if p2 < 0 then pl (fu F2 40 0 0 128 ((F2 40 0 0 128) + p3)) (fun F8 => some F8) else og (vpb p2 64) (pl (fu F2 44 0 0 p2.toNatClampNeg ((F2 44 0 0 p2.toNatClampNeg) + p3)) (fun F11 => some F11))) (fun F6 => if p3 ≤ 0 then some F6 else og (vpb ((80 : Int32) + p1) 138) (og (vpb p1 138) (og (nzl ((F6 40 0 0 p1.toNatClampNeg).toInt64)) (pl ((((F6 40 0 0 ((80 : Int32) + p1).toNatClampNeg).toInt64 * p3.toInt64) / (F6 40 0 0 p1.toNatClampNeg).toInt64).toInt32) (fun x17 => og (vpb ((16 : Int32) + p1) 64) (pl (fu F6 44 0 0 ((16 : Int32) + p1).toNatClampNeg ((F6 44 0 0 ((16 : Int32) + p1).toNatClampNeg) - x17)) (fun F20 => ob (if p2 < 0 then pl (fu F20 40 0 0 129 ((F20 40 0 0 129) + x17)) (fun F26 => some F26) else og (vpb ((16 : Int32) + p2) 64) (pl (fu F20 44 0 0 ((16 : Int32) + p2).toNatClampNeg ((F20 44 0 0 ((16 : Int32) + p2).toNatClampNeg) + x17)) (fun F29 => some F29))) (fun F24 => if p3 ≤ 0 then some F24 else og (vpb ((96 : Int32) + p1) 138) (og (nzl ((F24 40 0 0 p1.toNatClampNeg).toInt64)) (pl ((((F24 40 0 0 ((96 : Int32) + p1).toNatClampNeg).toInt64 * p3.toInt64) / (F24 40 0 0 p1.toNatClampNeg).toInt64).toInt32) (fun x34 => og (vpb ((32 : Int32) + p1) 64) (pl (fu F24 44 0 0 ((32 : Int32) + p1).toNatClampNeg ((F24 44 0 0 ((32 : Int32) + p1).toNatClampNeg) - x34)) (fun F37 => ob (if p2 < 0 then pl (fu F37 40 0 0 130 ((F37 40 0 0 130) + x34)) (fun F43 => some F43) else og (vpb ((32 : Int32) + p2) 64) (pl (fu F37 44 0 0 ((32 : Int32) + p2).toNatClampNeg ((F37 44 0 0 ((32 : Int32) + p2).toNatClampNeg) + x34)) (fun F46 => some F46))) (fun F41 => if p3 ≤ 0 then some F41 else og (vpb ((112 : Int32) + p1) 138) (og (nzl ((F41 40 0 0 p1.toNatClampNeg).toInt64)) (pl ((((F41 40 0 0 ((112 : Int32) + p1).toNatClampNeg).toInt64 * p3.toInt64) / (F41 40 0 0 p1.toNatClampNeg).toInt64).toInt32) (fun x51 => og (vpb ((48 : Int32) + p1) 64) (pl (fu F41 44 0 0 ((48 : Int32) + p1).toNatClampNeg ((F41 44 0 0 ((48 : Int32) + p1).toNatClampNeg) - x51)) (fun F54 => ob (if p2 < 0 then pl (fu F54 40 0 0 131 ((F54 40 0 0 131) + x51)) (fun F60 => some F60) else og (vpb ((48 : Int32) + p2) 64) (pl (fu F54 44 0 0 ((48 : Int32) + p2).toNatClampNeg ((F54 44 0 0 ((48 : Int32) + p2).toNatClampNeg) + x51)) (fun F63 => some F63))) (fun F58 => some F58))))))))))))))))))))))
theorem yd_X8_goes : yX8_goes.cls = RX8 ∧ yX8_goes.cls ≠ "java/lang/invoke/MethodHandle" ∧ yX8_goes.cls ≠ "java/lang/invoke/VarHandle" ∧ (parseMethodDescriptor yX8_goes.desc).map (fun d => d.parameters.length) = some 3 := by decide +kernel
set_option maxHeartbeats 4000000 in
theorem met_X8_goes (l : Launch) {D : va_G} {dA : WK} {a : Ix → Nat} (hD : wD D dA a) {F : St} {p1 : Int32} {p2 : Int32} {p3 : Int32} {Fz : St} (hv0 : wVd dA (30, 0, 0)) (h : fn_X8_goes F p1 p2 p3 = some Fz) : Mv l yX8_goes cX8_goes 6 0 0 D dA a F [.ref (a (30, 0, 0)), .int p1, .int p2, .int p3] Fz := by
  refine fun sz => mst (Qc := fun sz => wQv D dA a sz Fz) (by decide) (Nat.le_of_ble_eq_true rfl) ?_ sz
  intro p e s m below meth c S hr hlk hK hW ls hl
  have hl : lv_has ls 6 [(0, .ref (a (30, 0, 0))), (1, .int p1), (2, .int p2), (3, .int p3)] := hl
  have hx := S.1
  have hb := S.2.1
  generalize ([.ref (a (30, 0, 0)), .int p1, .int p2, .int p3] : List Value).toArray = av at S ⊢
  unfold fn_X8_goes at h
  obtain ⟨H, eH⟩ : ∃ z, z = s.heap := ⟨_, rfl⟩
  obtain ⟨locs, eL⟩ : ∃ z : List Loc, z = [] := ⟨_, rfl⟩
  show WX p l e (rmL 0 0) s m av below meth c (wQv D dA a s.heap.size Fz) dA a s.heap [] (F0 m 0 ls [])
  have hW : wS D dA a s F H locs := by rw [eH, eL]; exact wS_in hW
  refine wx_in eH eL ?_
  clear eH eL
  refine lv_aload_n hx hb dX8_goes_0 rfl (lv_at hl 0 rfl) ?_
  refine gf_30_34 S hK hW hv0 q1019 dX8_goes_1 ?_
  refine lv_iload_n hx hb dX8_goes_4 rfl (lv_at hl 1 rfl) ?_
  refine lv_dup2_11 hx hb dX8_goes_5 rfl rfl ?_
  obtain ⟨g1, h⟩ := og_e h
  refine ald_44 S hK hW (vq_30_34 hv0) g1 rfl dX8_goes_6 ?_
  refine lv_iload_n hx hb dX8_goes_7 rfl (lv_at hl 3 rfl) ?_
  refine lv_isub hx hb dX8_goes_8 ?_
  obtain ⟨F2, e3, h⟩ := pl_e h
  refine ast_44 S hK hD hW (vq_30_34 hv0) g1 rfl e3 dX8_goes_9 (fun H locs hW => ?_)
  refine lv_iload_n hx hb dX8_goes_10 rfl (lv_at hl 2 rfl) ?_
  obtain ⟨F6, hz5, h⟩ := ob_e h
  have K7 : ∀ (H : Heap) (locs : List Loc) (ls : Array Slot), wS D dA a s F6 H locs → lv_has ls 6 [(0, .ref (a (30, 0, 0))), (1, .int p1), (2, .int p2), (3, .int p3)] → WX p l e (rmL 0 0) s m av below meth c (wQv D dA a s.heap.size Fz) dA a H locs (F0 m 39 ls []) := by
    intro H locs ls hW hl
    refine lv_iconst (v := (0 : Int32)) hx hb dX8_goes_39 (by decide) ?_
    refine lv_istore (lv' := [(4, .int (0 : Int32)), (0, .ref (a (30, 0, 0))), (1, .int p1), (2, .int p2), (3, .int p3)]) hx hb dX8_goes_40 hl (by decide) rfl (fun ls hl => ?_)
    refine lv_iload hx hb dX8_goes_42 (lv_at hl 0 rfl) ?_
    refine lv_iconst (v := (3 : Int32)) hx hb dX8_goes_44 (by decide) ?_
    refine lv_icmp_ge (tgt := 151) hx hb dX8_goes_45 (by decide) (fun c => absurd c (by decide)) (fun _ => ?_)
    refine lv_iload_n hx hb dX8_goes_48 rfl (lv_at hl 4 rfl) ?_
    refine lv_if_le (tgt := 151) hx hb dX8_goes_49 (by decide) (fun c13 => ?_) (fun c13 => ?_)
    · have h := if_t h c13
      cases h
      exact we_v S hr hlk hW dX8_goes_151
    · have h := if_f h c13
      refine lv_aload_n hx hb dX8_goes_52 rfl (lv_at hl 1 rfl) ?_
      refine gf_30_30 S hK hW hv0 q1015 dX8_goes_53 ?_
      refine lv_bipush (v := (80 : Int32)) hx hb dX8_goes_56 (by decide) ?_
      refine lv_bipush (v := (16 : Int32)) hx hb dX8_goes_58 (by decide) ?_
      refine lv_iload hx hb dX8_goes_60 (lv_at hl 0 rfl) ?_
      refine lv_imul hx hb dX8_goes_62 ?_
      refine lv_nm (y := (0 : Int32)) (by decide) ?_
      refine lv_iadd hx hb dX8_goes_63 ?_
      refine lv_nm (y := (80 : Int32)) (by decide) ?_
      refine lv_iload_n hx hb dX8_goes_64 rfl (lv_at hl 2 rfl) ?_
      refine lv_iadd hx hb dX8_goes_65 ?_
      obtain ⟨g14, h⟩ := og_e h
      refine ald_40 S hK hW (vq_30_30 hv0) g14 rfl dX8_goes_66 ?_
      refine lv_i2l hx hb dX8_goes_67 rfl ?_
      refine lv_iload_n hx hb dX8_goes_68 rfl (lv_at hl 4 rfl) ?_
      refine lv_i2l hx hb dX8_goes_69 rfl ?_
      refine lv_lmul hx hb dX8_goes_70 ?_
      refine lv_aload_n hx hb dX8_goes_71 rfl (lv_at hl 1 rfl) ?_
      refine gf_30_30 S hK hW hv0 q1015 dX8_goes_72 ?_
      refine lv_iload_n hx hb dX8_goes_75 rfl (lv_at hl 2 rfl) ?_
      obtain ⟨g15, h⟩ := og_e h
      refine ald_40 S hK hW (vq_30_30 hv0) g15 rfl dX8_goes_76 ?_
      refine lv_i2l hx hb dX8_goes_77 rfl ?_
      obtain ⟨g16, h⟩ := og_e h
      refine lv_ldiv hx hb dX8_goes_78 (nzl_e g16) ?_
      refine lv_l2i hx hb dX8_goes_79 rfl ?_
      obtain ⟨x17, e18, h⟩ := pl_e h
      refine lv_nm e18 ?_
      refine lv_istore (lv' := [(5, .int x17), (4, .int (0 : Int32)), (0, .ref (a (30, 0, 0))), (1, .int p1), (2, .int p2), (3, .int p3)]) hx hb dX8_goes_80 hl (by decide) rfl (fun ls hl => ?_)
      refine lv_aload_n hx hb dX8_goes_82 rfl (lv_at hl 2 rfl) ?_
      refine gf_30_34 S hK hW hv0 q1019 dX8_goes_83 ?_
      refine lv_bipush (v := (16 : Int32)) hx hb dX8_goes_86 (by decide) ?_
      refine lv_bipush (v := (16 : Int32)) hx hb dX8_goes_88 (by decide) ?_
      refine lv_iload hx hb dX8_goes_90 (lv_at hl 1 rfl) ?_
      refine lv_imul hx hb dX8_goes_92 ?_
      refine lv_nm (y := (0 : Int32)) (by decide) ?_
      refine lv_iadd hx hb dX8_goes_93 ?_
      refine lv_nm (y := (16 : Int32)) (by decide) ?_
      refine lv_iload_n hx hb dX8_goes_94 rfl (lv_at hl 3 rfl) ?_
      refine lv_iadd hx hb dX8_goes_95 ?_
      refine lv_dup2_11 hx hb dX8_goes_96 rfl rfl ?_
      obtain ⟨g19, h⟩ := og_e h
      refine ald_44 S hK hW (vq_30_34 hv0) g19 rfl dX8_goes_97 ?_
      refine lv_iload hx hb dX8_goes_98 (lv_at hl 0 rfl) ?_
      refine lv_isub hx hb dX8_goes_100 ?_
      obtain ⟨F20, e21, h⟩ := pl_e h
      refine ast_44 S hK hD hW (vq_30_34 hv0) g19 rfl e21 dX8_goes_101 (fun H locs hW => ?_)
      refine lv_iload_n hx hb dX8_goes_102 rfl (lv_at hl 4 rfl) ?_
      obtain ⟨F24, hz23, h⟩ := ob_e h
      have K25 : ∀ (H : Heap) (locs : List Loc) (ls : Array Slot), wS D dA a s F24 H locs → lv_has ls 6 [(0, .ref (a (30, 0, 0))), (1, .int p1), (2, .int p2), (3, .int p3), (4, .int (0 : Int32))] → WX p l e (rmL 0 0) s m av below meth c (wQv D dA a s.heap.size Fz) dA a H locs (F0 m 145 ls []) := by
        intro H locs ls hW hl
        refine lv_iinc (v := (1 : Int32)) (lv' := [(4, .int (1 : Int32)), (0, .ref (a (30, 0, 0))), (1, .int p1), (2, .int p2), (3, .int p3)]) hx hb dX8_goes_145 hl (k := 4) rfl (by decide) (by decide) rfl (fun ls hl => ?_)
        refine lv_goto (tgt := 42) hx hb dX8_goes_148 (by decide) ?_
        refine lv_iload hx hb dX8_goes_42 (lv_at hl 0 rfl) ?_
        refine lv_iconst (v := (3 : Int32)) hx hb dX8_goes_44 (by decide) ?_
        refine lv_icmp_ge (tgt := 151) hx hb dX8_goes_45 (by decide) (fun c => absurd c (by decide)) (fun _ => ?_)
        refine lv_iload_n hx hb dX8_goes_48 rfl (lv_at hl 4 rfl) ?_
        refine lv_if_le (tgt := 151) hx hb dX8_goes_49 (by decide) (fun c31 => ?_) (fun c31 => ?_)
        · have h := if_t h c31
          cases h
          exact we_v S hr hlk hW dX8_goes_151
        · have h := if_f h c31
          refine lv_aload_n hx hb dX8_goes_52 rfl (lv_at hl 1 rfl) ?_
          refine gf_30_30 S hK hW hv0 q1015 dX8_goes_53 ?_
          refine lv_bipush (v := (80 : Int32)) hx hb dX8_goes_56 (by decide) ?_
          refine lv_bipush (v := (16 : Int32)) hx hb dX8_goes_58 (by decide) ?_
          refine lv_iload hx hb dX8_goes_60 (lv_at hl 0 rfl) ?_
          refine lv_imul hx hb dX8_goes_62 ?_
          refine lv_nm (y := (16 : Int32)) (by decide) ?_
          refine lv_iadd hx hb dX8_goes_63 ?_
          refine lv_nm (y := (96 : Int32)) (by decide) ?_
          refine lv_iload_n hx hb dX8_goes_64 rfl (lv_at hl 2 rfl) ?_
          refine lv_iadd hx hb dX8_goes_65 ?_
          obtain ⟨g32, h⟩ := og_e h
          refine ald_40 S hK hW (vq_30_30 hv0) g32 rfl dX8_goes_66 ?_
          refine lv_i2l hx hb dX8_goes_67 rfl ?_
          refine lv_iload_n hx hb dX8_goes_68 rfl (lv_at hl 4 rfl) ?_
          refine lv_i2l hx hb dX8_goes_69 rfl ?_
          refine lv_lmul hx hb dX8_goes_70 ?_
          refine lv_aload_n hx hb dX8_goes_71 rfl (lv_at hl 1 rfl) ?_
          refine gf_30_30 S hK hW hv0 q1015 dX8_goes_72 ?_
          refine lv_iload_n hx hb dX8_goes_75 rfl (lv_at hl 2 rfl) ?_
          refine ald_40 S hK hW (vq_30_30 hv0) g15 rfl dX8_goes_76 ?_
          refine lv_i2l hx hb dX8_goes_77 rfl ?_
          obtain ⟨g33, h⟩ := og_e h
          refine lv_ldiv hx hb dX8_goes_78 (nzl_e g33) ?_
          refine lv_l2i hx hb dX8_goes_79 rfl ?_
          obtain ⟨x34, e35, h⟩ := pl_e h
          refine lv_nm e35 ?_
          refine lv_istore (lv' := [(5, .int x34), (4, .int (1 : Int32)), (0, .ref (a (30, 0, 0))), (1, .int p1), (2, .int p2), (3, .int p3)]) hx hb dX8_goes_80 hl (by decide) rfl (fun ls hl => ?_)
          refine lv_aload_n hx hb dX8_goes_82 rfl (lv_at hl 2 rfl) ?_
          refine gf_30_34 S hK hW hv0 q1019 dX8_goes_83 ?_
          refine lv_bipush (v := (16 : Int32)) hx hb dX8_goes_86 (by decide) ?_
          refine lv_bipush (v := (16 : Int32)) hx hb dX8_goes_88 (by decide) ?_
          refine lv_iload hx hb dX8_goes_90 (lv_at hl 1 rfl) ?_
          refine lv_imul hx hb dX8_goes_92 ?_
          refine lv_nm (y := (16 : Int32)) (by decide) ?_
          refine lv_iadd hx hb dX8_goes_93 ?_
          refine lv_nm (y := (32 : Int32)) (by decide) ?_
          refine lv_iload_n hx hb dX8_goes_94 rfl (lv_at hl 3 rfl) ?_
          refine lv_iadd hx hb dX8_goes_95 ?_
          refine lv_dup2_11 hx hb dX8_goes_96 rfl rfl ?_
          obtain ⟨g36, h⟩ := og_e h
          refine ald_44 S hK hW (vq_30_34 hv0) g36 rfl dX8_goes_97 ?_
          refine lv_iload hx hb dX8_goes_98 (lv_at hl 0 rfl) ?_
          refine lv_isub hx hb dX8_goes_100 ?_
          obtain ⟨F37, e38, h⟩ := pl_e h
          refine ast_44 S hK hD hW (vq_30_34 hv0) g36 rfl e38 dX8_goes_101 (fun H locs hW => ?_)
          refine lv_iload_n hx hb dX8_goes_102 rfl (lv_at hl 4 rfl) ?_
          obtain ⟨F41, hz40, h⟩ := ob_e h
          have K42 : ∀ (H : Heap) (locs : List Loc) (ls : Array Slot), wS D dA a s F41 H locs → lv_has ls 6 [(0, .ref (a (30, 0, 0))), (1, .int p1), (2, .int p2), (3, .int p3), (4, .int (1 : Int32))] → WX p l e (rmL 0 0) s m av below meth c (wQv D dA a s.heap.size Fz) dA a H locs (F0 m 145 ls []) := by
            intro H locs ls hW hl
            refine lv_iinc (v := (2 : Int32)) (lv' := [(4, .int (2 : Int32)), (0, .ref (a (30, 0, 0))), (1, .int p1), (2, .int p2), (3, .int p3)]) hx hb dX8_goes_145 hl (k := 4) rfl (by decide) (by decide) rfl (fun ls hl => ?_)
            refine lv_goto (tgt := 42) hx hb dX8_goes_148 (by decide) ?_
            refine lv_iload hx hb dX8_goes_42 (lv_at hl 0 rfl) ?_
            refine lv_iconst (v := (3 : Int32)) hx hb dX8_goes_44 (by decide) ?_
            refine lv_icmp_ge (tgt := 151) hx hb dX8_goes_45 (by decide) (fun c => absurd c (by decide)) (fun _ => ?_)
            refine lv_iload_n hx hb dX8_goes_48 rfl (lv_at hl 4 rfl) ?_
            refine lv_if_le (tgt := 151) hx hb dX8_goes_49 (by decide) (fun c48 => ?_) (fun c48 => ?_)
            · have h := if_t h c48
              cases h
              exact we_v S hr hlk hW dX8_goes_151
            · have h := if_f h c48
              refine lv_aload_n hx hb dX8_goes_52 rfl (lv_at hl 1 rfl) ?_
              refine gf_30_30 S hK hW hv0 q1015 dX8_goes_53 ?_
              refine lv_bipush (v := (80 : Int32)) hx hb dX8_goes_56 (by decide) ?_
              refine lv_bipush (v := (16 : Int32)) hx hb dX8_goes_58 (by decide) ?_
              refine lv_iload hx hb dX8_goes_60 (lv_at hl 0 rfl) ?_
              refine lv_imul hx hb dX8_goes_62 ?_
              refine lv_nm (y := (32 : Int32)) (by decide) ?_
              refine lv_iadd hx hb dX8_goes_63 ?_
              refine lv_nm (y := (112 : Int32)) (by decide) ?_
              refine lv_iload_n hx hb dX8_goes_64 rfl (lv_at hl 2 rfl) ?_
              refine lv_iadd hx hb dX8_goes_65 ?_
              obtain ⟨g49, h⟩ := og_e h
              refine ald_40 S hK hW (vq_30_30 hv0) g49 rfl dX8_goes_66 ?_
              refine lv_i2l hx hb dX8_goes_67 rfl ?_
              refine lv_iload_n hx hb dX8_goes_68 rfl (lv_at hl 4 rfl) ?_
              refine lv_i2l hx hb dX8_goes_69 rfl ?_
              refine lv_lmul hx hb dX8_goes_70 ?_
              refine lv_aload_n hx hb dX8_goes_71 rfl (lv_at hl 1 rfl) ?_
              refine gf_30_30 S hK hW hv0 q1015 dX8_goes_72 ?_
              refine lv_iload_n hx hb dX8_goes_75 rfl (lv_at hl 2 rfl) ?_
              refine ald_40 S hK hW (vq_30_30 hv0) g15 rfl dX8_goes_76 ?_
              refine lv_i2l hx hb dX8_goes_77 rfl ?_
              obtain ⟨g50, h⟩ := og_e h
              refine lv_ldiv hx hb dX8_goes_78 (nzl_e g50) ?_
              refine lv_l2i hx hb dX8_goes_79 rfl ?_
              obtain ⟨x51, e52, h⟩ := pl_e h
              refine lv_nm e52 ?_
              refine lv_istore (lv' := [(5, .int x51), (4, .int (2 : Int32)), (0, .ref (a (30, 0, 0))), (1, .int p1), (2, .int p2), (3, .int p3)]) hx hb dX8_goes_80 hl (by decide) rfl (fun ls hl => ?_)
              refine lv_aload_n hx hb dX8_goes_82 rfl (lv_at hl 2 rfl) ?_
              refine gf_30_34 S hK hW hv0 q1019 dX8_goes_83 ?_
              refine lv_bipush (v := (16 : Int32)) hx hb dX8_goes_86 (by decide) ?_
              refine lv_bipush (v := (16 : Int32)) hx hb dX8_goes_88 (by decide) ?_
              refine lv_iload hx hb dX8_goes_90 (lv_at hl 1 rfl) ?_
              refine lv_imul hx hb dX8_goes_92 ?_
              refine lv_nm (y := (32 : Int32)) (by decide) ?_
              refine lv_iadd hx hb dX8_goes_93 ?_
              refine lv_nm (y := (48 : Int32)) (by decide) ?_
              refine lv_iload_n hx hb dX8_goes_94 rfl (lv_at hl 3 rfl) ?_
              refine lv_iadd hx hb dX8_goes_95 ?_
              refine lv_dup2_11 hx hb dX8_goes_96 rfl rfl ?_
              obtain ⟨g53, h⟩ := og_e h
              refine ald_44 S hK hW (vq_30_34 hv0) g53 rfl dX8_goes_97 ?_
              refine lv_iload hx hb dX8_goes_98 (lv_at hl 0 rfl) ?_
              refine lv_isub hx hb dX8_goes_100 ?_
              obtain ⟨F54, e55, h⟩ := pl_e h
              refine ast_44 S hK hD hW (vq_30_34 hv0) g53 rfl e55 dX8_goes_101 (fun H locs hW => ?_)
              refine lv_iload_n hx hb dX8_goes_102 rfl (lv_at hl 4 rfl) ?_
              obtain ⟨F58, hz57, h⟩ := ob_e h
              have K59 : ∀ (H : Heap) (locs : List Loc) (ls : Array Slot), wS D dA a s F58 H locs → lv_has ls 6 [(0, .ref (a (30, 0, 0))), (1, .int p1), (2, .int p2), (3, .int p3), (4, .int (2 : Int32))] → WX p l e (rmL 0 0) s m av below meth c (wQv D dA a s.heap.size Fz) dA a H locs (F0 m 145 ls []) := by
                intro H locs ls hW hl
                refine lv_iinc (v := (3 : Int32)) (lv' := [(4, .int (3 : Int32)), (0, .ref (a (30, 0, 0))), (1, .int p1), (2, .int p2), (3, .int p3)]) hx hb dX8_goes_145 hl (k := 4) rfl (by decide) (by decide) rfl (fun ls hl => ?_)
                refine lv_goto (tgt := 42) hx hb dX8_goes_148 (by decide) ?_
                refine lv_iload hx hb dX8_goes_42 (lv_at hl 0 rfl) ?_
                refine lv_iconst (v := (3 : Int32)) hx hb dX8_goes_44 (by decide) ?_
                refine lv_icmp_ge (tgt := 151) hx hb dX8_goes_45 (by decide) (fun _ => ?_) (fun c => absurd c (by decide))
                cases h
                exact we_v S hr hlk hW dX8_goes_151
              clear h
              refine lv_if_lt (tgt := 129) hx hb dX8_goes_103 (by decide) (fun c56 => ?_) (fun c56 => ?_)
              · have h := if_t hz57 c56
                refine lv_aload_n hx hb dX8_goes_129 rfl (lv_at hl 2 rfl) ?_
                refine gf_30_30 S hK hW hv0 q1015 dX8_goes_130 ?_
                refine lv_sipush (v := (129 : Int32)) hx hb dX8_goes_133 (by decide) ?_
                refine lv_iload hx hb dX8_goes_136 (lv_at hl 1 rfl) ?_
                refine lv_iadd hx hb dX8_goes_138 ?_
                refine lv_nm (y := (131 : Int32)) (by decide) ?_
                refine lv_dup2_11 hx hb dX8_goes_139 rfl rfl ?_
                refine ald_40 (z := 131) S hK hW (vq_30_30 hv0) (by decide) (by decide) dX8_goes_140 ?_
                refine lv_iload hx hb dX8_goes_141 (lv_at hl 0 rfl) ?_
                refine lv_iadd hx hb dX8_goes_143 ?_
                obtain ⟨F60, e61, h⟩ := pl_e h
                refine ast_40 (z := 131) S hK hD hW (vq_30_30 hv0) (by decide) (by decide) e61 dX8_goes_144 (fun H locs hW => ?_)
                cases h
                exact K59 H locs ls hW (lv_sub hl [2, 3, 4, 5, 1] rfl)
              · have h := if_f hz57 c56
                refine lv_aload_n hx hb dX8_goes_106 rfl (lv_at hl 2 rfl) ?_
                refine gf_30_34 S hK hW hv0 q1019 dX8_goes_107 ?_
                refine lv_bipush (v := (16 : Int32)) hx hb dX8_goes_110 (by decide) ?_
                refine lv_bipush (v := (16 : Int32)) hx hb dX8_goes_112 (by decide) ?_
                refine lv_iload hx hb dX8_goes_114 (lv_at hl 1 rfl) ?_
                refine lv_imul hx hb dX8_goes_116 ?_
                refine lv_nm (y := (32 : Int32)) (by decide) ?_
                refine lv_iadd hx hb dX8_goes_117 ?_
                refine lv_nm (y := (48 : Int32)) (by decide) ?_
                refine lv_iload_n hx hb dX8_goes_118 rfl (lv_at hl 4 rfl) ?_
                refine lv_iadd hx hb dX8_goes_119 ?_
                refine lv_dup2_11 hx hb dX8_goes_120 rfl rfl ?_
                obtain ⟨g62, h⟩ := og_e h
                refine ald_44 S hK hW (vq_30_34 hv0) g62 rfl dX8_goes_121 ?_
                refine lv_iload hx hb dX8_goes_122 (lv_at hl 0 rfl) ?_
                refine lv_iadd hx hb dX8_goes_124 ?_
                obtain ⟨F63, e64, h⟩ := pl_e h
                refine ast_44 S hK hD hW (vq_30_34 hv0) g62 rfl e64 dX8_goes_125 (fun H locs hW => ?_)
                refine lv_goto (tgt := 145) hx hb dX8_goes_126 (by decide) ?_
                cases h
                exact K59 H locs ls hW (lv_sub hl [2, 3, 4, 5, 1] rfl)
          clear h
          refine lv_if_lt (tgt := 129) hx hb dX8_goes_103 (by decide) (fun c39 => ?_) (fun c39 => ?_)
          · have h := if_t hz40 c39
            refine lv_aload_n hx hb dX8_goes_129 rfl (lv_at hl 2 rfl) ?_
            refine gf_30_30 S hK hW hv0 q1015 dX8_goes_130 ?_
            refine lv_sipush (v := (129 : Int32)) hx hb dX8_goes_133 (by decide) ?_
            refine lv_iload hx hb dX8_goes_136 (lv_at hl 1 rfl) ?_
            refine lv_iadd hx hb dX8_goes_138 ?_
            refine lv_nm (y := (130 : Int32)) (by decide) ?_
            refine lv_dup2_11 hx hb dX8_goes_139 rfl rfl ?_
            refine ald_40 (z := 130) S hK hW (vq_30_30 hv0) (by decide) (by decide) dX8_goes_140 ?_
            refine lv_iload hx hb dX8_goes_141 (lv_at hl 0 rfl) ?_
            refine lv_iadd hx hb dX8_goes_143 ?_
            obtain ⟨F43, e44, h⟩ := pl_e h
            refine ast_40 (z := 130) S hK hD hW (vq_30_30 hv0) (by decide) (by decide) e44 dX8_goes_144 (fun H locs hW => ?_)
            cases h
            exact K42 H locs ls hW (lv_sub hl [2, 3, 4, 5, 1] rfl)
          · have h := if_f hz40 c39
            refine lv_aload_n hx hb dX8_goes_106 rfl (lv_at hl 2 rfl) ?_
            refine gf_30_34 S hK hW hv0 q1019 dX8_goes_107 ?_
            refine lv_bipush (v := (16 : Int32)) hx hb dX8_goes_110 (by decide) ?_
            refine lv_bipush (v := (16 : Int32)) hx hb dX8_goes_112 (by decide) ?_
            refine lv_iload hx hb dX8_goes_114 (lv_at hl 1 rfl) ?_
            refine lv_imul hx hb dX8_goes_116 ?_
            refine lv_nm (y := (16 : Int32)) (by decide) ?_
            refine lv_iadd hx hb dX8_goes_117 ?_
            refine lv_nm (y := (32 : Int32)) (by decide) ?_
            refine lv_iload_n hx hb dX8_goes_118 rfl (lv_at hl 4 rfl) ?_
            refine lv_iadd hx hb dX8_goes_119 ?_
            refine lv_dup2_11 hx hb dX8_goes_120 rfl rfl ?_
            obtain ⟨g45, h⟩ := og_e h
            refine ald_44 S hK hW (vq_30_34 hv0) g45 rfl dX8_goes_121 ?_
            refine lv_iload hx hb dX8_goes_122 (lv_at hl 0 rfl) ?_
            refine lv_iadd hx hb dX8_goes_124 ?_
            obtain ⟨F46, e47, h⟩ := pl_e h
            refine ast_44 S hK hD hW (vq_30_34 hv0) g45 rfl e47 dX8_goes_125 (fun H locs hW => ?_)
            refine lv_goto (tgt := 145) hx hb dX8_goes_126 (by decide) ?_
            cases h
            exact K42 H locs ls hW (lv_sub hl [2, 3, 4, 5, 1] rfl)
      clear h
      refine lv_if_lt (tgt := 129) hx hb dX8_goes_103 (by decide) (fun c22 => ?_) (fun c22 => ?_)
      · have h := if_t hz23 c22
        refine lv_aload_n hx hb dX8_goes_129 rfl (lv_at hl 2 rfl) ?_
        refine gf_30_30 S hK hW hv0 q1015 dX8_goes_130 ?_
        refine lv_sipush (v := (129 : Int32)) hx hb dX8_goes_133 (by decide) ?_
        refine lv_iload hx hb dX8_goes_136 (lv_at hl 1 rfl) ?_
        refine lv_iadd hx hb dX8_goes_138 ?_
        refine lv_nm (y := (129 : Int32)) (by decide) ?_
        refine lv_dup2_11 hx hb dX8_goes_139 rfl rfl ?_
        refine ald_40 (z := 129) S hK hW (vq_30_30 hv0) (by decide) (by decide) dX8_goes_140 ?_
        refine lv_iload hx hb dX8_goes_141 (lv_at hl 0 rfl) ?_
        refine lv_iadd hx hb dX8_goes_143 ?_
        obtain ⟨F26, e27, h⟩ := pl_e h
        refine ast_40 (z := 129) S hK hD hW (vq_30_30 hv0) (by decide) (by decide) e27 dX8_goes_144 (fun H locs hW => ?_)
        cases h
        exact K25 H locs ls hW (lv_sub hl [2, 3, 4, 5, 1] rfl)
      · have h := if_f hz23 c22
        refine lv_aload_n hx hb dX8_goes_106 rfl (lv_at hl 2 rfl) ?_
        refine gf_30_34 S hK hW hv0 q1019 dX8_goes_107 ?_
        refine lv_bipush (v := (16 : Int32)) hx hb dX8_goes_110 (by decide) ?_
        refine lv_bipush (v := (16 : Int32)) hx hb dX8_goes_112 (by decide) ?_
        refine lv_iload hx hb dX8_goes_114 (lv_at hl 1 rfl) ?_
        refine lv_imul hx hb dX8_goes_116 ?_
        refine lv_nm (y := (0 : Int32)) (by decide) ?_
        refine lv_iadd hx hb dX8_goes_117 ?_
        refine lv_nm (y := (16 : Int32)) (by decide) ?_
        refine lv_iload_n hx hb dX8_goes_118 rfl (lv_at hl 4 rfl) ?_
        refine lv_iadd hx hb dX8_goes_119 ?_
        refine lv_dup2_11 hx hb dX8_goes_120 rfl rfl ?_
        obtain ⟨g28, h⟩ := og_e h
        refine ald_44 S hK hW (vq_30_34 hv0) g28 rfl dX8_goes_121 ?_
        refine lv_iload hx hb dX8_goes_122 (lv_at hl 0 rfl) ?_
        refine lv_iadd hx hb dX8_goes_124 ?_
        obtain ⟨F29, e30, h⟩ := pl_e h
        refine ast_44 S hK hD hW (vq_30_34 hv0) g28 rfl e30 dX8_goes_125 (fun H locs hW => ?_)
        refine lv_goto (tgt := 145) hx hb dX8_goes_126 (by decide) ?_
        cases h
        exact K25 H locs ls hW (lv_sub hl [2, 3, 4, 5, 1] rfl)
  clear h
  refine lv_if_lt (tgt := 27) hx hb dX8_goes_11 (by decide) (fun c4 => ?_) (fun c4 => ?_)
  · have h := if_t hz5 c4
    refine lv_aload_n hx hb dX8_goes_27 rfl (lv_at hl 0 rfl) ?_
    refine gf_30_30 S hK hW hv0 q1015 dX8_goes_28 ?_
    refine lv_sipush (v := (128 : Int32)) hx hb dX8_goes_31 (by decide) ?_
    refine lv_dup2_11 hx hb dX8_goes_34 rfl rfl ?_
    refine ald_40 (z := 128) S hK hW (vq_30_30 hv0) (by decide) (by decide) dX8_goes_35 ?_
    refine lv_iload_n hx hb dX8_goes_36 rfl (lv_at hl 3 rfl) ?_
    refine lv_iadd hx hb dX8_goes_37 ?_
    obtain ⟨F8, e9, h⟩ := pl_e h
    refine ast_40 (z := 128) S hK hD hW (vq_30_30 hv0) (by decide) (by decide) e9 dX8_goes_38 (fun H locs hW => ?_)
    cases h
    exact K7 H locs ls hW (lv_sub hl [0, 1, 2, 3] rfl)
  · have h := if_f hz5 c4
    refine lv_aload_n hx hb dX8_goes_14 rfl (lv_at hl 0 rfl) ?_
    refine gf_30_34 S hK hW hv0 q1019 dX8_goes_15 ?_
    refine lv_iload_n hx hb dX8_goes_18 rfl (lv_at hl 2 rfl) ?_
    refine lv_dup2_11 hx hb dX8_goes_19 rfl rfl ?_
    obtain ⟨g10, h⟩ := og_e h
    refine ald_44 S hK hW (vq_30_34 hv0) g10 rfl dX8_goes_20 ?_
    refine lv_iload_n hx hb dX8_goes_21 rfl (lv_at hl 3 rfl) ?_
    refine lv_iadd hx hb dX8_goes_22 ?_
    obtain ⟨F11, e12, h⟩ := pl_e h
    refine ast_44 S hK hD hW (vq_30_34 hv0) g10 rfl e12 dX8_goes_23 (fun H locs hW => ?_)
    refine lv_goto (tgt := 39) hx hb dX8_goes_24 (by decide) ?_
    cases h
    exact K7 H locs ls hW (lv_sub hl [0, 1, 2, 3] rfl)
def fn_X8_goSide (F : St) (p1 : Int32) (p2 : Int32) : Option (St) :=
  ob (fn_X8_isCell F p2) (fun r1 => if r1 = 0 then some F else og (vpb p2 138) (og (vpb p1 138) (if (F 40 0 0 p1.toNatClampNeg) ≤ (F 40 0 0 p2.toNatClampNeg) then some F else ob (fn_X8_goes F p1 p2 ((((F 40 0 0 p1.toNatClampNeg) - (F 40 0 0 p2.toNatClampNeg)) * (F 30 8 0 0)) / (100 : Int32))) (fun F7 => some F7))))
theorem yd_X8_goSide : yX8_goSide.cls = RX8 ∧ yX8_goSide.cls ≠ "java/lang/invoke/MethodHandle" ∧ yX8_goSide.cls ≠ "java/lang/invoke/VarHandle" ∧ (parseMethodDescriptor yX8_goSide.desc).map (fun d => d.parameters.length) = some 2 := by decide +kernel
set_option maxHeartbeats 4000000 in
theorem met_X8_goSide (l : Launch) {D : va_G} {dA : WK} {a : Ix → Nat} (hD : wD D dA a) {F : St} {p1 : Int32} {p2 : Int32} {Fz : St} (hv0 : wVd dA (30, 0, 0)) (h : fn_X8_goSide F p1 p2 = some Fz) : Mv l yX8_goSide cX8_goSide 3 1 25 D dA a F [.ref (a (30, 0, 0)), .int p1, .int p2] Fz := by
  refine fun sz => mst (Qc := fun sz => wQv D dA a sz Fz) (by decide) (Nat.le_of_ble_eq_true rfl) ?_ sz
  intro p e s m below meth c S hr hlk hK hW ls hl
  have hl : lv_has ls 3 [(0, .ref (a (30, 0, 0))), (1, .int p1), (2, .int p2)] := hl
  have hx := S.1
  have hb := S.2.1
  generalize ([.ref (a (30, 0, 0)), .int p1, .int p2] : List Value).toArray = av at S ⊢
  unfold fn_X8_goSide at h
  obtain ⟨H, eH⟩ : ∃ z, z = s.heap := ⟨_, rfl⟩
  obtain ⟨locs, eL⟩ : ∃ z : List Loc, z = [] := ⟨_, rfl⟩
  show WX p l e (rmL 1 25) s m av below meth c (wQv D dA a s.heap.size Fz) dA a s.heap [] (F0 m 0 ls [])
  have hW : wS D dA a s F H locs := by rw [eH, eL]; exact wS_in hW
  refine wx_in eH eL ?_
  clear eH eL
  refine lv_aload_n hx hb dX8_goSide_0 rfl (lv_at hl 0 rfl) ?_
  refine lv_iload_n hx hb dX8_goSide_1 rfl (lv_at hl 2 rfl) ?_
  obtain ⟨r1, hc2, h⟩ := ob_e h
  refine wk_i (va_runV (As := [.int p2]) (rest := []) S (met_X8_isCell l hD hv0 hc2 H.size) (cwV 1 S.2.2.2.2 (lw_V q981 q983 qs23 q63 q984) rfl rfl rfl yd_X8_isCell ⟨Nat.le_of_ble_eq_true rfl, Nat.le_of_ble_eq_true rfl⟩) (wpreV hK hW hv0 rfl rfl _) rfl rfl hl.1 rfl (lv_room (Nat.le_of_ble_eq_true rfl)) dX8_goSide_2 ⟨Nat.le_refl 0, Nat.le_refl 0⟩) hW (fun H locs hW => ?_)
  refine lv_if_eq (tgt := 50) hx hb dX8_goSide_5 (by decide) (fun c3 => ?_) (fun c3 => ?_)
  · have h := if_t h c3
    cases h
    exact we_v S hr hlk hW dX8_goSide_50
  · have h := if_f h c3
    refine lv_aload_n hx hb dX8_goSide_8 rfl (lv_at hl 0 rfl) ?_
    refine gf_30_30 S hK hW hv0 q1015 dX8_goSide_9 ?_
    refine lv_iload_n hx hb dX8_goSide_12 rfl (lv_at hl 2 rfl) ?_
    obtain ⟨g4, h⟩ := og_e h
    refine ald_40 S hK hW (vq_30_30 hv0) g4 rfl dX8_goSide_13 ?_
    refine lv_aload_n hx hb dX8_goSide_14 rfl (lv_at hl 0 rfl) ?_
    refine gf_30_30 S hK hW hv0 q1015 dX8_goSide_15 ?_
    refine lv_iload_n hx hb dX8_goSide_18 rfl (lv_at hl 1 rfl) ?_
    obtain ⟨g5, h⟩ := og_e h
    refine ald_40 S hK hW (vq_30_30 hv0) g5 rfl dX8_goSide_19 ?_
    refine lv_icmp_ge (tgt := 50) hx hb dX8_goSide_20 (by decide) (fun c6 => ?_) (fun c6 => ?_)
    · have h := if_t h c6
      cases h
      exact we_v S hr hlk hW dX8_goSide_50
    · have h := if_f h c6
      refine lv_aload_n hx hb dX8_goSide_23 rfl (lv_at hl 0 rfl) ?_
      refine lv_iload_n hx hb dX8_goSide_24 rfl (lv_at hl 1 rfl) ?_
      refine lv_iload_n hx hb dX8_goSide_25 rfl (lv_at hl 2 rfl) ?_
      refine lv_aload_n hx hb dX8_goSide_26 rfl (lv_at hl 0 rfl) ?_
      refine gf_30_30 S hK hW hv0 q1015 dX8_goSide_27 ?_
      refine lv_iload_n hx hb dX8_goSide_30 rfl (lv_at hl 1 rfl) ?_
      refine ald_40 S hK hW (vq_30_30 hv0) g5 rfl dX8_goSide_31 ?_
      refine lv_aload_n hx hb dX8_goSide_32 rfl (lv_at hl 0 rfl) ?_
      refine gf_30_30 S hK hW hv0 q1015 dX8_goSide_33 ?_
      refine lv_iload_n hx hb dX8_goSide_36 rfl (lv_at hl 2 rfl) ?_
      refine ald_40 S hK hW (vq_30_30 hv0) g4 rfl dX8_goSide_37 ?_
      refine lv_isub hx hb dX8_goSide_38 ?_
      refine lv_aload_n hx hb dX8_goSide_39 rfl (lv_at hl 0 rfl) ?_
      refine gf_30_8 S hK hW hv0 q993 dX8_goSide_40 ?_
      refine lv_imul hx hb dX8_goSide_43 ?_
      refine lv_bipush (v := (100 : Int32)) hx hb dX8_goSide_44 (by decide) ?_
      refine lv_idiv hx hb dX8_goSide_46 (by decide) ?_
      obtain ⟨F7, hc8, h⟩ := ob_e h
      refine wk_v (va_runV (As := [.int p1, .int p2, .int ((((F 40 0 0 p1.toNatClampNeg) - (F 40 0 0 p2.toNatClampNeg)) * (F 30 8 0 0)) / (100 : Int32))]) (rest := []) S (met_X8_goes l hD hv0 hc8 H.size) (cwV 3 S.2.2.2.2 (lw_V q1231 q1233 qs40 q63 q1234) rfl rfl rfl yd_X8_goes ⟨Nat.le_of_ble_eq_true rfl, Nat.le_of_ble_eq_true rfl⟩) (wpreV hK hW hv0 rfl rfl _) rfl rfl hl.1 rfl (lv_room (Nat.le_of_ble_eq_true rfl)) dX8_goSide_47 ⟨Nat.le_refl 0, Nat.le_refl 0⟩) hW (fun H locs hW => ?_)
      cases h
      exact we_v S hr hlk hW dX8_goSide_50
