set_option maxRecDepth 100000
def fn_X8_isTurned (F : St) (p1 : Int32) (p2 : Int32) : Option (St × Int32) :=
  ob (if (p1 - p1 / (2 : Int32) * (2 : Int32)) = 0 then some p2 else some (-p2)) (fun y3 => if (2 : Int32) ≤ p1 then if (p1 / (2 : Int32)) = (1 : Int32) then ob (fn_X8_in F ((F 30 10 0 0) + ((10 : Int32) * y3)) (0 : Int32) (100 : Int32)) (fun r13 => if r13 = 0 then if p1 ≤ (3 : Int32) then some (F, (0 : Int32)) else ob (fn_X8_in F ((F 30 11 0 0) + y3) (1 : Int32) (20 : Int32)) (fun r17 => if r17 = 0 then some (F, (0 : Int32)) else pl (fu F 30 11 0 0 ((F 30 11 0 0) + y3)) (fun F20 => some (F20, (1 : Int32)))) else pl (fu F 30 10 0 0 ((F 30 10 0 0) + ((10 : Int32) * y3))) (fun F22 => some (F22, (1 : Int32)))) else if p1 ≤ (3 : Int32) then some (F, (0 : Int32)) else ob (fn_X8_in F ((F 30 11 0 0) + y3) (1 : Int32) (20 : Int32)) (fun r8 => if r8 = 0 then some (F, (0 : Int32)) else pl (fu F 30 11 0 0 ((F 30 11 0 0) + y3)) (fun F11 => some (F11, (1 : Int32)))) else ob (fn_X8_in F ((F 30 4 0 0) + y3) (0 : Int32) (10 : Int32)) (fun r24 => if r24 = 0 then if (p1 / (2 : Int32)) = (1 : Int32) then ob (fn_X8_in F ((F 30 10 0 0) + ((10 : Int32) * y3)) (0 : Int32) (100 : Int32)) (fun r34 => if r34 = 0 then if p1 ≤ (3 : Int32) then some (F, (0 : Int32)) else ob (fn_X8_in F ((F 30 11 0 0) + y3) (1 : Int32) (20 : Int32)) (fun r38 => if r38 = 0 then some (F, (0 : Int32)) else pl (fu F 30 11 0 0 ((F 30 11 0 0) + y3)) (fun F41 => some (F41, (1 : Int32)))) else pl (fu F 30 10 0 0 ((F 30 10 0 0) + ((10 : Int32) * y3))) (fun F43 => some (F43, (1 : Int32)))) else if p1 ≤ (3 : Int32) then some (F, (0 : Int32)) else ob (fn_X8_in F ((F 30 11 0 0) + y3) (1 : Int32) (20 : Int32)) (fun r29 => if r29 = 0 then some (F, (0 : Int32)) else pl (fu F 30 11 0 0 ((F 30 11 0 0) + y3)) (fun F32 => some (F32, (1 : Int32)))) else pl (fu F 30 4 0 0 ((F 30 4 0 0) + y3)) (fun F45 => some (F45, (1 : Int32)))))
theorem yd_X8_isTurned : yX8_isTurned.cls = RX8 ∧ yX8_isTurned.cls ≠ "java/lang/invoke/MethodHandle" ∧ yX8_isTurned.cls ≠ "java/lang/invoke/VarHandle" ∧ (parseMethodDescriptor yX8_isTurned.desc).map (fun d => d.parameters.length) = some 2 := by decide +kernel
set_option maxHeartbeats 4000000 in
theorem met_X8_isTurned (l : Launch) {D : va_G} {dA : WK} {a : Ix → Nat} (hD : wD D dA a) {F : St} {p1 : Int32} {p2 : Int32} {Fz : St} {rz : Int32} (hv0 : wVd dA (30, 0, 0)) (h : fn_X8_isTurned F p1 p2 = some (Fz, rz)) : Mi l yX8_isTurned cX8_isTurned 4 .boolean 1 22 D dA a F [.ref (a (30, 0, 0)), .int p1, .int p2] Fz rz := by
  refine fun sz => mst (Qc := fun sz => wQi D dA a sz Fz rz) (by decide) (Nat.le_of_ble_eq_true rfl) ?_ sz
  intro p e s m below meth c S hr hlk hK hW ls hl
  have hl : lv_has ls 4 [(0, .ref (a (30, 0, 0))), (1, .int p1), (2, .int p2)] := hl
  have hx := S.1
  have hb := S.2.1
  generalize ([.ref (a (30, 0, 0)), .int p1, .int p2] : List Value).toArray = av at S ⊢
  unfold fn_X8_isTurned at h
  obtain ⟨H, eH⟩ : ∃ z, z = s.heap := ⟨_, rfl⟩
  obtain ⟨locs, eL⟩ : ∃ z : List Loc, z = [] := ⟨_, rfl⟩
  show WX p l e (rmL 1 22) s m av below meth c (wQi D dA a s.heap.size Fz rz) dA a s.heap [] (F0 m 0 ls [])
  have hW : wS D dA a s F H locs := by rw [eH, eL]; exact wS_in hW
  refine wx_in eH eL ?_
  clear eH eL
  refine lv_iload_n hx hb dX8_isTurned_0 rfl (lv_at hl 1 rfl) ?_
  refine lv_iconst (v := (2 : Int32)) hx hb dX8_isTurned_1 (by decide) ?_
  refine lv_irem hx hb dX8_isTurned_2 (by decide) ?_
  obtain ⟨y3, hz2, h⟩ := ob_e h
  have K4 : ∀ (H : Heap) (locs : List Loc) (ls : Array Slot), wS D dA a s F H locs → lv_has ls 4 [(0, .ref (a (30, 0, 0))), (1, .int p1)] → WX p l e (rmL 1 22) s m av below meth c (wQi D dA a s.heap.size Fz rz) dA a H locs (F0 m 12 ls [.int y3]) := by
    intro H locs ls hW hl
    refine lv_istore_n (lv' := [(3, .int y3), (0, .ref (a (30, 0, 0))), (1, .int p1)]) hx hb dX8_isTurned_12 rfl hl (by decide) rfl (fun ls hl => ?_)
    refine lv_iload_n hx hb dX8_isTurned_13 rfl (lv_at hl 2 rfl) ?_
    refine lv_iconst (v := (2 : Int32)) hx hb dX8_isTurned_14 (by decide) ?_
    refine lv_icmp_ge (tgt := 45) hx hb dX8_isTurned_15 (by decide) (fun c5 => ?_) (fun c5 => ?_)
    · have h := if_t h c5
      refine lv_iload_n hx hb dX8_isTurned_45 rfl (lv_at hl 2 rfl) ?_
      refine lv_iconst (v := (2 : Int32)) hx hb dX8_isTurned_46 (by decide) ?_
      refine lv_idiv hx hb dX8_isTurned_47 (by decide) ?_
      refine lv_iconst (v := (1 : Int32)) hx hb dX8_isTurned_48 (by decide) ?_
      refine lv_icmp_ne (tgt := 85) hx hb dX8_isTurned_49 (by decide) (fun c6 => ?_) (fun c6 => ?_)
      · have h := if_f h c6
        refine lv_iload_n hx hb dX8_isTurned_85 rfl (lv_at hl 2 rfl) ?_
        refine lv_iconst (v := (3 : Int32)) hx hb dX8_isTurned_86 (by decide) ?_
        refine lv_icmp_le (tgt := 117) hx hb dX8_isTurned_87 (by decide) (fun c7 => ?_) (fun c7 => ?_)
        · have h := if_t h c7
          refine lv_iconst (v := (0 : Int32)) hx hb dX8_isTurned_117 (by decide) ?_
          cases h
          exact we_z S hr hlk rfl hW dX8_isTurned_118
        · have h := if_f h c7
          refine lv_aload_n hx hb dX8_isTurned_90 rfl (lv_at hl 1 rfl) ?_
          refine gf_30_11 S hK hW hv0 q996 dX8_isTurned_91 ?_
          refine lv_iload_n hx hb dX8_isTurned_94 rfl (lv_at hl 0 rfl) ?_
          refine lv_iadd hx hb dX8_isTurned_95 ?_
          refine lv_iconst (v := (1 : Int32)) hx hb dX8_isTurned_96 (by decide) ?_
          refine lv_bipush (v := (20 : Int32)) hx hb dX8_isTurned_97 (by decide) ?_
          obtain ⟨r8, hc9, h⟩ := ob_e h
          refine wk_i (va_runS (As := [.int ((F 30 11 0 0) + y3), .int (1 : Int32), .int (20 : Int32)]) (rest := []) S (met_X8_in l hD hc9 H.size) (va_cwS 3 S.2.2.2.2 (lw_S q1117 q1118 q63 q1119) rfl rfl rfl yd_X8_in.2 ⟨Nat.le_of_ble_eq_true rfl, Nat.le_of_ble_eq_true rfl⟩) (wpreS hK hW _) rfl rfl hl.1 rfl (lv_room (Nat.le_of_ble_eq_true rfl)) dX8_isTurned_99 ⟨Nat.le_refl 0, Nat.le_refl 0⟩) hW (fun H locs hW => ?_)
          refine lv_if_eq (tgt := 117) hx hb dX8_isTurned_102 (by decide) (fun c10 => ?_) (fun c10 => ?_)
          · have h := if_t h c10
            refine lv_iconst (v := (0 : Int32)) hx hb dX8_isTurned_117 (by decide) ?_
            cases h
            exact we_z S hr hlk rfl hW dX8_isTurned_118
          · have h := if_f h c10
            refine lv_aload_n hx hb dX8_isTurned_105 rfl (lv_at hl 1 rfl) ?_
            refine lv_dup hx hb dX8_isTurned_106 rfl ?_
            refine gf_30_11 S hK hW hv0 q996 dX8_isTurned_107 ?_
            refine lv_iload_n hx hb dX8_isTurned_110 rfl (lv_at hl 0 rfl) ?_
            refine lv_iadd hx hb dX8_isTurned_111 ?_
            obtain ⟨F11, e12, h⟩ := pl_e h
            refine pf_30_11 S hK hD hW hv0 e12 q996 dX8_isTurned_112 (fun H locs hW => ?_)
            refine lv_iconst (v := (1 : Int32)) hx hb dX8_isTurned_115 (by decide) ?_
            cases h
            exact we_z S hr hlk rfl hW dX8_isTurned_116
      · have h := if_t h c6
        refine lv_aload_n hx hb dX8_isTurned_52 rfl (lv_at hl 1 rfl) ?_
        refine gf_30_10 S hK hW hv0 q995 dX8_isTurned_53 ?_
        refine lv_bipush (v := (10 : Int32)) hx hb dX8_isTurned_56 (by decide) ?_
        refine lv_iload_n hx hb dX8_isTurned_58 rfl (lv_at hl 0 rfl) ?_
        refine lv_imul hx hb dX8_isTurned_59 ?_
        refine lv_iadd hx hb dX8_isTurned_60 ?_
        refine lv_iconst (v := (0 : Int32)) hx hb dX8_isTurned_61 (by decide) ?_
        refine lv_bipush (v := (100 : Int32)) hx hb dX8_isTurned_62 (by decide) ?_
        obtain ⟨r13, hc14, h⟩ := ob_e h
        refine wk_i (va_runS (As := [.int ((F 30 10 0 0) + ((10 : Int32) * y3)), .int (0 : Int32), .int (100 : Int32)]) (rest := []) S (met_X8_in l hD hc14 H.size) (va_cwS 3 S.2.2.2.2 (lw_S q1117 q1118 q63 q1119) rfl rfl rfl yd_X8_in.2 ⟨Nat.le_of_ble_eq_true rfl, Nat.le_of_ble_eq_true rfl⟩) (wpreS hK hW _) rfl rfl hl.1 rfl (lv_room (Nat.le_of_ble_eq_true rfl)) dX8_isTurned_64 ⟨Nat.le_refl 0, Nat.le_refl 0⟩) hW (fun H locs hW => ?_)
        refine lv_if_eq (tgt := 85) hx hb dX8_isTurned_67 (by decide) (fun c15 => ?_) (fun c15 => ?_)
        · have h := if_t h c15
          refine lv_iload_n hx hb dX8_isTurned_85 rfl (lv_at hl 2 rfl) ?_
          refine lv_iconst (v := (3 : Int32)) hx hb dX8_isTurned_86 (by decide) ?_
          refine lv_icmp_le (tgt := 117) hx hb dX8_isTurned_87 (by decide) (fun c16 => ?_) (fun c16 => ?_)
          · have h := if_t h c16
            refine lv_iconst (v := (0 : Int32)) hx hb dX8_isTurned_117 (by decide) ?_
            cases h
            exact we_z S hr hlk rfl hW dX8_isTurned_118
          · have h := if_f h c16
            refine lv_aload_n hx hb dX8_isTurned_90 rfl (lv_at hl 1 rfl) ?_
            refine gf_30_11 S hK hW hv0 q996 dX8_isTurned_91 ?_
            refine lv_iload_n hx hb dX8_isTurned_94 rfl (lv_at hl 0 rfl) ?_
            refine lv_iadd hx hb dX8_isTurned_95 ?_
            refine lv_iconst (v := (1 : Int32)) hx hb dX8_isTurned_96 (by decide) ?_
            refine lv_bipush (v := (20 : Int32)) hx hb dX8_isTurned_97 (by decide) ?_
            obtain ⟨r17, hc18, h⟩ := ob_e h
            refine wk_i (va_runS (As := [.int ((F 30 11 0 0) + y3), .int (1 : Int32), .int (20 : Int32)]) (rest := []) S (met_X8_in l hD hc18 H.size) (va_cwS 3 S.2.2.2.2 (lw_S q1117 q1118 q63 q1119) rfl rfl rfl yd_X8_in.2 ⟨Nat.le_of_ble_eq_true rfl, Nat.le_of_ble_eq_true rfl⟩) (wpreS hK hW _) rfl rfl hl.1 rfl (lv_room (Nat.le_of_ble_eq_true rfl)) dX8_isTurned_99 ⟨Nat.le_refl 0, Nat.le_refl 0⟩) hW (fun H locs hW => ?_)
            refine lv_if_eq (tgt := 117) hx hb dX8_isTurned_102 (by decide) (fun c19 => ?_) (fun c19 => ?_)
            · have h := if_t h c19
              refine lv_iconst (v := (0 : Int32)) hx hb dX8_isTurned_117 (by decide) ?_
              cases h
              exact we_z S hr hlk rfl hW dX8_isTurned_118
            · have h := if_f h c19
              refine lv_aload_n hx hb dX8_isTurned_105 rfl (lv_at hl 1 rfl) ?_
              refine lv_dup hx hb dX8_isTurned_106 rfl ?_
              refine gf_30_11 S hK hW hv0 q996 dX8_isTurned_107 ?_
              refine lv_iload_n hx hb dX8_isTurned_110 rfl (lv_at hl 0 rfl) ?_
              refine lv_iadd hx hb dX8_isTurned_111 ?_
              obtain ⟨F20, e21, h⟩ := pl_e h
              refine pf_30_11 S hK hD hW hv0 e21 q996 dX8_isTurned_112 (fun H locs hW => ?_)
              refine lv_iconst (v := (1 : Int32)) hx hb dX8_isTurned_115 (by decide) ?_
              cases h
              exact we_z S hr hlk rfl hW dX8_isTurned_116
        · have h := if_f h c15
          refine lv_aload_n hx hb dX8_isTurned_70 rfl (lv_at hl 1 rfl) ?_
          refine lv_dup hx hb dX8_isTurned_71 rfl ?_
          refine gf_30_10 S hK hW hv0 q995 dX8_isTurned_72 ?_
          refine lv_bipush (v := (10 : Int32)) hx hb dX8_isTurned_75 (by decide) ?_
          refine lv_iload_n hx hb dX8_isTurned_77 rfl (lv_at hl 0 rfl) ?_
          refine lv_imul hx hb dX8_isTurned_78 ?_
          refine lv_iadd hx hb dX8_isTurned_79 ?_
          obtain ⟨F22, e23, h⟩ := pl_e h
          refine pf_30_10 S hK hD hW hv0 e23 q995 dX8_isTurned_80 (fun H locs hW => ?_)
          refine lv_iconst (v := (1 : Int32)) hx hb dX8_isTurned_83 (by decide) ?_
          cases h
          exact we_z S hr hlk rfl hW dX8_isTurned_84
    · have h := if_f h c5
      refine lv_aload_n hx hb dX8_isTurned_18 rfl (lv_at hl 1 rfl) ?_
      refine gf_30_4 S hK hW hv0 q989 dX8_isTurned_19 ?_
      refine lv_iload_n hx hb dX8_isTurned_22 rfl (lv_at hl 0 rfl) ?_
      refine lv_iadd hx hb dX8_isTurned_23 ?_
      refine lv_iconst (v := (0 : Int32)) hx hb dX8_isTurned_24 (by decide) ?_
      refine lv_bipush (v := (10 : Int32)) hx hb dX8_isTurned_25 (by decide) ?_
      obtain ⟨r24, hc25, h⟩ := ob_e h
      refine wk_i (va_runS (As := [.int ((F 30 4 0 0) + y3), .int (0 : Int32), .int (10 : Int32)]) (rest := []) S (met_X8_in l hD hc25 H.size) (va_cwS 3 S.2.2.2.2 (lw_S q1117 q1118 q63 q1119) rfl rfl rfl yd_X8_in.2 ⟨Nat.le_of_ble_eq_true rfl, Nat.le_of_ble_eq_true rfl⟩) (wpreS hK hW _) rfl rfl hl.1 rfl (lv_room (Nat.le_of_ble_eq_true rfl)) dX8_isTurned_27 ⟨Nat.le_refl 0, Nat.le_refl 0⟩) hW (fun H locs hW => ?_)
      refine lv_if_eq (tgt := 45) hx hb dX8_isTurned_30 (by decide) (fun c26 => ?_) (fun c26 => ?_)
      · have h := if_t h c26
        refine lv_iload_n hx hb dX8_isTurned_45 rfl (lv_at hl 2 rfl) ?_
        refine lv_iconst (v := (2 : Int32)) hx hb dX8_isTurned_46 (by decide) ?_
        refine lv_idiv hx hb dX8_isTurned_47 (by decide) ?_
        refine lv_iconst (v := (1 : Int32)) hx hb dX8_isTurned_48 (by decide) ?_
        refine lv_icmp_ne (tgt := 85) hx hb dX8_isTurned_49 (by decide) (fun c27 => ?_) (fun c27 => ?_)
        · have h := if_f h c27
          refine lv_iload_n hx hb dX8_isTurned_85 rfl (lv_at hl 2 rfl) ?_
          refine lv_iconst (v := (3 : Int32)) hx hb dX8_isTurned_86 (by decide) ?_
          refine lv_icmp_le (tgt := 117) hx hb dX8_isTurned_87 (by decide) (fun c28 => ?_) (fun c28 => ?_)
          · have h := if_t h c28
            refine lv_iconst (v := (0 : Int32)) hx hb dX8_isTurned_117 (by decide) ?_
            cases h
            exact we_z S hr hlk rfl hW dX8_isTurned_118
          · have h := if_f h c28
            refine lv_aload_n hx hb dX8_isTurned_90 rfl (lv_at hl 1 rfl) ?_
            refine gf_30_11 S hK hW hv0 q996 dX8_isTurned_91 ?_
            refine lv_iload_n hx hb dX8_isTurned_94 rfl (lv_at hl 0 rfl) ?_
            refine lv_iadd hx hb dX8_isTurned_95 ?_
            refine lv_iconst (v := (1 : Int32)) hx hb dX8_isTurned_96 (by decide) ?_
            refine lv_bipush (v := (20 : Int32)) hx hb dX8_isTurned_97 (by decide) ?_
            obtain ⟨r29, hc30, h⟩ := ob_e h
            refine wk_i (va_runS (As := [.int ((F 30 11 0 0) + y3), .int (1 : Int32), .int (20 : Int32)]) (rest := []) S (met_X8_in l hD hc30 H.size) (va_cwS 3 S.2.2.2.2 (lw_S q1117 q1118 q63 q1119) rfl rfl rfl yd_X8_in.2 ⟨Nat.le_of_ble_eq_true rfl, Nat.le_of_ble_eq_true rfl⟩) (wpreS hK hW _) rfl rfl hl.1 rfl (lv_room (Nat.le_of_ble_eq_true rfl)) dX8_isTurned_99 ⟨Nat.le_refl 0, Nat.le_refl 0⟩) hW (fun H locs hW => ?_)
            refine lv_if_eq (tgt := 117) hx hb dX8_isTurned_102 (by decide) (fun c31 => ?_) (fun c31 => ?_)
            · have h := if_t h c31
              refine lv_iconst (v := (0 : Int32)) hx hb dX8_isTurned_117 (by decide) ?_
              cases h
              exact we_z S hr hlk rfl hW dX8_isTurned_118
            · have h := if_f h c31
              refine lv_aload_n hx hb dX8_isTurned_105 rfl (lv_at hl 1 rfl) ?_
              refine lv_dup hx hb dX8_isTurned_106 rfl ?_
              refine gf_30_11 S hK hW hv0 q996 dX8_isTurned_107 ?_
              refine lv_iload_n hx hb dX8_isTurned_110 rfl (lv_at hl 0 rfl) ?_
              refine lv_iadd hx hb dX8_isTurned_111 ?_
              obtain ⟨F32, e33, h⟩ := pl_e h
              refine pf_30_11 S hK hD hW hv0 e33 q996 dX8_isTurned_112 (fun H locs hW => ?_)
              refine lv_iconst (v := (1 : Int32)) hx hb dX8_isTurned_115 (by decide) ?_
              cases h
              exact we_z S hr hlk rfl hW dX8_isTurned_116
        · have h := if_t h c27
          refine lv_aload_n hx hb dX8_isTurned_52 rfl (lv_at hl 1 rfl) ?_
          refine gf_30_10 S hK hW hv0 q995 dX8_isTurned_53 ?_
          refine lv_bipush (v := (10 : Int32)) hx hb dX8_isTurned_56 (by decide) ?_
          refine lv_iload_n hx hb dX8_isTurned_58 rfl (lv_at hl 0 rfl) ?_
          refine lv_imul hx hb dX8_isTurned_59 ?_
          refine lv_iadd hx hb dX8_isTurned_60 ?_
          refine lv_iconst (v := (0 : Int32)) hx hb dX8_isTurned_61 (by decide) ?_
          refine lv_bipush (v := (100 : Int32)) hx hb dX8_isTurned_62 (by decide) ?_
          obtain ⟨r34, hc35, h⟩ := ob_e h
          refine wk_i (va_runS (As := [.int ((F 30 10 0 0) + ((10 : Int32) * y3)), .int (0 : Int32), .int (100 : Int32)]) (rest := []) S (met_X8_in l hD hc35 H.size) (va_cwS 3 S.2.2.2.2 (lw_S q1117 q1118 q63 q1119) rfl rfl rfl yd_X8_in.2 ⟨Nat.le_of_ble_eq_true rfl, Nat.le_of_ble_eq_true rfl⟩) (wpreS hK hW _) rfl rfl hl.1 rfl (lv_room (Nat.le_of_ble_eq_true rfl)) dX8_isTurned_64 ⟨Nat.le_refl 0, Nat.le_refl 0⟩) hW (fun H locs hW => ?_)
          refine lv_if_eq (tgt := 85) hx hb dX8_isTurned_67 (by decide) (fun c36 => ?_) (fun c36 => ?_)
          · have h := if_t h c36
            refine lv_iload_n hx hb dX8_isTurned_85 rfl (lv_at hl 2 rfl) ?_
            refine lv_iconst (v := (3 : Int32)) hx hb dX8_isTurned_86 (by decide) ?_
            refine lv_icmp_le (tgt := 117) hx hb dX8_isTurned_87 (by decide) (fun c37 => ?_) (fun c37 => ?_)
            · have h := if_t h c37
              refine lv_iconst (v := (0 : Int32)) hx hb dX8_isTurned_117 (by decide) ?_
              cases h
              exact we_z S hr hlk rfl hW dX8_isTurned_118
            · have h := if_f h c37
              refine lv_aload_n hx hb dX8_isTurned_90 rfl (lv_at hl 1 rfl) ?_
              refine gf_30_11 S hK hW hv0 q996 dX8_isTurned_91 ?_
              refine lv_iload_n hx hb dX8_isTurned_94 rfl (lv_at hl 0 rfl) ?_
              refine lv_iadd hx hb dX8_isTurned_95 ?_
              refine lv_iconst (v := (1 : Int32)) hx hb dX8_isTurned_96 (by decide) ?_
              refine lv_bipush (v := (20 : Int32)) hx hb dX8_isTurned_97 (by decide) ?_
              obtain ⟨r38, hc39, h⟩ := ob_e h
              refine wk_i (va_runS (As := [.int ((F 30 11 0 0) + y3), .int (1 : Int32), .int (20 : Int32)]) (rest := []) S (met_X8_in l hD hc39 H.size) (va_cwS 3 S.2.2.2.2 (lw_S q1117 q1118 q63 q1119) rfl rfl rfl yd_X8_in.2 ⟨Nat.le_of_ble_eq_true rfl, Nat.le_of_ble_eq_true rfl⟩) (wpreS hK hW _) rfl rfl hl.1 rfl (lv_room (Nat.le_of_ble_eq_true rfl)) dX8_isTurned_99 ⟨Nat.le_refl 0, Nat.le_refl 0⟩) hW (fun H locs hW => ?_)
              refine lv_if_eq (tgt := 117) hx hb dX8_isTurned_102 (by decide) (fun c40 => ?_) (fun c40 => ?_)
              · have h := if_t h c40
                refine lv_iconst (v := (0 : Int32)) hx hb dX8_isTurned_117 (by decide) ?_
                cases h
                exact we_z S hr hlk rfl hW dX8_isTurned_118
              · have h := if_f h c40
                refine lv_aload_n hx hb dX8_isTurned_105 rfl (lv_at hl 1 rfl) ?_
                refine lv_dup hx hb dX8_isTurned_106 rfl ?_
                refine gf_30_11 S hK hW hv0 q996 dX8_isTurned_107 ?_
                refine lv_iload_n hx hb dX8_isTurned_110 rfl (lv_at hl 0 rfl) ?_
                refine lv_iadd hx hb dX8_isTurned_111 ?_
                obtain ⟨F41, e42, h⟩ := pl_e h
                refine pf_30_11 S hK hD hW hv0 e42 q996 dX8_isTurned_112 (fun H locs hW => ?_)
                refine lv_iconst (v := (1 : Int32)) hx hb dX8_isTurned_115 (by decide) ?_
                cases h
                exact we_z S hr hlk rfl hW dX8_isTurned_116
          · have h := if_f h c36
            refine lv_aload_n hx hb dX8_isTurned_70 rfl (lv_at hl 1 rfl) ?_
            refine lv_dup hx hb dX8_isTurned_71 rfl ?_
            refine gf_30_10 S hK hW hv0 q995 dX8_isTurned_72 ?_
            refine lv_bipush (v := (10 : Int32)) hx hb dX8_isTurned_75 (by decide) ?_
            refine lv_iload_n hx hb dX8_isTurned_77 rfl (lv_at hl 0 rfl) ?_
            refine lv_imul hx hb dX8_isTurned_78 ?_
            refine lv_iadd hx hb dX8_isTurned_79 ?_
            obtain ⟨F43, e44, h⟩ := pl_e h
            refine pf_30_10 S hK hD hW hv0 e44 q995 dX8_isTurned_80 (fun H locs hW => ?_)
            refine lv_iconst (v := (1 : Int32)) hx hb dX8_isTurned_83 (by decide) ?_
            cases h
            exact we_z S hr hlk rfl hW dX8_isTurned_84
      · have h := if_f h c26
        refine lv_aload_n hx hb dX8_isTurned_33 rfl (lv_at hl 1 rfl) ?_
        refine lv_dup hx hb dX8_isTurned_34 rfl ?_
        refine gf_30_4 S hK hW hv0 q989 dX8_isTurned_35 ?_
        refine lv_iload_n hx hb dX8_isTurned_38 rfl (lv_at hl 0 rfl) ?_
        refine lv_iadd hx hb dX8_isTurned_39 ?_
        obtain ⟨F45, e46, h⟩ := pl_e h
        refine pf_30_4 S hK hD hW hv0 e46 q989 dX8_isTurned_40 (fun H locs hW => ?_)
        refine lv_iconst (v := (1 : Int32)) hx hb dX8_isTurned_43 (by decide) ?_
        cases h
        exact we_z S hr hlk rfl hW dX8_isTurned_44
  clear h
  refine lv_if_ne (tgt := 10) hx hb dX8_isTurned_3 (by decide) (fun c1 => ?_) (fun c1 => ?_)
  · have h := if_f hz2 c1
    refine lv_iload_n hx hb dX8_isTurned_10 rfl (lv_at hl 2 rfl) ?_
    refine lv_ineg hx hb dX8_isTurned_11 ?_
    cases h
    exact K4 H locs ls hW (lv_sub hl [0, 1] rfl)
  · have h := if_t hz2 c1
    refine lv_iload_n hx hb dX8_isTurned_6 rfl (lv_at hl 2 rfl) ?_
    refine lv_goto (tgt := 12) hx hb dX8_isTurned_7 (by decide) ?_
    cases h
    exact K4 H locs ls hW (lv_sub hl [0, 1] rfl)
/-loop lp_X8_findRight_47-/
def lp_X8_findRight_47 : Nat → St → Int32 → Int32 → Option (St × Int32 × Int32)
  | 0, _, _, _ => none
  | n + 1, F18, x16, x17 => if x17 < 0 then some (F18, x16, x17) else og (vpb x17 3) (pl (fu F18 45 0 0 x17.toNatClampNeg (x16 - x16 / (6 : Int32) * (6 : Int32))) (fun F26 => pl (x16 / (6 : Int32)) (fun x28 => lp_X8_findRight_47 n F26 x28 (x17 + (-1)))))
theorem lp_X8_findRight_47_s {n : Nat} {F18 : St} {x16 : Int32} {x17 : Int32} : lp_X8_findRight_47 (n + 1) F18 x16 x17 = if x17 < 0 then some (F18, x16, x17) else og (vpb x17 3) (pl (fu F18 45 0 0 x17.toNatClampNeg (x16 - x16 / (6 : Int32) * (6 : Int32))) (fun F26 => pl (x16 / (6 : Int32)) (fun x28 => lp_X8_findRight_47 n F26 x28 (x17 + (-1))))) := rfl
/-loop lp_X8_findRight_80-/
def lp_X8_findRight_80 (p1 : Int32) : Nat → St → Int32 → Option (St × Int32)
  | 0, _, _ => none
  | n + 1, F32, x31 => if p1 ≤ x31 then some (F32, x31) else og (vpb x31 3) (ob2 (fn_X8_isTurned F32 (F32 45 0 0 x31.toNatClampNeg) (1 : Int32)) (fun F39 r40 => if r40 = 0 then some (F39, x31) else lp_X8_findRight_80 p1 n F39 (x31 + 1)))
theorem lp_X8_findRight_80_s {p1 : Int32} {n : Nat} {F32 : St} {x31 : Int32} : lp_X8_findRight_80 p1 (n + 1) F32 x31 = if p1 ≤ x31 then some (F32, x31) else og (vpb x31 3) (ob2 (fn_X8_isTurned F32 (F32 45 0 0 x31.toNatClampNeg) (1 : Int32)) (fun F39 r40 => if r40 = 0 then some (F39, x31) else lp_X8_findRight_80 p1 n F39 (x31 + 1))) := rfl
/-loop lp_X8_findRight_133-/
def lp_X8_findRight_133 : Nat → St → Int32 → Option (St × Int32)
  | 0, _, _ => none
  | n + 1, F56, x55 => if x55 < 0 then some (F56, x55) else og (vpb x55 3) (ob2 (fn_X8_isTurned F56 (F56 45 0 0 x55.toNatClampNeg) (-1 : Int32)) (fun F63 r64 => lp_X8_findRight_133 n F63 (x55 + (-1))))
theorem lp_X8_findRight_133_s {n : Nat} {F56 : St} {x55 : Int32} : lp_X8_findRight_133 (n + 1) F56 x55 = if x55 < 0 then some (F56, x55) else og (vpb x55 3) (ob2 (fn_X8_isTurned F56 (F56 45 0 0 x55.toNatClampNeg) (-1 : Int32)) (fun F63 r64 => lp_X8_findRight_133 n F63 (x55 + (-1)))) := rfl
/-loop lp_X8_findRight_34-/
def lp_X8_findRight_34 (p1 : Int32) (y3 : Int32) : Nat → St → Int32 → Option ((St × Int32) ⊕ (St × Int32))
  | 0, _, _ => none
  | n + 1, F8, x7 => if y3 ≤ x7 then some (Sum.inr (F8, x7)) else pl (p1 - (1 : Int32)) (fun x14 => ob3 (lp_X8_findRight_47 300 F8 x7 x14) (fun F19 x20 x21 => ob2 (lp_X8_findRight_80 p1 300 F19 (0 : Int32)) (fun F33 x34 => ob2 (if x34 = p1 then ob2 (fn_X8_tasteNow F33) (fun F49 r50 => if r50 = 0 then some (F49, (1 : Int32)) else some (F49, (0 : Int32))) else some (F33, (0 : Int32))) (fun F46 y47 => pl (x34 - (1 : Int32)) (fun x53 => ob2 (lp_X8_findRight_133 300 F46 x53) (fun F57 x58 => if y47 = 0 then lp_X8_findRight_34 p1 y3 n F57 (x7 + 1) else some (Sum.inl (F57, (1 : Int32)))))))))
theorem lp_X8_findRight_34_s {p1 : Int32} {y3 : Int32} {n : Nat} {F8 : St} {x7 : Int32} : lp_X8_findRight_34 p1 y3 (n + 1) F8 x7 = if y3 ≤ x7 then some (Sum.inr (F8, x7)) else pl (p1 - (1 : Int32)) (fun x14 => ob3 (lp_X8_findRight_47 300 F8 x7 x14) (fun F19 x20 x21 => ob2 (lp_X8_findRight_80 p1 300 F19 (0 : Int32)) (fun F33 x34 => ob2 (if x34 = p1 then ob2 (fn_X8_tasteNow F33) (fun F49 r50 => if r50 = 0 then some (F49, (1 : Int32)) else some (F49, (0 : Int32))) else some (F33, (0 : Int32))) (fun F46 y47 => pl (x34 - (1 : Int32)) (fun x53 => ob2 (lp_X8_findRight_133 300 F46 x53) (fun F57 x58 => if y47 = 0 then lp_X8_findRight_34 p1 y3 n F57 (x7 + 1) else some (Sum.inl (F57, (1 : Int32))))))))) := rfl
def fn_X8_findRight (F : St) (p1 : Int32) : Option (St × Int32) :=
  ob (if p1 = 0 then some (1 : Int32) else if p1 = (1 : Int32) then some (6 : Int32) else if p1 = (2 : Int32) then some (36 : Int32) else some (216 : Int32)) (fun y3 => obE2 (lp_X8_findRight_34 p1 y3 300 F (0 : Int32)) (fun y => some y) (fun F9 x10 => some (F9, (0 : Int32))))
theorem yd_X8_findRight : yX8_findRight.cls = RX8 ∧ yX8_findRight.cls ≠ "java/lang/invoke/MethodHandle" ∧ yX8_findRight.cls ≠ "java/lang/invoke/VarHandle" ∧ (parseMethodDescriptor yX8_findRight.desc).map (fun d => d.parameters.length) = some 1 := by decide +kernel
set_option maxHeartbeats 4000000 in
theorem met_X8_findRight (l : Launch) {D : va_G} {dA : WK} {a : Ix → Nat} (hD : wD D dA a) {F : St} {p1 : Int32} {Fz : St} {rz : Int32} (hv0 : wVd dA (30, 0, 0)) (h : fn_X8_findRight F p1 = some (Fz, rz)) : Mi l yX8_findRight cX8_findRight 8 .boolean 5 113 D dA a F [.ref (a (30, 0, 0)), .int p1] Fz rz := by
  refine fun sz => mst (Qc := fun sz => wQi D dA a sz Fz rz) (by decide) (Nat.le_of_ble_eq_true rfl) ?_ sz
  intro p e s m below meth c S hr hlk hK hW ls hl
  have hl : lv_has ls 8 [(0, .ref (a (30, 0, 0))), (1, .int p1)] := hl
  have hx := S.1
  have hb := S.2.1
  generalize ([.ref (a (30, 0, 0)), .int p1] : List Value).toArray = av at S ⊢
  unfold fn_X8_findRight at h
  obtain ⟨H, eH⟩ : ∃ z, z = s.heap := ⟨_, rfl⟩
  obtain ⟨locs, eL⟩ : ∃ z : List Loc, z = [] := ⟨_, rfl⟩
  show WX p l e (rmL 5 113) s m av below meth c (wQi D dA a s.heap.size Fz rz) dA a s.heap [] (F0 m 0 ls [])
  have hW : wS D dA a s F H locs := by rw [eH, eL]; exact wS_in hW
  refine wx_in eH eL ?_
  clear eH eL
  refine lv_iload_n hx hb dX8_findRight_0 rfl (lv_at hl 1 rfl) ?_
  obtain ⟨y3, hz2, h⟩ := ob_e h
  have K4 : ∀ (H : Heap) (locs : List Loc) (ls : Array Slot), wS D dA a s F H locs → lv_has ls 8 [(0, .ref (a (30, 0, 0))), (1, .int p1)] → WX p l e (rmL 5 113) s m av below meth c (wQi D dA a s.heap.size Fz rz) dA a H locs (F0 m 31 ls [.int y3]) := by
    intro H locs ls hW hl
    refine lv_istore_n (lv' := [(2, .int y3), (0, .ref (a (30, 0, 0))), (1, .int p1)]) hx hb dX8_findRight_31 rfl hl (by decide) rfl (fun ls hl => ?_)
    refine lv_iconst (v := (0 : Int32)) hx hb dX8_findRight_32 (by decide) ?_
    refine lv_istore_n (lv' := [(3, .int (0 : Int32)), (2, .int y3), (0, .ref (a (30, 0, 0))), (1, .int p1)]) hx hb dX8_findRight_33 rfl hl (by decide) rfl (fun ls hl => ?_)
    have L12 : ∀ (n : Nat) (F8 : St) (x7 : Int32) (Rr : (St × Int32) ⊕ (St × Int32)), lp_X8_findRight_34 p1 y3 n F8 x7 = some Rr → (∀ y, Rr = Sum.inl y → some y = some (Fz, rz)) → (∀ (F9 : St) (x10 : Int32), Rr = Sum.inr (F9, x10) → ∀ (H : Heap) (locs : List Loc) (ls : Array Slot), wS D dA a s F9 H locs → lv_has ls 8 [] → WX p l e (rmL 5 113) s m av below meth c (wQi D dA a s.heap.size Fz rz) dA a H locs (F0 m 170 ls [])) → ∀ (H : Heap) (locs : List Loc) (ls : Array Slot), wS D dA a s F8 H locs → lv_has ls 8 [(0, .ref (a (30, 0, 0))), (1, .int p1), (2, .int y3), (3, .int x7)] → WX p l e (rmL 5 113) s m av below meth c (wQi D dA a s.heap.size Fz rz) dA a H locs (F0 m 34 ls []) := by
      intro n
      induction n with
      | zero =>
        intro F8 x7 Rr h
        exact absurd (show (none : Option ((St × Int32) ⊕ (St × Int32))) = some Rr from h) (by simp)
      | succ n ih =>
        intro F8 x7 Rr h hfin K11 H locs ls hW hl
        have h := lp_X8_findRight_34_s.symm.trans h
        refine lv_iload_n hx hb dX8_findRight_34 rfl (lv_at hl 3 rfl) ?_
        refine lv_iload_n hx hb dX8_findRight_35 rfl (lv_at hl 2 rfl) ?_
        refine lv_icmp_ge (tgt := 170) hx hb dX8_findRight_36 (by decide) (fun c13 => ?_) (fun c13 => ?_)
        · have h := if_t h c13
          cases h
          exact K11 _ _ rfl H locs ls hW (lv_sub hl [] rfl)
        · have h := if_f h c13
          refine lv_iload_n hx hb dX8_findRight_39 rfl (lv_at hl 3 rfl) ?_
          refine lv_istore (lv' := [(4, .int x7), (0, .ref (a (30, 0, 0))), (1, .int p1), (2, .int y3), (3, .int x7)]) hx hb dX8_findRight_40 hl (by decide) rfl (fun ls hl => ?_)
          refine lv_iload_n hx hb dX8_findRight_42 rfl (lv_at hl 2 rfl) ?_
          refine lv_iconst (v := (1 : Int32)) hx hb dX8_findRight_43 (by decide) ?_
          refine lv_isub hx hb dX8_findRight_44 ?_
          obtain ⟨x14, e15, h⟩ := pl_e h
          refine lv_nm e15 ?_
          refine lv_istore (lv' := [(5, .int x14), (4, .int x7), (0, .ref (a (30, 0, 0))), (1, .int p1), (2, .int y3), (3, .int x7)]) hx hb dX8_findRight_45 hl (by decide) rfl (fun ls hl => ?_)
          have L23 : ∀ (n : Nat) (F18 : St) (x16 : Int32) (x17 : Int32) (F19 : St) (x20 : Int32) (x21 : Int32), lp_X8_findRight_47 n F18 x16 x17 = some (F19, x20, x21) → (∀ (H : Heap) (locs : List Loc) (ls : Array Slot), wS D dA a s F19 H locs → lv_has ls 8 [(0, .ref (a (30, 0, 0))), (1, .int p1), (2, .int y3), (3, .int x7)] → WX p l e (rmL 5 113) s m av below meth c (wQi D dA a s.heap.size Fz rz) dA a H locs (F0 m 77 ls [])) → ∀ (H : Heap) (locs : List Loc) (ls : Array Slot), wS D dA a s F18 H locs → lv_has ls 8 [(0, .ref (a (30, 0, 0))), (1, .int p1), (2, .int y3), (3, .int x7), (4, .int x16), (5, .int x17)] → WX p l e (rmL 5 113) s m av below meth c (wQi D dA a s.heap.size Fz rz) dA a H locs (F0 m 47 ls []) := by
            intro n
            induction n with
            | zero =>
              intro F18 x16 x17 F19 x20 x21 h
              exact absurd (show (none : Option (St × Int32 × Int32)) = some (F19, x20, x21) from h) (by simp)
            | succ n ih =>
              intro F18 x16 x17 F19 x20 x21 h K22 H locs ls hW hl
              have h := lp_X8_findRight_47_s.symm.trans h
              refine lv_iload hx hb dX8_findRight_47 (lv_at hl 5 rfl) ?_
              refine lv_if_lt (tgt := 77) hx hb dX8_findRight_49 (by decide) (fun c24 => ?_) (fun c24 => ?_)
              · have h := if_t h c24
                cases h
                exact K22 H locs ls hW (lv_sub hl [0, 1, 2, 3] rfl)
              · have h := if_f h c24
                refine lv_aload_n hx hb dX8_findRight_52 rfl (lv_at hl 0 rfl) ?_
                refine gf_30_35 S hK hW hv0 q1020 dX8_findRight_53 ?_
                refine lv_iload hx hb dX8_findRight_56 (lv_at hl 5 rfl) ?_
                refine lv_iload hx hb dX8_findRight_58 (lv_at hl 4 rfl) ?_
                refine lv_bipush (v := (6 : Int32)) hx hb dX8_findRight_60 (by decide) ?_
                refine lv_irem hx hb dX8_findRight_62 (by decide) ?_
                obtain ⟨g25, h⟩ := og_e h
                obtain ⟨F26, e27, h⟩ := pl_e h
                refine ast_45 S hK hD hW (vq_30_35 hv0) g25 rfl e27 dX8_findRight_63 (fun H locs hW => ?_)
                refine lv_iload hx hb dX8_findRight_64 (lv_at hl 4 rfl) ?_
                refine lv_bipush (v := (6 : Int32)) hx hb dX8_findRight_66 (by decide) ?_
                refine lv_idiv hx hb dX8_findRight_68 (by decide) ?_
                obtain ⟨x28, e29, h⟩ := pl_e h
                refine lv_nm e29 ?_
                refine lv_istore (lv' := [(4, .int x28), (0, .ref (a (30, 0, 0))), (1, .int p1), (2, .int y3), (3, .int x7), (5, .int x17)]) hx hb dX8_findRight_69 hl (by decide) rfl (fun ls hl => ?_)
                refine lv_iinc (v := (x17 + (-1))) (lv' := [(5, .int (x17 + (-1))), (4, .int x28), (0, .ref (a (30, 0, 0))), (1, .int p1), (2, .int y3), (3, .int x7)]) hx hb dX8_findRight_71 hl (k := 5) rfl rfl (by decide) rfl (fun ls hl => ?_)
                refine lv_goto (tgt := 47) hx hb dX8_findRight_74 (by decide) ?_
                exact ih _ _ _ _ _ _ h K22 H locs ls hW (lv_sub hl [2, 3, 4, 5, 1, 0] rfl)
          obtain ⟨F19, x20, x21, hz30, h⟩ := ob3_e h
          refine L23 300 F8 x7 x14 F19 x20 x21 hz30 (fun H locs ls hW hl => ?_) H locs ls hW (lv_sub hl [2, 3, 4, 5, 1, 0] rfl)
          refine lv_iconst (v := (0 : Int32)) hx hb dX8_findRight_77 (by decide) ?_
          refine lv_istore (lv' := [(5, .int (0 : Int32)), (0, .ref (a (30, 0, 0))), (1, .int p1), (2, .int y3), (3, .int x7)]) hx hb dX8_findRight_78 hl (by decide) rfl (fun ls hl => ?_)
          have L36 : ∀ (n : Nat) (F32 : St) (x31 : Int32) (F33 : St) (x34 : Int32), lp_X8_findRight_80 p1 n F32 x31 = some (F33, x34) → (∀ (H : Heap) (locs : List Loc) (ls : Array Slot), wS D dA a s F33 H locs → lv_has ls 8 [(0, .ref (a (30, 0, 0))), (1, .int p1), (2, .int y3), (3, .int x7), (5, .int x34)] → WX p l e (rmL 5 113) s m av below meth c (wQi D dA a s.heap.size Fz rz) dA a H locs (F0 m 107 ls [])) → ∀ (H : Heap) (locs : List Loc) (ls : Array Slot), wS D dA a s F32 H locs → lv_has ls 8 [(0, .ref (a (30, 0, 0))), (1, .int p1), (2, .int y3), (3, .int x7), (5, .int x31)] → WX p l e (rmL 5 113) s m av below meth c (wQi D dA a s.heap.size Fz rz) dA a H locs (F0 m 80 ls []) := by
            intro n
            induction n with
            | zero =>
              intro F32 x31 F33 x34 h
              exact absurd (show (none : Option (St × Int32)) = some (F33, x34) from h) (by simp)
            | succ n ih =>
              intro F32 x31 F33 x34 h K35 H locs ls hW hl
              have h := lp_X8_findRight_80_s.symm.trans h
              refine lv_iload hx hb dX8_findRight_80 (lv_at hl 4 rfl) ?_
              refine lv_iload_n hx hb dX8_findRight_82 rfl (lv_at hl 1 rfl) ?_
              refine lv_icmp_ge (tgt := 107) hx hb dX8_findRight_83 (by decide) (fun c37 => ?_) (fun c37 => ?_)
              · have h := if_t h c37
                cases h
                exact K35 H locs ls hW (lv_sub hl [0, 1, 2, 3, 4] rfl)
              · have h := if_f h c37
                refine lv_aload_n hx hb dX8_findRight_86 rfl (lv_at hl 0 rfl) ?_
                refine lv_aload_n hx hb dX8_findRight_87 rfl (lv_at hl 0 rfl) ?_
                refine gf_30_35 S hK hW hv0 q1020 dX8_findRight_88 ?_
                refine lv_iload hx hb dX8_findRight_91 (lv_at hl 4 rfl) ?_
                obtain ⟨g38, h⟩ := og_e h
                refine ald_45 S hK hW (vq_30_35 hv0) g38 rfl dX8_findRight_93 ?_
                refine lv_iconst (v := (1 : Int32)) hx hb dX8_findRight_94 (by decide) ?_
                obtain ⟨F39, r40, hc41, h⟩ := ob2_e h
                refine wk_i (va_runV (As := [.int (F32 45 0 0 x31.toNatClampNeg), .int (1 : Int32)]) (rest := []) S (met_X8_isTurned l hD hv0 hc41 H.size) (cwV 2 S.2.2.2.2 (lw_V q1307 q1309 qs51 q63 q1310) rfl rfl rfl yd_X8_isTurned ⟨Nat.le_of_ble_eq_true rfl, Nat.le_of_ble_eq_true rfl⟩) (wpreV hK hW hv0 rfl rfl _) rfl rfl hl.1 rfl (lv_room (Nat.le_of_ble_eq_true rfl)) dX8_findRight_95 ⟨Nat.le_refl 0, Nat.le_refl 0⟩) hW (fun H locs hW => ?_)
                refine lv_if_eq (tgt := 107) hx hb dX8_findRight_98 (by decide) (fun c42 => ?_) (fun c42 => ?_)
                · have h := if_t h c42
                  cases h
                  exact K35 H locs ls hW (lv_sub hl [0, 1, 2, 3, 4] rfl)
                · have h := if_f h c42
                  refine lv_iinc (v := (x31 + 1)) (lv' := [(5, .int (x31 + 1)), (0, .ref (a (30, 0, 0))), (1, .int p1), (2, .int y3), (3, .int x7)]) hx hb dX8_findRight_101 hl (k := 4) rfl rfl (by decide) rfl (fun ls hl => ?_)
                  refine lv_goto (tgt := 80) hx hb dX8_findRight_104 (by decide) ?_
                  exact ih _ _ _ _ h K35 H locs ls hW (lv_sub hl [1, 2, 3, 4, 0] rfl)
          obtain ⟨F33, x34, hz43, h⟩ := ob2_e h
          refine L36 300 F19 (0 : Int32) F33 x34 hz43 (fun H locs ls hW hl => ?_) H locs ls hW (lv_sub hl [1, 2, 3, 4, 0] rfl)
          refine lv_iload hx hb dX8_findRight_107 (lv_at hl 4 rfl) ?_
          refine lv_iload_n hx hb dX8_findRight_109 rfl (lv_at hl 1 rfl) ?_
          obtain ⟨F46, y47, hz45, h⟩ := ob2_e h
          have K48 : ∀ (H : Heap) (locs : List Loc) (ls : Array Slot), wS D dA a s F46 H locs → lv_has ls 8 [(0, .ref (a (30, 0, 0))), (1, .int p1), (2, .int y3), (3, .int x7), (5, .int x34)] → WX p l e (rmL 5 113) s m av below meth c (wQi D dA a s.heap.size Fz rz) dA a H locs (F0 m 125 ls [.int y47]) := by
            intro H locs ls hW hl
            refine lv_istore (lv' := [(6, .int y47), (0, .ref (a (30, 0, 0))), (1, .int p1), (2, .int y3), (3, .int x7), (5, .int x34)]) hx hb dX8_findRight_125 hl (by decide) rfl (fun ls hl => ?_)
            refine lv_iload hx hb dX8_findRight_127 (lv_at hl 5 rfl) ?_
            refine lv_iconst (v := (1 : Int32)) hx hb dX8_findRight_129 (by decide) ?_
            refine lv_isub hx hb dX8_findRight_130 ?_
            obtain ⟨x53, e54, h⟩ := pl_e h
            refine lv_nm e54 ?_
            refine lv_istore (lv' := [(7, .int x53), (6, .int y47), (0, .ref (a (30, 0, 0))), (1, .int p1), (2, .int y3), (3, .int x7), (5, .int x34)]) hx hb dX8_findRight_131 hl (by decide) rfl (fun ls hl => ?_)
            have L60 : ∀ (n : Nat) (F56 : St) (x55 : Int32) (F57 : St) (x58 : Int32), lp_X8_findRight_133 n F56 x55 = some (F57, x58) → (∀ (H : Heap) (locs : List Loc) (ls : Array Slot), wS D dA a s F57 H locs → lv_has ls 8 [(0, .ref (a (30, 0, 0))), (1, .int p1), (2, .int y3), (3, .int x7), (6, .int y47)] → WX p l e (rmL 5 113) s m av below meth c (wQi D dA a s.heap.size Fz rz) dA a H locs (F0 m 157 ls [])) → ∀ (H : Heap) (locs : List Loc) (ls : Array Slot), wS D dA a s F56 H locs → lv_has ls 8 [(0, .ref (a (30, 0, 0))), (1, .int p1), (2, .int y3), (3, .int x7), (6, .int y47), (7, .int x55)] → WX p l e (rmL 5 113) s m av below meth c (wQi D dA a s.heap.size Fz rz) dA a H locs (F0 m 133 ls []) := by
              intro n
              induction n with
              | zero =>
                intro F56 x55 F57 x58 h
                exact absurd (show (none : Option (St × Int32)) = some (F57, x58) from h) (by simp)
              | succ n ih =>
                intro F56 x55 F57 x58 h K59 H locs ls hW hl
                have h := lp_X8_findRight_133_s.symm.trans h
                refine lv_iload hx hb dX8_findRight_133 (lv_at hl 5 rfl) ?_
                refine lv_if_lt (tgt := 157) hx hb dX8_findRight_135 (by decide) (fun c61 => ?_) (fun c61 => ?_)
                · have h := if_t h c61
                  cases h
                  exact K59 H locs ls hW (lv_sub hl [0, 1, 2, 3, 4] rfl)
                · have h := if_f h c61
                  refine lv_aload_n hx hb dX8_findRight_138 rfl (lv_at hl 0 rfl) ?_
                  refine lv_aload_n hx hb dX8_findRight_139 rfl (lv_at hl 0 rfl) ?_
                  refine gf_30_35 S hK hW hv0 q1020 dX8_findRight_140 ?_
                  refine lv_iload hx hb dX8_findRight_143 (lv_at hl 5 rfl) ?_
                  obtain ⟨g62, h⟩ := og_e h
                  refine ald_45 S hK hW (vq_30_35 hv0) g62 rfl dX8_findRight_145 ?_
                  refine lv_iconst (v := (-1 : Int32)) hx hb dX8_findRight_146 (by decide) ?_
                  obtain ⟨F63, r64, hc65, h⟩ := ob2_e h
                  refine wk_i (va_runV (As := [.int (F56 45 0 0 x55.toNatClampNeg), .int (-1 : Int32)]) (rest := []) S (met_X8_isTurned l hD hv0 hc65 H.size) (cwV 2 S.2.2.2.2 (lw_V q1307 q1309 qs51 q63 q1310) rfl rfl rfl yd_X8_isTurned ⟨Nat.le_of_ble_eq_true rfl, Nat.le_of_ble_eq_true rfl⟩) (wpreV hK hW hv0 rfl rfl _) rfl rfl hl.1 rfl (lv_room (Nat.le_of_ble_eq_true rfl)) dX8_findRight_147 ⟨Nat.le_refl 0, Nat.le_refl 0⟩) hW (fun H locs hW => ?_)
                  refine lv_pop hx hb dX8_findRight_150 rfl ?_
                  refine lv_iinc (v := (x55 + (-1))) (lv' := [(7, .int (x55 + (-1))), (0, .ref (a (30, 0, 0))), (1, .int p1), (2, .int y3), (3, .int x7), (6, .int y47)]) hx hb dX8_findRight_151 hl (k := 5) rfl rfl (by decide) rfl (fun ls hl => ?_)
                  refine lv_goto (tgt := 133) hx hb dX8_findRight_154 (by decide) ?_
                  exact ih _ _ _ _ h K59 H locs ls hW (lv_sub hl [1, 2, 3, 4, 5, 0] rfl)
            obtain ⟨F57, x58, hz66, h⟩ := ob2_e h
            refine L60 300 F46 x53 F57 x58 hz66 (fun H locs ls hW hl => ?_) H locs ls hW (lv_sub hl [2, 3, 4, 5, 1, 0] rfl)
            refine lv_iload hx hb dX8_findRight_157 (lv_at hl 4 rfl) ?_
            refine lv_if_eq (tgt := 164) hx hb dX8_findRight_159 (by decide) (fun c67 => ?_) (fun c67 => ?_)
            · have h := if_t h c67
              refine lv_iinc (v := (x7 + 1)) (lv' := [(3, .int (x7 + 1)), (0, .ref (a (30, 0, 0))), (1, .int p1), (2, .int y3), (6, .int y47)]) hx hb dX8_findRight_164 hl (k := 3) rfl rfl (by decide) rfl (fun ls hl => ?_)
              refine lv_goto (tgt := 34) hx hb dX8_findRight_167 (by decide) ?_
              exact ih _ _ _ h hfin K11 H locs ls hW (lv_sub hl [1, 2, 3, 0] rfl)
            · have h := if_f h c67
              refine lv_iconst (v := (1 : Int32)) hx hb dX8_findRight_162 (by decide) ?_
              cases h
              have h := hfin _ rfl
              cases h
              exact we_z S hr hlk rfl hW dX8_findRight_163
          clear h
          refine lv_icmp_ne (tgt := 124) hx hb dX8_findRight_110 (by decide) (fun c44 => ?_) (fun c44 => ?_)
          · have h := if_f hz45 c44
            refine lv_iconst (v := (0 : Int32)) hx hb dX8_findRight_124 (by decide) ?_
            cases h
            exact K48 H locs ls hW (lv_sub hl [0, 1, 2, 3, 4] rfl)
          · have h := if_t hz45 c44
            refine lv_aload_n hx hb dX8_findRight_113 rfl (lv_at hl 0 rfl) ?_
            obtain ⟨F49, r50, hc51, h⟩ := ob2_e h
            refine wk_i (va_runV (As := []) (rest := []) S (met_X8_tasteNow l hD hv0 hc51 H.size) (cwV 0 S.2.2.2.2 (lw_V q1291 q1293 qs48 q63 q1294) rfl rfl rfl yd_X8_tasteNow ⟨Nat.le_of_ble_eq_true rfl, Nat.le_of_ble_eq_true rfl⟩) (wpreV hK hW hv0 rfl rfl _) rfl rfl hl.1 rfl (lv_room (Nat.le_of_ble_eq_true rfl)) dX8_findRight_114 ⟨Nat.le_refl 0, Nat.le_refl 0⟩) hW (fun H locs hW => ?_)
            refine lv_if_ne (tgt := 124) hx hb dX8_findRight_117 (by decide) (fun c52 => ?_) (fun c52 => ?_)
            · have h := if_f h c52
              refine lv_iconst (v := (0 : Int32)) hx hb dX8_findRight_124 (by decide) ?_
              cases h
              exact K48 H locs ls hW (lv_sub hl [0, 1, 2, 3, 4] rfl)
            · have h := if_t h c52
              refine lv_iconst (v := (1 : Int32)) hx hb dX8_findRight_120 (by decide) ?_
              refine lv_goto (tgt := 125) hx hb dX8_findRight_121 (by decide) ?_
              cases h
              exact K48 H locs ls hW (lv_sub hl [0, 1, 2, 3, 4] rfl)
    rcases obE2_e h with ⟨y, hz68, h⟩ | ⟨F9, x10, hz68, h⟩
    · exact L12 300 F (0 : Int32) _ hz68 (fun y2 hy => by cases hy; exact h) (fun _ _ ht => by cases ht) H locs ls hW (lv_sub hl [2, 3, 1, 0] rfl)
    · refine L12 300 F (0 : Int32) _ hz68 (fun y2 hy => by cases hy) (fun _ _ ht H locs ls hW hl => ?_) H locs ls hW (lv_sub hl [2, 3, 1, 0] rfl)
      cases ht
      refine lv_iconst (v := (0 : Int32)) hx hb dX8_findRight_170 (by decide) ?_
      cases h
      exact we_z S hr hlk rfl hW dX8_findRight_171
  clear h
  refine lv_if_ne (tgt := 8) hx hb dX8_findRight_1 (by decide) (fun c1 => ?_) (fun c1 => ?_)
  · have h := if_f hz2 c1
    refine lv_iload_n hx hb dX8_findRight_8 rfl (lv_at hl 1 rfl) ?_
    refine lv_iconst (v := (1 : Int32)) hx hb dX8_findRight_9 (by decide) ?_
    refine lv_icmp_ne (tgt := 18) hx hb dX8_findRight_10 (by decide) (fun c5 => ?_) (fun c5 => ?_)
    · have h := if_f h c5
      refine lv_iload_n hx hb dX8_findRight_18 rfl (lv_at hl 1 rfl) ?_
      refine lv_iconst (v := (2 : Int32)) hx hb dX8_findRight_19 (by decide) ?_
      refine lv_icmp_ne (tgt := 28) hx hb dX8_findRight_20 (by decide) (fun c6 => ?_) (fun c6 => ?_)
      · have h := if_f h c6
        refine lv_sipush (v := (216 : Int32)) hx hb dX8_findRight_28 (by decide) ?_
        cases h
        exact K4 H locs ls hW (lv_sub hl [0, 1] rfl)
      · have h := if_t h c6
        refine lv_bipush (v := (36 : Int32)) hx hb dX8_findRight_23 (by decide) ?_
        refine lv_goto (tgt := 31) hx hb dX8_findRight_25 (by decide) ?_
        cases h
        exact K4 H locs ls hW (lv_sub hl [0, 1] rfl)
    · have h := if_t h c5
      refine lv_bipush (v := (6 : Int32)) hx hb dX8_findRight_13 (by decide) ?_
      refine lv_goto (tgt := 31) hx hb dX8_findRight_15 (by decide) ?_
      cases h
      exact K4 H locs ls hW (lv_sub hl [0, 1] rfl)
  · have h := if_t hz2 c1
    refine lv_iconst (v := (1 : Int32)) hx hb dX8_findRight_4 (by decide) ?_
    refine lv_goto (tgt := 31) hx hb dX8_findRight_5 (by decide) ?_
    cases h
    exact K4 H locs ls hW (lv_sub hl [0, 1] rfl)
/-loop lp_X8_copy_40_42_3-/
def lp_X8_copy_40_42_3 (p1 : Int32) (p3 : Int32) : Nat → St → Int32 → Option (St × Int32)
  | 0, _, _ => none
  | n + 1, F2, x1 => if (138 : Int32) ≤ x1 then some (F2, x1) else og (vpb (p1 + x1) 138) (og (vpb (p3 + x1) 276) (pl (fu F2 42 0 0 (p3 + x1).toNatClampNeg (F2 40 0 0 (p1 + x1).toNatClampNeg)) (fun F10 => lp_X8_copy_40_42_3 p1 p3 n F10 (x1 + 1))))
theorem lp_X8_copy_40_42_3_s {p1 : Int32} {p3 : Int32} {n : Nat} {F2 : St} {x1 : Int32} : lp_X8_copy_40_42_3 p1 p3 (n + 1) F2 x1 = if (138 : Int32) ≤ x1 then some (F2, x1) else og (vpb (p1 + x1) 138) (og (vpb (p3 + x1) 276) (pl (fu F2 42 0 0 (p3 + x1).toNatClampNeg (F2 40 0 0 (p1 + x1).toNatClampNeg)) (fun F10 => lp_X8_copy_40_42_3 p1 p3 n F10 (x1 + 1)))) := rfl
def fn_X8_copy_40_42 (F : St) (p1 : Int32) (p3 : Int32) : Option (St) :=
  ob2 (lp_X8_copy_40_42_3 p1 p3 300 F (0 : Int32)) (fun F3 x4 => some F3)
set_option maxHeartbeats 4000000 in
theorem met_X8_copy_40_42 (l : Launch) {D : va_G} {dA : WK} {a : Ix → Nat} (hD : wD D dA a) {F : St} {p1 : Int32} {p3 : Int32} {Fz : St} (hv0 : wVd dA (40, 0, 0)) (hv2 : wVd dA (42, 0, 0)) (h : fn_X8_copy_40_42 F p1 p3 = some Fz) : Mv l yX8_copy cX8_copy 5 0 0 D dA a F [.ref (a (40, 0, 0)), .int p1, .ref (a (42, 0, 0)), .int p3] Fz := by
  refine fun sz => mst (Qc := fun sz => wQv D dA a sz Fz) (by decide) (Nat.le_of_ble_eq_true rfl) ?_ sz
  intro p e s m below meth c S hr hlk hK hW ls hl
  have hl : lv_has ls 5 [(0, .ref (a (40, 0, 0))), (1, .int p1), (2, .ref (a (42, 0, 0))), (3, .int p3)] := hl
  have hx := S.1
  have hb := S.2.1
  generalize ([.ref (a (40, 0, 0)), .int p1, .ref (a (42, 0, 0)), .int p3] : List Value).toArray = av at S ⊢
  unfold fn_X8_copy_40_42 at h
  obtain ⟨H, eH⟩ : ∃ z, z = s.heap := ⟨_, rfl⟩
  obtain ⟨locs, eL⟩ : ∃ z : List Loc, z = [] := ⟨_, rfl⟩
  show WX p l e (rmL 0 0) s m av below meth c (wQv D dA a s.heap.size Fz) dA a s.heap [] (F0 m 0 ls [])
  have hW : wS D dA a s F H locs := by rw [eH, eL]; exact wS_in hW
  refine wx_in eH eL ?_
  clear eH eL
  refine lv_iconst (v := (0 : Int32)) hx hb dX8_copy_0 (by decide) ?_
  refine lv_istore (lv' := [(4, .int (0 : Int32)), (0, .ref (a (40, 0, 0))), (1, .int p1), (2, .ref (a (42, 0, 0))), (3, .int p3)]) hx hb dX8_copy_1 hl (by decide) rfl (fun ls hl => ?_)
  have L6 : ∀ (n : Nat) (F2 : St) (x1 : Int32) (F3 : St) (x4 : Int32), lp_X8_copy_40_42_3 p1 p3 n F2 x1 = some (F3, x4) → (∀ (H : Heap) (locs : List Loc) (ls : Array Slot), wS D dA a s F3 H locs → lv_has ls 5 [] → WX p l e (rmL 0 0) s m av below meth c (wQv D dA a s.heap.size Fz) dA a H locs (F0 m 29 ls [])) → ∀ (H : Heap) (locs : List Loc) (ls : Array Slot), wS D dA a s F2 H locs → lv_has ls 5 [(0, .ref (a (40, 0, 0))), (1, .int p1), (2, .ref (a (42, 0, 0))), (3, .int p3), (4, .int x1)] → WX p l e (rmL 0 0) s m av below meth c (wQv D dA a s.heap.size Fz) dA a H locs (F0 m 3 ls []) := by
    intro n
    induction n with
    | zero =>
      intro F2 x1 F3 x4 h
      exact absurd (show (none : Option (St × Int32)) = some (F3, x4) from h) (by simp)
    | succ n ih =>
      intro F2 x1 F3 x4 h K5 H locs ls hW hl
      have h := lp_X8_copy_40_42_3_s.symm.trans h
      refine lv_iload hx hb dX8_copy_3 (lv_at hl 4 rfl) ?_
      refine lv_sipush (v := (138 : Int32)) hx hb dX8_copy_5 (by decide) ?_
      refine lv_icmp_ge (tgt := 29) hx hb dX8_copy_8 (by decide) (fun c7 => ?_) (fun c7 => ?_)
      · have h := if_t h c7
        cases h
        exact K5 H locs ls hW (lv_sub hl [] rfl)
      · have h := if_f h c7
        refine lv_aload_n hx hb dX8_copy_11 rfl (lv_at hl 2 rfl) ?_
        refine lv_iload_n hx hb dX8_copy_12 rfl (lv_at hl 3 rfl) ?_
        refine lv_iload hx hb dX8_copy_13 (lv_at hl 4 rfl) ?_
        refine lv_iadd hx hb dX8_copy_15 ?_
        refine lv_aload_n hx hb dX8_copy_16 rfl (lv_at hl 0 rfl) ?_
        refine lv_iload_n hx hb dX8_copy_17 rfl (lv_at hl 1 rfl) ?_
        refine lv_iload hx hb dX8_copy_18 (lv_at hl 4 rfl) ?_
        refine lv_iadd hx hb dX8_copy_20 ?_
        obtain ⟨g8, h⟩ := og_e h
        refine ald_40 S hK hW hv0 g8 rfl dX8_copy_21 ?_
        obtain ⟨g9, h⟩ := og_e h
        obtain ⟨F10, e11, h⟩ := pl_e h
        refine ast_42 S hK hD hW hv2 g9 rfl e11 dX8_copy_22 (fun H locs hW => ?_)
        refine lv_iinc (v := (x1 + 1)) (lv' := [(4, .int (x1 + 1)), (0, .ref (a (40, 0, 0))), (1, .int p1), (2, .ref (a (42, 0, 0))), (3, .int p3)]) hx hb dX8_copy_23 hl (k := 4) rfl rfl (by decide) rfl (fun ls hl => ?_)
        refine lv_goto (tgt := 3) hx hb dX8_copy_26 (by decide) ?_
        exact ih _ _ _ _ h K5 H locs ls hW (lv_sub hl [1, 2, 3, 4, 0] rfl)
  obtain ⟨F3, x4, hz12, h⟩ := ob2_e h
  refine L6 300 F (0 : Int32) F3 x4 hz12 (fun H locs ls hW hl => ?_) H locs ls hW (lv_sub hl [1, 2, 3, 4, 0] rfl)
  cases h
  exact we_v S hr hlk hW dX8_copy_29
def fn_X8_keep (F : St) (p1 : Int32) : Option (St × Int32) :=
  ob (fn_X8_in F p1 (0 : Int32) (1 : Int32)) (fun r1 => if r1 = 0 then some (F, (-2 : Int32)) else ob (fn_X8_copy_40_42 F (0 : Int32) ((138 : Int32) * p1)) (fun F4 => og (vpb p1 2) (pl (fu F4 43 0 0 p1.toNatClampNeg (vp_nar .boolean (1 : Int32))) (fun F7 => some (F7, (F7 40 0 0 132))))))
theorem yd_X8_keep : yX8_keep.cls = RX8 ∧ yX8_keep.cls ≠ "java/lang/invoke/MethodHandle" ∧ yX8_keep.cls ≠ "java/lang/invoke/VarHandle" ∧ (parseMethodDescriptor yX8_keep.desc).map (fun d => d.parameters.length) = some 1 := by decide +kernel
set_option maxHeartbeats 4000000 in
theorem met_X8_keep (l : Launch) {D : va_G} {dA : WK} {a : Ix → Nat} (hD : wD D dA a) {F : St} {p1 : Int32} {Fz : St} {rz : Int32} (hv0 : wVd dA (30, 0, 0)) (h : fn_X8_keep F p1 = some (Fz, rz)) : Mi l yX8_keep cX8_keep 2 .int 1 24 D dA a F [.ref (a (30, 0, 0)), .int p1] Fz rz := by
  refine fun sz => mst (Qc := fun sz => wQi D dA a sz Fz rz) (by decide) (Nat.le_of_ble_eq_true rfl) ?_ sz
  intro p e s m below meth c S hr hlk hK hW ls hl
  have hl : lv_has ls 2 [(0, .ref (a (30, 0, 0))), (1, .int p1)] := hl
  have hx := S.1
  have hb := S.2.1
  generalize ([.ref (a (30, 0, 0)), .int p1] : List Value).toArray = av at S ⊢
  unfold fn_X8_keep at h
  obtain ⟨H, eH⟩ : ∃ z, z = s.heap := ⟨_, rfl⟩
  obtain ⟨locs, eL⟩ : ∃ z : List Loc, z = [] := ⟨_, rfl⟩
  show WX p l e (rmL 1 24) s m av below meth c (wQi D dA a s.heap.size Fz rz) dA a s.heap [] (F0 m 0 ls [])
  have hW : wS D dA a s F H locs := by rw [eH, eL]; exact wS_in hW
  refine wx_in eH eL ?_
  clear eH eL
  refine lv_iload_n hx hb dX8_keep_0 rfl (lv_at hl 1 rfl) ?_
  refine lv_iconst (v := (0 : Int32)) hx hb dX8_keep_1 (by decide) ?_
  refine lv_iconst (v := (1 : Int32)) hx hb dX8_keep_2 (by decide) ?_
  obtain ⟨r1, hc2, h⟩ := ob_e h
  refine wk_i (va_runS (As := [.int p1, .int (0 : Int32), .int (1 : Int32)]) (rest := []) S (met_X8_in l hD hc2 H.size) (va_cwS 3 S.2.2.2.2 (lw_S q1117 q1118 q63 q1119) rfl rfl rfl yd_X8_in.2 ⟨Nat.le_of_ble_eq_true rfl, Nat.le_of_ble_eq_true rfl⟩) (wpreS hK hW _) rfl rfl hl.1 rfl (lv_room (Nat.le_of_ble_eq_true rfl)) dX8_keep_3 ⟨Nat.le_refl 0, Nat.le_refl 0⟩) hW (fun H locs hW => ?_)
  refine lv_if_ne (tgt := 12) hx hb dX8_keep_6 (by decide) (fun c3 => ?_) (fun c3 => ?_)
  · have h := if_f h c3
    refine lv_aload_n hx hb dX8_keep_12 rfl (lv_at hl 0 rfl) ?_
    refine gf_30_30 S hK hW hv0 q1015 dX8_keep_13 ?_
    refine lv_iconst (v := (0 : Int32)) hx hb dX8_keep_16 (by decide) ?_
    refine lv_aload_n hx hb dX8_keep_17 rfl (lv_at hl 0 rfl) ?_
    refine gf_30_32 S hK hW hv0 q1017 dX8_keep_18 ?_
    refine lv_sipush (v := (138 : Int32)) hx hb dX8_keep_21 (by decide) ?_
    refine lv_iload_n hx hb dX8_keep_24 rfl (lv_at hl 1 rfl) ?_
    refine lv_imul hx hb dX8_keep_25 ?_
    obtain ⟨F4, hc5, h⟩ := ob_e h
    refine wk_v (va_runS (As := [.ref (a (40, 0, 0)), .int (0 : Int32), .ref (a (42, 0, 0)), .int ((138 : Int32) * p1)]) (rest := []) S (met_X8_copy_40_42 l hD (vq_30_30 hv0) (vq_30_32 hv0) hc5 H.size) (va_cwS 4 S.2.2.2.2 (lw_S q1280 q1281 q63 q1282) rfl rfl rfl yd_X8_copy.2 ⟨Nat.le_of_ble_eq_true rfl, Nat.le_of_ble_eq_true rfl⟩) (wpreS hK hW _) rfl rfl hl.1 rfl (lv_room (Nat.le_of_ble_eq_true rfl)) dX8_keep_26 ⟨Nat.le_refl 0, Nat.le_refl 0⟩) hW (fun H locs hW => ?_)
    refine lv_aload_n hx hb dX8_keep_29 rfl (lv_at hl 0 rfl) ?_
    refine gf_30_33 S hK hW hv0 q1018 dX8_keep_30 ?_
    refine lv_iload_n hx hb dX8_keep_33 rfl (lv_at hl 1 rfl) ?_
    refine lv_iconst (v := (1 : Int32)) hx hb dX8_keep_34 (by decide) ?_
    obtain ⟨g6, h⟩ := og_e h
    obtain ⟨F7, e8, h⟩ := pl_e h
    refine ast_43 S hK hD hW (vq_30_33 hv0) g6 rfl e8 dX8_keep_35 (fun H locs hW => ?_)
    refine lv_aload_n hx hb dX8_keep_36 rfl (lv_at hl 0 rfl) ?_
    refine gf_30_30 S hK hW hv0 q1015 dX8_keep_37 ?_
    refine lv_sipush (v := (132 : Int32)) hx hb dX8_keep_40 (by decide) ?_
    refine ald_40 (z := 132) S hK hW (vq_30_30 hv0) (by decide) (by decide) dX8_keep_43 ?_
    cases h
    exact we_i S hr hlk hW dX8_keep_44
  · have h := if_t h c3
    refine lv_bipush (v := (-2 : Int32)) hx hb dX8_keep_9 (by decide) ?_
    cases h
    exact we_i S hr hlk hW dX8_keep_11
def fn_X8_knob (F : St) (p1 : Int32) : Option (St × Int32) :=
  ob (fn_X8_in F p1 (0 : Int32) (5 : Int32)) (fun r1 => if r1 = 0 then some (F, (-2 : Int32)) else ob2 (fn_X8_isTurned F p1 (1 : Int32)) (fun F4 r5 => if r5 = 0 then some (F4, (-1 : Int32)) else ob2 (fn_X8_tasteNow F4) (fun F8 r9 => ob2 (fn_X8_isTurned F8 p1 (-1 : Int32)) (fun F11 r12 => some (F11, r9)))))
theorem yd_X8_knob : yX8_knob.cls = RX8 ∧ yX8_knob.cls ≠ "java/lang/invoke/MethodHandle" ∧ yX8_knob.cls ≠ "java/lang/invoke/VarHandle" ∧ (parseMethodDescriptor yX8_knob.desc).map (fun d => d.parameters.length) = some 1 := by decide +kernel
set_option maxHeartbeats 4000000 in
theorem met_X8_knob (l : Launch) {D : va_G} {dA : WK} {a : Ix → Nat} (hD : wD D dA a) {F : St} {p1 : Int32} {Fz : St} {rz : Int32} (hv0 : wVd dA (30, 0, 0)) (h : fn_X8_knob F p1 = some (Fz, rz)) : Mi l yX8_knob cX8_knob 3 .int 5 113 D dA a F [.ref (a (30, 0, 0)), .int p1] Fz rz := by
  refine fun sz => mst (Qc := fun sz => wQi D dA a sz Fz rz) (by decide) (Nat.le_of_ble_eq_true rfl) ?_ sz
  intro p e s m below meth c S hr hlk hK hW ls hl
  have hl : lv_has ls 3 [(0, .ref (a (30, 0, 0))), (1, .int p1)] := hl
  have hx := S.1
  have hb := S.2.1
  generalize ([.ref (a (30, 0, 0)), .int p1] : List Value).toArray = av at S ⊢
  unfold fn_X8_knob at h
  obtain ⟨H, eH⟩ : ∃ z, z = s.heap := ⟨_, rfl⟩
  obtain ⟨locs, eL⟩ : ∃ z : List Loc, z = [] := ⟨_, rfl⟩
  show WX p l e (rmL 5 113) s m av below meth c (wQi D dA a s.heap.size Fz rz) dA a s.heap [] (F0 m 0 ls [])
  have hW : wS D dA a s F H locs := by rw [eH, eL]; exact wS_in hW
  refine wx_in eH eL ?_
  clear eH eL
  refine lv_iload_n hx hb dX8_knob_0 rfl (lv_at hl 1 rfl) ?_
  refine lv_iconst (v := (0 : Int32)) hx hb dX8_knob_1 (by decide) ?_
  refine lv_iconst (v := (5 : Int32)) hx hb dX8_knob_2 (by decide) ?_
  obtain ⟨r1, hc2, h⟩ := ob_e h
  refine wk_i (va_runS (As := [.int p1, .int (0 : Int32), .int (5 : Int32)]) (rest := []) S (met_X8_in l hD hc2 H.size) (va_cwS 3 S.2.2.2.2 (lw_S q1117 q1118 q63 q1119) rfl rfl rfl yd_X8_in.2 ⟨Nat.le_of_ble_eq_true rfl, Nat.le_of_ble_eq_true rfl⟩) (wpreS hK hW _) rfl rfl hl.1 rfl (lv_room (Nat.le_of_ble_eq_true rfl)) dX8_knob_3 ⟨Nat.le_refl 0, Nat.le_refl 0⟩) hW (fun H locs hW => ?_)
  refine lv_if_ne (tgt := 12) hx hb dX8_knob_6 (by decide) (fun c3 => ?_) (fun c3 => ?_)
  · have h := if_f h c3
    refine lv_aload_n hx hb dX8_knob_12 rfl (lv_at hl 0 rfl) ?_
    refine lv_iload_n hx hb dX8_knob_13 rfl (lv_at hl 1 rfl) ?_
    refine lv_iconst (v := (1 : Int32)) hx hb dX8_knob_14 (by decide) ?_
    obtain ⟨F4, r5, hc6, h⟩ := ob2_e h
    refine wk_i (va_runV (As := [.int p1, .int (1 : Int32)]) (rest := []) S (met_X8_isTurned l hD hv0 hc6 H.size) (cwV 2 S.2.2.2.2 (lw_V q1307 q1309 qs51 q63 q1310) rfl rfl rfl yd_X8_isTurned ⟨Nat.le_of_ble_eq_true rfl, Nat.le_of_ble_eq_true rfl⟩) (wpreV hK hW hv0 rfl rfl _) rfl rfl hl.1 rfl (lv_room (Nat.le_of_ble_eq_true rfl)) dX8_knob_15 ⟨Nat.le_refl 0, Nat.le_refl 0⟩) hW (fun H locs hW => ?_)
    refine lv_if_ne (tgt := 23) hx hb dX8_knob_18 (by decide) (fun c7 => ?_) (fun c7 => ?_)
    · have h := if_f h c7
      refine lv_aload_n hx hb dX8_knob_23 rfl (lv_at hl 0 rfl) ?_
      obtain ⟨F8, r9, hc10, h⟩ := ob2_e h
      refine wk_i (va_runV (As := []) (rest := []) S (met_X8_tasteNow l hD hv0 hc10 H.size) (cwV 0 S.2.2.2.2 (lw_V q1291 q1293 qs48 q63 q1294) rfl rfl rfl yd_X8_tasteNow ⟨Nat.le_of_ble_eq_true rfl, Nat.le_of_ble_eq_true rfl⟩) (wpreV hK hW hv0 rfl rfl _) rfl rfl hl.1 rfl (lv_room (Nat.le_of_ble_eq_true rfl)) dX8_knob_24 ⟨Nat.le_refl 0, Nat.le_refl 0⟩) hW (fun H locs hW => ?_)
      refine lv_istore_n (lv' := [(2, .int r9), (0, .ref (a (30, 0, 0))), (1, .int p1)]) hx hb dX8_knob_27 rfl hl (by decide) rfl (fun ls hl => ?_)
      refine lv_aload_n hx hb dX8_knob_28 rfl (lv_at hl 1 rfl) ?_
      refine lv_iload_n hx hb dX8_knob_29 rfl (lv_at hl 2 rfl) ?_
      refine lv_iconst (v := (-1 : Int32)) hx hb dX8_knob_30 (by decide) ?_
      obtain ⟨F11, r12, hc13, h⟩ := ob2_e h
      refine wk_i (va_runV (As := [.int p1, .int (-1 : Int32)]) (rest := []) S (met_X8_isTurned l hD hv0 hc13 H.size) (cwV 2 S.2.2.2.2 (lw_V q1307 q1309 qs51 q63 q1310) rfl rfl rfl yd_X8_isTurned ⟨Nat.le_of_ble_eq_true rfl, Nat.le_of_ble_eq_true rfl⟩) (wpreV hK hW hv0 rfl rfl _) rfl rfl hl.1 rfl (lv_room (Nat.le_of_ble_eq_true rfl)) dX8_knob_31 ⟨Nat.le_refl 0, Nat.le_refl 0⟩) hW (fun H locs hW => ?_)
      refine lv_pop hx hb dX8_knob_34 rfl ?_
      refine lv_iload_n hx hb dX8_knob_35 rfl (lv_at hl 0 rfl) ?_
      cases h
      exact we_i S hr hlk hW dX8_knob_36
    · have h := if_t h c7
      refine lv_iconst (v := (-1 : Int32)) hx hb dX8_knob_21 (by decide) ?_
      cases h
      exact we_i S hr hlk hW dX8_knob_22
  · have h := if_t h c3
    refine lv_bipush (v := (-2 : Int32)) hx hb dX8_knob_9 (by decide) ?_
    cases h
    exact we_i S hr hlk hW dX8_knob_11
/-loop lp_X8_little_9-/
def lp_X8_little_9 : Nat → St → Int32 → Int32 → Option (St × Int32 × Int32)
  | 0, _, _, _ => none
  | n + 1, F5, x3, x4 => if (21 : Int32) ≤ x4 then some (F5, x3, x4) else if x3 = (-1 : Int32) then pl (fu F5 30 11 0 0 x4) (fun F13 => ob2 (fn_X8_tasteNow F13) (fun F15 r16 => ob (if r16 = (3 : Int32) then some (-1 : Int32) else some x4) (fun y20 => lp_X8_little_9 n F15 y20 (x4 + 1)))) else some (F5, x3, x4)
theorem lp_X8_little_9_s {n : Nat} {F5 : St} {x3 : Int32} {x4 : Int32} : lp_X8_little_9 (n + 1) F5 x3 x4 = if (21 : Int32) ≤ x4 then some (F5, x3, x4) else if x3 = (-1 : Int32) then pl (fu F5 30 11 0 0 x4) (fun F13 => ob2 (fn_X8_tasteNow F13) (fun F15 r16 => ob (if r16 = (3 : Int32) then some (-1 : Int32) else some x4) (fun y20 => lp_X8_little_9 n F15 y20 (x4 + 1)))) else some (F5, x3, x4) := rfl
def fn_X8_little (F : St) : Option (St × Int32) :=
  pl (F 30 11 0 0) (fun x1 => ob3 (lp_X8_little_9 300 F (-1 : Int32) (1 : Int32)) (fun F6 x7 x8 => pl (fu F6 30 11 0 0 x1) (fun F23 => some (F23, x7))))
theorem yd_X8_little : yX8_little.cls = RX8 ∧ yX8_little.cls ≠ "java/lang/invoke/MethodHandle" ∧ yX8_little.cls ≠ "java/lang/invoke/VarHandle" ∧ (parseMethodDescriptor yX8_little.desc).map (fun d => d.parameters.length) = some 0 := by decide +kernel
set_option maxHeartbeats 4000000 in
theorem met_X8_little (l : Launch) {D : va_G} {dA : WK} {a : Ix → Nat} (hD : wD D dA a) {F : St} {Fz : St} {rz : Int32} (hv0 : wVd dA (30, 0, 0)) (h : fn_X8_little F = some (Fz, rz)) : Mi l yX8_little cX8_little 4 .int 5 113 D dA a F [.ref (a (30, 0, 0))] Fz rz := by
  refine fun sz => mst (Qc := fun sz => wQi D dA a sz Fz rz) (by decide) (Nat.le_of_ble_eq_true rfl) ?_ sz
  intro p e s m below meth c S hr hlk hK hW ls hl
  have hl : lv_has ls 4 [(0, .ref (a (30, 0, 0)))] := hl
  have hx := S.1
  have hb := S.2.1
  generalize ([.ref (a (30, 0, 0))] : List Value).toArray = av at S ⊢
  unfold fn_X8_little at h
  obtain ⟨H, eH⟩ : ∃ z, z = s.heap := ⟨_, rfl⟩
  obtain ⟨locs, eL⟩ : ∃ z : List Loc, z = [] := ⟨_, rfl⟩
  show WX p l e (rmL 5 113) s m av below meth c (wQi D dA a s.heap.size Fz rz) dA a s.heap [] (F0 m 0 ls [])
  have hW : wS D dA a s F H locs := by rw [eH, eL]; exact wS_in hW
  refine wx_in eH eL ?_
  clear eH eL
  refine lv_aload_n hx hb dX8_little_0 rfl (lv_at hl 0 rfl) ?_
  refine gf_30_11 S hK hW hv0 q996 dX8_little_1 ?_
  obtain ⟨x1, e2, h⟩ := pl_e h
  refine lv_nm e2 ?_
  refine lv_istore_n (lv' := [(1, .int x1), (0, .ref (a (30, 0, 0)))]) hx hb dX8_little_4 rfl hl (by decide) rfl (fun ls hl => ?_)
  refine lv_iconst (v := (-1 : Int32)) hx hb dX8_little_5 (by decide) ?_
  refine lv_istore_n (lv' := [(2, .int (-1 : Int32)), (1, .int x1), (0, .ref (a (30, 0, 0)))]) hx hb dX8_little_6 rfl hl (by decide) rfl (fun ls hl => ?_)
  refine lv_iconst (v := (1 : Int32)) hx hb dX8_little_7 (by decide) ?_
  refine lv_istore_n (lv' := [(3, .int (1 : Int32)), (2, .int (-1 : Int32)), (1, .int x1), (0, .ref (a (30, 0, 0)))]) hx hb dX8_little_8 rfl hl (by decide) rfl (fun ls hl => ?_)
  have L10 : ∀ (n : Nat) (F5 : St) (x3 : Int32) (x4 : Int32) (F6 : St) (x7 : Int32) (x8 : Int32), lp_X8_little_9 n F5 x3 x4 = some (F6, x7, x8) → (∀ (H : Heap) (locs : List Loc) (ls : Array Slot), wS D dA a s F6 H locs → lv_has ls 4 [(0, .ref (a (30, 0, 0))), (1, .int x1), (2, .int x7)] → WX p l e (rmL 5 113) s m av below meth c (wQi D dA a s.heap.size Fz rz) dA a H locs (F0 m 45 ls [])) → ∀ (H : Heap) (locs : List Loc) (ls : Array Slot), wS D dA a s F5 H locs → lv_has ls 4 [(0, .ref (a (30, 0, 0))), (1, .int x1), (2, .int x3), (3, .int x4)] → WX p l e (rmL 5 113) s m av below meth c (wQi D dA a s.heap.size Fz rz) dA a H locs (F0 m 9 ls []) := by
    intro n
    induction n with
    | zero =>
      intro F5 x3 x4 F6 x7 x8 h
      exact absurd (show (none : Option (St × Int32 × Int32)) = some (F6, x7, x8) from h) (by simp)
    | succ n ih =>
      intro F5 x3 x4 F6 x7 x8 h K9 H locs ls hW hl
      have h := lp_X8_little_9_s.symm.trans h
      refine lv_iload_n hx hb dX8_little_9 rfl (lv_at hl 3 rfl) ?_
      refine lv_bipush (v := (21 : Int32)) hx hb dX8_little_10 (by decide) ?_
      refine lv_icmp_ge (tgt := 45) hx hb dX8_little_12 (by decide) (fun c11 => ?_) (fun c11 => ?_)
      · have h := if_t h c11
        cases h
        exact K9 H locs ls hW (lv_sub hl [0, 1, 2] rfl)
      · have h := if_f h c11
        refine lv_iload_n hx hb dX8_little_15 rfl (lv_at hl 2 rfl) ?_
        refine lv_iconst (v := (-1 : Int32)) hx hb dX8_little_16 (by decide) ?_
        refine lv_icmp_ne (tgt := 45) hx hb dX8_little_17 (by decide) (fun c12 => ?_) (fun c12 => ?_)
        · have h := if_f h c12
          cases h
          exact K9 H locs ls hW (lv_sub hl [0, 1, 2] rfl)
        · have h := if_t h c12
          refine lv_aload_n hx hb dX8_little_20 rfl (lv_at hl 0 rfl) ?_
          refine lv_iload_n hx hb dX8_little_21 rfl (lv_at hl 3 rfl) ?_
          obtain ⟨F13, e14, h⟩ := pl_e h
          refine pf_30_11 S hK hD hW hv0 e14 q996 dX8_little_22 (fun H locs hW => ?_)
          refine lv_aload_n hx hb dX8_little_25 rfl (lv_at hl 0 rfl) ?_
          obtain ⟨F15, r16, hc17, h⟩ := ob2_e h
          refine wk_i (va_runV (As := []) (rest := []) S (met_X8_tasteNow l hD hv0 hc17 H.size) (cwV 0 S.2.2.2.2 (lw_V q1291 q1293 qs48 q63 q1294) rfl rfl rfl yd_X8_tasteNow ⟨Nat.le_of_ble_eq_true rfl, Nat.le_of_ble_eq_true rfl⟩) (wpreV hK hW hv0 rfl rfl _) rfl rfl hl.1 rfl (lv_room (Nat.le_of_ble_eq_true rfl)) dX8_little_26 ⟨Nat.le_refl 0, Nat.le_refl 0⟩) hW (fun H locs hW => ?_)
          refine lv_iconst (v := (3 : Int32)) hx hb dX8_little_29 (by decide) ?_
          obtain ⟨y20, hz19, h⟩ := ob_e h
          have K21 : ∀ (H : Heap) (locs : List Loc) (ls : Array Slot), wS D dA a s F15 H locs → lv_has ls 4 [(0, .ref (a (30, 0, 0))), (1, .int x1), (3, .int x4)] → WX p l e (rmL 5 113) s m av below meth c (wQi D dA a s.heap.size Fz rz) dA a H locs (F0 m 38 ls [.int y20]) := by
            intro H locs ls hW hl
            refine lv_istore_n (lv' := [(2, .int y20), (0, .ref (a (30, 0, 0))), (1, .int x1), (3, .int x4)]) hx hb dX8_little_38 rfl hl (by decide) rfl (fun ls hl => ?_)
            refine lv_iinc (v := (x4 + 1)) (lv' := [(3, .int (x4 + 1)), (2, .int y20), (0, .ref (a (30, 0, 0))), (1, .int x1)]) hx hb dX8_little_39 hl (k := 3) rfl rfl (by decide) rfl (fun ls hl => ?_)
            refine lv_goto (tgt := 9) hx hb dX8_little_42 (by decide) ?_
            exact ih _ _ _ _ _ _ h K9 H locs ls hW (lv_sub hl [2, 3, 1, 0] rfl)
          clear h
          refine lv_icmp_eq (tgt := 37) hx hb dX8_little_30 (by decide) (fun c18 => ?_) (fun c18 => ?_)
          · have h := if_t hz19 c18
            refine lv_iconst (v := (-1 : Int32)) hx hb dX8_little_37 (by decide) ?_
            cases h
            exact K21 H locs ls hW (lv_sub hl [0, 1, 3] rfl)
          · have h := if_f hz19 c18
            refine lv_iload_n hx hb dX8_little_33 rfl (lv_at hl 3 rfl) ?_
            refine lv_goto (tgt := 38) hx hb dX8_little_34 (by decide) ?_
            cases h
            exact K21 H locs ls hW (lv_sub hl [0, 1, 3] rfl)
  obtain ⟨F6, x7, x8, hz22, h⟩ := ob3_e h
  refine L10 300 F (-1 : Int32) (1 : Int32) F6 x7 x8 hz22 (fun H locs ls hW hl => ?_) H locs ls hW (lv_sub hl [3, 2, 1, 0] rfl)
  refine lv_aload_n hx hb dX8_little_45 rfl (lv_at hl 0 rfl) ?_
  refine lv_iload_n hx hb dX8_little_46 rfl (lv_at hl 1 rfl) ?_
  obtain ⟨F23, e24, h⟩ := pl_e h
  refine pf_30_11 S hK hD hW hv0 e24 q996 dX8_little_47 (fun H locs hW => ?_)
  refine lv_iload_n hx hb dX8_little_50 rfl (lv_at hl 2 rfl) ?_
  cases h
  exact we_i S hr hlk hW dX8_little_51
/-loop lp_X8_plan_12-/
def lp_X8_plan_12 : Nat → St → Int32 → Option (St × Int32)
  | 0, _, _ => none
  | n + 1, F6, x5 => if (F6 30 26 0 0) ≤ x5 then some (F6, x5) else ob (fn_X8_doLine F6 ((6 : Int32) * x5)) (fun F12 => lp_X8_plan_12 n F12 (x5 + 1))
theorem lp_X8_plan_12_s {n : Nat} {F6 : St} {x5 : Int32} : lp_X8_plan_12 (n + 1) F6 x5 = if (F6 30 26 0 0) ≤ x5 then some (F6, x5) else ob (fn_X8_doLine F6 ((6 : Int32) * x5)) (fun F12 => lp_X8_plan_12 n F12 (x5 + 1)) := rfl
def fn_X8_plan (F : St) : Option (St × Int32) :=
  ob2 (fn_X8_isRead F) (fun F1 r2 => if r2 = 0 then some (F1, (-4 : Int32)) else ob2 (lp_X8_plan_12 300 F1 (0 : Int32)) (fun F7 x8 => pl (fu F7 30 18 0 0 (0 : Int32)) (fun F15 => pl (fu F15 43 0 0 0 (vp_nar .boolean (0 : Int32))) (fun F17 => pl (fu F17 43 0 0 1 (vp_nar .boolean (0 : Int32))) (fun F19 => ob (fn_X8_begin F19) (fun F21 => some (F21, (F21 30 26 0 0))))))))
theorem yd_X8_plan : yX8_plan.cls = RX8 ∧ yX8_plan.cls ≠ "java/lang/invoke/MethodHandle" ∧ yX8_plan.cls ≠ "java/lang/invoke/VarHandle" ∧ (parseMethodDescriptor yX8_plan.desc).map (fun d => d.parameters.length) = some 0 := by decide +kernel
set_option maxHeartbeats 4000000 in
theorem met_X8_plan (l : Launch) {D : va_G} {dA : WK} {a : Ix → Nat} (hD : wD D dA a) {F : St} {Fz : St} {rz : Int32} (hv0 : wVd dA (30, 0, 0)) (h : fn_X8_plan F = some (Fz, rz)) : Mi l yX8_plan cX8_plan 2 .int 6 131 D dA a F [.ref (a (30, 0, 0))] Fz rz := by
  refine fun sz => mst (Qc := fun sz => wQi D dA a sz Fz rz) (by decide) (Nat.le_of_ble_eq_true rfl) ?_ sz
  intro p e s m below meth c S hr hlk hK hW ls hl
  have hl : lv_has ls 2 [(0, .ref (a (30, 0, 0)))] := hl
  have hx := S.1
  have hb := S.2.1
  generalize ([.ref (a (30, 0, 0))] : List Value).toArray = av at S ⊢
  unfold fn_X8_plan at h
  obtain ⟨H, eH⟩ : ∃ z, z = s.heap := ⟨_, rfl⟩
  obtain ⟨locs, eL⟩ : ∃ z : List Loc, z = [] := ⟨_, rfl⟩
  show WX p l e (rmL 6 131) s m av below meth c (wQi D dA a s.heap.size Fz rz) dA a s.heap [] (F0 m 0 ls [])
  have hW : wS D dA a s F H locs := by rw [eH, eL]; exact wS_in hW
  refine wx_in eH eL ?_
  clear eH eL
  refine lv_aload_n hx hb dX8_plan_0 rfl (lv_at hl 0 rfl) ?_
  obtain ⟨F1, r2, hc3, h⟩ := ob2_e h
  refine wk_i (va_runV (As := []) (rest := []) S (met_X8_isRead l hD hv0 hc3 H.size) (cwV 0 S.2.2.2.2 (lw_V q1129 q1131 qs24 q63 q1132) rfl rfl rfl yd_X8_isRead ⟨Nat.le_of_ble_eq_true rfl, Nat.le_of_ble_eq_true rfl⟩) (wpreV hK hW hv0 rfl rfl _) rfl rfl hl.1 rfl (lv_room (Nat.le_of_ble_eq_true rfl)) dX8_plan_1 ⟨Nat.le_refl 0, Nat.le_refl 0⟩) hW (fun H locs hW => ?_)
  refine lv_if_ne (tgt := 10) hx hb dX8_plan_4 (by decide) (fun c4 => ?_) (fun c4 => ?_)
  · have h := if_f h c4
    refine lv_iconst (v := (0 : Int32)) hx hb dX8_plan_10 (by decide) ?_
    refine lv_istore_n (lv' := [(1, .int (0 : Int32)), (0, .ref (a (30, 0, 0)))]) hx hb dX8_plan_11 rfl hl (by decide) rfl (fun ls hl => ?_)
    have L10 : ∀ (n : Nat) (F6 : St) (x5 : Int32) (F7 : St) (x8 : Int32), lp_X8_plan_12 n F6 x5 = some (F7, x8) → (∀ (H : Heap) (locs : List Loc) (ls : Array Slot), wS D dA a s F7 H locs → lv_has ls 2 [(0, .ref (a (30, 0, 0)))] → WX p l e (rmL 6 131) s m av below meth c (wQi D dA a s.heap.size Fz rz) dA a H locs (F0 m 34 ls [])) → ∀ (H : Heap) (locs : List Loc) (ls : Array Slot), wS D dA a s F6 H locs → lv_has ls 2 [(0, .ref (a (30, 0, 0))), (1, .int x5)] → WX p l e (rmL 6 131) s m av below meth c (wQi D dA a s.heap.size Fz rz) dA a H locs (F0 m 12 ls []) := by
      intro n
      induction n with
      | zero =>
        intro F6 x5 F7 x8 h
        exact absurd (show (none : Option (St × Int32)) = some (F7, x8) from h) (by simp)
      | succ n ih =>
        intro F6 x5 F7 x8 h K9 H locs ls hW hl
        have h := lp_X8_plan_12_s.symm.trans h
        refine lv_iload_n hx hb dX8_plan_12 rfl (lv_at hl 1 rfl) ?_
        refine lv_aload_n hx hb dX8_plan_13 rfl (lv_at hl 0 rfl) ?_
        refine gf_30_26 S hK hW hv0 q1011 dX8_plan_14 ?_
        refine lv_icmp_ge (tgt := 34) hx hb dX8_plan_17 (by decide) (fun c11 => ?_) (fun c11 => ?_)
        · have h := if_t h c11
          cases h
          exact K9 H locs ls hW (lv_sub hl [0] rfl)
        · have h := if_f h c11
          refine lv_aload_n hx hb dX8_plan_20 rfl (lv_at hl 0 rfl) ?_
          refine lv_bipush (v := (6 : Int32)) hx hb dX8_plan_21 (by decide) ?_
          refine lv_iload_n hx hb dX8_plan_23 rfl (lv_at hl 1 rfl) ?_
          refine lv_imul hx hb dX8_plan_24 ?_
          obtain ⟨F12, hc13, h⟩ := ob_e h
          refine wk_v (va_runV (As := [.int ((6 : Int32) * x5)]) (rest := []) S (met_X8_doLine l hD hv0 hc13 H.size) (cwV 1 S.2.2.2.2 (lw_V q1186 q1188 qs32 q63 q1189) rfl rfl rfl yd_X8_doLine ⟨Nat.le_of_ble_eq_true rfl, Nat.le_of_ble_eq_true rfl⟩) (wpreV hK hW hv0 rfl rfl _) rfl rfl hl.1 rfl (lv_room (Nat.le_of_ble_eq_true rfl)) dX8_plan_25 ⟨Nat.le_refl 0, Nat.le_refl 0⟩) hW (fun H locs hW => ?_)
          refine lv_iinc (v := (x5 + 1)) (lv' := [(1, .int (x5 + 1)), (0, .ref (a (30, 0, 0)))]) hx hb dX8_plan_28 hl (k := 1) rfl rfl (by decide) rfl (fun ls hl => ?_)
          refine lv_goto (tgt := 12) hx hb dX8_plan_31 (by decide) ?_
          exact ih _ _ _ _ h K9 H locs ls hW (lv_sub hl [1, 0] rfl)
    obtain ⟨F7, x8, hz14, h⟩ := ob2_e h
    refine L10 300 F1 (0 : Int32) F7 x8 hz14 (fun H locs ls hW hl => ?_) H locs ls hW (lv_sub hl [1, 0] rfl)
    refine lv_aload_n hx hb dX8_plan_34 rfl (lv_at hl 0 rfl) ?_
    refine lv_iconst (v := (0 : Int32)) hx hb dX8_plan_35 (by decide) ?_
    obtain ⟨F15, e16, h⟩ := pl_e h
    refine pf_30_18 S hK hD hW hv0 e16 q1003 dX8_plan_36 (fun H locs hW => ?_)
    refine lv_aload_n hx hb dX8_plan_39 rfl (lv_at hl 0 rfl) ?_
    refine gf_30_33 S hK hW hv0 q1018 dX8_plan_40 ?_
    refine lv_iconst (v := (0 : Int32)) hx hb dX8_plan_43 (by decide) ?_
    refine lv_iconst (v := (0 : Int32)) hx hb dX8_plan_44 (by decide) ?_
    obtain ⟨F17, e18, h⟩ := pl_e h
    refine ast_43 (z := 0) S hK hD hW (vq_30_33 hv0) (by decide) (by decide) e18 dX8_plan_45 (fun H locs hW => ?_)
    refine lv_aload_n hx hb dX8_plan_46 rfl (lv_at hl 0 rfl) ?_
    refine gf_30_33 S hK hW hv0 q1018 dX8_plan_47 ?_
    refine lv_iconst (v := (1 : Int32)) hx hb dX8_plan_50 (by decide) ?_
    refine lv_iconst (v := (0 : Int32)) hx hb dX8_plan_51 (by decide) ?_
    obtain ⟨F19, e20, h⟩ := pl_e h
    refine ast_43 (z := 1) S hK hD hW (vq_30_33 hv0) (by decide) (by decide) e20 dX8_plan_52 (fun H locs hW => ?_)
    refine lv_aload_n hx hb dX8_plan_53 rfl (lv_at hl 0 rfl) ?_
    obtain ⟨F21, hc22, h⟩ := ob_e h
    refine wk_v (va_runV (As := []) (rest := []) S (met_X8_begin l hD hv0 hc22 H.size) (cwV 0 S.2.2.2.2 (lw_V q977 q979 qs22 q63 q980) rfl rfl rfl yd_X8_begin ⟨Nat.le_of_ble_eq_true rfl, Nat.le_of_ble_eq_true rfl⟩) (wpreV hK hW hv0 rfl rfl _) rfl rfl hl.1 rfl (lv_room (Nat.le_of_ble_eq_true rfl)) dX8_plan_54 ⟨Nat.le_refl 0, Nat.le_refl 0⟩) hW (fun H locs hW => ?_)
    refine lv_aload_n hx hb dX8_plan_57 rfl (lv_at hl 0 rfl) ?_
    refine gf_30_26 S hK hW hv0 q1011 dX8_plan_58 ?_
    cases h
    exact we_i S hr hlk hW dX8_plan_61
  · have h := if_t h c4
    refine lv_bipush (v := (-4 : Int32)) hx hb dX8_plan_7 (by decide) ?_
    cases h
    exact we_i S hr hlk hW dX8_plan_9
def fn_X8_pour (F : St) (p1 : Int32) (p2 : Int32) : Option (Int32) :=
  if p1 < 0 then some (-3 : Int32) else ob (fn_X8_in F p2 (0 : Int32) (2 : Int32)) (fun r2 => if r2 = 0 then some (-3 : Int32) else if p1 < (F 30 12 0 0) then if p2 = 0 then og (vpb p1 12) (some (F 34 0 0 p1.toNatClampNeg)) else if p2 = (1 : Int32) then og (vpb p1 12) (some (F 35 0 0 p1.toNatClampNeg)) else og (vpb p1 12) (some (F 36 0 0 p1.toNatClampNeg)) else some (-1 : Int32))
theorem yd_X8_pour : yX8_pour.cls = RX8 ∧ yX8_pour.cls ≠ "java/lang/invoke/MethodHandle" ∧ yX8_pour.cls ≠ "java/lang/invoke/VarHandle" ∧ (parseMethodDescriptor yX8_pour.desc).map (fun d => d.parameters.length) = some 2 := by decide +kernel
set_option maxHeartbeats 4000000 in
theorem met_X8_pour (l : Launch) {D : va_G} {dA : WK} {a : Ix → Nat} (hD : wD D dA a) {F : St} {p1 : Int32} {p2 : Int32} {rz : Int32} (hv0 : wVd dA (30, 0, 0)) (h : fn_X8_pour F p1 p2 = some rz) : Mi l yX8_pour cX8_pour 3 .int 1 22 D dA a F [.ref (a (30, 0, 0)), .int p1, .int p2] F rz := by
  refine fun sz => mst (Qc := fun sz => wQi D dA a sz F rz) (by decide) (Nat.le_of_ble_eq_true rfl) ?_ sz
  intro p e s m below meth c S hr hlk hK hW ls hl
  have hl : lv_has ls 3 [(0, .ref (a (30, 0, 0))), (1, .int p1), (2, .int p2)] := hl
  have hx := S.1
  have hb := S.2.1
  generalize ([.ref (a (30, 0, 0)), .int p1, .int p2] : List Value).toArray = av at S ⊢
  unfold fn_X8_pour at h
  obtain ⟨H, eH⟩ : ∃ z, z = s.heap := ⟨_, rfl⟩
  obtain ⟨locs, eL⟩ : ∃ z : List Loc, z = [] := ⟨_, rfl⟩
  show WX p l e (rmL 1 22) s m av below meth c (wQi D dA a s.heap.size F rz) dA a s.heap [] (F0 m 0 ls [])
  have hW : wS D dA a s F H locs := by rw [eH, eL]; exact wS_in hW
  refine wx_in eH eL ?_
  clear eH eL
  refine lv_iload_n hx hb dX8_pour_0 rfl (lv_at hl 1 rfl) ?_
  refine lv_if_lt (tgt := 13) hx hb dX8_pour_1 (by decide) (fun c1 => ?_) (fun c1 => ?_)
  · have h := if_t h c1
    refine lv_bipush (v := (-3 : Int32)) hx hb dX8_pour_13 (by decide) ?_
    cases h
    exact we_i S hr hlk hW dX8_pour_15
  · have h := if_f h c1
    refine lv_iload_n hx hb dX8_pour_4 rfl (lv_at hl 2 rfl) ?_
    refine lv_iconst (v := (0 : Int32)) hx hb dX8_pour_5 (by decide) ?_
    refine lv_iconst (v := (2 : Int32)) hx hb dX8_pour_6 (by decide) ?_
    obtain ⟨r2, hc3, h⟩ := ob_e h
    refine wk_i (va_runS (As := [.int p2, .int (0 : Int32), .int (2 : Int32)]) (rest := []) S (met_X8_in l hD hc3 H.size) (va_cwS 3 S.2.2.2.2 (lw_S q1117 q1118 q63 q1119) rfl rfl rfl yd_X8_in.2 ⟨Nat.le_of_ble_eq_true rfl, Nat.le_of_ble_eq_true rfl⟩) (wpreS hK hW _) rfl rfl hl.1 rfl (lv_room (Nat.le_of_ble_eq_true rfl)) dX8_pour_7 ⟨Nat.le_refl 0, Nat.le_refl 0⟩) hW (fun H locs hW => ?_)
    refine lv_if_ne (tgt := 16) hx hb dX8_pour_10 (by decide) (fun c4 => ?_) (fun c4 => ?_)
    · have h := if_f h c4
      refine lv_iload_n hx hb dX8_pour_16 rfl (lv_at hl 1 rfl) ?_
      refine lv_aload_n hx hb dX8_pour_17 rfl (lv_at hl 0 rfl) ?_
      refine gf_30_12 S hK hW hv0 q997 dX8_pour_18 ?_
      refine lv_icmp_lt (tgt := 26) hx hb dX8_pour_21 (by decide) (fun c5 => ?_) (fun c5 => ?_)
      · have h := if_t h c5
        refine lv_iload_n hx hb dX8_pour_26 rfl (lv_at hl 2 rfl) ?_
        refine lv_if_ne (tgt := 39) hx hb dX8_pour_27 (by decide) (fun c6 => ?_) (fun c6 => ?_)
        · have h := if_f h c6
          refine lv_iload_n hx hb dX8_pour_39 rfl (lv_at hl 2 rfl) ?_
          refine lv_iconst (v := (1 : Int32)) hx hb dX8_pour_40 (by decide) ?_
          refine lv_icmp_ne (tgt := 53) hx hb dX8_pour_41 (by decide) (fun c7 => ?_) (fun c7 => ?_)
          · have h := if_f h c7
            refine lv_aload_n hx hb dX8_pour_53 rfl (lv_at hl 0 rfl) ?_
            refine gf_30_15 S hK hW hv0 q1000 dX8_pour_54 ?_
            refine lv_iload_n hx hb dX8_pour_57 rfl (lv_at hl 1 rfl) ?_
            obtain ⟨g8, h⟩ := og_e h
            refine ald_36 S hK hW (vq_30_15 hv0) g8 rfl dX8_pour_58 ?_
            cases h
            exact we_i S hr hlk hW dX8_pour_59
          · have h := if_t h c7
            refine lv_aload_n hx hb dX8_pour_44 rfl (lv_at hl 0 rfl) ?_
            refine gf_30_14 S hK hW hv0 q999 dX8_pour_45 ?_
            refine lv_iload_n hx hb dX8_pour_48 rfl (lv_at hl 1 rfl) ?_
            obtain ⟨g9, h⟩ := og_e h
            refine ald_35 S hK hW (vq_30_14 hv0) g9 rfl dX8_pour_49 ?_
            refine lv_goto (tgt := 59) hx hb dX8_pour_50 (by decide) ?_
            cases h
            exact we_i S hr hlk hW dX8_pour_59
        · have h := if_t h c6
          refine lv_aload_n hx hb dX8_pour_30 rfl (lv_at hl 0 rfl) ?_
          refine gf_30_13 S hK hW hv0 q998 dX8_pour_31 ?_
          refine lv_iload_n hx hb dX8_pour_34 rfl (lv_at hl 1 rfl) ?_
          obtain ⟨g10, h⟩ := og_e h
          refine ald_34 S hK hW (vq_30_13 hv0) g10 rfl dX8_pour_35 ?_
          refine lv_goto (tgt := 59) hx hb dX8_pour_36 (by decide) ?_
          cases h
          exact we_i S hr hlk hW dX8_pour_59
      · have h := if_f h c5
        refine lv_iconst (v := (-1 : Int32)) hx hb dX8_pour_24 (by decide) ?_
        cases h
        exact we_i S hr hlk hW dX8_pour_25
    · have h := if_t h c4
      refine lv_bipush (v := (-3 : Int32)) hx hb dX8_pour_13 (by decide) ?_
      cases h
      exact we_i S hr hlk hW dX8_pour_15
def fn_X8_ran (F : St) : Option (St × Int32) :=
  ob2 (fn_X8_tasteNow F) (fun F1 r2 => some (F1, (F1 30 40 0 0)))
theorem yd_X8_ran : yX8_ran.cls = RX8 ∧ yX8_ran.cls ≠ "java/lang/invoke/MethodHandle" ∧ yX8_ran.cls ≠ "java/lang/invoke/VarHandle" ∧ (parseMethodDescriptor yX8_ran.desc).map (fun d => d.parameters.length) = some 0 := by decide +kernel
set_option maxHeartbeats 4000000 in
theorem met_X8_ran (l : Launch) {D : va_G} {dA : WK} {a : Ix → Nat} (hD : wD D dA a) {F : St} {Fz : St} {rz : Int32} (hv0 : wVd dA (30, 0, 0)) (h : fn_X8_ran F = some (Fz, rz)) : Mi l yX8_ran cX8_ran 1 .int 5 113 D dA a F [.ref (a (30, 0, 0))] Fz rz := by
  refine fun sz => mst (Qc := fun sz => wQi D dA a sz Fz rz) (by decide) (Nat.le_of_ble_eq_true rfl) ?_ sz
  intro p e s m below meth c S hr hlk hK hW ls hl
  have hl : lv_has ls 1 [(0, .ref (a (30, 0, 0)))] := hl
  have hx := S.1
  have hb := S.2.1
  generalize ([.ref (a (30, 0, 0))] : List Value).toArray = av at S ⊢
  unfold fn_X8_ran at h
  obtain ⟨H, eH⟩ : ∃ z, z = s.heap := ⟨_, rfl⟩
  obtain ⟨locs, eL⟩ : ∃ z : List Loc, z = [] := ⟨_, rfl⟩
  show WX p l e (rmL 5 113) s m av below meth c (wQi D dA a s.heap.size Fz rz) dA a s.heap [] (F0 m 0 ls [])
  have hW : wS D dA a s F H locs := by rw [eH, eL]; exact wS_in hW
  refine wx_in eH eL ?_
  clear eH eL
  refine lv_aload_n hx hb dX8_ran_0 rfl (lv_at hl 0 rfl) ?_
  obtain ⟨F1, r2, hc3, h⟩ := ob2_e h
  refine wk_i (va_runV (As := []) (rest := []) S (met_X8_tasteNow l hD hv0 hc3 H.size) (cwV 0 S.2.2.2.2 (lw_V q1291 q1293 qs48 q63 q1294) rfl rfl rfl yd_X8_tasteNow ⟨Nat.le_of_ble_eq_true rfl, Nat.le_of_ble_eq_true rfl⟩) (wpreV hK hW hv0 rfl rfl _) rfl rfl hl.1 rfl (lv_room (Nat.le_of_ble_eq_true rfl)) dX8_ran_1 ⟨Nat.le_refl 0, Nat.le_refl 0⟩) hW (fun H locs hW => ?_)
  refine lv_pop hx hb dX8_ran_4 rfl ?_
  refine lv_aload_n hx hb dX8_ran_5 rfl (lv_at hl 0 rfl) ?_
  refine gf_30_40 S hK hW hv0 q1025 dX8_ran_6 ?_
  cases h
  exact we_i S hr hlk hW dX8_ran_9
/-loop lp_X8_right_12-/
def lp_X8_right_12 : Nat → St → Int32 → Int32 → Option (St × Int32 × Int32)
  | 0, _, _, _ => none
  | n + 1, F4, x2, x3 => if (4 : Int32) ≤ x3 then some (F4, x2, x3) else if x2 = (-1 : Int32) then ob2 (fn_X8_findRight F4 x3) (fun F12 r13 => ob (if r13 = 0 then some (-1 : Int32) else some x3) (fun y17 => lp_X8_right_12 n F12 y17 (x3 + 1))) else some (F4, x2, x3)
theorem lp_X8_right_12_s {n : Nat} {F4 : St} {x2 : Int32} {x3 : Int32} : lp_X8_right_12 (n + 1) F4 x2 x3 = if (4 : Int32) ≤ x3 then some (F4, x2, x3) else if x2 = (-1 : Int32) then ob2 (fn_X8_findRight F4 x3) (fun F12 r13 => ob (if r13 = 0 then some (-1 : Int32) else some x3) (fun y17 => lp_X8_right_12 n F12 y17 (x3 + 1))) else some (F4, x2, x3) := rfl
def fn_X8_right (F : St) (p1 : Int32) : Option (St × Int32) :=
  if (-1 : Int32) ≤ p1 then ob3 (lp_X8_right_12 300 F (-1 : Int32) (0 : Int32)) (fun F5 x6 x7 => if p1 = (-1 : Int32) then some (F5, x6) else if x6 ≤ p1 then some (F5, (-1 : Int32)) else og (vpb p1 3) (some (F5, (F5 45 0 0 p1.toNatClampNeg)))) else some (F, (-3 : Int32))
theorem yd_X8_right : yX8_right.cls = RX8 ∧ yX8_right.cls ≠ "java/lang/invoke/MethodHandle" ∧ yX8_right.cls ≠ "java/lang/invoke/VarHandle" ∧ (parseMethodDescriptor yX8_right.desc).map (fun d => d.parameters.length) = some 1 := by decide +kernel
set_option maxHeartbeats 4000000 in
theorem met_X8_right (l : Launch) {D : va_G} {dA : WK} {a : Ix → Nat} (hD : wD D dA a) {F : St} {p1 : Int32} {Fz : St} {rz : Int32} (hv0 : wVd dA (30, 0, 0)) (h : fn_X8_right F p1 = some (Fz, rz)) : Mi l yX8_right cX8_right 4 .int 6 140 D dA a F [.ref (a (30, 0, 0)), .int p1] Fz rz := by
  refine fun sz => mst (Qc := fun sz => wQi D dA a sz Fz rz) (by decide) (Nat.le_of_ble_eq_true rfl) ?_ sz
  intro p e s m below meth c S hr hlk hK hW ls hl
  have hl : lv_has ls 4 [(0, .ref (a (30, 0, 0))), (1, .int p1)] := hl
  have hx := S.1
  have hb := S.2.1
  generalize ([.ref (a (30, 0, 0)), .int p1] : List Value).toArray = av at S ⊢
  unfold fn_X8_right at h
  obtain ⟨H, eH⟩ : ∃ z, z = s.heap := ⟨_, rfl⟩
  obtain ⟨locs, eL⟩ : ∃ z : List Loc, z = [] := ⟨_, rfl⟩
  show WX p l e (rmL 6 140) s m av below meth c (wQi D dA a s.heap.size Fz rz) dA a s.heap [] (F0 m 0 ls [])
  have hW : wS D dA a s F H locs := by rw [eH, eL]; exact wS_in hW
  refine wx_in eH eL ?_
  clear eH eL
  refine lv_iload_n hx hb dX8_right_0 rfl (lv_at hl 1 rfl) ?_
  refine lv_iconst (v := (-1 : Int32)) hx hb dX8_right_1 (by decide) ?_
  refine lv_icmp_ge (tgt := 8) hx hb dX8_right_2 (by decide) (fun c1 => ?_) (fun c1 => ?_)
  · have h := if_t h c1
    refine lv_iconst (v := (-1 : Int32)) hx hb dX8_right_8 (by decide) ?_
    refine lv_istore_n (lv' := [(2, .int (-1 : Int32)), (0, .ref (a (30, 0, 0))), (1, .int p1)]) hx hb dX8_right_9 rfl hl (by decide) rfl (fun ls hl => ?_)
    refine lv_iconst (v := (0 : Int32)) hx hb dX8_right_10 (by decide) ?_
    refine lv_istore_n (lv' := [(3, .int (0 : Int32)), (2, .int (-1 : Int32)), (0, .ref (a (30, 0, 0))), (1, .int p1)]) hx hb dX8_right_11 rfl hl (by decide) rfl (fun ls hl => ?_)
    have L9 : ∀ (n : Nat) (F4 : St) (x2 : Int32) (x3 : Int32) (F5 : St) (x6 : Int32) (x7 : Int32), lp_X8_right_12 n F4 x2 x3 = some (F5, x6, x7) → (∀ (H : Heap) (locs : List Loc) (ls : Array Slot), wS D dA a s F5 H locs → lv_has ls 4 [(0, .ref (a (30, 0, 0))), (1, .int p1), (2, .int x6)] → WX p l e (rmL 6 140) s m av below meth c (wQi D dA a s.heap.size Fz rz) dA a H locs (F0 m 42 ls [])) → ∀ (H : Heap) (locs : List Loc) (ls : Array Slot), wS D dA a s F4 H locs → lv_has ls 4 [(0, .ref (a (30, 0, 0))), (1, .int p1), (2, .int x2), (3, .int x3)] → WX p l e (rmL 6 140) s m av below meth c (wQi D dA a s.heap.size Fz rz) dA a H locs (F0 m 12 ls []) := by
      intro n
      induction n with
      | zero =>
        intro F4 x2 x3 F5 x6 x7 h
        exact absurd (show (none : Option (St × Int32 × Int32)) = some (F5, x6, x7) from h) (by simp)
      | succ n ih =>
        intro F4 x2 x3 F5 x6 x7 h K8 H locs ls hW hl
        have h := lp_X8_right_12_s.symm.trans h
        refine lv_iload_n hx hb dX8_right_12 rfl (lv_at hl 3 rfl) ?_
        refine lv_iconst (v := (4 : Int32)) hx hb dX8_right_13 (by decide) ?_
        refine lv_icmp_ge (tgt := 42) hx hb dX8_right_14 (by decide) (fun c10 => ?_) (fun c10 => ?_)
        · have h := if_t h c10
          cases h
          exact K8 H locs ls hW (lv_sub hl [0, 1, 2] rfl)
        · have h := if_f h c10
          refine lv_iload_n hx hb dX8_right_17 rfl (lv_at hl 2 rfl) ?_
          refine lv_iconst (v := (-1 : Int32)) hx hb dX8_right_18 (by decide) ?_
          refine lv_icmp_ne (tgt := 42) hx hb dX8_right_19 (by decide) (fun c11 => ?_) (fun c11 => ?_)
          · have h := if_f h c11
            cases h
            exact K8 H locs ls hW (lv_sub hl [0, 1, 2] rfl)
          · have h := if_t h c11
            refine lv_aload_n hx hb dX8_right_22 rfl (lv_at hl 0 rfl) ?_
            refine lv_iload_n hx hb dX8_right_23 rfl (lv_at hl 3 rfl) ?_
            obtain ⟨F12, r13, hc14, h⟩ := ob2_e h
            refine wk_i (va_runV (As := [.int x3]) (rest := []) S (met_X8_findRight l hD hv0 hc14 H.size) (cwV 1 S.2.2.2.2 (lw_V q1315 q1317 qs52 q63 q1318) rfl rfl rfl yd_X8_findRight ⟨Nat.le_of_ble_eq_true rfl, Nat.le_of_ble_eq_true rfl⟩) (wpreV hK hW hv0 rfl rfl _) rfl rfl hl.1 rfl (lv_room (Nat.le_of_ble_eq_true rfl)) dX8_right_24 ⟨Nat.le_refl 0, Nat.le_refl 0⟩) hW (fun H locs hW => ?_)
            obtain ⟨y17, hz16, h⟩ := ob_e h
            have K18 : ∀ (H : Heap) (locs : List Loc) (ls : Array Slot), wS D dA a s F12 H locs → lv_has ls 4 [(0, .ref (a (30, 0, 0))), (1, .int p1), (3, .int x3)] → WX p l e (rmL 6 140) s m av below meth c (wQi D dA a s.heap.size Fz rz) dA a H locs (F0 m 35 ls [.int y17]) := by
              intro H locs ls hW hl
              refine lv_istore_n (lv' := [(2, .int y17), (0, .ref (a (30, 0, 0))), (1, .int p1), (3, .int x3)]) hx hb dX8_right_35 rfl hl (by decide) rfl (fun ls hl => ?_)
              refine lv_iinc (v := (x3 + 1)) (lv' := [(3, .int (x3 + 1)), (2, .int y17), (0, .ref (a (30, 0, 0))), (1, .int p1)]) hx hb dX8_right_36 hl (k := 3) rfl rfl (by decide) rfl (fun ls hl => ?_)
              refine lv_goto (tgt := 12) hx hb dX8_right_39 (by decide) ?_
              exact ih _ _ _ _ _ _ h K8 H locs ls hW (lv_sub hl [2, 3, 1, 0] rfl)
            clear h
            refine lv_if_eq (tgt := 34) hx hb dX8_right_27 (by decide) (fun c15 => ?_) (fun c15 => ?_)
            · have h := if_t hz16 c15
              refine lv_iconst (v := (-1 : Int32)) hx hb dX8_right_34 (by decide) ?_
              cases h
              exact K18 H locs ls hW (lv_sub hl [0, 1, 3] rfl)
            · have h := if_f hz16 c15
              refine lv_iload_n hx hb dX8_right_30 rfl (lv_at hl 3 rfl) ?_
              refine lv_goto (tgt := 35) hx hb dX8_right_31 (by decide) ?_
              cases h
              exact K18 H locs ls hW (lv_sub hl [0, 1, 3] rfl)
    obtain ⟨F5, x6, x7, hz19, h⟩ := ob3_e h
    refine L9 300 F (-1 : Int32) (0 : Int32) F5 x6 x7 hz19 (fun H locs ls hW hl => ?_) H locs ls hW (lv_sub hl [2, 3, 1, 0] rfl)
    refine lv_iload_n hx hb dX8_right_42 rfl (lv_at hl 1 rfl) ?_
    refine lv_iconst (v := (-1 : Int32)) hx hb dX8_right_43 (by decide) ?_
    refine lv_icmp_ne (tgt := 51) hx hb dX8_right_44 (by decide) (fun c20 => ?_) (fun c20 => ?_)
    · have h := if_f h c20
      refine lv_iload_n hx hb dX8_right_51 rfl (lv_at hl 1 rfl) ?_
      refine lv_iload_n hx hb dX8_right_52 rfl (lv_at hl 2 rfl) ?_
      refine lv_icmp_ge (tgt := 65) hx hb dX8_right_53 (by decide) (fun c21 => ?_) (fun c21 => ?_)
      · have h := if_t h c21
        refine lv_iconst (v := (-1 : Int32)) hx hb dX8_right_65 (by decide) ?_
        cases h
        exact we_i S hr hlk hW dX8_right_66
      · have h := if_f h c21
        refine lv_aload_n hx hb dX8_right_56 rfl (lv_at hl 0 rfl) ?_
        refine gf_30_35 S hK hW hv0 q1020 dX8_right_57 ?_
        refine lv_iload_n hx hb dX8_right_60 rfl (lv_at hl 1 rfl) ?_
        obtain ⟨g22, h⟩ := og_e h
        refine ald_45 S hK hW (vq_30_35 hv0) g22 rfl dX8_right_61 ?_
        refine lv_goto (tgt := 66) hx hb dX8_right_62 (by decide) ?_
        cases h
        exact we_i S hr hlk hW dX8_right_66
    · have h := if_t h c20
      refine lv_iload_n hx hb dX8_right_47 rfl (lv_at hl 2 rfl) ?_
      refine lv_goto (tgt := 66) hx hb dX8_right_48 (by decide) ?_
      cases h
      exact we_i S hr hlk hW dX8_right_66
  · have h := if_f h c1
    refine lv_bipush (v := (-3 : Int32)) hx hb dX8_right_5 (by decide) ?_
    cases h
    exact we_i S hr hlk hW dX8_right_7
def fn_X8_runs (F : St) : Option (St × Int32) :=
  ob2 (fn_X8_tasteNow F) (fun F1 r2 => some (F1, (F1 30 41 0 0)))
theorem yd_X8_runs : yX8_runs.cls = RX8 ∧ yX8_runs.cls ≠ "java/lang/invoke/MethodHandle" ∧ yX8_runs.cls ≠ "java/lang/invoke/VarHandle" ∧ (parseMethodDescriptor yX8_runs.desc).map (fun d => d.parameters.length) = some 0 := by decide +kernel
set_option maxHeartbeats 4000000 in
theorem met_X8_runs (l : Launch) {D : va_G} {dA : WK} {a : Ix → Nat} (hD : wD D dA a) {F : St} {Fz : St} {rz : Int32} (hv0 : wVd dA (30, 0, 0)) (h : fn_X8_runs F = some (Fz, rz)) : Mi l yX8_runs cX8_runs 1 .int 5 113 D dA a F [.ref (a (30, 0, 0))] Fz rz := by
  refine fun sz => mst (Qc := fun sz => wQi D dA a sz Fz rz) (by decide) (Nat.le_of_ble_eq_true rfl) ?_ sz
  intro p e s m below meth c S hr hlk hK hW ls hl
  have hl : lv_has ls 1 [(0, .ref (a (30, 0, 0)))] := hl
  have hx := S.1
  have hb := S.2.1
  generalize ([.ref (a (30, 0, 0))] : List Value).toArray = av at S ⊢
  unfold fn_X8_runs at h
  obtain ⟨H, eH⟩ : ∃ z, z = s.heap := ⟨_, rfl⟩
  obtain ⟨locs, eL⟩ : ∃ z : List Loc, z = [] := ⟨_, rfl⟩
  show WX p l e (rmL 5 113) s m av below meth c (wQi D dA a s.heap.size Fz rz) dA a s.heap [] (F0 m 0 ls [])
  have hW : wS D dA a s F H locs := by rw [eH, eL]; exact wS_in hW
  refine wx_in eH eL ?_
  clear eH eL
  refine lv_aload_n hx hb dX8_runs_0 rfl (lv_at hl 0 rfl) ?_
  obtain ⟨F1, r2, hc3, h⟩ := ob2_e h
  refine wk_i (va_runV (As := []) (rest := []) S (met_X8_tasteNow l hD hv0 hc3 H.size) (cwV 0 S.2.2.2.2 (lw_V q1291 q1293 qs48 q63 q1294) rfl rfl rfl yd_X8_tasteNow ⟨Nat.le_of_ble_eq_true rfl, Nat.le_of_ble_eq_true rfl⟩) (wpreV hK hW hv0 rfl rfl _) rfl rfl hl.1 rfl (lv_room (Nat.le_of_ble_eq_true rfl)) dX8_runs_1 ⟨Nat.le_refl 0, Nat.le_refl 0⟩) hW (fun H locs hW => ?_)
  refine lv_pop hx hb dX8_runs_4 rfl ?_
  refine lv_aload_n hx hb dX8_runs_5 rfl (lv_at hl 0 rfl) ?_
  refine gf_30_41 S hK hW hv0 q1026 dX8_runs_6 ?_
  cases h
  exact we_i S hr hlk hW dX8_runs_9
def fn_X8_stuff (F : St) (p1 : Int32) (p2 : Int32) : Option (Int32) :=
  ob (fn_X8_in F p1 (0 : Int32) (2 : Int32)) (fun r1 => if r1 = 0 then some (-2 : Int32) else if p2 = 0 then og (vpb p1 3) (some (F 31 0 0 p1.toNatClampNeg)) else if p2 = (1 : Int32) then og (vpb p1 3) (some (F 32 0 0 p1.toNatClampNeg)) else some (-3 : Int32))
theorem yd_X8_stuff : yX8_stuff.cls = RX8 ∧ yX8_stuff.cls ≠ "java/lang/invoke/MethodHandle" ∧ yX8_stuff.cls ≠ "java/lang/invoke/VarHandle" ∧ (parseMethodDescriptor yX8_stuff.desc).map (fun d => d.parameters.length) = some 2 := by decide +kernel
set_option maxHeartbeats 4000000 in
theorem met_X8_stuff (l : Launch) {D : va_G} {dA : WK} {a : Ix → Nat} (hD : wD D dA a) {F : St} {p1 : Int32} {p2 : Int32} {rz : Int32} (hv0 : wVd dA (30, 0, 0)) (h : fn_X8_stuff F p1 p2 = some rz) : Mi l yX8_stuff cX8_stuff 3 .int 1 22 D dA a F [.ref (a (30, 0, 0)), .int p1, .int p2] F rz := by
  refine fun sz => mst (Qc := fun sz => wQi D dA a sz F rz) (by decide) (Nat.le_of_ble_eq_true rfl) ?_ sz
  intro p e s m below meth c S hr hlk hK hW ls hl
  have hl : lv_has ls 3 [(0, .ref (a (30, 0, 0))), (1, .int p1), (2, .int p2)] := hl
  have hx := S.1
  have hb := S.2.1
  generalize ([.ref (a (30, 0, 0)), .int p1, .int p2] : List Value).toArray = av at S ⊢
  unfold fn_X8_stuff at h
  obtain ⟨H, eH⟩ : ∃ z, z = s.heap := ⟨_, rfl⟩
  obtain ⟨locs, eL⟩ : ∃ z : List Loc, z = [] := ⟨_, rfl⟩
  show WX p l e (rmL 1 22) s m av below meth c (wQi D dA a s.heap.size F rz) dA a s.heap [] (F0 m 0 ls [])
  have hW : wS D dA a s F H locs := by rw [eH, eL]; exact wS_in hW
  refine wx_in eH eL ?_
  clear eH eL
  refine lv_iload_n hx hb dX8_stuff_0 rfl (lv_at hl 1 rfl) ?_
  refine lv_iconst (v := (0 : Int32)) hx hb dX8_stuff_1 (by decide) ?_
  refine lv_iconst (v := (2 : Int32)) hx hb dX8_stuff_2 (by decide) ?_
  obtain ⟨r1, hc2, h⟩ := ob_e h
  refine wk_i (va_runS (As := [.int p1, .int (0 : Int32), .int (2 : Int32)]) (rest := []) S (met_X8_in l hD hc2 H.size) (va_cwS 3 S.2.2.2.2 (lw_S q1117 q1118 q63 q1119) rfl rfl rfl yd_X8_in.2 ⟨Nat.le_of_ble_eq_true rfl, Nat.le_of_ble_eq_true rfl⟩) (wpreS hK hW _) rfl rfl hl.1 rfl (lv_room (Nat.le_of_ble_eq_true rfl)) dX8_stuff_3 ⟨Nat.le_refl 0, Nat.le_refl 0⟩) hW (fun H locs hW => ?_)
  refine lv_if_ne (tgt := 12) hx hb dX8_stuff_6 (by decide) (fun c3 => ?_) (fun c3 => ?_)
  · have h := if_f h c3
    refine lv_iload_n hx hb dX8_stuff_12 rfl (lv_at hl 2 rfl) ?_
    refine lv_if_ne (tgt := 25) hx hb dX8_stuff_13 (by decide) (fun c4 => ?_) (fun c4 => ?_)
    · have h := if_f h c4
      refine lv_iload_n hx hb dX8_stuff_25 rfl (lv_at hl 2 rfl) ?_
      refine lv_iconst (v := (1 : Int32)) hx hb dX8_stuff_26 (by decide) ?_
      refine lv_icmp_ne (tgt := 39) hx hb dX8_stuff_27 (by decide) (fun c5 => ?_) (fun c5 => ?_)
      · have h := if_f h c5
        refine lv_bipush (v := (-3 : Int32)) hx hb dX8_stuff_39 (by decide) ?_
        cases h
        exact we_i S hr hlk hW dX8_stuff_41
      · have h := if_t h c5
        refine lv_aload_n hx hb dX8_stuff_30 rfl (lv_at hl 0 rfl) ?_
        refine gf_30_3 S hK hW hv0 q988 dX8_stuff_31 ?_
        refine lv_iload_n hx hb dX8_stuff_34 rfl (lv_at hl 1 rfl) ?_
        obtain ⟨g6, h⟩ := og_e h
        refine ald_32 S hK hW (vq_30_3 hv0) g6 rfl dX8_stuff_35 ?_
        refine lv_goto (tgt := 41) hx hb dX8_stuff_36 (by decide) ?_
        cases h
        exact we_i S hr hlk hW dX8_stuff_41
    · have h := if_t h c4
      refine lv_aload_n hx hb dX8_stuff_16 rfl (lv_at hl 0 rfl) ?_
      refine gf_30_2 S hK hW hv0 q987 dX8_stuff_17 ?_
      refine lv_iload_n hx hb dX8_stuff_20 rfl (lv_at hl 1 rfl) ?_
      obtain ⟨g7, h⟩ := og_e h
      refine ald_31 S hK hW (vq_30_2 hv0) g7 rfl dX8_stuff_21 ?_
      refine lv_goto (tgt := 41) hx hb dX8_stuff_22 (by decide) ?_
      cases h
      exact we_i S hr hlk hW dX8_stuff_41
  · have h := if_t h c3
    refine lv_bipush (v := (-2 : Int32)) hx hb dX8_stuff_9 (by decide) ?_
    cases h
    exact we_i S hr hlk hW dX8_stuff_11
/-loop lp_X8_takes_57-/
def lp_X8_takes_57 (p1 : Int32) : Nat → St → Int32 → Int32 → Option (St × Int32 × Int32)
  | 0, _, _, _ => none
  | n + 1, F17, x15, x16 => if (60 : Int32) < x16 then some (F17, x15, x16) else if x15 = (-1 : Int32) then ob (fn_X8_goTick F17) (fun F25 => ob (if (F25 40 0 0 128) < p1 then some (-1 : Int32) else some x16) (fun y29 => lp_X8_takes_57 p1 n F25 y29 (x16 + 1))) else some (F17, x15, x16)
theorem lp_X8_takes_57_s {p1 : Int32} {n : Nat} {F17 : St} {x15 : Int32} {x16 : Int32} : lp_X8_takes_57 p1 (n + 1) F17 x15 x16 = if (60 : Int32) < x16 then some (F17, x15, x16) else if x15 = (-1 : Int32) then ob (fn_X8_goTick F17) (fun F25 => ob (if (F25 40 0 0 128) < p1 then some (-1 : Int32) else some x16) (fun y29 => lp_X8_takes_57 p1 n F25 y29 (x16 + 1))) else some (F17, x15, x16) := rfl
def fn_X8_takes (F : St) (p1 : Int32) (p2 : Int32) : Option (St × Int32) :=
  ob (fn_X8_in F p1 (1 : Int32) (9999 : Int32)) (fun r1 => if r1 = 0 then some (F, (-3 : Int32)) else ob (fn_X8_in F p2 (0 : Int32) (10 : Int32)) (fun r4 => if r4 = 0 then some (F, (-3 : Int32)) else pl (F 30 4 0 0) (fun x7 => pl (fu F 30 4 0 0 p2) (fun F9 => ob (fn_X8_copy_40_41 F9 (0 : Int32) (0 : Int32)) (fun F11 => ob (fn_X8_begin F11) (fun F13 => ob3 (lp_X8_takes_57 p1 300 F13 (-1 : Int32) (1 : Int32)) (fun F18 x19 x20 => ob (fn_X8_copy_41_40 F18 (0 : Int32) (0 : Int32)) (fun F32 => pl (fu F32 30 4 0 0 x7) (fun F34 => some (F34, x19))))))))))
theorem yd_X8_takes : yX8_takes.cls = RX8 ∧ yX8_takes.cls ≠ "java/lang/invoke/MethodHandle" ∧ yX8_takes.cls ≠ "java/lang/invoke/VarHandle" ∧ (parseMethodDescriptor yX8_takes.desc).map (fun d => d.parameters.length) = some 2 := by decide +kernel
set_option maxHeartbeats 4000000 in
theorem met_X8_takes (l : Launch) {D : va_G} {dA : WK} {a : Ix → Nat} (hD : wD D dA a) {F : St} {p1 : Int32} {p2 : Int32} {Fz : St} {rz : Int32} (hv0 : wVd dA (30, 0, 0)) (h : fn_X8_takes F p1 p2 = some (Fz, rz)) : Mi l yX8_takes cX8_takes 6 .int 3 69 D dA a F [.ref (a (30, 0, 0)), .int p1, .int p2] Fz rz := by
  refine fun sz => mst (Qc := fun sz => wQi D dA a sz Fz rz) (by decide) (Nat.le_of_ble_eq_true rfl) ?_ sz
  intro p e s m below meth c S hr hlk hK hW ls hl
  have hl : lv_has ls 6 [(0, .ref (a (30, 0, 0))), (1, .int p1), (2, .int p2)] := hl
  have hx := S.1
  have hb := S.2.1
  generalize ([.ref (a (30, 0, 0)), .int p1, .int p2] : List Value).toArray = av at S ⊢
  unfold fn_X8_takes at h
  obtain ⟨H, eH⟩ : ∃ z, z = s.heap := ⟨_, rfl⟩
  obtain ⟨locs, eL⟩ : ∃ z : List Loc, z = [] := ⟨_, rfl⟩
  show WX p l e (rmL 3 69) s m av below meth c (wQi D dA a s.heap.size Fz rz) dA a s.heap [] (F0 m 0 ls [])
  have hW : wS D dA a s F H locs := by rw [eH, eL]; exact wS_in hW
  refine wx_in eH eL ?_
  clear eH eL
  refine lv_iload_n hx hb dX8_takes_0 rfl (lv_at hl 1 rfl) ?_
  refine lv_iconst (v := (1 : Int32)) hx hb dX8_takes_1 (by decide) ?_
  refine lv_sipush (v := (9999 : Int32)) hx hb dX8_takes_2 (by decide) ?_
  obtain ⟨r1, hc2, h⟩ := ob_e h
  refine wk_i (va_runS (As := [.int p1, .int (1 : Int32), .int (9999 : Int32)]) (rest := []) S (met_X8_in l hD hc2 H.size) (va_cwS 3 S.2.2.2.2 (lw_S q1117 q1118 q63 q1119) rfl rfl rfl yd_X8_in.2 ⟨Nat.le_of_ble_eq_true rfl, Nat.le_of_ble_eq_true rfl⟩) (wpreS hK hW _) rfl rfl hl.1 rfl (lv_room (Nat.le_of_ble_eq_true rfl)) dX8_takes_5 ⟨Nat.le_refl 0, Nat.le_refl 0⟩) hW (fun H locs hW => ?_)
  refine lv_if_eq (tgt := 21) hx hb dX8_takes_8 (by decide) (fun c3 => ?_) (fun c3 => ?_)
  · have h := if_t h c3
    refine lv_bipush (v := (-3 : Int32)) hx hb dX8_takes_21 (by decide) ?_
    cases h
    exact we_i S hr hlk hW dX8_takes_23
  · have h := if_f h c3
    refine lv_iload_n hx hb dX8_takes_11 rfl (lv_at hl 2 rfl) ?_
    refine lv_iconst (v := (0 : Int32)) hx hb dX8_takes_12 (by decide) ?_
    refine lv_bipush (v := (10 : Int32)) hx hb dX8_takes_13 (by decide) ?_
    obtain ⟨r4, hc5, h⟩ := ob_e h
    refine wk_i (va_runS (As := [.int p2, .int (0 : Int32), .int (10 : Int32)]) (rest := []) S (met_X8_in l hD hc5 H.size) (va_cwS 3 S.2.2.2.2 (lw_S q1117 q1118 q63 q1119) rfl rfl rfl yd_X8_in.2 ⟨Nat.le_of_ble_eq_true rfl, Nat.le_of_ble_eq_true rfl⟩) (wpreS hK hW _) rfl rfl hl.1 rfl (lv_room (Nat.le_of_ble_eq_true rfl)) dX8_takes_15 ⟨Nat.le_refl 0, Nat.le_refl 0⟩) hW (fun H locs hW => ?_)
    refine lv_if_ne (tgt := 24) hx hb dX8_takes_18 (by decide) (fun c6 => ?_) (fun c6 => ?_)
    · have h := if_f h c6
      refine lv_aload_n hx hb dX8_takes_24 rfl (lv_at hl 0 rfl) ?_
      refine gf_30_4 S hK hW hv0 q989 dX8_takes_25 ?_
      obtain ⟨x7, e8, h⟩ := pl_e h
      refine lv_nm e8 ?_
      refine lv_istore_n (lv' := [(3, .int x7), (0, .ref (a (30, 0, 0))), (1, .int p1), (2, .int p2)]) hx hb dX8_takes_28 rfl hl (by decide) rfl (fun ls hl => ?_)
      refine lv_aload_n hx hb dX8_takes_29 rfl (lv_at hl 1 rfl) ?_
      refine lv_iload_n hx hb dX8_takes_30 rfl (lv_at hl 3 rfl) ?_
      obtain ⟨F9, e10, h⟩ := pl_e h
      refine pf_30_4 S hK hD hW hv0 e10 q989 dX8_takes_31 (fun H locs hW => ?_)
      refine lv_aload_n hx hb dX8_takes_34 rfl (lv_at hl 1 rfl) ?_
      refine gf_30_30 S hK hW hv0 q1015 dX8_takes_35 ?_
      refine lv_iconst (v := (0 : Int32)) hx hb dX8_takes_38 (by decide) ?_
      refine lv_aload_n hx hb dX8_takes_39 rfl (lv_at hl 1 rfl) ?_
      refine gf_30_31 S hK hW hv0 q1016 dX8_takes_40 ?_
      refine lv_iconst (v := (0 : Int32)) hx hb dX8_takes_43 (by decide) ?_
      obtain ⟨F11, hc12, h⟩ := ob_e h
      refine wk_v (va_runS (As := [.ref (a (40, 0, 0)), .int (0 : Int32), .ref (a (41, 0, 0)), .int (0 : Int32)]) (rest := []) S (met_X8_copy_40_41 l hD (vq_30_30 hv0) (vq_30_31 hv0) hc12 H.size) (va_cwS 4 S.2.2.2.2 (lw_S q1280 q1281 q63 q1282) rfl rfl rfl yd_X8_copy.2 ⟨Nat.le_of_ble_eq_true rfl, Nat.le_of_ble_eq_true rfl⟩) (wpreS hK hW _) rfl rfl hl.1 rfl (lv_room (Nat.le_of_ble_eq_true rfl)) dX8_takes_44 ⟨Nat.le_refl 0, Nat.le_refl 0⟩) hW (fun H locs hW => ?_)
      refine lv_aload_n hx hb dX8_takes_47 rfl (lv_at hl 1 rfl) ?_
      obtain ⟨F13, hc14, h⟩ := ob_e h
      refine wk_v (va_runV (As := []) (rest := []) S (met_X8_begin l hD hv0 hc14 H.size) (cwV 0 S.2.2.2.2 (lw_V q977 q979 qs22 q63 q980) rfl rfl rfl yd_X8_begin ⟨Nat.le_of_ble_eq_true rfl, Nat.le_of_ble_eq_true rfl⟩) (wpreV hK hW hv0 rfl rfl _) rfl rfl hl.1 rfl (lv_room (Nat.le_of_ble_eq_true rfl)) dX8_takes_48 ⟨Nat.le_refl 0, Nat.le_refl 0⟩) hW (fun H locs hW => ?_)
      refine lv_iconst (v := (-1 : Int32)) hx hb dX8_takes_51 (by decide) ?_
      refine lv_istore (lv' := [(4, .int (-1 : Int32)), (3, .int x7), (0, .ref (a (30, 0, 0))), (1, .int p1), (2, .int p2)]) hx hb dX8_takes_52 hl (by decide) rfl (fun ls hl => ?_)
      refine lv_iconst (v := (1 : Int32)) hx hb dX8_takes_54 (by decide) ?_
      refine lv_istore (lv' := [(5, .int (1 : Int32)), (4, .int (-1 : Int32)), (3, .int x7), (0, .ref (a (30, 0, 0))), (1, .int p1), (2, .int p2)]) hx hb dX8_takes_55 hl (by decide) rfl (fun ls hl => ?_)
      have L22 : ∀ (n : Nat) (F17 : St) (x15 : Int32) (x16 : Int32) (F18 : St) (x19 : Int32) (x20 : Int32), lp_X8_takes_57 p1 n F17 x15 x16 = some (F18, x19, x20) → (∀ (H : Heap) (locs : List Loc) (ls : Array Slot), wS D dA a s F18 H locs → lv_has ls 6 [(0, .ref (a (30, 0, 0))), (3, .int x7), (4, .int x19)] → WX p l e (rmL 3 69) s m av below meth c (wQi D dA a s.heap.size Fz rz) dA a H locs (F0 m 100 ls [])) → ∀ (H : Heap) (locs : List Loc) (ls : Array Slot), wS D dA a s F17 H locs → lv_has ls 6 [(0, .ref (a (30, 0, 0))), (1, .int p1), (3, .int x7), (4, .int x15), (5, .int x16)] → WX p l e (rmL 3 69) s m av below meth c (wQi D dA a s.heap.size Fz rz) dA a H locs (F0 m 57 ls []) := by
        intro n
        induction n with
        | zero =>
          intro F17 x15 x16 F18 x19 x20 h
          exact absurd (show (none : Option (St × Int32 × Int32)) = some (F18, x19, x20) from h) (by simp)
        | succ n ih =>
          intro F17 x15 x16 F18 x19 x20 h K21 H locs ls hW hl
          have h := lp_X8_takes_57_s.symm.trans h
          refine lv_iload hx hb dX8_takes_57 (lv_at hl 4 rfl) ?_
          refine lv_bipush (v := (60 : Int32)) hx hb dX8_takes_59 (by decide) ?_
          refine lv_icmp_gt (tgt := 100) hx hb dX8_takes_61 (by decide) (fun c23 => ?_) (fun c23 => ?_)
          · have h := if_t h c23
            cases h
            exact K21 H locs ls hW (lv_sub hl [0, 2, 3] rfl)
          · have h := if_f h c23
            refine lv_iload hx hb dX8_takes_64 (lv_at hl 3 rfl) ?_
            refine lv_iconst (v := (-1 : Int32)) hx hb dX8_takes_66 (by decide) ?_
            refine lv_icmp_ne (tgt := 100) hx hb dX8_takes_67 (by decide) (fun c24 => ?_) (fun c24 => ?_)
            · have h := if_f h c24
              cases h
              exact K21 H locs ls hW (lv_sub hl [0, 2, 3] rfl)
            · have h := if_t h c24
              refine lv_aload_n hx hb dX8_takes_70 rfl (lv_at hl 0 rfl) ?_
              obtain ⟨F25, hc26, h⟩ := ob_e h
              refine wk_v (va_runV (As := []) (rest := []) S (met_X8_goTick l hD hv0 hc26 H.size) (cwV 0 S.2.2.2.2 (lw_V q1214 q1216 qs36 q63 q1217) rfl rfl rfl yd_X8_goTick ⟨Nat.le_of_ble_eq_true rfl, Nat.le_of_ble_eq_true rfl⟩) (wpreV hK hW hv0 rfl rfl _) rfl rfl hl.1 rfl (lv_room (Nat.le_of_ble_eq_true rfl)) dX8_takes_71 ⟨Nat.le_refl 0, Nat.le_refl 0⟩) hW (fun H locs hW => ?_)
              refine lv_aload_n hx hb dX8_takes_74 rfl (lv_at hl 0 rfl) ?_
              refine gf_30_30 S hK hW hv0 q1015 dX8_takes_75 ?_
              refine lv_sipush (v := (128 : Int32)) hx hb dX8_takes_78 (by decide) ?_
              refine ald_40 (z := 128) S hK hW (vq_30_30 hv0) (by decide) (by decide) dX8_takes_81 ?_
              refine lv_iload_n hx hb dX8_takes_82 rfl (lv_at hl 1 rfl) ?_
              obtain ⟨y29, hz28, h⟩ := ob_e h
              have K30 : ∀ (H : Heap) (locs : List Loc) (ls : Array Slot), wS D dA a s F25 H locs → lv_has ls 6 [(0, .ref (a (30, 0, 0))), (1, .int p1), (3, .int x7), (5, .int x16)] → WX p l e (rmL 3 69) s m av below meth c (wQi D dA a s.heap.size Fz rz) dA a H locs (F0 m 92 ls [.int y29]) := by
                intro H locs ls hW hl
                refine lv_istore (lv' := [(4, .int y29), (0, .ref (a (30, 0, 0))), (1, .int p1), (3, .int x7), (5, .int x16)]) hx hb dX8_takes_92 hl (by decide) rfl (fun ls hl => ?_)
                refine lv_iinc (v := (x16 + 1)) (lv' := [(5, .int (x16 + 1)), (4, .int y29), (0, .ref (a (30, 0, 0))), (1, .int p1), (3, .int x7)]) hx hb dX8_takes_94 hl (k := 4) rfl rfl (by decide) rfl (fun ls hl => ?_)
                refine lv_goto (tgt := 57) hx hb dX8_takes_97 (by decide) ?_
                exact ih _ _ _ _ _ _ h K21 H locs ls hW (lv_sub hl [2, 3, 4, 1, 0] rfl)
              clear h
              refine lv_icmp_lt (tgt := 91) hx hb dX8_takes_83 (by decide) (fun c27 => ?_) (fun c27 => ?_)
              · have h := if_t hz28 c27
                refine lv_iconst (v := (-1 : Int32)) hx hb dX8_takes_91 (by decide) ?_
                cases h
                exact K30 H locs ls hW (lv_sub hl [0, 1, 2, 4] rfl)
              · have h := if_f hz28 c27
                refine lv_iload hx hb dX8_takes_86 (lv_at hl 4 rfl) ?_
                refine lv_goto (tgt := 92) hx hb dX8_takes_88 (by decide) ?_
                cases h
                exact K30 H locs ls hW (lv_sub hl [0, 1, 2, 4] rfl)
      obtain ⟨F18, x19, x20, hz31, h⟩ := ob3_e h
      refine L22 300 F13 (-1 : Int32) (1 : Int32) F18 x19 x20 hz31 (fun H locs ls hW hl => ?_) H locs ls hW (lv_sub hl [3, 4, 2, 1, 0] rfl)
      refine lv_aload_n hx hb dX8_takes_100 rfl (lv_at hl 0 rfl) ?_
      refine gf_30_31 S hK hW hv0 q1016 dX8_takes_101 ?_
      refine lv_iconst (v := (0 : Int32)) hx hb dX8_takes_104 (by decide) ?_
      refine lv_aload_n hx hb dX8_takes_105 rfl (lv_at hl 0 rfl) ?_
      refine gf_30_30 S hK hW hv0 q1015 dX8_takes_106 ?_
      refine lv_iconst (v := (0 : Int32)) hx hb dX8_takes_109 (by decide) ?_
      obtain ⟨F32, hc33, h⟩ := ob_e h
      refine wk_v (va_runS (As := [.ref (a (41, 0, 0)), .int (0 : Int32), .ref (a (40, 0, 0)), .int (0 : Int32)]) (rest := []) S (met_X8_copy_41_40 l hD (vq_30_31 hv0) (vq_30_30 hv0) hc33 H.size) (va_cwS 4 S.2.2.2.2 (lw_S q1280 q1281 q63 q1282) rfl rfl rfl yd_X8_copy.2 ⟨Nat.le_of_ble_eq_true rfl, Nat.le_of_ble_eq_true rfl⟩) (wpreS hK hW _) rfl rfl hl.1 rfl (lv_room (Nat.le_of_ble_eq_true rfl)) dX8_takes_110 ⟨Nat.le_refl 0, Nat.le_refl 0⟩) hW (fun H locs hW => ?_)
      refine lv_aload_n hx hb dX8_takes_113 rfl (lv_at hl 0 rfl) ?_
      refine lv_iload_n hx hb dX8_takes_114 rfl (lv_at hl 1 rfl) ?_
      obtain ⟨F34, e35, h⟩ := pl_e h
      refine pf_30_4 S hK hD hW hv0 e35 q989 dX8_takes_115 (fun H locs hW => ?_)
      refine lv_iload hx hb dX8_takes_118 (lv_at hl 2 rfl) ?_
      cases h
      exact we_i S hr hlk hW dX8_takes_120
    · have h := if_t h c6
      refine lv_bipush (v := (-3 : Int32)) hx hb dX8_takes_21 (by decide) ?_
      cases h
      exact we_i S hr hlk hW dX8_takes_23
def fn_X8_taste (F : St) (p1 : Int32) : Option (St × Int32) :=
  ob (fn_X8_in F p1 (0 : Int32) (3 : Int32)) (fun r1 => if r1 = 0 then some (F, (-3 : Int32)) else ob2 (fn_X8_tasteNow F) (fun F4 r5 => if p1 = 0 then some (F4, r5) else if p1 = (1 : Int32) then some (F4, (F4 30 37 0 0)) else if p1 = (2 : Int32) then some (F4, (F4 30 38 0 0)) else some (F4, (F4 30 39 0 0))))
theorem yd_X8_taste : yX8_taste.cls = RX8 ∧ yX8_taste.cls ≠ "java/lang/invoke/MethodHandle" ∧ yX8_taste.cls ≠ "java/lang/invoke/VarHandle" ∧ (parseMethodDescriptor yX8_taste.desc).map (fun d => d.parameters.length) = some 1 := by decide +kernel
set_option maxHeartbeats 4000000 in
theorem met_X8_taste (l : Launch) {D : va_G} {dA : WK} {a : Ix → Nat} (hD : wD D dA a) {F : St} {p1 : Int32} {Fz : St} {rz : Int32} (hv0 : wVd dA (30, 0, 0)) (h : fn_X8_taste F p1 = some (Fz, rz)) : Mi l yX8_taste cX8_taste 3 .int 5 113 D dA a F [.ref (a (30, 0, 0)), .int p1] Fz rz := by
  refine fun sz => mst (Qc := fun sz => wQi D dA a sz Fz rz) (by decide) (Nat.le_of_ble_eq_true rfl) ?_ sz
  intro p e s m below meth c S hr hlk hK hW ls hl
  have hl : lv_has ls 3 [(0, .ref (a (30, 0, 0))), (1, .int p1)] := hl
  have hx := S.1
  have hb := S.2.1
  generalize ([.ref (a (30, 0, 0)), .int p1] : List Value).toArray = av at S ⊢
  unfold fn_X8_taste at h
  obtain ⟨H, eH⟩ : ∃ z, z = s.heap := ⟨_, rfl⟩
  obtain ⟨locs, eL⟩ : ∃ z : List Loc, z = [] := ⟨_, rfl⟩
  show WX p l e (rmL 5 113) s m av below meth c (wQi D dA a s.heap.size Fz rz) dA a s.heap [] (F0 m 0 ls [])
  have hW : wS D dA a s F H locs := by rw [eH, eL]; exact wS_in hW
  refine wx_in eH eL ?_
  clear eH eL
  refine lv_iload_n hx hb dX8_taste_0 rfl (lv_at hl 1 rfl) ?_
  refine lv_iconst (v := (0 : Int32)) hx hb dX8_taste_1 (by decide) ?_
  refine lv_iconst (v := (3 : Int32)) hx hb dX8_taste_2 (by decide) ?_
  obtain ⟨r1, hc2, h⟩ := ob_e h
  refine wk_i (va_runS (As := [.int p1, .int (0 : Int32), .int (3 : Int32)]) (rest := []) S (met_X8_in l hD hc2 H.size) (va_cwS 3 S.2.2.2.2 (lw_S q1117 q1118 q63 q1119) rfl rfl rfl yd_X8_in.2 ⟨Nat.le_of_ble_eq_true rfl, Nat.le_of_ble_eq_true rfl⟩) (wpreS hK hW _) rfl rfl hl.1 rfl (lv_room (Nat.le_of_ble_eq_true rfl)) dX8_taste_3 ⟨Nat.le_refl 0, Nat.le_refl 0⟩) hW (fun H locs hW => ?_)
  refine lv_if_ne (tgt := 12) hx hb dX8_taste_6 (by decide) (fun c3 => ?_) (fun c3 => ?_)
  · have h := if_f h c3
    refine lv_aload_n hx hb dX8_taste_12 rfl (lv_at hl 0 rfl) ?_
    obtain ⟨F4, r5, hc6, h⟩ := ob2_e h
    refine wk_i (va_runV (As := []) (rest := []) S (met_X8_tasteNow l hD hv0 hc6 H.size) (cwV 0 S.2.2.2.2 (lw_V q1291 q1293 qs48 q63 q1294) rfl rfl rfl yd_X8_tasteNow ⟨Nat.le_of_ble_eq_true rfl, Nat.le_of_ble_eq_true rfl⟩) (wpreV hK hW hv0 rfl rfl _) rfl rfl hl.1 rfl (lv_room (Nat.le_of_ble_eq_true rfl)) dX8_taste_13 ⟨Nat.le_refl 0, Nat.le_refl 0⟩) hW (fun H locs hW => ?_)
    refine lv_istore_n (lv' := [(2, .int r5), (0, .ref (a (30, 0, 0))), (1, .int p1)]) hx hb dX8_taste_16 rfl hl (by decide) rfl (fun ls hl => ?_)
    refine lv_iload_n hx hb dX8_taste_17 rfl (lv_at hl 2 rfl) ?_
    refine lv_if_ne (tgt := 25) hx hb dX8_taste_18 (by decide) (fun c7 => ?_) (fun c7 => ?_)
    · have h := if_f h c7
      refine lv_iload_n hx hb dX8_taste_25 rfl (lv_at hl 2 rfl) ?_
      refine lv_iconst (v := (1 : Int32)) hx hb dX8_taste_26 (by decide) ?_
      refine lv_icmp_ne (tgt := 37) hx hb dX8_taste_27 (by decide) (fun c8 => ?_) (fun c8 => ?_)
      · have h := if_f h c8
        refine lv_iload_n hx hb dX8_taste_37 rfl (lv_at hl 2 rfl) ?_
        refine lv_iconst (v := (2 : Int32)) hx hb dX8_taste_38 (by decide) ?_
        refine lv_icmp_ne (tgt := 49) hx hb dX8_taste_39 (by decide) (fun c9 => ?_) (fun c9 => ?_)
        · have h := if_f h c9
          refine lv_aload_n hx hb dX8_taste_49 rfl (lv_at hl 1 rfl) ?_
          refine gf_30_39 S hK hW hv0 q1024 dX8_taste_50 ?_
          cases h
          exact we_i S hr hlk hW dX8_taste_53
        · have h := if_t h c9
          refine lv_aload_n hx hb dX8_taste_42 rfl (lv_at hl 1 rfl) ?_
          refine gf_30_38 S hK hW hv0 q1023 dX8_taste_43 ?_
          refine lv_goto (tgt := 53) hx hb dX8_taste_46 (by decide) ?_
          cases h
          exact we_i S hr hlk hW dX8_taste_53
      · have h := if_t h c8
        refine lv_aload_n hx hb dX8_taste_30 rfl (lv_at hl 1 rfl) ?_
        refine gf_30_37 S hK hW hv0 q1022 dX8_taste_31 ?_
        refine lv_goto (tgt := 53) hx hb dX8_taste_34 (by decide) ?_
        cases h
        exact we_i S hr hlk hW dX8_taste_53
    · have h := if_t h c7
      refine lv_iload_n hx hb dX8_taste_21 rfl (lv_at hl 0 rfl) ?_
      refine lv_goto (tgt := 53) hx hb dX8_taste_22 (by decide) ?_
      cases h
      exact we_i S hr hlk hW dX8_taste_53
  · have h := if_t h c3
    refine lv_bipush (v := (-3 : Int32)) hx hb dX8_taste_9 (by decide) ?_
    cases h
    exact we_i S hr hlk hW dX8_taste_11
/-loop lp_X8_write_31-/
def lp_X8_write_31 (p1 : Int64) (p2 : Int32) : Nat → St → Int32 → Option (St × Int32)
  | 0, _, _ => none
  | n + 1, F6, x5 => if p2 ≤ x5 then some (F6, x5) else og (vpb ((F6 30 18 0 0) + x5) 200) (pl (fu F6 38 0 0 ((F6 30 18 0 0) + x5).toNatClampNeg (((p1 >>> (((8 : Int32) * x5).toInt64 &&& 63)) &&& (255 : Int64)).toInt32)) (fun F13 => lp_X8_write_31 p1 p2 n F13 (x5 + 1)))
theorem lp_X8_write_31_s {p1 : Int64} {p2 : Int32} {n : Nat} {F6 : St} {x5 : Int32} : lp_X8_write_31 p1 p2 (n + 1) F6 x5 = if p2 ≤ x5 then some (F6, x5) else og (vpb ((F6 30 18 0 0) + x5) 200) (pl (fu F6 38 0 0 ((F6 30 18 0 0) + x5).toNatClampNeg (((p1 >>> (((8 : Int32) * x5).toInt64 &&& 63)) &&& (255 : Int64)).toInt32)) (fun F13 => lp_X8_write_31 p1 p2 n F13 (x5 + 1))) := rfl
def fn_X8_write (F : St) (p1 : Int64) (p2 : Int32) : Option (St × Int32) :=
  ob (fn_X8_in F p2 (1 : Int32) (8 : Int32)) (fun r1 => if r1 = 0 then some (F, (-3 : Int32)) else if ((F 30 18 0 0) + p2) ≤ (200 : Int32) then ob2 (lp_X8_write_31 p1 p2 300 F (0 : Int32)) (fun F7 x8 => pl (fu F7 30 18 0 0 ((F7 30 18 0 0) + p2)) (fun F16 => some (F16, (F16 30 18 0 0)))) else some (F, (-5 : Int32)))
theorem yd_X8_write : yX8_write.cls = RX8 ∧ yX8_write.cls ≠ "java/lang/invoke/MethodHandle" ∧ yX8_write.cls ≠ "java/lang/invoke/VarHandle" ∧ (parseMethodDescriptor yX8_write.desc).map (fun d => d.parameters.length) = some 2 := by decide +kernel
set_option maxHeartbeats 4000000 in
theorem met_X8_write (l : Launch) {D : va_G} {dA : WK} {a : Ix → Nat} (hD : wD D dA a) {F : St} {p1 : Int64} {p2 : Int32} {Fz : St} {rz : Int32} (hv0 : wVd dA (30, 0, 0)) (h : fn_X8_write F p1 p2 = some (Fz, rz)) : Mi l yX8_write cX8_write 5 .int 1 22 D dA a F [.ref (a (30, 0, 0)), .long p1, .int p2] Fz rz := by
  refine fun sz => mst (Qc := fun sz => wQi D dA a sz Fz rz) (by decide) (Nat.le_of_ble_eq_true rfl) ?_ sz
  intro p e s m below meth c S hr hlk hK hW ls hl
  have hl : lv_has ls 5 [(0, .ref (a (30, 0, 0))), (1, .long p1), (3, .int p2)] := hl
  have hx := S.1
  have hb := S.2.1
  generalize ([.ref (a (30, 0, 0)), .long p1, .int p2] : List Value).toArray = av at S ⊢
  unfold fn_X8_write at h
  obtain ⟨H, eH⟩ : ∃ z, z = s.heap := ⟨_, rfl⟩
  obtain ⟨locs, eL⟩ : ∃ z : List Loc, z = [] := ⟨_, rfl⟩
  show WX p l e (rmL 1 22) s m av below meth c (wQi D dA a s.heap.size Fz rz) dA a s.heap [] (F0 m 0 ls [])
  have hW : wS D dA a s F H locs := by rw [eH, eL]; exact wS_in hW
  refine wx_in eH eL ?_
  clear eH eL
  refine lv_iload_n hx hb dX8_write_0 rfl (lv_at hl 2 rfl) ?_
  refine lv_iconst (v := (1 : Int32)) hx hb dX8_write_1 (by decide) ?_
  refine lv_bipush (v := (8 : Int32)) hx hb dX8_write_2 (by decide) ?_
  obtain ⟨r1, hc2, h⟩ := ob_e h
  refine wk_i (va_runS (As := [.int p2, .int (1 : Int32), .int (8 : Int32)]) (rest := []) S (met_X8_in l hD hc2 H.size) (va_cwS 3 S.2.2.2.2 (lw_S q1117 q1118 q63 q1119) rfl rfl rfl yd_X8_in.2 ⟨Nat.le_of_ble_eq_true rfl, Nat.le_of_ble_eq_true rfl⟩) (wpreS hK hW _) rfl rfl hl.1 rfl (lv_room (Nat.le_of_ble_eq_true rfl)) dX8_write_4 ⟨Nat.le_refl 0, Nat.le_refl 0⟩) hW (fun H locs hW => ?_)
  refine lv_if_ne (tgt := 13) hx hb dX8_write_7 (by decide) (fun c3 => ?_) (fun c3 => ?_)
  · have h := if_f h c3
    refine lv_aload_n hx hb dX8_write_13 rfl (lv_at hl 0 rfl) ?_
    refine gf_30_18 S hK hW hv0 q1003 dX8_write_14 ?_
    refine lv_iload_n hx hb dX8_write_17 rfl (lv_at hl 2 rfl) ?_
    refine lv_iadd hx hb dX8_write_18 ?_
    refine lv_sipush (v := (200 : Int32)) hx hb dX8_write_19 (by decide) ?_
    refine lv_icmp_le (tgt := 28) hx hb dX8_write_22 (by decide) (fun c4 => ?_) (fun c4 => ?_)
    · have h := if_t h c4
      refine lv_iconst (v := (0 : Int32)) hx hb dX8_write_28 (by decide) ?_
      refine lv_istore (lv' := [(4, .int (0 : Int32)), (0, .ref (a (30, 0, 0))), (1, .long p1), (3, .int p2)]) hx hb dX8_write_29 hl (by decide) rfl (fun ls hl => ?_)
      have L10 : ∀ (n : Nat) (F6 : St) (x5 : Int32) (F7 : St) (x8 : Int32), lp_X8_write_31 p1 p2 n F6 x5 = some (F7, x8) → (∀ (H : Heap) (locs : List Loc) (ls : Array Slot), wS D dA a s F7 H locs → lv_has ls 5 [(0, .ref (a (30, 0, 0))), (3, .int p2)] → WX p l e (rmL 1 22) s m av below meth c (wQi D dA a s.heap.size Fz rz) dA a H locs (F0 m 67 ls [])) → ∀ (H : Heap) (locs : List Loc) (ls : Array Slot), wS D dA a s F6 H locs → lv_has ls 5 [(0, .ref (a (30, 0, 0))), (1, .long p1), (3, .int p2), (4, .int x5)] → WX p l e (rmL 1 22) s m av below meth c (wQi D dA a s.heap.size Fz rz) dA a H locs (F0 m 31 ls []) := by
        intro n
        induction n with
        | zero =>
          intro F6 x5 F7 x8 h
          exact absurd (show (none : Option (St × Int32)) = some (F7, x8) from h) (by simp)
        | succ n ih =>
          intro F6 x5 F7 x8 h K9 H locs ls hW hl
          have h := lp_X8_write_31_s.symm.trans h
          refine lv_iload hx hb dX8_write_31 (lv_at hl 3 rfl) ?_
          refine lv_iload_n hx hb dX8_write_33 rfl (lv_at hl 2 rfl) ?_
          refine lv_icmp_ge (tgt := 67) hx hb dX8_write_34 (by decide) (fun c11 => ?_) (fun c11 => ?_)
          · have h := if_t h c11
            cases h
            exact K9 H locs ls hW (lv_sub hl [0, 2] rfl)
          · have h := if_f h c11
            refine lv_aload_n hx hb dX8_write_37 rfl (lv_at hl 0 rfl) ?_
            refine gf_30_19 S hK hW hv0 q1004 dX8_write_38 ?_
            refine lv_aload_n hx hb dX8_write_41 rfl (lv_at hl 0 rfl) ?_
            refine gf_30_18 S hK hW hv0 q1003 dX8_write_42 ?_
            refine lv_iload hx hb dX8_write_45 (lv_at hl 3 rfl) ?_
            refine lv_iadd hx hb dX8_write_47 ?_
            refine lv_lload_n hx hb dX8_write_48 rfl (lv_at hl 1 rfl) ?_
            refine lv_bipush (v := (8 : Int32)) hx hb dX8_write_49 (by decide) ?_
            refine lv_iload hx hb dX8_write_51 (lv_at hl 3 rfl) ?_
            refine lv_imul hx hb dX8_write_53 ?_
            refine lv_lshr hx hb dX8_write_54 rfl ?_
            refine lv_ldc2 (v := (255 : Int64)) hx hb S.2.2.2.1 (S.2.2.2.2 _ q1120) dX8_write_55 ?_
            refine lv_land hx hb dX8_write_58 ?_
            refine lv_l2i hx hb dX8_write_59 rfl ?_
            obtain ⟨g12, h⟩ := og_e h
            obtain ⟨F13, e14, h⟩ := pl_e h
            refine ast_38 S hK hD hW (vq_30_19 hv0) g12 rfl e14 dX8_write_60 (fun H locs hW => ?_)
            refine lv_iinc (v := (x5 + 1)) (lv' := [(4, .int (x5 + 1)), (0, .ref (a (30, 0, 0))), (1, .long p1), (3, .int p2)]) hx hb dX8_write_61 hl (k := 3) rfl rfl (by decide) rfl (fun ls hl => ?_)
            refine lv_goto (tgt := 31) hx hb dX8_write_64 (by decide) ?_
            exact ih _ _ _ _ h K9 H locs ls hW (lv_sub hl [1, 2, 3, 0] rfl)
      obtain ⟨F7, x8, hz15, h⟩ := ob2_e h
      refine L10 300 F (0 : Int32) F7 x8 hz15 (fun H locs ls hW hl => ?_) H locs ls hW (lv_sub hl [1, 2, 3, 0] rfl)
      refine lv_aload_n hx hb dX8_write_67 rfl (lv_at hl 0 rfl) ?_
      refine lv_dup hx hb dX8_write_68 rfl ?_
      refine gf_30_18 S hK hW hv0 q1003 dX8_write_69 ?_
      refine lv_iload_n hx hb dX8_write_72 rfl (lv_at hl 1 rfl) ?_
      refine lv_iadd hx hb dX8_write_73 ?_
      obtain ⟨F16, e17, h⟩ := pl_e h
      refine pf_30_18 S hK hD hW hv0 e17 q1003 dX8_write_74 (fun H locs hW => ?_)
      refine lv_aload_n hx hb dX8_write_77 rfl (lv_at hl 0 rfl) ?_
      refine gf_30_18 S hK hW hv0 q1003 dX8_write_78 ?_
      cases h
      exact we_i S hr hlk hW dX8_write_81
    · have h := if_f h c4
      refine lv_bipush (v := (-5 : Int32)) hx hb dX8_write_25 (by decide) ?_
      cases h
      exact we_i S hr hlk hW dX8_write_27
  · have h := if_t h c3
    refine lv_bipush (v := (-3 : Int32)) hx hb dX8_write_10 (by decide) ?_
    cases h
    exact we_i S hr hlk hW dX8_write_12
