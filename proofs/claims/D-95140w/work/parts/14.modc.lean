set_option maxRecDepth 100000
def fn_X8_cell (F : St) (p1 : Int32) (p2 : Int32) (p3 : Int32) : Option (Int32) :=
  ob (fn_X8_in F p1 (0 : Int32) ((F 30 0 0 0) - (1 : Int32))) (fun r1 => if r1 = 0 then some (-2 : Int32) else ob (fn_X8_in F p2 (0 : Int32) ((F 30 1 0 0) - (1 : Int32))) (fun r4 => if r4 = 0 then some (-2 : Int32) else pl (((4 : Int32) * p2) + p1) (fun x7 => if p3.toInt < 0 ∨ 8 < p3.toInt then some (-3 : Int32) else if p3 = (0 : Int32) then og (vpb x7 138) (some (F 40 0 0 x7.toNatClampNeg)) else if p3 = (1 : Int32) then og (vpb ((16 : Int32) + x7) 138) (ob (fn_X8_looseOf F x7 (F 40 0 0 ((16 : Int32) + x7).toNatClampNeg)) (fun r14 => some r14)) else if p3 = (2 : Int32) then og (vpb ((16 : Int32) + x7) 138) (some (F 40 0 0 ((16 : Int32) + x7).toNatClampNeg)) else if p3 = (3 : Int32) then og (vpb (((32 : Int32) + ((16 : Int32) * (p3 - (3 : Int32)))) + x7) 138) (some (F 40 0 0 (((32 : Int32) + ((16 : Int32) * (p3 - (3 : Int32)))) + x7).toNatClampNeg)) else if p3 = (4 : Int32) then og (vpb (((32 : Int32) + ((16 : Int32) * (p3 - (3 : Int32)))) + x7) 138) (some (F 40 0 0 (((32 : Int32) + ((16 : Int32) * (p3 - (3 : Int32)))) + x7).toNatClampNeg)) else if p3 = (5 : Int32) then og (vpb (((32 : Int32) + ((16 : Int32) * (p3 - (3 : Int32)))) + x7) 138) (some (F 40 0 0 (((32 : Int32) + ((16 : Int32) * (p3 - (3 : Int32)))) + x7).toNatClampNeg)) else if p3 = (6 : Int32) then og (vpb (((80 : Int32) + ((16 : Int32) * (p3 - (6 : Int32)))) + x7) 138) (some (F 40 0 0 (((80 : Int32) + ((16 : Int32) * (p3 - (6 : Int32)))) + x7).toNatClampNeg)) else if p3 = (7 : Int32) then og (vpb (((80 : Int32) + ((16 : Int32) * (p3 - (6 : Int32)))) + x7) 138) (some (F 40 0 0 (((80 : Int32) + ((16 : Int32) * (p3 - (6 : Int32)))) + x7).toNatClampNeg)) else if p3 = (8 : Int32) then og (vpb (((80 : Int32) + ((16 : Int32) * (p3 - (6 : Int32)))) + x7) 138) (some (F 40 0 0 (((80 : Int32) + ((16 : Int32) * (p3 - (6 : Int32)))) + x7).toNatClampNeg)) else none)))
theorem yd_X8_cell : yX8_cell.cls = RX8 ∧ yX8_cell.cls ≠ "java/lang/invoke/MethodHandle" ∧ yX8_cell.cls ≠ "java/lang/invoke/VarHandle" ∧ (parseMethodDescriptor yX8_cell.desc).map (fun d => d.parameters.length) = some 3 := by decide +kernel
set_option maxHeartbeats 4000000 in
theorem met_X8_cell (l : Launch) {D : va_G} {dA : WK} {a : Ix → Nat} (hD : wD D dA a) {F : St} {p1 : Int32} {p2 : Int32} {p3 : Int32} {rz : Int32} (hv0 : wVd dA (30, 0, 0)) (h : fn_X8_cell F p1 p2 p3 = some rz) : Mi l yX8_cell cX8_cell 5 .int 1 23 D dA a F [.ref (a (30, 0, 0)), .int p1, .int p2, .int p3] F rz := by
  refine fun sz => mst (Qc := fun sz => wQi D dA a sz F rz) (by decide) (Nat.le_of_ble_eq_true rfl) ?_ sz
  intro p e s m below meth c S hr hlk hK hW ls hl
  have hl : lv_has ls 5 [(0, .ref (a (30, 0, 0))), (1, .int p1), (2, .int p2), (3, .int p3)] := hl
  have hx := S.1
  have hb := S.2.1
  generalize ([.ref (a (30, 0, 0)), .int p1, .int p2, .int p3] : List Value).toArray = av at S ⊢
  unfold fn_X8_cell at h
  obtain ⟨H, eH⟩ : ∃ z, z = s.heap := ⟨_, rfl⟩
  obtain ⟨locs, eL⟩ : ∃ z : List Loc, z = [] := ⟨_, rfl⟩
  show WX p l e (rmL 1 23) s m av below meth c (wQi D dA a s.heap.size F rz) dA a s.heap [] (F0 m 0 ls [])
  have hW : wS D dA a s F H locs := by rw [eH, eL]; exact wS_in hW
  refine wx_in eH eL ?_
  clear eH eL
  refine lv_iload_n hx hb dX8_cell_0 rfl (lv_at hl 1 rfl) ?_
  refine lv_iconst (v := (0 : Int32)) hx hb dX8_cell_1 (by decide) ?_
  refine lv_aload_n hx hb dX8_cell_2 rfl (lv_at hl 0 rfl) ?_
  refine gf_30_0 S hK hW hv0 q985 dX8_cell_3 ?_
  refine lv_iconst (v := (1 : Int32)) hx hb dX8_cell_6 (by decide) ?_
  refine lv_isub hx hb dX8_cell_7 ?_
  obtain ⟨r1, hc2, h⟩ := ob_e h
  refine wk_i (va_runS (As := [.int p1, .int (0 : Int32), .int ((F 30 0 0 0) - (1 : Int32))]) (rest := []) S (met_X8_in l hD hc2 H.size) (va_cwS 3 S.2.2.2.2 (lw_S q1117 q1118 q63 q1119) rfl rfl rfl yd_X8_in.2 ⟨Nat.le_of_ble_eq_true rfl, Nat.le_of_ble_eq_true rfl⟩) (wpreS hK hW _) rfl rfl hl.1 rfl (lv_room (Nat.le_of_ble_eq_true rfl)) dX8_cell_8 ⟨Nat.le_refl 0, Nat.le_refl 0⟩) hW (fun H locs hW => ?_)
  refine lv_if_eq (tgt := 28) hx hb dX8_cell_11 (by decide) (fun c3 => ?_) (fun c3 => ?_)
  · have h := if_t h c3
    refine lv_bipush (v := (-2 : Int32)) hx hb dX8_cell_28 (by decide) ?_
    cases h
    exact we_i S hr hlk hW dX8_cell_30
  · have h := if_f h c3
    refine lv_iload_n hx hb dX8_cell_14 rfl (lv_at hl 2 rfl) ?_
    refine lv_iconst (v := (0 : Int32)) hx hb dX8_cell_15 (by decide) ?_
    refine lv_aload_n hx hb dX8_cell_16 rfl (lv_at hl 0 rfl) ?_
    refine gf_30_1 S hK hW hv0 q986 dX8_cell_17 ?_
    refine lv_iconst (v := (1 : Int32)) hx hb dX8_cell_20 (by decide) ?_
    refine lv_isub hx hb dX8_cell_21 ?_
    obtain ⟨r4, hc5, h⟩ := ob_e h
    refine wk_i (va_runS (As := [.int p2, .int (0 : Int32), .int ((F 30 1 0 0) - (1 : Int32))]) (rest := []) S (met_X8_in l hD hc5 H.size) (va_cwS 3 S.2.2.2.2 (lw_S q1117 q1118 q63 q1119) rfl rfl rfl yd_X8_in.2 ⟨Nat.le_of_ble_eq_true rfl, Nat.le_of_ble_eq_true rfl⟩) (wpreS hK hW _) rfl rfl hl.1 rfl (lv_room (Nat.le_of_ble_eq_true rfl)) dX8_cell_22 ⟨Nat.le_refl 0, Nat.le_refl 0⟩) hW (fun H locs hW => ?_)
    refine lv_if_ne (tgt := 31) hx hb dX8_cell_25 (by decide) (fun c6 => ?_) (fun c6 => ?_)
    · have h := if_f h c6
      refine lv_iconst (v := (4 : Int32)) hx hb dX8_cell_31 (by decide) ?_
      refine lv_iload_n hx hb dX8_cell_32 rfl (lv_at hl 2 rfl) ?_
      refine lv_imul hx hb dX8_cell_33 ?_
      refine lv_iload_n hx hb dX8_cell_34 rfl (lv_at hl 1 rfl) ?_
      refine lv_iadd hx hb dX8_cell_35 ?_
      obtain ⟨x7, e8, h⟩ := pl_e h
      refine lv_nm e8 ?_
      refine lv_istore (lv' := [(4, .int x7), (0, .ref (a (30, 0, 0))), (1, .int p1), (2, .int p2), (3, .int p3)]) hx hb dX8_cell_36 hl (by decide) rfl (fun ls hl => ?_)
      refine lv_iload_n hx hb dX8_cell_38 rfl (lv_at hl 4 rfl) ?_
      by_cases c9 : p3.toInt < 0 ∨ 8 < p3.toInt
      · have h := if_t h c9
        refine lv_tableOut (tgt := 161) hx hb dX8_cell_39 c9 (by decide) ?_
        refine lv_bipush (v := (-3 : Int32)) hx hb dX8_cell_161 (by decide) ?_
        cases h
        exact we_i S hr hlk hW dX8_cell_163
      · have hz := if_f h c9
        by_cases c10 : p3 = (0 : Int32)
        · have h := if_t hz c10
          refine lv_sw c10 ?_
          refine lv_tableIn (off := 49) (tgt := 88) hx hb dX8_cell_39 (by decide) (by decide) (by decide) (by decide) ?_
          refine lv_aload_n hx hb dX8_cell_88 rfl (lv_at hl 1 rfl) ?_
          refine gf_30_30 S hK hW hv0 q1015 dX8_cell_89 ?_
          refine lv_iload hx hb dX8_cell_92 (lv_at hl 0 rfl) ?_
          obtain ⟨g11, h⟩ := og_e h
          refine ald_40 S hK hW (vq_30_30 hv0) g11 rfl dX8_cell_94 ?_
          cases h
          exact we_i S hr hlk hW dX8_cell_95
        have hz := if_f hz c10
        by_cases c12 : p3 = (1 : Int32)
        · have h := if_t hz c12
          refine lv_sw c12 ?_
          refine lv_tableIn (off := 57) (tgt := 96) hx hb dX8_cell_39 (by decide) (by decide) (by decide) (by decide) ?_
          refine lv_aload_n hx hb dX8_cell_96 rfl (lv_at hl 1 rfl) ?_
          refine lv_iload hx hb dX8_cell_97 (lv_at hl 0 rfl) ?_
          refine lv_aload_n hx hb dX8_cell_99 rfl (lv_at hl 1 rfl) ?_
          refine gf_30_30 S hK hW hv0 q1015 dX8_cell_100 ?_
          refine lv_bipush (v := (16 : Int32)) hx hb dX8_cell_103 (by decide) ?_
          refine lv_iload hx hb dX8_cell_105 (lv_at hl 0 rfl) ?_
          refine lv_iadd hx hb dX8_cell_107 ?_
          obtain ⟨g13, h⟩ := og_e h
          refine ald_40 S hK hW (vq_30_30 hv0) g13 rfl dX8_cell_108 ?_
          obtain ⟨r14, hc15, h⟩ := ob_e h
          refine wk_i (va_runV (As := [.int x7, .int (F 40 0 0 ((16 : Int32) + x7).toNatClampNeg)]) (rest := []) S (met_X8_looseOf l hD hv0 hc15 H.size) (cwV 2 S.2.2.2.2 (lw_V q1239 q1241 qs42 q63 q1242) rfl rfl rfl yd_X8_looseOf ⟨Nat.le_of_ble_eq_true rfl, Nat.le_of_ble_eq_true rfl⟩) (wpreV hK hW hv0 rfl rfl _) rfl rfl hl.1 rfl (lv_room (Nat.le_of_ble_eq_true rfl)) dX8_cell_109 ⟨Nat.le_refl 0, Nat.le_refl 0⟩) hW (fun H locs hW => ?_)
          cases h
          exact we_i S hr hlk hW dX8_cell_112
        have hz := if_f hz c12
        by_cases c16 : p3 = (2 : Int32)
        · have h := if_t hz c16
          refine lv_sw c16 ?_
          refine lv_tableIn (off := 74) (tgt := 113) hx hb dX8_cell_39 (by decide) (by decide) (by decide) (by decide) ?_
          refine lv_aload_n hx hb dX8_cell_113 rfl (lv_at hl 1 rfl) ?_
          refine gf_30_30 S hK hW hv0 q1015 dX8_cell_114 ?_
          refine lv_bipush (v := (16 : Int32)) hx hb dX8_cell_117 (by decide) ?_
          refine lv_iload hx hb dX8_cell_119 (lv_at hl 0 rfl) ?_
          refine lv_iadd hx hb dX8_cell_121 ?_
          obtain ⟨g17, h⟩ := og_e h
          refine ald_40 S hK hW (vq_30_30 hv0) g17 rfl dX8_cell_122 ?_
          cases h
          exact we_i S hr hlk hW dX8_cell_123
        have hz := if_f hz c16
        by_cases c18 : p3 = (3 : Int32)
        · have h := if_t hz c18
          refine lv_sw c18 ?_
          refine lv_tableIn (off := 85) (tgt := 124) hx hb dX8_cell_39 (by decide) (by decide) (by decide) (by decide) ?_
          refine lv_aload_n hx hb dX8_cell_124 rfl (lv_at hl 1 rfl) ?_
          refine gf_30_30 S hK hW hv0 q1015 dX8_cell_125 ?_
          refine lv_bipush (v := (32 : Int32)) hx hb dX8_cell_128 (by decide) ?_
          refine lv_bipush (v := (16 : Int32)) hx hb dX8_cell_130 (by decide) ?_
          refine lv_iload_n hx hb dX8_cell_132 rfl (lv_at hl 4 rfl) ?_
          refine lv_iconst (v := (3 : Int32)) hx hb dX8_cell_133 (by decide) ?_
          refine lv_isub hx hb dX8_cell_134 ?_
          refine lv_imul hx hb dX8_cell_135 ?_
          refine lv_iadd hx hb dX8_cell_136 ?_
          refine lv_iload hx hb dX8_cell_137 (lv_at hl 0 rfl) ?_
          refine lv_iadd hx hb dX8_cell_139 ?_
          obtain ⟨g19, h⟩ := og_e h
          refine ald_40 S hK hW (vq_30_30 hv0) g19 rfl dX8_cell_140 ?_
          cases h
          exact we_i S hr hlk hW dX8_cell_141
        have hz := if_f hz c18
        by_cases c20 : p3 = (4 : Int32)
        · have h := if_t hz c20
          refine lv_sw c20 ?_
          refine lv_tableIn (off := 85) (tgt := 124) hx hb dX8_cell_39 (by decide) (by decide) (by decide) (by decide) ?_
          refine lv_aload_n hx hb dX8_cell_124 rfl (lv_at hl 1 rfl) ?_
          refine gf_30_30 S hK hW hv0 q1015 dX8_cell_125 ?_
          refine lv_bipush (v := (32 : Int32)) hx hb dX8_cell_128 (by decide) ?_
          refine lv_bipush (v := (16 : Int32)) hx hb dX8_cell_130 (by decide) ?_
          refine lv_iload_n hx hb dX8_cell_132 rfl (lv_at hl 4 rfl) ?_
          refine lv_iconst (v := (3 : Int32)) hx hb dX8_cell_133 (by decide) ?_
          refine lv_isub hx hb dX8_cell_134 ?_
          refine lv_imul hx hb dX8_cell_135 ?_
          refine lv_iadd hx hb dX8_cell_136 ?_
          refine lv_iload hx hb dX8_cell_137 (lv_at hl 0 rfl) ?_
          refine lv_iadd hx hb dX8_cell_139 ?_
          obtain ⟨g21, h⟩ := og_e h
          refine ald_40 S hK hW (vq_30_30 hv0) g21 rfl dX8_cell_140 ?_
          cases h
          exact we_i S hr hlk hW dX8_cell_141
        have hz := if_f hz c20
        by_cases c22 : p3 = (5 : Int32)
        · have h := if_t hz c22
          refine lv_sw c22 ?_
          refine lv_tableIn (off := 85) (tgt := 124) hx hb dX8_cell_39 (by decide) (by decide) (by decide) (by decide) ?_
          refine lv_aload_n hx hb dX8_cell_124 rfl (lv_at hl 1 rfl) ?_
          refine gf_30_30 S hK hW hv0 q1015 dX8_cell_125 ?_
          refine lv_bipush (v := (32 : Int32)) hx hb dX8_cell_128 (by decide) ?_
          refine lv_bipush (v := (16 : Int32)) hx hb dX8_cell_130 (by decide) ?_
          refine lv_iload_n hx hb dX8_cell_132 rfl (lv_at hl 4 rfl) ?_
          refine lv_iconst (v := (3 : Int32)) hx hb dX8_cell_133 (by decide) ?_
          refine lv_isub hx hb dX8_cell_134 ?_
          refine lv_imul hx hb dX8_cell_135 ?_
          refine lv_iadd hx hb dX8_cell_136 ?_
          refine lv_iload hx hb dX8_cell_137 (lv_at hl 0 rfl) ?_
          refine lv_iadd hx hb dX8_cell_139 ?_
          obtain ⟨g23, h⟩ := og_e h
          refine ald_40 S hK hW (vq_30_30 hv0) g23 rfl dX8_cell_140 ?_
          cases h
          exact we_i S hr hlk hW dX8_cell_141
        have hz := if_f hz c22
        by_cases c24 : p3 = (6 : Int32)
        · have h := if_t hz c24
          refine lv_sw c24 ?_
          refine lv_tableIn (off := 103) (tgt := 142) hx hb dX8_cell_39 (by decide) (by decide) (by decide) (by decide) ?_
          refine lv_aload_n hx hb dX8_cell_142 rfl (lv_at hl 1 rfl) ?_
          refine gf_30_30 S hK hW hv0 q1015 dX8_cell_143 ?_
          refine lv_bipush (v := (80 : Int32)) hx hb dX8_cell_146 (by decide) ?_
          refine lv_bipush (v := (16 : Int32)) hx hb dX8_cell_148 (by decide) ?_
          refine lv_iload_n hx hb dX8_cell_150 rfl (lv_at hl 4 rfl) ?_
          refine lv_bipush (v := (6 : Int32)) hx hb dX8_cell_151 (by decide) ?_
          refine lv_isub hx hb dX8_cell_153 ?_
          refine lv_imul hx hb dX8_cell_154 ?_
          refine lv_iadd hx hb dX8_cell_155 ?_
          refine lv_iload hx hb dX8_cell_156 (lv_at hl 0 rfl) ?_
          refine lv_iadd hx hb dX8_cell_158 ?_
          obtain ⟨g25, h⟩ := og_e h
          refine ald_40 S hK hW (vq_30_30 hv0) g25 rfl dX8_cell_159 ?_
          cases h
          exact we_i S hr hlk hW dX8_cell_160
        have hz := if_f hz c24
        by_cases c26 : p3 = (7 : Int32)
        · have h := if_t hz c26
          refine lv_sw c26 ?_
          refine lv_tableIn (off := 103) (tgt := 142) hx hb dX8_cell_39 (by decide) (by decide) (by decide) (by decide) ?_
          refine lv_aload_n hx hb dX8_cell_142 rfl (lv_at hl 1 rfl) ?_
          refine gf_30_30 S hK hW hv0 q1015 dX8_cell_143 ?_
          refine lv_bipush (v := (80 : Int32)) hx hb dX8_cell_146 (by decide) ?_
          refine lv_bipush (v := (16 : Int32)) hx hb dX8_cell_148 (by decide) ?_
          refine lv_iload_n hx hb dX8_cell_150 rfl (lv_at hl 4 rfl) ?_
          refine lv_bipush (v := (6 : Int32)) hx hb dX8_cell_151 (by decide) ?_
          refine lv_isub hx hb dX8_cell_153 ?_
          refine lv_imul hx hb dX8_cell_154 ?_
          refine lv_iadd hx hb dX8_cell_155 ?_
          refine lv_iload hx hb dX8_cell_156 (lv_at hl 0 rfl) ?_
          refine lv_iadd hx hb dX8_cell_158 ?_
          obtain ⟨g27, h⟩ := og_e h
          refine ald_40 S hK hW (vq_30_30 hv0) g27 rfl dX8_cell_159 ?_
          cases h
          exact we_i S hr hlk hW dX8_cell_160
        have hz := if_f hz c26
        by_cases c28 : p3 = (8 : Int32)
        · have h := if_t hz c28
          refine lv_sw c28 ?_
          refine lv_tableIn (off := 103) (tgt := 142) hx hb dX8_cell_39 (by decide) (by decide) (by decide) (by decide) ?_
          refine lv_aload_n hx hb dX8_cell_142 rfl (lv_at hl 1 rfl) ?_
          refine gf_30_30 S hK hW hv0 q1015 dX8_cell_143 ?_
          refine lv_bipush (v := (80 : Int32)) hx hb dX8_cell_146 (by decide) ?_
          refine lv_bipush (v := (16 : Int32)) hx hb dX8_cell_148 (by decide) ?_
          refine lv_iload_n hx hb dX8_cell_150 rfl (lv_at hl 4 rfl) ?_
          refine lv_bipush (v := (6 : Int32)) hx hb dX8_cell_151 (by decide) ?_
          refine lv_isub hx hb dX8_cell_153 ?_
          refine lv_imul hx hb dX8_cell_154 ?_
          refine lv_iadd hx hb dX8_cell_155 ?_
          refine lv_iload hx hb dX8_cell_156 (lv_at hl 0 rfl) ?_
          refine lv_iadd hx hb dX8_cell_158 ?_
          obtain ⟨g29, h⟩ := og_e h
          refine ald_40 S hK hW (vq_30_30 hv0) g29 rfl dX8_cell_159 ?_
          cases h
          exact we_i S hr hlk hW dX8_cell_160
        have hz := if_f hz c28
        cases hz
    · have h := if_t h c6
      refine lv_bipush (v := (-2 : Int32)) hx hb dX8_cell_28 (by decide) ?_
      cases h
      exact we_i S hr hlk hW dX8_cell_30
def fn_X8_count (F : St) (p1 : Int32) : Option (Int32) :=
  if p1.toInt < 0 ∨ 9 < p1.toInt then some (-3 : Int32) else if p1 = (0 : Int32) then some (F 30 0 0 0) else if p1 = (1 : Int32) then some (F 30 1 0 0) else if p1 = (2 : Int32) then some (F 30 4 0 0) else if p1 = (3 : Int32) then some (F 30 10 0 0) else if p1 = (4 : Int32) then some (F 30 11 0 0) else if p1 = (5 : Int32) then some (F 30 16 0 0) else if p1 = (6 : Int32) then some (F 30 12 0 0) else if p1 = (7 : Int32) then some (F 30 18 0 0) else if p1 = (8 : Int32) then some (F 30 8 0 0) else if p1 = (9 : Int32) then some (F 30 9 0 0) else none
theorem yd_X8_count : yX8_count.cls = RX8 ∧ yX8_count.cls ≠ "java/lang/invoke/MethodHandle" ∧ yX8_count.cls ≠ "java/lang/invoke/VarHandle" ∧ (parseMethodDescriptor yX8_count.desc).map (fun d => d.parameters.length) = some 1 := by decide +kernel
set_option maxHeartbeats 4000000 in
theorem met_X8_count (l : Launch) {D : va_G} {dA : WK} {a : Ix → Nat} (hD : wD D dA a) {F : St} {p1 : Int32} {rz : Int32} (hv0 : wVd dA (30, 0, 0)) (h : fn_X8_count F p1 = some rz) : Mi l yX8_count cX8_count 2 .int 0 0 D dA a F [.ref (a (30, 0, 0)), .int p1] F rz := by
  refine fun sz => mst (Qc := fun sz => wQi D dA a sz F rz) (by decide) (Nat.le_of_ble_eq_true rfl) ?_ sz
  intro p e s m below meth c S hr hlk hK hW ls hl
  have hl : lv_has ls 2 [(0, .ref (a (30, 0, 0))), (1, .int p1)] := hl
  have hx := S.1
  have hb := S.2.1
  generalize ([.ref (a (30, 0, 0)), .int p1] : List Value).toArray = av at S ⊢
  unfold fn_X8_count at h
  obtain ⟨H, eH⟩ : ∃ z, z = s.heap := ⟨_, rfl⟩
  obtain ⟨locs, eL⟩ : ∃ z : List Loc, z = [] := ⟨_, rfl⟩
  show WX p l e (rmL 0 0) s m av below meth c (wQi D dA a s.heap.size F rz) dA a s.heap [] (F0 m 0 ls [])
  have hW : wS D dA a s F H locs := by rw [eH, eL]; exact wS_in hW
  refine wx_in eH eL ?_
  clear eH eL
  refine lv_iload_n hx hb dX8_count_0 rfl (lv_at hl 1 rfl) ?_
  by_cases c1 : p1.toInt < 0 ∨ 9 < p1.toInt
  · have h := if_t h c1
    refine lv_tableOut (tgt := 106) hx hb dX8_count_1 c1 (by decide) ?_
    refine lv_bipush (v := (-3 : Int32)) hx hb dX8_count_106 (by decide) ?_
    cases h
    exact we_i S hr hlk hW dX8_count_108
  · have hz := if_f h c1
    by_cases c2 : p1 = (0 : Int32)
    · have h := if_t hz c2
      refine lv_sw c2 ?_
      refine lv_tableIn (off := 55) (tgt := 56) hx hb dX8_count_1 (by decide) (by decide) (by decide) (by decide) ?_
      refine lv_aload_n hx hb dX8_count_56 rfl (lv_at hl 0 rfl) ?_
      refine gf_30_0 S hK hW hv0 q985 dX8_count_57 ?_
      cases h
      exact we_i S hr hlk hW dX8_count_60
    have hz := if_f hz c2
    by_cases c3 : p1 = (1 : Int32)
    · have h := if_t hz c3
      refine lv_sw c3 ?_
      refine lv_tableIn (off := 60) (tgt := 61) hx hb dX8_count_1 (by decide) (by decide) (by decide) (by decide) ?_
      refine lv_aload_n hx hb dX8_count_61 rfl (lv_at hl 0 rfl) ?_
      refine gf_30_1 S hK hW hv0 q986 dX8_count_62 ?_
      cases h
      exact we_i S hr hlk hW dX8_count_65
    have hz := if_f hz c3
    by_cases c4 : p1 = (2 : Int32)
    · have h := if_t hz c4
      refine lv_sw c4 ?_
      refine lv_tableIn (off := 65) (tgt := 66) hx hb dX8_count_1 (by decide) (by decide) (by decide) (by decide) ?_
      refine lv_aload_n hx hb dX8_count_66 rfl (lv_at hl 0 rfl) ?_
      refine gf_30_4 S hK hW hv0 q989 dX8_count_67 ?_
      cases h
      exact we_i S hr hlk hW dX8_count_70
    have hz := if_f hz c4
    by_cases c5 : p1 = (3 : Int32)
    · have h := if_t hz c5
      refine lv_sw c5 ?_
      refine lv_tableIn (off := 70) (tgt := 71) hx hb dX8_count_1 (by decide) (by decide) (by decide) (by decide) ?_
      refine lv_aload_n hx hb dX8_count_71 rfl (lv_at hl 0 rfl) ?_
      refine gf_30_10 S hK hW hv0 q995 dX8_count_72 ?_
      cases h
      exact we_i S hr hlk hW dX8_count_75
    have hz := if_f hz c5
    by_cases c6 : p1 = (4 : Int32)
    · have h := if_t hz c6
      refine lv_sw c6 ?_
      refine lv_tableIn (off := 75) (tgt := 76) hx hb dX8_count_1 (by decide) (by decide) (by decide) (by decide) ?_
      refine lv_aload_n hx hb dX8_count_76 rfl (lv_at hl 0 rfl) ?_
      refine gf_30_11 S hK hW hv0 q996 dX8_count_77 ?_
      cases h
      exact we_i S hr hlk hW dX8_count_80
    have hz := if_f hz c6
    by_cases c7 : p1 = (5 : Int32)
    · have h := if_t hz c7
      refine lv_sw c7 ?_
      refine lv_tableIn (off := 80) (tgt := 81) hx hb dX8_count_1 (by decide) (by decide) (by decide) (by decide) ?_
      refine lv_aload_n hx hb dX8_count_81 rfl (lv_at hl 0 rfl) ?_
      refine gf_30_16 S hK hW hv0 q1001 dX8_count_82 ?_
      cases h
      exact we_i S hr hlk hW dX8_count_85
    have hz := if_f hz c7
    by_cases c8 : p1 = (6 : Int32)
    · have h := if_t hz c8
      refine lv_sw c8 ?_
      refine lv_tableIn (off := 85) (tgt := 86) hx hb dX8_count_1 (by decide) (by decide) (by decide) (by decide) ?_
      refine lv_aload_n hx hb dX8_count_86 rfl (lv_at hl 0 rfl) ?_
      refine gf_30_12 S hK hW hv0 q997 dX8_count_87 ?_
      cases h
      exact we_i S hr hlk hW dX8_count_90
    have hz := if_f hz c8
    by_cases c9 : p1 = (7 : Int32)
    · have h := if_t hz c9
      refine lv_sw c9 ?_
      refine lv_tableIn (off := 90) (tgt := 91) hx hb dX8_count_1 (by decide) (by decide) (by decide) (by decide) ?_
      refine lv_aload_n hx hb dX8_count_91 rfl (lv_at hl 0 rfl) ?_
      refine gf_30_18 S hK hW hv0 q1003 dX8_count_92 ?_
      cases h
      exact we_i S hr hlk hW dX8_count_95
    have hz := if_f hz c9
    by_cases c10 : p1 = (8 : Int32)
    · have h := if_t hz c10
      refine lv_sw c10 ?_
      refine lv_tableIn (off := 95) (tgt := 96) hx hb dX8_count_1 (by decide) (by decide) (by decide) (by decide) ?_
      refine lv_aload_n hx hb dX8_count_96 rfl (lv_at hl 0 rfl) ?_
      refine gf_30_8 S hK hW hv0 q993 dX8_count_97 ?_
      cases h
      exact we_i S hr hlk hW dX8_count_100
    have hz := if_f hz c10
    by_cases c11 : p1 = (9 : Int32)
    · have h := if_t hz c11
      refine lv_sw c11 ?_
      refine lv_tableIn (off := 100) (tgt := 101) hx hb dX8_count_1 (by decide) (by decide) (by decide) (by decide) ?_
      refine lv_aload_n hx hb dX8_count_101 rfl (lv_at hl 0 rfl) ?_
      refine gf_30_9 S hK hW hv0 q994 dX8_count_102 ?_
      cases h
      exact we_i S hr hlk hW dX8_count_105
    have hz := if_f hz c11
    cases hz
def fn_X8_cup (F : St) (p1 : Int32) : Option (Int32) :=
  if p1.toInt < 0 ∨ 7 < p1.toInt then some (-3 : Int32) else if p1 = (0 : Int32) then some (F 40 0 0 128) else if p1 = (1 : Int32) then og (vpb (((129 : Int32) + p1) - (1 : Int32)) 138) (some (F 40 0 0 (((129 : Int32) + p1) - (1 : Int32)).toNatClampNeg)) else if p1 = (2 : Int32) then og (vpb (((129 : Int32) + p1) - (1 : Int32)) 138) (some (F 40 0 0 (((129 : Int32) + p1) - (1 : Int32)).toNatClampNeg)) else if p1 = (3 : Int32) then og (vpb (((129 : Int32) + p1) - (1 : Int32)) 138) (some (F 40 0 0 (((129 : Int32) + p1) - (1 : Int32)).toNatClampNeg)) else if p1 = (4 : Int32) then ob (fn_X8_strong F) (fun r10 => some r10) else if p1 = (5 : Int32) then ob (fn_X8_out F) (fun r13 => some r13) else if p1 = (6 : Int32) then ob (fn_X8_uneven F) (fun r16 => some r16) else if p1 = (7 : Int32) then some (F 40 0 0 132) else none
theorem yd_X8_cup : yX8_cup.cls = RX8 ∧ yX8_cup.cls ≠ "java/lang/invoke/MethodHandle" ∧ yX8_cup.cls ≠ "java/lang/invoke/VarHandle" ∧ (parseMethodDescriptor yX8_cup.desc).map (fun d => d.parameters.length) = some 1 := by decide +kernel
set_option maxHeartbeats 4000000 in
theorem met_X8_cup (l : Launch) {D : va_G} {dA : WK} {a : Ix → Nat} (hD : wD D dA a) {F : St} {p1 : Int32} {rz : Int32} (hv0 : wVd dA (30, 0, 0)) (h : fn_X8_cup F p1 = some rz) : Mi l yX8_cup cX8_cup 2 .int 2 48 D dA a F [.ref (a (30, 0, 0)), .int p1] F rz := by
  refine fun sz => mst (Qc := fun sz => wQi D dA a sz F rz) (by decide) (Nat.le_of_ble_eq_true rfl) ?_ sz
  intro p e s m below meth c S hr hlk hK hW ls hl
  have hl : lv_has ls 2 [(0, .ref (a (30, 0, 0))), (1, .int p1)] := hl
  have hx := S.1
  have hb := S.2.1
  generalize ([.ref (a (30, 0, 0)), .int p1] : List Value).toArray = av at S ⊢
  unfold fn_X8_cup at h
  obtain ⟨H, eH⟩ : ∃ z, z = s.heap := ⟨_, rfl⟩
  obtain ⟨locs, eL⟩ : ∃ z : List Loc, z = [] := ⟨_, rfl⟩
  show WX p l e (rmL 2 48) s m av below meth c (wQi D dA a s.heap.size F rz) dA a s.heap [] (F0 m 0 ls [])
  have hW : wS D dA a s F H locs := by rw [eH, eL]; exact wS_in hW
  refine wx_in eH eL ?_
  clear eH eL
  refine lv_iload_n hx hb dX8_cup_0 rfl (lv_at hl 1 rfl) ?_
  by_cases c1 : p1.toInt < 0 ∨ 7 < p1.toInt
  · have h := if_t h c1
    refine lv_tableOut (tgt := 94) hx hb dX8_cup_1 c1 (by decide) ?_
    refine lv_bipush (v := (-3 : Int32)) hx hb dX8_cup_94 (by decide) ?_
    cases h
    exact we_i S hr hlk hW dX8_cup_96
  · have hz := if_f h c1
    by_cases c2 : p1 = (0 : Int32)
    · have h := if_t hz c2
      refine lv_sw c2 ?_
      refine lv_tableIn (off := 47) (tgt := 48) hx hb dX8_cup_1 (by decide) (by decide) (by decide) (by decide) ?_
      refine lv_aload_n hx hb dX8_cup_48 rfl (lv_at hl 0 rfl) ?_
      refine gf_30_30 S hK hW hv0 q1015 dX8_cup_49 ?_
      refine lv_sipush (v := (128 : Int32)) hx hb dX8_cup_52 (by decide) ?_
      refine ald_40 (z := 128) S hK hW (vq_30_30 hv0) (by decide) (by decide) dX8_cup_55 ?_
      cases h
      exact we_i S hr hlk hW dX8_cup_56
    have hz := if_f hz c2
    by_cases c3 : p1 = (1 : Int32)
    · have h := if_t hz c3
      refine lv_sw c3 ?_
      refine lv_tableIn (off := 56) (tgt := 57) hx hb dX8_cup_1 (by decide) (by decide) (by decide) (by decide) ?_
      refine lv_aload_n hx hb dX8_cup_57 rfl (lv_at hl 0 rfl) ?_
      refine gf_30_30 S hK hW hv0 q1015 dX8_cup_58 ?_
      refine lv_sipush (v := (129 : Int32)) hx hb dX8_cup_61 (by decide) ?_
      refine lv_iload_n hx hb dX8_cup_64 rfl (lv_at hl 1 rfl) ?_
      refine lv_iadd hx hb dX8_cup_65 ?_
      refine lv_iconst (v := (1 : Int32)) hx hb dX8_cup_66 (by decide) ?_
      refine lv_isub hx hb dX8_cup_67 ?_
      obtain ⟨g4, h⟩ := og_e h
      refine ald_40 S hK hW (vq_30_30 hv0) g4 rfl dX8_cup_68 ?_
      cases h
      exact we_i S hr hlk hW dX8_cup_69
    have hz := if_f hz c3
    by_cases c5 : p1 = (2 : Int32)
    · have h := if_t hz c5
      refine lv_sw c5 ?_
      refine lv_tableIn (off := 56) (tgt := 57) hx hb dX8_cup_1 (by decide) (by decide) (by decide) (by decide) ?_
      refine lv_aload_n hx hb dX8_cup_57 rfl (lv_at hl 0 rfl) ?_
      refine gf_30_30 S hK hW hv0 q1015 dX8_cup_58 ?_
      refine lv_sipush (v := (129 : Int32)) hx hb dX8_cup_61 (by decide) ?_
      refine lv_iload_n hx hb dX8_cup_64 rfl (lv_at hl 1 rfl) ?_
      refine lv_iadd hx hb dX8_cup_65 ?_
      refine lv_iconst (v := (1 : Int32)) hx hb dX8_cup_66 (by decide) ?_
      refine lv_isub hx hb dX8_cup_67 ?_
      obtain ⟨g6, h⟩ := og_e h
      refine ald_40 S hK hW (vq_30_30 hv0) g6 rfl dX8_cup_68 ?_
      cases h
      exact we_i S hr hlk hW dX8_cup_69
    have hz := if_f hz c5
    by_cases c7 : p1 = (3 : Int32)
    · have h := if_t hz c7
      refine lv_sw c7 ?_
      refine lv_tableIn (off := 56) (tgt := 57) hx hb dX8_cup_1 (by decide) (by decide) (by decide) (by decide) ?_
      refine lv_aload_n hx hb dX8_cup_57 rfl (lv_at hl 0 rfl) ?_
      refine gf_30_30 S hK hW hv0 q1015 dX8_cup_58 ?_
      refine lv_sipush (v := (129 : Int32)) hx hb dX8_cup_61 (by decide) ?_
      refine lv_iload_n hx hb dX8_cup_64 rfl (lv_at hl 1 rfl) ?_
      refine lv_iadd hx hb dX8_cup_65 ?_
      refine lv_iconst (v := (1 : Int32)) hx hb dX8_cup_66 (by decide) ?_
      refine lv_isub hx hb dX8_cup_67 ?_
      obtain ⟨g8, h⟩ := og_e h
      refine ald_40 S hK hW (vq_30_30 hv0) g8 rfl dX8_cup_68 ?_
      cases h
      exact we_i S hr hlk hW dX8_cup_69
    have hz := if_f hz c7
    by_cases c9 : p1 = (4 : Int32)
    · have h := if_t hz c9
      refine lv_sw c9 ?_
      refine lv_tableIn (off := 69) (tgt := 70) hx hb dX8_cup_1 (by decide) (by decide) (by decide) (by decide) ?_
      refine lv_aload_n hx hb dX8_cup_70 rfl (lv_at hl 0 rfl) ?_
      obtain ⟨r10, hc11, h⟩ := ob_e h
      refine wk_i (va_runV (As := []) (rest := []) S (met_X8_strong l hD hv0 hc11 H.size) (cwV 0 S.2.2.2.2 (lw_V q1255 q1257 qs43 q63 q1258) rfl rfl rfl yd_X8_strong ⟨Nat.le_of_ble_eq_true rfl, Nat.le_of_ble_eq_true rfl⟩) (wpreV hK hW hv0 rfl rfl _) rfl rfl hl.1 rfl (lv_room (Nat.le_of_ble_eq_true rfl)) dX8_cup_71 ⟨Nat.le_refl 0, Nat.le_refl 0⟩) hW (fun H locs hW => ?_)
      cases h
      exact we_i S hr hlk hW dX8_cup_74
    have hz := if_f hz c9
    by_cases c12 : p1 = (5 : Int32)
    · have h := if_t hz c12
      refine lv_sw c12 ?_
      refine lv_tableIn (off := 74) (tgt := 75) hx hb dX8_cup_1 (by decide) (by decide) (by decide) (by decide) ?_
      refine lv_aload_n hx hb dX8_cup_75 rfl (lv_at hl 0 rfl) ?_
      obtain ⟨r13, hc14, h⟩ := ob_e h
      refine wk_i (va_runV (As := []) (rest := []) S (met_X8_out l hD hv0 hc14 H.size) (cwV 0 S.2.2.2.2 (lw_V q1264 q1266 qs45 q63 q1267) rfl rfl rfl yd_X8_out ⟨Nat.le_of_ble_eq_true rfl, Nat.le_of_ble_eq_true rfl⟩) (wpreV hK hW hv0 rfl rfl _) rfl rfl hl.1 rfl (lv_room (Nat.le_of_ble_eq_true rfl)) dX8_cup_76 ⟨Nat.le_refl 0, Nat.le_refl 0⟩) hW (fun H locs hW => ?_)
      cases h
      exact we_i S hr hlk hW dX8_cup_79
    have hz := if_f hz c12
    by_cases c15 : p1 = (6 : Int32)
    · have h := if_t hz c15
      refine lv_sw c15 ?_
      refine lv_tableIn (off := 79) (tgt := 80) hx hb dX8_cup_1 (by decide) (by decide) (by decide) (by decide) ?_
      refine lv_aload_n hx hb dX8_cup_80 rfl (lv_at hl 0 rfl) ?_
      obtain ⟨r16, hc17, h⟩ := ob_e h
      refine wk_i (va_runV (As := []) (rest := []) S (met_X8_uneven l hD hv0 hc17 H.size) (cwV 0 S.2.2.2.2 (lw_V q1268 q1270 qs46 q63 q1271) rfl rfl rfl yd_X8_uneven ⟨Nat.le_of_ble_eq_true rfl, Nat.le_of_ble_eq_true rfl⟩) (wpreV hK hW hv0 rfl rfl _) rfl rfl hl.1 rfl (lv_room (Nat.le_of_ble_eq_true rfl)) dX8_cup_81 ⟨Nat.le_refl 0, Nat.le_refl 0⟩) hW (fun H locs hW => ?_)
      cases h
      exact we_i S hr hlk hW dX8_cup_84
    have hz := if_f hz c15
    by_cases c18 : p1 = (7 : Int32)
    · have h := if_t hz c18
      refine lv_sw c18 ?_
      refine lv_tableIn (off := 84) (tgt := 85) hx hb dX8_cup_1 (by decide) (by decide) (by decide) (by decide) ?_
      refine lv_aload_n hx hb dX8_cup_85 rfl (lv_at hl 0 rfl) ?_
      refine gf_30_30 S hK hW hv0 q1015 dX8_cup_86 ?_
      refine lv_sipush (v := (132 : Int32)) hx hb dX8_cup_89 (by decide) ?_
      refine ald_40 (z := 132) S hK hW (vq_30_30 hv0) (by decide) (by decide) dX8_cup_92 ?_
      cases h
      exact we_i S hr hlk hW dX8_cup_93
    have hz := if_f hz c18
    cases hz
def fn_X8_doOne (F : St) (p1 : Int32) (p2 : Int32) : Option (St) :=
  ob (if p1 = (6 : Int32) then some p2 else some (F 30 8 0 0)) (fun y3 => pl (fu F 30 8 0 0 y3) (fun F5 => ob (if p1 = (7 : Int32) then some p2 else some (F5 30 9 0 0)) (fun y9 => pl (fu F5 30 9 0 0 y9) (fun F11 => ob (if p1 = (10 : Int32) then some p2 else some (F11 30 4 0 0)) (fun y15 => pl (fu F11 30 4 0 0 y15) (fun F17 => ob (if p1 = (11 : Int32) then some p2 else some (F17 30 10 0 0)) (fun y21 => pl (fu F17 30 10 0 0 y21) (fun F23 => ob (if p1 = (12 : Int32) then some p2 else some (F23 30 11 0 0)) (fun y27 => pl (fu F23 30 11 0 0 y27) (fun F29 => ob (if p1 = (13 : Int32) then some p2 else some (F29 30 16 0 0)) (fun y33 => pl (fu F29 30 16 0 0 y33) (fun F35 => some F35))))))))))))
theorem yd_X8_doOne : yX8_doOne.cls = RX8 ∧ yX8_doOne.cls ≠ "java/lang/invoke/MethodHandle" ∧ yX8_doOne.cls ≠ "java/lang/invoke/VarHandle" ∧ (parseMethodDescriptor yX8_doOne.desc).map (fun d => d.parameters.length) = some 2 := by decide +kernel
set_option maxHeartbeats 4000000 in
theorem met_X8_doOne (l : Launch) {D : va_G} {dA : WK} {a : Ix → Nat} (hD : wD D dA a) {F : St} {p1 : Int32} {p2 : Int32} {Fz : St} (hv0 : wVd dA (30, 0, 0)) (h : fn_X8_doOne F p1 p2 = some Fz) : Mv l yX8_doOne cX8_doOne 3 0 0 D dA a F [.ref (a (30, 0, 0)), .int p1, .int p2] Fz := by
  refine fun sz => mst (Qc := fun sz => wQv D dA a sz Fz) (by decide) (Nat.le_of_ble_eq_true rfl) ?_ sz
  intro p e s m below meth c S hr hlk hK hW ls hl
  have hl : lv_has ls 3 [(0, .ref (a (30, 0, 0))), (1, .int p1), (2, .int p2)] := hl
  have hx := S.1
  have hb := S.2.1
  generalize ([.ref (a (30, 0, 0)), .int p1, .int p2] : List Value).toArray = av at S ⊢
  unfold fn_X8_doOne at h
  obtain ⟨H, eH⟩ : ∃ z, z = s.heap := ⟨_, rfl⟩
  obtain ⟨locs, eL⟩ : ∃ z : List Loc, z = [] := ⟨_, rfl⟩
  show WX p l e (rmL 0 0) s m av below meth c (wQv D dA a s.heap.size Fz) dA a s.heap [] (F0 m 0 ls [])
  have hW : wS D dA a s F H locs := by rw [eH, eL]; exact wS_in hW
  refine wx_in eH eL ?_
  clear eH eL
  refine lv_aload_n hx hb dX8_doOne_0 rfl (lv_at hl 0 rfl) ?_
  refine lv_iload_n hx hb dX8_doOne_1 rfl (lv_at hl 1 rfl) ?_
  refine lv_bipush (v := (6 : Int32)) hx hb dX8_doOne_2 (by decide) ?_
  obtain ⟨y3, hz2, h⟩ := ob_e h
  have K4 : ∀ (H : Heap) (locs : List Loc) (ls : Array Slot), wS D dA a s F H locs → lv_has ls 3 [(0, .ref (a (30, 0, 0))), (1, .int p1), (2, .int p2)] → WX p l e (rmL 0 0) s m av below meth c (wQv D dA a s.heap.size Fz) dA a H locs (F0 m 15 ls [.int y3, .ref (a (30, 0, 0))]) := by
    intro H locs ls hW hl
    obtain ⟨F5, e6, h⟩ := pl_e h
    refine pf_30_8 S hK hD hW hv0 e6 q993 dX8_doOne_15 (fun H locs hW => ?_)
    refine lv_aload_n hx hb dX8_doOne_18 rfl (lv_at hl 0 rfl) ?_
    refine lv_iload_n hx hb dX8_doOne_19 rfl (lv_at hl 1 rfl) ?_
    refine lv_bipush (v := (7 : Int32)) hx hb dX8_doOne_20 (by decide) ?_
    obtain ⟨y9, hz8, h⟩ := ob_e h
    have K10 : ∀ (H : Heap) (locs : List Loc) (ls : Array Slot), wS D dA a s F5 H locs → lv_has ls 3 [(0, .ref (a (30, 0, 0))), (1, .int p1), (2, .int p2)] → WX p l e (rmL 0 0) s m av below meth c (wQv D dA a s.heap.size Fz) dA a H locs (F0 m 33 ls [.int y9, .ref (a (30, 0, 0))]) := by
      intro H locs ls hW hl
      obtain ⟨F11, e12, h⟩ := pl_e h
      refine pf_30_9 S hK hD hW hv0 e12 q994 dX8_doOne_33 (fun H locs hW => ?_)
      refine lv_aload_n hx hb dX8_doOne_36 rfl (lv_at hl 0 rfl) ?_
      refine lv_iload_n hx hb dX8_doOne_37 rfl (lv_at hl 1 rfl) ?_
      refine lv_bipush (v := (10 : Int32)) hx hb dX8_doOne_38 (by decide) ?_
      obtain ⟨y15, hz14, h⟩ := ob_e h
      have K16 : ∀ (H : Heap) (locs : List Loc) (ls : Array Slot), wS D dA a s F11 H locs → lv_has ls 3 [(0, .ref (a (30, 0, 0))), (1, .int p1), (2, .int p2)] → WX p l e (rmL 0 0) s m av below meth c (wQv D dA a s.heap.size Fz) dA a H locs (F0 m 51 ls [.int y15, .ref (a (30, 0, 0))]) := by
        intro H locs ls hW hl
        obtain ⟨F17, e18, h⟩ := pl_e h
        refine pf_30_4 S hK hD hW hv0 e18 q989 dX8_doOne_51 (fun H locs hW => ?_)
        refine lv_aload_n hx hb dX8_doOne_54 rfl (lv_at hl 0 rfl) ?_
        refine lv_iload_n hx hb dX8_doOne_55 rfl (lv_at hl 1 rfl) ?_
        refine lv_bipush (v := (11 : Int32)) hx hb dX8_doOne_56 (by decide) ?_
        obtain ⟨y21, hz20, h⟩ := ob_e h
        have K22 : ∀ (H : Heap) (locs : List Loc) (ls : Array Slot), wS D dA a s F17 H locs → lv_has ls 3 [(0, .ref (a (30, 0, 0))), (1, .int p1), (2, .int p2)] → WX p l e (rmL 0 0) s m av below meth c (wQv D dA a s.heap.size Fz) dA a H locs (F0 m 69 ls [.int y21, .ref (a (30, 0, 0))]) := by
          intro H locs ls hW hl
          obtain ⟨F23, e24, h⟩ := pl_e h
          refine pf_30_10 S hK hD hW hv0 e24 q995 dX8_doOne_69 (fun H locs hW => ?_)
          refine lv_aload_n hx hb dX8_doOne_72 rfl (lv_at hl 0 rfl) ?_
          refine lv_iload_n hx hb dX8_doOne_73 rfl (lv_at hl 1 rfl) ?_
          refine lv_bipush (v := (12 : Int32)) hx hb dX8_doOne_74 (by decide) ?_
          obtain ⟨y27, hz26, h⟩ := ob_e h
          have K28 : ∀ (H : Heap) (locs : List Loc) (ls : Array Slot), wS D dA a s F23 H locs → lv_has ls 3 [(0, .ref (a (30, 0, 0))), (1, .int p1), (2, .int p2)] → WX p l e (rmL 0 0) s m av below meth c (wQv D dA a s.heap.size Fz) dA a H locs (F0 m 87 ls [.int y27, .ref (a (30, 0, 0))]) := by
            intro H locs ls hW hl
            obtain ⟨F29, e30, h⟩ := pl_e h
            refine pf_30_11 S hK hD hW hv0 e30 q996 dX8_doOne_87 (fun H locs hW => ?_)
            refine lv_aload_n hx hb dX8_doOne_90 rfl (lv_at hl 0 rfl) ?_
            refine lv_iload_n hx hb dX8_doOne_91 rfl (lv_at hl 1 rfl) ?_
            refine lv_bipush (v := (13 : Int32)) hx hb dX8_doOne_92 (by decide) ?_
            obtain ⟨y33, hz32, h⟩ := ob_e h
            have K34 : ∀ (H : Heap) (locs : List Loc) (ls : Array Slot), wS D dA a s F29 H locs → lv_has ls 3 [] → WX p l e (rmL 0 0) s m av below meth c (wQv D dA a s.heap.size Fz) dA a H locs (F0 m 105 ls [.int y33, .ref (a (30, 0, 0))]) := by
              intro H locs ls hW hl
              obtain ⟨F35, e36, h⟩ := pl_e h
              refine pf_30_16 S hK hD hW hv0 e36 q1001 dX8_doOne_105 (fun H locs hW => ?_)
              cases h
              exact we_v S hr hlk hW dX8_doOne_108
            clear h
            refine lv_icmp_ne (tgt := 101) hx hb dX8_doOne_94 (by decide) (fun c31 => ?_) (fun c31 => ?_)
            · have h := if_f hz32 c31
              refine lv_aload_n hx hb dX8_doOne_101 rfl (lv_at hl 0 rfl) ?_
              refine gf_30_16 S hK hW hv0 q1001 dX8_doOne_102 ?_
              cases h
              exact K34 H locs ls hW (lv_sub hl [] rfl)
            · have h := if_t hz32 c31
              refine lv_iload_n hx hb dX8_doOne_97 rfl (lv_at hl 2 rfl) ?_
              refine lv_goto (tgt := 105) hx hb dX8_doOne_98 (by decide) ?_
              cases h
              exact K34 H locs ls hW (lv_sub hl [] rfl)
          clear h
          refine lv_icmp_ne (tgt := 83) hx hb dX8_doOne_76 (by decide) (fun c25 => ?_) (fun c25 => ?_)
          · have h := if_f hz26 c25
            refine lv_aload_n hx hb dX8_doOne_83 rfl (lv_at hl 0 rfl) ?_
            refine gf_30_11 S hK hW hv0 q996 dX8_doOne_84 ?_
            cases h
            exact K28 H locs ls hW (lv_sub hl [0, 1, 2] rfl)
          · have h := if_t hz26 c25
            refine lv_iload_n hx hb dX8_doOne_79 rfl (lv_at hl 2 rfl) ?_
            refine lv_goto (tgt := 87) hx hb dX8_doOne_80 (by decide) ?_
            cases h
            exact K28 H locs ls hW (lv_sub hl [0, 1, 2] rfl)
        clear h
        refine lv_icmp_ne (tgt := 65) hx hb dX8_doOne_58 (by decide) (fun c19 => ?_) (fun c19 => ?_)
        · have h := if_f hz20 c19
          refine lv_aload_n hx hb dX8_doOne_65 rfl (lv_at hl 0 rfl) ?_
          refine gf_30_10 S hK hW hv0 q995 dX8_doOne_66 ?_
          cases h
          exact K22 H locs ls hW (lv_sub hl [0, 1, 2] rfl)
        · have h := if_t hz20 c19
          refine lv_iload_n hx hb dX8_doOne_61 rfl (lv_at hl 2 rfl) ?_
          refine lv_goto (tgt := 69) hx hb dX8_doOne_62 (by decide) ?_
          cases h
          exact K22 H locs ls hW (lv_sub hl [0, 1, 2] rfl)
      clear h
      refine lv_icmp_ne (tgt := 47) hx hb dX8_doOne_40 (by decide) (fun c13 => ?_) (fun c13 => ?_)
      · have h := if_f hz14 c13
        refine lv_aload_n hx hb dX8_doOne_47 rfl (lv_at hl 0 rfl) ?_
        refine gf_30_4 S hK hW hv0 q989 dX8_doOne_48 ?_
        cases h
        exact K16 H locs ls hW (lv_sub hl [0, 1, 2] rfl)
      · have h := if_t hz14 c13
        refine lv_iload_n hx hb dX8_doOne_43 rfl (lv_at hl 2 rfl) ?_
        refine lv_goto (tgt := 51) hx hb dX8_doOne_44 (by decide) ?_
        cases h
        exact K16 H locs ls hW (lv_sub hl [0, 1, 2] rfl)
    clear h
    refine lv_icmp_ne (tgt := 29) hx hb dX8_doOne_22 (by decide) (fun c7 => ?_) (fun c7 => ?_)
    · have h := if_f hz8 c7
      refine lv_aload_n hx hb dX8_doOne_29 rfl (lv_at hl 0 rfl) ?_
      refine gf_30_9 S hK hW hv0 q994 dX8_doOne_30 ?_
      cases h
      exact K10 H locs ls hW (lv_sub hl [0, 1, 2] rfl)
    · have h := if_t hz8 c7
      refine lv_iload_n hx hb dX8_doOne_25 rfl (lv_at hl 2 rfl) ?_
      refine lv_goto (tgt := 33) hx hb dX8_doOne_26 (by decide) ?_
      cases h
      exact K10 H locs ls hW (lv_sub hl [0, 1, 2] rfl)
  clear h
  refine lv_icmp_ne (tgt := 11) hx hb dX8_doOne_4 (by decide) (fun c1 => ?_) (fun c1 => ?_)
  · have h := if_f hz2 c1
    refine lv_aload_n hx hb dX8_doOne_11 rfl (lv_at hl 0 rfl) ?_
    refine gf_30_8 S hK hW hv0 q993 dX8_doOne_12 ?_
    cases h
    exact K4 H locs ls hW (lv_sub hl [0, 1, 2] rfl)
  · have h := if_t hz2 c1
    refine lv_iload_n hx hb dX8_doOne_7 rfl (lv_at hl 2 rfl) ?_
    refine lv_goto (tgt := 15) hx hb dX8_doOne_8 (by decide) ?_
    cases h
    exact K4 H locs ls hW (lv_sub hl [0, 1, 2] rfl)
def fn_X8_doPour (F : St) (p1 : Int32) (p2 : Int32) (p3 : Int32) : Option (St) :=
  if (12 : Int32) ≤ (F 30 12 0 0) then some F else og (vpb (F 30 12 0 0) 12) (pl (fu F 34 0 0 (F 30 12 0 0).toNatClampNeg p1) (fun F3 => og (vpb (F3 30 12 0 0) 12) (pl (fu F3 35 0 0 (F3 30 12 0 0).toNatClampNeg p2) (fun F6 => og (vpb (F6 30 12 0 0) 12) (pl (fu F6 36 0 0 (F6 30 12 0 0).toNatClampNeg p3) (fun F9 => pl (fu F9 30 12 0 0 ((F9 30 12 0 0) + (1 : Int32))) (fun F11 => some F11)))))))
theorem yd_X8_doPour : yX8_doPour.cls = RX8 ∧ yX8_doPour.cls ≠ "java/lang/invoke/MethodHandle" ∧ yX8_doPour.cls ≠ "java/lang/invoke/VarHandle" ∧ (parseMethodDescriptor yX8_doPour.desc).map (fun d => d.parameters.length) = some 3 := by decide +kernel
set_option maxHeartbeats 4000000 in
theorem met_X8_doPour (l : Launch) {D : va_G} {dA : WK} {a : Ix → Nat} (hD : wD D dA a) {F : St} {p1 : Int32} {p2 : Int32} {p3 : Int32} {Fz : St} (hv0 : wVd dA (30, 0, 0)) (h : fn_X8_doPour F p1 p2 p3 = some Fz) : Mv l yX8_doPour cX8_doPour 4 0 0 D dA a F [.ref (a (30, 0, 0)), .int p1, .int p2, .int p3] Fz := by
  refine fun sz => mst (Qc := fun sz => wQv D dA a sz Fz) (by decide) (Nat.le_of_ble_eq_true rfl) ?_ sz
  intro p e s m below meth c S hr hlk hK hW ls hl
  have hl : lv_has ls 4 [(0, .ref (a (30, 0, 0))), (1, .int p1), (2, .int p2), (3, .int p3)] := hl
  have hx := S.1
  have hb := S.2.1
  generalize ([.ref (a (30, 0, 0)), .int p1, .int p2, .int p3] : List Value).toArray = av at S ⊢
  unfold fn_X8_doPour at h
  obtain ⟨H, eH⟩ : ∃ z, z = s.heap := ⟨_, rfl⟩
  obtain ⟨locs, eL⟩ : ∃ z : List Loc, z = [] := ⟨_, rfl⟩
  show WX p l e (rmL 0 0) s m av below meth c (wQv D dA a s.heap.size Fz) dA a s.heap [] (F0 m 0 ls [])
  have hW : wS D dA a s F H locs := by rw [eH, eL]; exact wS_in hW
  refine wx_in eH eL ?_
  clear eH eL
  refine lv_aload_n hx hb dX8_doPour_0 rfl (lv_at hl 0 rfl) ?_
  refine gf_30_12 S hK hW hv0 q997 dX8_doPour_1 ?_
  refine lv_bipush (v := (12 : Int32)) hx hb dX8_doPour_4 (by decide) ?_
  refine lv_icmp_ge (tgt := 49) hx hb dX8_doPour_6 (by decide) (fun c1 => ?_) (fun c1 => ?_)
  · have h := if_t h c1
    cases h
    exact we_v S hr hlk hW dX8_doPour_49
  · have h := if_f h c1
    refine lv_aload_n hx hb dX8_doPour_9 rfl (lv_at hl 0 rfl) ?_
    refine gf_30_13 S hK hW hv0 q998 dX8_doPour_10 ?_
    refine lv_aload_n hx hb dX8_doPour_13 rfl (lv_at hl 0 rfl) ?_
    refine gf_30_12 S hK hW hv0 q997 dX8_doPour_14 ?_
    refine lv_iload_n hx hb dX8_doPour_17 rfl (lv_at hl 1 rfl) ?_
    obtain ⟨g2, h⟩ := og_e h
    obtain ⟨F3, e4, h⟩ := pl_e h
    refine ast_34 S hK hD hW (vq_30_13 hv0) g2 rfl e4 dX8_doPour_18 (fun H locs hW => ?_)
    refine lv_aload_n hx hb dX8_doPour_19 rfl (lv_at hl 0 rfl) ?_
    refine gf_30_14 S hK hW hv0 q999 dX8_doPour_20 ?_
    refine lv_aload_n hx hb dX8_doPour_23 rfl (lv_at hl 0 rfl) ?_
    refine gf_30_12 S hK hW hv0 q997 dX8_doPour_24 ?_
    refine lv_iload_n hx hb dX8_doPour_27 rfl (lv_at hl 2 rfl) ?_
    obtain ⟨g5, h⟩ := og_e h
    obtain ⟨F6, e7, h⟩ := pl_e h
    refine ast_35 S hK hD hW (vq_30_14 hv0) g5 rfl e7 dX8_doPour_28 (fun H locs hW => ?_)
    refine lv_aload_n hx hb dX8_doPour_29 rfl (lv_at hl 0 rfl) ?_
    refine gf_30_15 S hK hW hv0 q1000 dX8_doPour_30 ?_
    refine lv_aload_n hx hb dX8_doPour_33 rfl (lv_at hl 0 rfl) ?_
    refine gf_30_12 S hK hW hv0 q997 dX8_doPour_34 ?_
    refine lv_iload_n hx hb dX8_doPour_37 rfl (lv_at hl 3 rfl) ?_
    obtain ⟨g8, h⟩ := og_e h
    obtain ⟨F9, e10, h⟩ := pl_e h
    refine ast_36 S hK hD hW (vq_30_15 hv0) g8 rfl e10 dX8_doPour_38 (fun H locs hW => ?_)
    refine lv_aload_n hx hb dX8_doPour_39 rfl (lv_at hl 0 rfl) ?_
    refine lv_dup hx hb dX8_doPour_40 rfl ?_
    refine gf_30_12 S hK hW hv0 q997 dX8_doPour_41 ?_
    refine lv_iconst (v := (1 : Int32)) hx hb dX8_doPour_44 (by decide) ?_
    refine lv_iadd hx hb dX8_doPour_45 ?_
    obtain ⟨F11, e12, h⟩ := pl_e h
    refine pf_30_12 S hK hD hW hv0 e12 q997 dX8_doPour_46 (fun H locs hW => ?_)
    cases h
    exact we_v S hr hlk hW dX8_doPour_49
/-loop lp_X8_doLine_126-/
def lp_X8_doLine_126 : Nat → St → Int32 → Option (St × Int32)
  | 0, _, _ => none
  | n + 1, F22, x21 => if (16 : Int32) ≤ x21 then some (F22, x21) else og (vpb x21 16) (pl (fu F22 33 0 0 x21.toNatClampNeg (0 : Int32)) (fun F29 => lp_X8_doLine_126 n F29 (x21 + 1)))
theorem lp_X8_doLine_126_s {n : Nat} {F22 : St} {x21 : Int32} : lp_X8_doLine_126 (n + 1) F22 x21 = if (16 : Int32) ≤ x21 then some (F22, x21) else og (vpb x21 16) (pl (fu F22 33 0 0 x21.toNatClampNeg (0 : Int32)) (fun F29 => lp_X8_doLine_126 n F29 (x21 + 1))) := rfl
/-loop lp_X8_doLine_266-/
def lp_X8_doLine_266 (p1 : Int32) : Nat → St → Int32 → Option (St × Int32)
  | 0, _, _ => none
  | n + 1, F85, x84 => if (5 : Int32) ≤ x84 then some (F85, x84) else og (vpb ((p1 + (1 : Int32)) + x84) 60) (og (vpb x84 5) (pl (fu F85 37 0 0 x84.toNatClampNeg (F85 39 0 0 ((p1 + (1 : Int32)) + x84).toNatClampNeg)) (fun F93 => lp_X8_doLine_266 p1 n F93 (x84 + 1))))
theorem lp_X8_doLine_266_s {p1 : Int32} {n : Nat} {F85 : St} {x84 : Int32} : lp_X8_doLine_266 p1 (n + 1) F85 x84 = if (5 : Int32) ≤ x84 then some (F85, x84) else og (vpb ((p1 + (1 : Int32)) + x84) 60) (og (vpb x84 5) (pl (fu F85 37 0 0 x84.toNatClampNeg (F85 39 0 0 ((p1 + (1 : Int32)) + x84).toNatClampNeg)) (fun F93 => lp_X8_doLine_266 p1 n F93 (x84 + 1)))) := rfl
def fn_X8_doLine (F : St) (p1 : Int32) : Option (St) :=
  og (vpb (p1 + (1 : Int32)) 60) (pl (F 39 0 0 (p1 + (1 : Int32)).toNatClampNeg) (fun x2 => og (vpb (p1 + (2 : Int32)) 60) (pl (F 39 0 0 (p1 + (2 : Int32)).toNatClampNeg) (fun x5 => og (vpb (p1 + (3 : Int32)) 60) (pl (F 39 0 0 (p1 + (3 : Int32)).toNatClampNeg) (fun x8 => og (vpb p1 60) (if (F 39 0 0 p1.toNatClampNeg).toInt < 0 ∨ 14 < (F 39 0 0 p1.toNatClampNeg).toInt then ob (fn_X8_doOne F (F 39 0 0 p1.toNatClampNeg) x2) (fun F12 => some F12) else if (F 39 0 0 p1.toNatClampNeg) = (0 : Int32) then pl (fu F 30 0 0 0 x2) (fun F15 => pl (fu F15 30 1 0 0 x5) (fun F17 => pl (fu F17 30 12 0 0 (0 : Int32)) (fun F19 => ob2 (lp_X8_doLine_126 300 F19 (0 : Int32)) (fun F23 x24 => some F23)))) else if (F 39 0 0 p1.toNatClampNeg) = (1 : Int32) then pl (fu F 31 0 0 0 x2) (fun F33 => pl (fu F33 31 0 0 1 x5) (fun F35 => pl (fu F35 31 0 0 2 x8) (fun F37 => some F37))) else if (F 39 0 0 p1.toNatClampNeg) = (2 : Int32) then pl (fu F 32 0 0 0 x2) (fun F40 => pl (fu F40 32 0 0 1 x5) (fun F42 => pl (fu F42 32 0 0 2 x8) (fun F44 => some F44))) else if (F 39 0 0 p1.toNatClampNeg) = (3 : Int32) then pl (fu F 30 5 0 0 x2) (fun F47 => pl (fu F47 30 6 0 0 x5) (fun F49 => some F49)) else if (F 39 0 0 p1.toNatClampNeg) = (4 : Int32) then og (vpb (((4 : Int32) * x5) + x2) 16) (pl (fu F 33 0 0 (((4 : Int32) * x5) + x2).toNatClampNeg x8) (fun F53 => some F53)) else if (F 39 0 0 p1.toNatClampNeg) = (5 : Int32) then og (vpb (((4 : Int32) * x5) + x2) 16) (pl (fu F 33 0 0 (((4 : Int32) * x5) + x2).toNatClampNeg (-x8)) (fun F57 => some F57)) else if (F 39 0 0 p1.toNatClampNeg) = (6 : Int32) then ob (fn_X8_doOne F (F 39 0 0 p1.toNatClampNeg) x2) (fun F60 => some F60) else if (F 39 0 0 p1.toNatClampNeg) = (7 : Int32) then ob (fn_X8_doOne F (F 39 0 0 p1.toNatClampNeg) x2) (fun F63 => some F63) else if (F 39 0 0 p1.toNatClampNeg) = (8 : Int32) then ob (fn_X8_doPour F x2 x5 x8) (fun F66 => some F66) else if (F 39 0 0 p1.toNatClampNeg) = (9 : Int32) then pl (fu F 30 12 0 0 (0 : Int32)) (fun F69 => some F69) else if (F 39 0 0 p1.toNatClampNeg) = (10 : Int32) then ob (fn_X8_doOne F (F 39 0 0 p1.toNatClampNeg) x2) (fun F72 => some F72) else if (F 39 0 0 p1.toNatClampNeg) = (11 : Int32) then ob (fn_X8_doOne F (F 39 0 0 p1.toNatClampNeg) x2) (fun F75 => some F75) else if (F 39 0 0 p1.toNatClampNeg) = (12 : Int32) then ob (fn_X8_doOne F (F 39 0 0 p1.toNatClampNeg) x2) (fun F78 => some F78) else if (F 39 0 0 p1.toNatClampNeg) = (13 : Int32) then ob (fn_X8_doOne F (F 39 0 0 p1.toNatClampNeg) x2) (fun F81 => some F81) else if (F 39 0 0 p1.toNatClampNeg) = (14 : Int32) then ob2 (lp_X8_doLine_266 p1 300 F (0 : Int32)) (fun F86 x87 => some F86) else none)))))))
theorem yd_X8_doLine : yX8_doLine.cls = RX8 ∧ yX8_doLine.cls ≠ "java/lang/invoke/MethodHandle" ∧ yX8_doLine.cls ≠ "java/lang/invoke/VarHandle" ∧ (parseMethodDescriptor yX8_doLine.desc).map (fun d => d.parameters.length) = some 1 := by decide +kernel
set_option maxHeartbeats 4000000 in
theorem met_X8_doLine (l : Launch) {D : va_G} {dA : WK} {a : Ix → Nat} (hD : wD D dA a) {F : St} {p1 : Int32} {Fz : St} (hv0 : wVd dA (30, 0, 0)) (h : fn_X8_doLine F p1 = some Fz) : Mv l yX8_doLine cX8_doLine 6 1 23 D dA a F [.ref (a (30, 0, 0)), .int p1] Fz := by
  refine fun sz => mst (Qc := fun sz => wQv D dA a sz Fz) (by decide) (Nat.le_of_ble_eq_true rfl) ?_ sz
  intro p e s m below meth c S hr hlk hK hW ls hl
  have hl : lv_has ls 6 [(0, .ref (a (30, 0, 0))), (1, .int p1)] := hl
  have hx := S.1
  have hb := S.2.1
  generalize ([.ref (a (30, 0, 0)), .int p1] : List Value).toArray = av at S ⊢
  unfold fn_X8_doLine at h
  obtain ⟨H, eH⟩ : ∃ z, z = s.heap := ⟨_, rfl⟩
  obtain ⟨locs, eL⟩ : ∃ z : List Loc, z = [] := ⟨_, rfl⟩
  show WX p l e (rmL 1 23) s m av below meth c (wQv D dA a s.heap.size Fz) dA a s.heap [] (F0 m 0 ls [])
  have hW : wS D dA a s F H locs := by rw [eH, eL]; exact wS_in hW
  refine wx_in eH eL ?_
  clear eH eL
  refine lv_aload_n hx hb dX8_doLine_0 rfl (lv_at hl 0 rfl) ?_
  refine gf_30_27 S hK hW hv0 q1012 dX8_doLine_1 ?_
  refine lv_iload_n hx hb dX8_doLine_4 rfl (lv_at hl 1 rfl) ?_
  refine lv_iconst (v := (1 : Int32)) hx hb dX8_doLine_5 (by decide) ?_
  refine lv_iadd hx hb dX8_doLine_6 ?_
  obtain ⟨g1, h⟩ := og_e h
  refine ald_39 S hK hW (vq_30_27 hv0) g1 rfl dX8_doLine_7 ?_
  obtain ⟨x2, e3, h⟩ := pl_e h
  refine lv_nm e3 ?_
  refine lv_istore_n (lv' := [(2, .int x2), (0, .ref (a (30, 0, 0))), (1, .int p1)]) hx hb dX8_doLine_8 rfl hl (by decide) rfl (fun ls hl => ?_)
  refine lv_aload_n hx hb dX8_doLine_9 rfl (lv_at hl 1 rfl) ?_
  refine gf_30_27 S hK hW hv0 q1012 dX8_doLine_10 ?_
  refine lv_iload_n hx hb dX8_doLine_13 rfl (lv_at hl 2 rfl) ?_
  refine lv_iconst (v := (2 : Int32)) hx hb dX8_doLine_14 (by decide) ?_
  refine lv_iadd hx hb dX8_doLine_15 ?_
  obtain ⟨g4, h⟩ := og_e h
  refine ald_39 S hK hW (vq_30_27 hv0) g4 rfl dX8_doLine_16 ?_
  obtain ⟨x5, e6, h⟩ := pl_e h
  refine lv_nm e6 ?_
  refine lv_istore_n (lv' := [(3, .int x5), (2, .int x2), (0, .ref (a (30, 0, 0))), (1, .int p1)]) hx hb dX8_doLine_17 rfl hl (by decide) rfl (fun ls hl => ?_)
  refine lv_aload_n hx hb dX8_doLine_18 rfl (lv_at hl 2 rfl) ?_
  refine gf_30_27 S hK hW hv0 q1012 dX8_doLine_19 ?_
  refine lv_iload_n hx hb dX8_doLine_22 rfl (lv_at hl 3 rfl) ?_
  refine lv_iconst (v := (3 : Int32)) hx hb dX8_doLine_23 (by decide) ?_
  refine lv_iadd hx hb dX8_doLine_24 ?_
  obtain ⟨g7, h⟩ := og_e h
  refine ald_39 S hK hW (vq_30_27 hv0) g7 rfl dX8_doLine_25 ?_
  obtain ⟨x8, e9, h⟩ := pl_e h
  refine lv_nm e9 ?_
  refine lv_istore (lv' := [(4, .int x8), (3, .int x5), (2, .int x2), (0, .ref (a (30, 0, 0))), (1, .int p1)]) hx hb dX8_doLine_26 hl (by decide) rfl (fun ls hl => ?_)
  refine lv_aload_n hx hb dX8_doLine_28 rfl (lv_at hl 3 rfl) ?_
  refine gf_30_27 S hK hW hv0 q1012 dX8_doLine_29 ?_
  refine lv_iload_n hx hb dX8_doLine_32 rfl (lv_at hl 4 rfl) ?_
  obtain ⟨g10, h⟩ := og_e h
  refine ald_39 S hK hW (vq_30_27 hv0) g10 rfl dX8_doLine_33 ?_
  by_cases c11 : (F 39 0 0 p1.toNatClampNeg).toInt < 0 ∨ 14 < (F 39 0 0 p1.toNatClampNeg).toInt
  · have h := if_t h c11
    refine lv_tableOut (tgt := 299) hx hb dX8_doLine_34 c11 (by decide) ?_
    refine lv_aload_n hx hb dX8_doLine_299 rfl (lv_at hl 3 rfl) ?_
    refine lv_aload_n hx hb dX8_doLine_300 rfl (lv_at hl 3 rfl) ?_
    refine gf_30_27 S hK hW hv0 q1012 dX8_doLine_301 ?_
    refine lv_iload_n hx hb dX8_doLine_304 rfl (lv_at hl 4 rfl) ?_
    refine ald_39 S hK hW (vq_30_27 hv0) g10 rfl dX8_doLine_305 ?_
    refine lv_iload_n hx hb dX8_doLine_306 rfl (lv_at hl 2 rfl) ?_
    obtain ⟨F12, hc13, h⟩ := ob_e h
    refine wk_v (va_runV (As := [.int (F 39 0 0 p1.toNatClampNeg), .int x2]) (rest := []) S (met_X8_doOne l hD hv0 hc13 H.size) (cwV 2 S.2.2.2.2 (lw_V q1194 q1196 qs34 q63 q1197) rfl rfl rfl yd_X8_doOne ⟨Nat.le_of_ble_eq_true rfl, Nat.le_of_ble_eq_true rfl⟩) (wpreV hK hW hv0 rfl rfl _) rfl rfl hl.1 rfl (lv_room (Nat.le_of_ble_eq_true rfl)) dX8_doLine_307 ⟨Nat.le_refl 0, Nat.le_refl 0⟩) hW (fun H locs hW => ?_)
    cases h
    exact we_v S hr hlk hW dX8_doLine_310
  · have hz := if_f h c11
    by_cases c14 : (F 39 0 0 p1.toNatClampNeg) = (0 : Int32)
    · have h := if_t hz c14
      refine lv_sw c14 ?_
      refine lv_tableIn (off := 74) (tgt := 108) hx hb dX8_doLine_34 (by decide) (by decide) (by decide) (by decide) ?_
      refine lv_aload_n hx hb dX8_doLine_108 rfl (lv_at hl 3 rfl) ?_
      refine lv_iload_n hx hb dX8_doLine_109 rfl (lv_at hl 2 rfl) ?_
      obtain ⟨F15, e16, h⟩ := pl_e h
      refine pf_30_0 S hK hD hW hv0 e16 q985 dX8_doLine_110 (fun H locs hW => ?_)
      refine lv_aload_n hx hb dX8_doLine_113 rfl (lv_at hl 3 rfl) ?_
      refine lv_iload_n hx hb dX8_doLine_114 rfl (lv_at hl 1 rfl) ?_
      obtain ⟨F17, e18, h⟩ := pl_e h
      refine pf_30_1 S hK hD hW hv0 e18 q986 dX8_doLine_115 (fun H locs hW => ?_)
      refine lv_aload_n hx hb dX8_doLine_118 rfl (lv_at hl 3 rfl) ?_
      refine lv_iconst (v := (0 : Int32)) hx hb dX8_doLine_119 (by decide) ?_
      obtain ⟨F19, e20, h⟩ := pl_e h
      refine pf_30_12 S hK hD hW hv0 e20 q997 dX8_doLine_120 (fun H locs hW => ?_)
      refine lv_iconst (v := (0 : Int32)) hx hb dX8_doLine_123 (by decide) ?_
      refine lv_istore (lv' := [(5, .int (0 : Int32)), (4, .int x8), (3, .int x5), (2, .int x2), (0, .ref (a (30, 0, 0))), (1, .int p1)]) hx hb dX8_doLine_124 hl (by decide) rfl (fun ls hl => ?_)
      have L26 : ∀ (n : Nat) (F22 : St) (x21 : Int32) (F23 : St) (x24 : Int32), lp_X8_doLine_126 n F22 x21 = some (F23, x24) → (∀ (H : Heap) (locs : List Loc) (ls : Array Slot), wS D dA a s F23 H locs → lv_has ls 6 [] → WX p l e (rmL 1 23) s m av below meth c (wQv D dA a s.heap.size Fz) dA a H locs (F0 m 147 ls [])) → ∀ (H : Heap) (locs : List Loc) (ls : Array Slot), wS D dA a s F22 H locs → lv_has ls 6 [(0, .ref (a (30, 0, 0))), (5, .int x21)] → WX p l e (rmL 1 23) s m av below meth c (wQv D dA a s.heap.size Fz) dA a H locs (F0 m 126 ls []) := by
        intro n
        induction n with
        | zero =>
          intro F22 x21 F23 x24 h
          exact absurd (show (none : Option (St × Int32)) = some (F23, x24) from h) (by simp)
        | succ n ih =>
          intro F22 x21 F23 x24 h K25 H locs ls hW hl
          have h := lp_X8_doLine_126_s.symm.trans h
          refine lv_iload hx hb dX8_doLine_126 (lv_at hl 1 rfl) ?_
          refine lv_bipush (v := (16 : Int32)) hx hb dX8_doLine_128 (by decide) ?_
          refine lv_icmp_ge (tgt := 147) hx hb dX8_doLine_130 (by decide) (fun c27 => ?_) (fun c27 => ?_)
          · have h := if_t h c27
            cases h
            exact K25 H locs ls hW (lv_sub hl [] rfl)
          · have h := if_f h c27
            refine lv_aload_n hx hb dX8_doLine_133 rfl (lv_at hl 0 rfl) ?_
            refine gf_30_7 S hK hW hv0 q992 dX8_doLine_134 ?_
            refine lv_iload hx hb dX8_doLine_137 (lv_at hl 1 rfl) ?_
            refine lv_iconst (v := (0 : Int32)) hx hb dX8_doLine_139 (by decide) ?_
            obtain ⟨g28, h⟩ := og_e h
            obtain ⟨F29, e30, h⟩ := pl_e h
            refine ast_33 S hK hD hW (vq_30_7 hv0) g28 rfl e30 dX8_doLine_140 (fun H locs hW => ?_)
            refine lv_iinc (v := (x21 + 1)) (lv' := [(5, .int (x21 + 1)), (0, .ref (a (30, 0, 0)))]) hx hb dX8_doLine_141 hl (k := 1) rfl rfl (by decide) rfl (fun ls hl => ?_)
            refine lv_goto (tgt := 126) hx hb dX8_doLine_144 (by decide) ?_
            exact ih _ _ _ _ h K25 H locs ls hW (lv_sub hl [1, 0] rfl)
      obtain ⟨F23, x24, hz31, h⟩ := ob2_e h
      refine L26 300 F19 (0 : Int32) F23 x24 hz31 (fun H locs ls hW hl => ?_) H locs ls hW (lv_sub hl [4, 0] rfl)
      refine lv_goto (tgt := 310) hx hb dX8_doLine_147 (by decide) ?_
      cases h
      exact we_v S hr hlk hW dX8_doLine_310
    have hz := if_f hz c14
    by_cases c32 : (F 39 0 0 p1.toNatClampNeg) = (1 : Int32)
    · have h := if_t hz c32
      refine lv_sw c32 ?_
      refine lv_tableIn (off := 116) (tgt := 150) hx hb dX8_doLine_34 (by decide) (by decide) (by decide) (by decide) ?_
      refine lv_aload_n hx hb dX8_doLine_150 rfl (lv_at hl 3 rfl) ?_
      refine gf_30_2 S hK hW hv0 q987 dX8_doLine_151 ?_
      refine lv_iconst (v := (0 : Int32)) hx hb dX8_doLine_154 (by decide) ?_
      refine lv_iload_n hx hb dX8_doLine_155 rfl (lv_at hl 2 rfl) ?_
      obtain ⟨F33, e34, h⟩ := pl_e h
      refine ast_31 (z := 0) S hK hD hW (vq_30_2 hv0) (by decide) (by decide) e34 dX8_doLine_156 (fun H locs hW => ?_)
      refine lv_aload_n hx hb dX8_doLine_157 rfl (lv_at hl 3 rfl) ?_
      refine gf_30_2 S hK hW hv0 q987 dX8_doLine_158 ?_
      refine lv_iconst (v := (1 : Int32)) hx hb dX8_doLine_161 (by decide) ?_
      refine lv_iload_n hx hb dX8_doLine_162 rfl (lv_at hl 1 rfl) ?_
      obtain ⟨F35, e36, h⟩ := pl_e h
      refine ast_31 (z := 1) S hK hD hW (vq_30_2 hv0) (by decide) (by decide) e36 dX8_doLine_163 (fun H locs hW => ?_)
      refine lv_aload_n hx hb dX8_doLine_164 rfl (lv_at hl 3 rfl) ?_
      refine gf_30_2 S hK hW hv0 q987 dX8_doLine_165 ?_
      refine lv_iconst (v := (2 : Int32)) hx hb dX8_doLine_168 (by decide) ?_
      refine lv_iload hx hb dX8_doLine_169 (lv_at hl 0 rfl) ?_
      obtain ⟨F37, e38, h⟩ := pl_e h
      refine ast_31 (z := 2) S hK hD hW (vq_30_2 hv0) (by decide) (by decide) e38 dX8_doLine_171 (fun H locs hW => ?_)
      refine lv_goto (tgt := 310) hx hb dX8_doLine_172 (by decide) ?_
      cases h
      exact we_v S hr hlk hW dX8_doLine_310
    have hz := if_f hz c32
    by_cases c39 : (F 39 0 0 p1.toNatClampNeg) = (2 : Int32)
    · have h := if_t hz c39
      refine lv_sw c39 ?_
      refine lv_tableIn (off := 141) (tgt := 175) hx hb dX8_doLine_34 (by decide) (by decide) (by decide) (by decide) ?_
      refine lv_aload_n hx hb dX8_doLine_175 rfl (lv_at hl 3 rfl) ?_
      refine gf_30_3 S hK hW hv0 q988 dX8_doLine_176 ?_
      refine lv_iconst (v := (0 : Int32)) hx hb dX8_doLine_179 (by decide) ?_
      refine lv_iload_n hx hb dX8_doLine_180 rfl (lv_at hl 2 rfl) ?_
      obtain ⟨F40, e41, h⟩ := pl_e h
      refine ast_32 (z := 0) S hK hD hW (vq_30_3 hv0) (by decide) (by decide) e41 dX8_doLine_181 (fun H locs hW => ?_)
      refine lv_aload_n hx hb dX8_doLine_182 rfl (lv_at hl 3 rfl) ?_
      refine gf_30_3 S hK hW hv0 q988 dX8_doLine_183 ?_
      refine lv_iconst (v := (1 : Int32)) hx hb dX8_doLine_186 (by decide) ?_
      refine lv_iload_n hx hb dX8_doLine_187 rfl (lv_at hl 1 rfl) ?_
      obtain ⟨F42, e43, h⟩ := pl_e h
      refine ast_32 (z := 1) S hK hD hW (vq_30_3 hv0) (by decide) (by decide) e43 dX8_doLine_188 (fun H locs hW => ?_)
      refine lv_aload_n hx hb dX8_doLine_189 rfl (lv_at hl 3 rfl) ?_
      refine gf_30_3 S hK hW hv0 q988 dX8_doLine_190 ?_
      refine lv_iconst (v := (2 : Int32)) hx hb dX8_doLine_193 (by decide) ?_
      refine lv_iload hx hb dX8_doLine_194 (lv_at hl 0 rfl) ?_
      obtain ⟨F44, e45, h⟩ := pl_e h
      refine ast_32 (z := 2) S hK hD hW (vq_30_3 hv0) (by decide) (by decide) e45 dX8_doLine_196 (fun H locs hW => ?_)
      refine lv_goto (tgt := 310) hx hb dX8_doLine_197 (by decide) ?_
      cases h
      exact we_v S hr hlk hW dX8_doLine_310
    have hz := if_f hz c39
    by_cases c46 : (F 39 0 0 p1.toNatClampNeg) = (3 : Int32)
    · have h := if_t hz c46
      refine lv_sw c46 ?_
      refine lv_tableIn (off := 166) (tgt := 200) hx hb dX8_doLine_34 (by decide) (by decide) (by decide) (by decide) ?_
      refine lv_aload_n hx hb dX8_doLine_200 rfl (lv_at hl 3 rfl) ?_
      refine lv_iload_n hx hb dX8_doLine_201 rfl (lv_at hl 2 rfl) ?_
      obtain ⟨F47, e48, h⟩ := pl_e h
      refine pf_30_5 S hK hD hW hv0 e48 q990 dX8_doLine_202 (fun H locs hW => ?_)
      refine lv_aload_n hx hb dX8_doLine_205 rfl (lv_at hl 3 rfl) ?_
      refine lv_iload_n hx hb dX8_doLine_206 rfl (lv_at hl 1 rfl) ?_
      obtain ⟨F49, e50, h⟩ := pl_e h
      refine pf_30_6 S hK hD hW hv0 e50 q991 dX8_doLine_207 (fun H locs hW => ?_)
      refine lv_goto (tgt := 310) hx hb dX8_doLine_210 (by decide) ?_
      cases h
      exact we_v S hr hlk hW dX8_doLine_310
    have hz := if_f hz c46
    by_cases c51 : (F 39 0 0 p1.toNatClampNeg) = (4 : Int32)
    · have h := if_t hz c51
      refine lv_sw c51 ?_
      refine lv_tableIn (off := 179) (tgt := 213) hx hb dX8_doLine_34 (by decide) (by decide) (by decide) (by decide) ?_
      refine lv_aload_n hx hb dX8_doLine_213 rfl (lv_at hl 3 rfl) ?_
      refine gf_30_7 S hK hW hv0 q992 dX8_doLine_214 ?_
      refine lv_iconst (v := (4 : Int32)) hx hb dX8_doLine_217 (by decide) ?_
      refine lv_iload_n hx hb dX8_doLine_218 rfl (lv_at hl 1 rfl) ?_
      refine lv_imul hx hb dX8_doLine_219 ?_
      refine lv_iload_n hx hb dX8_doLine_220 rfl (lv_at hl 2 rfl) ?_
      refine lv_iadd hx hb dX8_doLine_221 ?_
      refine lv_iload hx hb dX8_doLine_222 (lv_at hl 0 rfl) ?_
      obtain ⟨g52, h⟩ := og_e h
      obtain ⟨F53, e54, h⟩ := pl_e h
      refine ast_33 S hK hD hW (vq_30_7 hv0) g52 rfl e54 dX8_doLine_224 (fun H locs hW => ?_)
      refine lv_goto (tgt := 310) hx hb dX8_doLine_225 (by decide) ?_
      cases h
      exact we_v S hr hlk hW dX8_doLine_310
    have hz := if_f hz c51
    by_cases c55 : (F 39 0 0 p1.toNatClampNeg) = (5 : Int32)
    · have h := if_t hz c55
      refine lv_sw c55 ?_
      refine lv_tableIn (off := 194) (tgt := 228) hx hb dX8_doLine_34 (by decide) (by decide) (by decide) (by decide) ?_
      refine lv_aload_n hx hb dX8_doLine_228 rfl (lv_at hl 3 rfl) ?_
      refine gf_30_7 S hK hW hv0 q992 dX8_doLine_229 ?_
      refine lv_iconst (v := (4 : Int32)) hx hb dX8_doLine_232 (by decide) ?_
      refine lv_iload_n hx hb dX8_doLine_233 rfl (lv_at hl 1 rfl) ?_
      refine lv_imul hx hb dX8_doLine_234 ?_
      refine lv_iload_n hx hb dX8_doLine_235 rfl (lv_at hl 2 rfl) ?_
      refine lv_iadd hx hb dX8_doLine_236 ?_
      refine lv_iload hx hb dX8_doLine_237 (lv_at hl 0 rfl) ?_
      refine lv_ineg hx hb dX8_doLine_239 ?_
      obtain ⟨g56, h⟩ := og_e h
      obtain ⟨F57, e58, h⟩ := pl_e h
      refine ast_33 S hK hD hW (vq_30_7 hv0) g56 rfl e58 dX8_doLine_240 (fun H locs hW => ?_)
      refine lv_goto (tgt := 310) hx hb dX8_doLine_241 (by decide) ?_
      cases h
      exact we_v S hr hlk hW dX8_doLine_310
    have hz := if_f hz c55
    by_cases c59 : (F 39 0 0 p1.toNatClampNeg) = (6 : Int32)
    · have h := if_t hz c59
      refine lv_sw c59 ?_
      refine lv_tableIn (off := 265) (tgt := 299) hx hb dX8_doLine_34 (by decide) (by decide) (by decide) (by decide) ?_
      refine lv_aload_n hx hb dX8_doLine_299 rfl (lv_at hl 3 rfl) ?_
      refine lv_aload_n hx hb dX8_doLine_300 rfl (lv_at hl 3 rfl) ?_
      refine gf_30_27 S hK hW hv0 q1012 dX8_doLine_301 ?_
      refine lv_iload_n hx hb dX8_doLine_304 rfl (lv_at hl 4 rfl) ?_
      refine ald_39 S hK hW (vq_30_27 hv0) g10 rfl dX8_doLine_305 ?_
      refine lv_iload_n hx hb dX8_doLine_306 rfl (lv_at hl 2 rfl) ?_
      obtain ⟨F60, hc61, h⟩ := ob_e h
      refine wk_v (va_runV (As := [.int (F 39 0 0 p1.toNatClampNeg), .int x2]) (rest := []) S (met_X8_doOne l hD hv0 hc61 H.size) (cwV 2 S.2.2.2.2 (lw_V q1194 q1196 qs34 q63 q1197) rfl rfl rfl yd_X8_doOne ⟨Nat.le_of_ble_eq_true rfl, Nat.le_of_ble_eq_true rfl⟩) (wpreV hK hW hv0 rfl rfl _) rfl rfl hl.1 rfl (lv_room (Nat.le_of_ble_eq_true rfl)) dX8_doLine_307 ⟨Nat.le_refl 0, Nat.le_refl 0⟩) hW (fun H locs hW => ?_)
      cases h
      exact we_v S hr hlk hW dX8_doLine_310
    have hz := if_f hz c59
    by_cases c62 : (F 39 0 0 p1.toNatClampNeg) = (7 : Int32)
    · have h := if_t hz c62
      refine lv_sw c62 ?_
      refine lv_tableIn (off := 265) (tgt := 299) hx hb dX8_doLine_34 (by decide) (by decide) (by decide) (by decide) ?_
      refine lv_aload_n hx hb dX8_doLine_299 rfl (lv_at hl 3 rfl) ?_
      refine lv_aload_n hx hb dX8_doLine_300 rfl (lv_at hl 3 rfl) ?_
      refine gf_30_27 S hK hW hv0 q1012 dX8_doLine_301 ?_
      refine lv_iload_n hx hb dX8_doLine_304 rfl (lv_at hl 4 rfl) ?_
      refine ald_39 S hK hW (vq_30_27 hv0) g10 rfl dX8_doLine_305 ?_
      refine lv_iload_n hx hb dX8_doLine_306 rfl (lv_at hl 2 rfl) ?_
      obtain ⟨F63, hc64, h⟩ := ob_e h
      refine wk_v (va_runV (As := [.int (F 39 0 0 p1.toNatClampNeg), .int x2]) (rest := []) S (met_X8_doOne l hD hv0 hc64 H.size) (cwV 2 S.2.2.2.2 (lw_V q1194 q1196 qs34 q63 q1197) rfl rfl rfl yd_X8_doOne ⟨Nat.le_of_ble_eq_true rfl, Nat.le_of_ble_eq_true rfl⟩) (wpreV hK hW hv0 rfl rfl _) rfl rfl hl.1 rfl (lv_room (Nat.le_of_ble_eq_true rfl)) dX8_doLine_307 ⟨Nat.le_refl 0, Nat.le_refl 0⟩) hW (fun H locs hW => ?_)
      cases h
      exact we_v S hr hlk hW dX8_doLine_310
    have hz := if_f hz c62
    by_cases c65 : (F 39 0 0 p1.toNatClampNeg) = (8 : Int32)
    · have h := if_t hz c65
      refine lv_sw c65 ?_
      refine lv_tableIn (off := 210) (tgt := 244) hx hb dX8_doLine_34 (by decide) (by decide) (by decide) (by decide) ?_
      refine lv_aload_n hx hb dX8_doLine_244 rfl (lv_at hl 3 rfl) ?_
      refine lv_iload_n hx hb dX8_doLine_245 rfl (lv_at hl 2 rfl) ?_
      refine lv_iload_n hx hb dX8_doLine_246 rfl (lv_at hl 1 rfl) ?_
      refine lv_iload hx hb dX8_doLine_247 (lv_at hl 0 rfl) ?_
      obtain ⟨F66, hc67, h⟩ := ob_e h
      refine wk_v (va_runV (As := [.int x2, .int x5, .int x8]) (rest := []) S (met_X8_doPour l hD hv0 hc67 H.size) (cwV 3 S.2.2.2.2 (lw_V q1190 q1192 qs33 q63 q1193) rfl rfl rfl yd_X8_doPour ⟨Nat.le_of_ble_eq_true rfl, Nat.le_of_ble_eq_true rfl⟩) (wpreV hK hW hv0 rfl rfl _) rfl rfl hl.1 rfl (lv_room (Nat.le_of_ble_eq_true rfl)) dX8_doLine_249 ⟨Nat.le_refl 0, Nat.le_refl 0⟩) hW (fun H locs hW => ?_)
      refine lv_goto (tgt := 310) hx hb dX8_doLine_252 (by decide) ?_
      cases h
      exact we_v S hr hlk hW dX8_doLine_310
    have hz := if_f hz c65
    by_cases c68 : (F 39 0 0 p1.toNatClampNeg) = (9 : Int32)
    · have h := if_t hz c68
      refine lv_sw c68 ?_
      refine lv_tableIn (off := 221) (tgt := 255) hx hb dX8_doLine_34 (by decide) (by decide) (by decide) (by decide) ?_
      refine lv_aload_n hx hb dX8_doLine_255 rfl (lv_at hl 3 rfl) ?_
      refine lv_iconst (v := (0 : Int32)) hx hb dX8_doLine_256 (by decide) ?_
      obtain ⟨F69, e70, h⟩ := pl_e h
      refine pf_30_12 S hK hD hW hv0 e70 q997 dX8_doLine_257 (fun H locs hW => ?_)
      refine lv_goto (tgt := 310) hx hb dX8_doLine_260 (by decide) ?_
      cases h
      exact we_v S hr hlk hW dX8_doLine_310
    have hz := if_f hz c68
    by_cases c71 : (F 39 0 0 p1.toNatClampNeg) = (10 : Int32)
    · have h := if_t hz c71
      refine lv_sw c71 ?_
      refine lv_tableIn (off := 265) (tgt := 299) hx hb dX8_doLine_34 (by decide) (by decide) (by decide) (by decide) ?_
      refine lv_aload_n hx hb dX8_doLine_299 rfl (lv_at hl 3 rfl) ?_
      refine lv_aload_n hx hb dX8_doLine_300 rfl (lv_at hl 3 rfl) ?_
      refine gf_30_27 S hK hW hv0 q1012 dX8_doLine_301 ?_
      refine lv_iload_n hx hb dX8_doLine_304 rfl (lv_at hl 4 rfl) ?_
      refine ald_39 S hK hW (vq_30_27 hv0) g10 rfl dX8_doLine_305 ?_
      refine lv_iload_n hx hb dX8_doLine_306 rfl (lv_at hl 2 rfl) ?_
      obtain ⟨F72, hc73, h⟩ := ob_e h
      refine wk_v (va_runV (As := [.int (F 39 0 0 p1.toNatClampNeg), .int x2]) (rest := []) S (met_X8_doOne l hD hv0 hc73 H.size) (cwV 2 S.2.2.2.2 (lw_V q1194 q1196 qs34 q63 q1197) rfl rfl rfl yd_X8_doOne ⟨Nat.le_of_ble_eq_true rfl, Nat.le_of_ble_eq_true rfl⟩) (wpreV hK hW hv0 rfl rfl _) rfl rfl hl.1 rfl (lv_room (Nat.le_of_ble_eq_true rfl)) dX8_doLine_307 ⟨Nat.le_refl 0, Nat.le_refl 0⟩) hW (fun H locs hW => ?_)
      cases h
      exact we_v S hr hlk hW dX8_doLine_310
    have hz := if_f hz c71
    by_cases c74 : (F 39 0 0 p1.toNatClampNeg) = (11 : Int32)
    · have h := if_t hz c74
      refine lv_sw c74 ?_
      refine lv_tableIn (off := 265) (tgt := 299) hx hb dX8_doLine_34 (by decide) (by decide) (by decide) (by decide) ?_
      refine lv_aload_n hx hb dX8_doLine_299 rfl (lv_at hl 3 rfl) ?_
      refine lv_aload_n hx hb dX8_doLine_300 rfl (lv_at hl 3 rfl) ?_
      refine gf_30_27 S hK hW hv0 q1012 dX8_doLine_301 ?_
      refine lv_iload_n hx hb dX8_doLine_304 rfl (lv_at hl 4 rfl) ?_
      refine ald_39 S hK hW (vq_30_27 hv0) g10 rfl dX8_doLine_305 ?_
      refine lv_iload_n hx hb dX8_doLine_306 rfl (lv_at hl 2 rfl) ?_
      obtain ⟨F75, hc76, h⟩ := ob_e h
      refine wk_v (va_runV (As := [.int (F 39 0 0 p1.toNatClampNeg), .int x2]) (rest := []) S (met_X8_doOne l hD hv0 hc76 H.size) (cwV 2 S.2.2.2.2 (lw_V q1194 q1196 qs34 q63 q1197) rfl rfl rfl yd_X8_doOne ⟨Nat.le_of_ble_eq_true rfl, Nat.le_of_ble_eq_true rfl⟩) (wpreV hK hW hv0 rfl rfl _) rfl rfl hl.1 rfl (lv_room (Nat.le_of_ble_eq_true rfl)) dX8_doLine_307 ⟨Nat.le_refl 0, Nat.le_refl 0⟩) hW (fun H locs hW => ?_)
      cases h
      exact we_v S hr hlk hW dX8_doLine_310
    have hz := if_f hz c74
    by_cases c77 : (F 39 0 0 p1.toNatClampNeg) = (12 : Int32)
    · have h := if_t hz c77
      refine lv_sw c77 ?_
      refine lv_tableIn (off := 265) (tgt := 299) hx hb dX8_doLine_34 (by decide) (by decide) (by decide) (by decide) ?_
      refine lv_aload_n hx hb dX8_doLine_299 rfl (lv_at hl 3 rfl) ?_
      refine lv_aload_n hx hb dX8_doLine_300 rfl (lv_at hl 3 rfl) ?_
      refine gf_30_27 S hK hW hv0 q1012 dX8_doLine_301 ?_
      refine lv_iload_n hx hb dX8_doLine_304 rfl (lv_at hl 4 rfl) ?_
      refine ald_39 S hK hW (vq_30_27 hv0) g10 rfl dX8_doLine_305 ?_
      refine lv_iload_n hx hb dX8_doLine_306 rfl (lv_at hl 2 rfl) ?_
      obtain ⟨F78, hc79, h⟩ := ob_e h
      refine wk_v (va_runV (As := [.int (F 39 0 0 p1.toNatClampNeg), .int x2]) (rest := []) S (met_X8_doOne l hD hv0 hc79 H.size) (cwV 2 S.2.2.2.2 (lw_V q1194 q1196 qs34 q63 q1197) rfl rfl rfl yd_X8_doOne ⟨Nat.le_of_ble_eq_true rfl, Nat.le_of_ble_eq_true rfl⟩) (wpreV hK hW hv0 rfl rfl _) rfl rfl hl.1 rfl (lv_room (Nat.le_of_ble_eq_true rfl)) dX8_doLine_307 ⟨Nat.le_refl 0, Nat.le_refl 0⟩) hW (fun H locs hW => ?_)
      cases h
      exact we_v S hr hlk hW dX8_doLine_310
    have hz := if_f hz c77
    by_cases c80 : (F 39 0 0 p1.toNatClampNeg) = (13 : Int32)
    · have h := if_t hz c80
      refine lv_sw c80 ?_
      refine lv_tableIn (off := 265) (tgt := 299) hx hb dX8_doLine_34 (by decide) (by decide) (by decide) (by decide) ?_
      refine lv_aload_n hx hb dX8_doLine_299 rfl (lv_at hl 3 rfl) ?_
      refine lv_aload_n hx hb dX8_doLine_300 rfl (lv_at hl 3 rfl) ?_
      refine gf_30_27 S hK hW hv0 q1012 dX8_doLine_301 ?_
      refine lv_iload_n hx hb dX8_doLine_304 rfl (lv_at hl 4 rfl) ?_
      refine ald_39 S hK hW (vq_30_27 hv0) g10 rfl dX8_doLine_305 ?_
      refine lv_iload_n hx hb dX8_doLine_306 rfl (lv_at hl 2 rfl) ?_
      obtain ⟨F81, hc82, h⟩ := ob_e h
      refine wk_v (va_runV (As := [.int (F 39 0 0 p1.toNatClampNeg), .int x2]) (rest := []) S (met_X8_doOne l hD hv0 hc82 H.size) (cwV 2 S.2.2.2.2 (lw_V q1194 q1196 qs34 q63 q1197) rfl rfl rfl yd_X8_doOne ⟨Nat.le_of_ble_eq_true rfl, Nat.le_of_ble_eq_true rfl⟩) (wpreV hK hW hv0 rfl rfl _) rfl rfl hl.1 rfl (lv_room (Nat.le_of_ble_eq_true rfl)) dX8_doLine_307 ⟨Nat.le_refl 0, Nat.le_refl 0⟩) hW (fun H locs hW => ?_)
      cases h
      exact we_v S hr hlk hW dX8_doLine_310
    have hz := if_f hz c80
    by_cases c83 : (F 39 0 0 p1.toNatClampNeg) = (14 : Int32)
    · have h := if_t hz c83
      refine lv_sw c83 ?_
      refine lv_tableIn (off := 229) (tgt := 263) hx hb dX8_doLine_34 (by decide) (by decide) (by decide) (by decide) ?_
      refine lv_iconst (v := (0 : Int32)) hx hb dX8_doLine_263 (by decide) ?_
      refine lv_istore (lv' := [(5, .int (0 : Int32)), (4, .int x8), (3, .int x5), (2, .int x2), (0, .ref (a (30, 0, 0))), (1, .int p1)]) hx hb dX8_doLine_264 hl (by decide) rfl (fun ls hl => ?_)
      have L89 : ∀ (n : Nat) (F85 : St) (x84 : Int32) (F86 : St) (x87 : Int32), lp_X8_doLine_266 p1 n F85 x84 = some (F86, x87) → (∀ (H : Heap) (locs : List Loc) (ls : Array Slot), wS D dA a s F86 H locs → lv_has ls 6 [] → WX p l e (rmL 1 23) s m av below meth c (wQv D dA a s.heap.size Fz) dA a H locs (F0 m 296 ls [])) → ∀ (H : Heap) (locs : List Loc) (ls : Array Slot), wS D dA a s F85 H locs → lv_has ls 6 [(0, .ref (a (30, 0, 0))), (1, .int p1), (5, .int x84)] → WX p l e (rmL 1 23) s m av below meth c (wQv D dA a s.heap.size Fz) dA a H locs (F0 m 266 ls []) := by
        intro n
        induction n with
        | zero =>
          intro F85 x84 F86 x87 h
          exact absurd (show (none : Option (St × Int32)) = some (F86, x87) from h) (by simp)
        | succ n ih =>
          intro F85 x84 F86 x87 h K88 H locs ls hW hl
          have h := lp_X8_doLine_266_s.symm.trans h
          refine lv_iload hx hb dX8_doLine_266 (lv_at hl 2 rfl) ?_
          refine lv_iconst (v := (5 : Int32)) hx hb dX8_doLine_268 (by decide) ?_
          refine lv_icmp_ge (tgt := 296) hx hb dX8_doLine_269 (by decide) (fun c90 => ?_) (fun c90 => ?_)
          · have h := if_t h c90
            cases h
            exact K88 H locs ls hW (lv_sub hl [] rfl)
          · have h := if_f h c90
            refine lv_aload_n hx hb dX8_doLine_272 rfl (lv_at hl 0 rfl) ?_
            refine gf_30_17 S hK hW hv0 q1002 dX8_doLine_273 ?_
            refine lv_iload hx hb dX8_doLine_276 (lv_at hl 2 rfl) ?_
            refine lv_aload_n hx hb dX8_doLine_278 rfl (lv_at hl 0 rfl) ?_
            refine gf_30_27 S hK hW hv0 q1012 dX8_doLine_279 ?_
            refine lv_iload_n hx hb dX8_doLine_282 rfl (lv_at hl 1 rfl) ?_
            refine lv_iconst (v := (1 : Int32)) hx hb dX8_doLine_283 (by decide) ?_
            refine lv_iadd hx hb dX8_doLine_284 ?_
            refine lv_iload hx hb dX8_doLine_285 (lv_at hl 2 rfl) ?_
            refine lv_iadd hx hb dX8_doLine_287 ?_
            obtain ⟨g91, h⟩ := og_e h
            refine ald_39 S hK hW (vq_30_27 hv0) g91 rfl dX8_doLine_288 ?_
            obtain ⟨g92, h⟩ := og_e h
            obtain ⟨F93, e94, h⟩ := pl_e h
            refine ast_37 S hK hD hW (vq_30_17 hv0) g92 rfl e94 dX8_doLine_289 (fun H locs hW => ?_)
            refine lv_iinc (v := (x84 + 1)) (lv' := [(5, .int (x84 + 1)), (0, .ref (a (30, 0, 0))), (1, .int p1)]) hx hb dX8_doLine_290 hl (k := 2) rfl rfl (by decide) rfl (fun ls hl => ?_)
            refine lv_goto (tgt := 266) hx hb dX8_doLine_293 (by decide) ?_
            exact ih _ _ _ _ h K88 H locs ls hW (lv_sub hl [1, 2, 0] rfl)
      obtain ⟨F86, x87, hz95, h⟩ := ob2_e h
      refine L89 300 F (0 : Int32) F86 x87 hz95 (fun H locs ls hW hl => ?_) H locs ls hW (lv_sub hl [4, 5, 0] rfl)
      refine lv_goto (tgt := 310) hx hb dX8_doLine_296 (by decide) ?_
      cases h
      exact we_v S hr hlk hW dX8_doLine_310
    have hz := if_f hz c83
    cases hz
def fn_X8_erase (F : St) : Option (St × Int32) :=
  pl (F 30 18 0 0) (fun x1 => pl (fu F 30 18 0 0 (0 : Int32)) (fun F3 => some (F3, x1)))
theorem yd_X8_erase : yX8_erase.cls = RX8 ∧ yX8_erase.cls ≠ "java/lang/invoke/MethodHandle" ∧ yX8_erase.cls ≠ "java/lang/invoke/VarHandle" ∧ (parseMethodDescriptor yX8_erase.desc).map (fun d => d.parameters.length) = some 0 := by decide +kernel
set_option maxHeartbeats 4000000 in
theorem met_X8_erase (l : Launch) {D : va_G} {dA : WK} {a : Ix → Nat} (hD : wD D dA a) {F : St} {Fz : St} {rz : Int32} (hv0 : wVd dA (30, 0, 0)) (h : fn_X8_erase F = some (Fz, rz)) : Mi l yX8_erase cX8_erase 2 .int 0 0 D dA a F [.ref (a (30, 0, 0))] Fz rz := by
  refine fun sz => mst (Qc := fun sz => wQi D dA a sz Fz rz) (by decide) (Nat.le_of_ble_eq_true rfl) ?_ sz
  intro p e s m below meth c S hr hlk hK hW ls hl
  have hl : lv_has ls 2 [(0, .ref (a (30, 0, 0)))] := hl
  have hx := S.1
  have hb := S.2.1
  generalize ([.ref (a (30, 0, 0))] : List Value).toArray = av at S ⊢
  unfold fn_X8_erase at h
  obtain ⟨H, eH⟩ : ∃ z, z = s.heap := ⟨_, rfl⟩
  obtain ⟨locs, eL⟩ : ∃ z : List Loc, z = [] := ⟨_, rfl⟩
  show WX p l e (rmL 0 0) s m av below meth c (wQi D dA a s.heap.size Fz rz) dA a s.heap [] (F0 m 0 ls [])
  have hW : wS D dA a s F H locs := by rw [eH, eL]; exact wS_in hW
  refine wx_in eH eL ?_
  clear eH eL
  refine lv_aload_n hx hb dX8_erase_0 rfl (lv_at hl 0 rfl) ?_
  refine gf_30_18 S hK hW hv0 q1003 dX8_erase_1 ?_
  obtain ⟨x1, e2, h⟩ := pl_e h
  refine lv_nm e2 ?_
  refine lv_istore_n (lv' := [(1, .int x1), (0, .ref (a (30, 0, 0)))]) hx hb dX8_erase_4 rfl hl (by decide) rfl (fun ls hl => ?_)
  refine lv_aload_n hx hb dX8_erase_5 rfl (lv_at hl 1 rfl) ?_
  refine lv_iconst (v := (0 : Int32)) hx hb dX8_erase_6 (by decide) ?_
  obtain ⟨F3, e4, h⟩ := pl_e h
  refine pf_30_18 S hK hD hW hv0 e4 q1003 dX8_erase_7 (fun H locs hW => ?_)
  refine lv_iload_n hx hb dX8_erase_10 rfl (lv_at hl 0 rfl) ?_
  cases h
  exact we_i S hr hlk hW dX8_erase_11
def fn_X8_isBed (F : St) (p1 : Int32) : Option (St × Int32) :=
  ob2 (fn_X8_isNumber F (p1 + (1 : Int32)) (1 : Int32) (4 : Int32)) (fun F1 r2 => if r2 = 0 then some (F1, (0 : Int32)) else ob2 (fn_X8_isNumber F1 (p1 + (2 : Int32)) (1 : Int32) (4 : Int32)) (fun F5 r6 => if r6 = 0 then some (F5, (0 : Int32)) else og (vpb (p1 + (1 : Int32)) 60) (pl (fu F5 30 28 0 0 (F5 39 0 0 (p1 + (1 : Int32)).toNatClampNeg)) (fun F10 => og (vpb (p1 + (2 : Int32)) 60) (pl (fu F10 30 29 0 0 (F10 39 0 0 (p1 + (2 : Int32)).toNatClampNeg)) (fun F13 => some (F13, (1 : Int32))))))))
theorem yd_X8_isBed : yX8_isBed.cls = RX8 ∧ yX8_isBed.cls ≠ "java/lang/invoke/MethodHandle" ∧ yX8_isBed.cls ≠ "java/lang/invoke/VarHandle" ∧ (parseMethodDescriptor yX8_isBed.desc).map (fun d => d.parameters.length) = some 1 := by decide +kernel
set_option maxHeartbeats 4000000 in
theorem met_X8_isBed (l : Launch) {D : va_G} {dA : WK} {a : Ix → Nat} (hD : wD D dA a) {F : St} {p1 : Int32} {Fz : St} {rz : Int32} (hv0 : wVd dA (30, 0, 0)) (h : fn_X8_isBed F p1 = some (Fz, rz)) : Mi l yX8_isBed cX8_isBed 2 .boolean 3 65 D dA a F [.ref (a (30, 0, 0)), .int p1] Fz rz := by
  refine fun sz => mst (Qc := fun sz => wQi D dA a sz Fz rz) (by decide) (Nat.le_of_ble_eq_true rfl) ?_ sz
  intro p e s m below meth c S hr hlk hK hW ls hl
  have hl : lv_has ls 2 [(0, .ref (a (30, 0, 0))), (1, .int p1)] := hl
  have hx := S.1
  have hb := S.2.1
  generalize ([.ref (a (30, 0, 0)), .int p1] : List Value).toArray = av at S ⊢
  unfold fn_X8_isBed at h
  obtain ⟨H, eH⟩ : ∃ z, z = s.heap := ⟨_, rfl⟩
  obtain ⟨locs, eL⟩ : ∃ z : List Loc, z = [] := ⟨_, rfl⟩
  show WX p l e (rmL 3 65) s m av below meth c (wQi D dA a s.heap.size Fz rz) dA a s.heap [] (F0 m 0 ls [])
  have hW : wS D dA a s F H locs := by rw [eH, eL]; exact wS_in hW
  refine wx_in eH eL ?_
  clear eH eL
  refine lv_aload_n hx hb dX8_isBed_0 rfl (lv_at hl 0 rfl) ?_
  refine lv_iload_n hx hb dX8_isBed_1 rfl (lv_at hl 1 rfl) ?_
  refine lv_iconst (v := (1 : Int32)) hx hb dX8_isBed_2 (by decide) ?_
  refine lv_iadd hx hb dX8_isBed_3 ?_
  refine lv_iconst (v := (1 : Int32)) hx hb dX8_isBed_4 (by decide) ?_
  refine lv_iconst (v := (4 : Int32)) hx hb dX8_isBed_5 (by decide) ?_
  obtain ⟨F1, r2, hc3, h⟩ := ob2_e h
  refine wk_i (va_runV (As := [.int (p1 + (1 : Int32)), .int (1 : Int32), .int (4 : Int32)]) (rest := []) S (met_X8_isNumber l hD hv0 hc3 H.size) (cwV 3 S.2.2.2.2 (lw_V q1166 q1168 qs28 q63 q1169) rfl rfl rfl yd_X8_isNumber ⟨Nat.le_of_ble_eq_true rfl, Nat.le_of_ble_eq_true rfl⟩) (wpreV hK hW hv0 rfl rfl _) rfl rfl hl.1 rfl (lv_room (Nat.le_of_ble_eq_true rfl)) dX8_isBed_6 ⟨Nat.le_refl 0, Nat.le_refl 0⟩) hW (fun H locs hW => ?_)
  refine lv_if_eq (tgt := 24) hx hb dX8_isBed_9 (by decide) (fun c4 => ?_) (fun c4 => ?_)
  · have h := if_t h c4
    refine lv_iconst (v := (0 : Int32)) hx hb dX8_isBed_24 (by decide) ?_
    cases h
    exact we_z S hr hlk rfl hW dX8_isBed_25
  · have h := if_f h c4
    refine lv_aload_n hx hb dX8_isBed_12 rfl (lv_at hl 0 rfl) ?_
    refine lv_iload_n hx hb dX8_isBed_13 rfl (lv_at hl 1 rfl) ?_
    refine lv_iconst (v := (2 : Int32)) hx hb dX8_isBed_14 (by decide) ?_
    refine lv_iadd hx hb dX8_isBed_15 ?_
    refine lv_iconst (v := (1 : Int32)) hx hb dX8_isBed_16 (by decide) ?_
    refine lv_iconst (v := (4 : Int32)) hx hb dX8_isBed_17 (by decide) ?_
    obtain ⟨F5, r6, hc7, h⟩ := ob2_e h
    refine wk_i (va_runV (As := [.int (p1 + (2 : Int32)), .int (1 : Int32), .int (4 : Int32)]) (rest := []) S (met_X8_isNumber l hD hv0 hc7 H.size) (cwV 3 S.2.2.2.2 (lw_V q1166 q1168 qs28 q63 q1169) rfl rfl rfl yd_X8_isNumber ⟨Nat.le_of_ble_eq_true rfl, Nat.le_of_ble_eq_true rfl⟩) (wpreV hK hW hv0 rfl rfl _) rfl rfl hl.1 rfl (lv_room (Nat.le_of_ble_eq_true rfl)) dX8_isBed_18 ⟨Nat.le_refl 0, Nat.le_refl 0⟩) hW (fun H locs hW => ?_)
    refine lv_if_ne (tgt := 26) hx hb dX8_isBed_21 (by decide) (fun c8 => ?_) (fun c8 => ?_)
    · have h := if_f h c8
      refine lv_aload_n hx hb dX8_isBed_26 rfl (lv_at hl 0 rfl) ?_
      refine lv_aload_n hx hb dX8_isBed_27 rfl (lv_at hl 0 rfl) ?_
      refine gf_30_27 S hK hW hv0 q1012 dX8_isBed_28 ?_
      refine lv_iload_n hx hb dX8_isBed_31 rfl (lv_at hl 1 rfl) ?_
      refine lv_iconst (v := (1 : Int32)) hx hb dX8_isBed_32 (by decide) ?_
      refine lv_iadd hx hb dX8_isBed_33 ?_
      obtain ⟨g9, h⟩ := og_e h
      refine ald_39 S hK hW (vq_30_27 hv0) g9 rfl dX8_isBed_34 ?_
      obtain ⟨F10, e11, h⟩ := pl_e h
      refine pf_30_28 S hK hD hW hv0 e11 q1013 dX8_isBed_35 (fun H locs hW => ?_)
      refine lv_aload_n hx hb dX8_isBed_38 rfl (lv_at hl 0 rfl) ?_
      refine lv_aload_n hx hb dX8_isBed_39 rfl (lv_at hl 0 rfl) ?_
      refine gf_30_27 S hK hW hv0 q1012 dX8_isBed_40 ?_
      refine lv_iload_n hx hb dX8_isBed_43 rfl (lv_at hl 1 rfl) ?_
      refine lv_iconst (v := (2 : Int32)) hx hb dX8_isBed_44 (by decide) ?_
      refine lv_iadd hx hb dX8_isBed_45 ?_
      obtain ⟨g12, h⟩ := og_e h
      refine ald_39 S hK hW (vq_30_27 hv0) g12 rfl dX8_isBed_46 ?_
      obtain ⟨F13, e14, h⟩ := pl_e h
      refine pf_30_29 S hK hD hW hv0 e14 q1014 dX8_isBed_47 (fun H locs hW => ?_)
      refine lv_iconst (v := (1 : Int32)) hx hb dX8_isBed_50 (by decide) ?_
      cases h
      exact we_z S hr hlk rfl hW dX8_isBed_51
    · have h := if_t h c8
      refine lv_iconst (v := (0 : Int32)) hx hb dX8_isBed_24 (by decide) ?_
      cases h
      exact we_z S hr hlk rfl hW dX8_isBed_25
def fn_X8_isChart (F : St) (p1 : Int32) : Option (St × Int32) :=
  ob2 (fn_X8_isNumber F (p1 + (1 : Int32)) (0 : Int32) (999 : Int32)) (fun F1 r2 => if r2 = 0 then some (F1, (0 : Int32)) else og (vpb (p1 + (1 : Int32)) 60) (ob2 (fn_X8_isNumber F1 (p1 + (2 : Int32)) (F1 39 0 0 (p1 + (1 : Int32)).toNatClampNeg) (999 : Int32)) (fun F6 r7 => if r7 = 0 then some (F6, (0 : Int32)) else ob2 (fn_X8_isNumber F6 (p1 + (3 : Int32)) (0 : Int32) (999 : Int32)) (fun F10 r11 => if r11 = 0 then some (F10, (0 : Int32)) else og (vpb (p1 + (3 : Int32)) 60) (ob2 (fn_X8_isNumber F10 (p1 + (4 : Int32)) (F10 39 0 0 (p1 + (3 : Int32)).toNatClampNeg) (999 : Int32)) (fun F15 r16 => if r16 = 0 then some (F15, (0 : Int32)) else ob2 (fn_X8_isNumber F15 (p1 + (5 : Int32)) (0 : Int32) (999 : Int32)) (fun F19 r20 => if r20 = 0 then some (F19, (0 : Int32)) else some (F19, (1 : Int32)))))))))
theorem yd_X8_isChart : yX8_isChart.cls = RX8 ∧ yX8_isChart.cls ≠ "java/lang/invoke/MethodHandle" ∧ yX8_isChart.cls ≠ "java/lang/invoke/VarHandle" ∧ (parseMethodDescriptor yX8_isChart.desc).map (fun d => d.parameters.length) = some 1 := by decide +kernel
set_option maxHeartbeats 4000000 in
theorem met_X8_isChart (l : Launch) {D : va_G} {dA : WK} {a : Ix → Nat} (hD : wD D dA a) {F : St} {p1 : Int32} {Fz : St} {rz : Int32} (hv0 : wVd dA (30, 0, 0)) (h : fn_X8_isChart F p1 = some (Fz, rz)) : Mi l yX8_isChart cX8_isChart 2 .boolean 3 65 D dA a F [.ref (a (30, 0, 0)), .int p1] Fz rz := by
  refine fun sz => mst (Qc := fun sz => wQi D dA a sz Fz rz) (by decide) (Nat.le_of_ble_eq_true rfl) ?_ sz
  intro p e s m below meth c S hr hlk hK hW ls hl
  have hl : lv_has ls 2 [(0, .ref (a (30, 0, 0))), (1, .int p1)] := hl
  have hx := S.1
  have hb := S.2.1
  generalize ([.ref (a (30, 0, 0)), .int p1] : List Value).toArray = av at S ⊢
  unfold fn_X8_isChart at h
  obtain ⟨H, eH⟩ : ∃ z, z = s.heap := ⟨_, rfl⟩
  obtain ⟨locs, eL⟩ : ∃ z : List Loc, z = [] := ⟨_, rfl⟩
  show WX p l e (rmL 3 65) s m av below meth c (wQi D dA a s.heap.size Fz rz) dA a s.heap [] (F0 m 0 ls [])
  have hW : wS D dA a s F H locs := by rw [eH, eL]; exact wS_in hW
  refine wx_in eH eL ?_
  clear eH eL
  refine lv_aload_n hx hb dX8_isChart_0 rfl (lv_at hl 0 rfl) ?_
  refine lv_iload_n hx hb dX8_isChart_1 rfl (lv_at hl 1 rfl) ?_
  refine lv_iconst (v := (1 : Int32)) hx hb dX8_isChart_2 (by decide) ?_
  refine lv_iadd hx hb dX8_isChart_3 ?_
  refine lv_iconst (v := (0 : Int32)) hx hb dX8_isChart_4 (by decide) ?_
  refine lv_sipush (v := (999 : Int32)) hx hb dX8_isChart_5 (by decide) ?_
  obtain ⟨F1, r2, hc3, h⟩ := ob2_e h
  refine wk_i (va_runV (As := [.int (p1 + (1 : Int32)), .int (0 : Int32), .int (999 : Int32)]) (rest := []) S (met_X8_isNumber l hD hv0 hc3 H.size) (cwV 3 S.2.2.2.2 (lw_V q1166 q1168 qs28 q63 q1169) rfl rfl rfl yd_X8_isNumber ⟨Nat.le_of_ble_eq_true rfl, Nat.le_of_ble_eq_true rfl⟩) (wpreV hK hW hv0 rfl rfl _) rfl rfl hl.1 rfl (lv_room (Nat.le_of_ble_eq_true rfl)) dX8_isChart_8 ⟨Nat.le_refl 0, Nat.le_refl 0⟩) hW (fun H locs hW => ?_)
  refine lv_if_eq (tgt := 88) hx hb dX8_isChart_11 (by decide) (fun c4 => ?_) (fun c4 => ?_)
  · have h := if_t h c4
    refine lv_iconst (v := (0 : Int32)) hx hb dX8_isChart_88 (by decide) ?_
    cases h
    exact we_z S hr hlk rfl hW dX8_isChart_89
  · have h := if_f h c4
    refine lv_aload_n hx hb dX8_isChart_14 rfl (lv_at hl 0 rfl) ?_
    refine lv_iload_n hx hb dX8_isChart_15 rfl (lv_at hl 1 rfl) ?_
    refine lv_iconst (v := (2 : Int32)) hx hb dX8_isChart_16 (by decide) ?_
    refine lv_iadd hx hb dX8_isChart_17 ?_
    refine lv_aload_n hx hb dX8_isChart_18 rfl (lv_at hl 0 rfl) ?_
    refine gf_30_27 S hK hW hv0 q1012 dX8_isChart_19 ?_
    refine lv_iload_n hx hb dX8_isChart_22 rfl (lv_at hl 1 rfl) ?_
    refine lv_iconst (v := (1 : Int32)) hx hb dX8_isChart_23 (by decide) ?_
    refine lv_iadd hx hb dX8_isChart_24 ?_
    obtain ⟨g5, h⟩ := og_e h
    refine ald_39 S hK hW (vq_30_27 hv0) g5 rfl dX8_isChart_25 ?_
    refine lv_sipush (v := (999 : Int32)) hx hb dX8_isChart_26 (by decide) ?_
    obtain ⟨F6, r7, hc8, h⟩ := ob2_e h
    refine wk_i (va_runV (As := [.int (p1 + (2 : Int32)), .int (F1 39 0 0 (p1 + (1 : Int32)).toNatClampNeg), .int (999 : Int32)]) (rest := []) S (met_X8_isNumber l hD hv0 hc8 H.size) (cwV 3 S.2.2.2.2 (lw_V q1166 q1168 qs28 q63 q1169) rfl rfl rfl yd_X8_isNumber ⟨Nat.le_of_ble_eq_true rfl, Nat.le_of_ble_eq_true rfl⟩) (wpreV hK hW hv0 rfl rfl _) rfl rfl hl.1 rfl (lv_room (Nat.le_of_ble_eq_true rfl)) dX8_isChart_29 ⟨Nat.le_refl 0, Nat.le_refl 0⟩) hW (fun H locs hW => ?_)
    refine lv_if_eq (tgt := 88) hx hb dX8_isChart_32 (by decide) (fun c9 => ?_) (fun c9 => ?_)
    · have h := if_t h c9
      refine lv_iconst (v := (0 : Int32)) hx hb dX8_isChart_88 (by decide) ?_
      cases h
      exact we_z S hr hlk rfl hW dX8_isChart_89
    · have h := if_f h c9
      refine lv_aload_n hx hb dX8_isChart_35 rfl (lv_at hl 0 rfl) ?_
      refine lv_iload_n hx hb dX8_isChart_36 rfl (lv_at hl 1 rfl) ?_
      refine lv_iconst (v := (3 : Int32)) hx hb dX8_isChart_37 (by decide) ?_
      refine lv_iadd hx hb dX8_isChart_38 ?_
      refine lv_iconst (v := (0 : Int32)) hx hb dX8_isChart_39 (by decide) ?_
      refine lv_sipush (v := (999 : Int32)) hx hb dX8_isChart_40 (by decide) ?_
      obtain ⟨F10, r11, hc12, h⟩ := ob2_e h
      refine wk_i (va_runV (As := [.int (p1 + (3 : Int32)), .int (0 : Int32), .int (999 : Int32)]) (rest := []) S (met_X8_isNumber l hD hv0 hc12 H.size) (cwV 3 S.2.2.2.2 (lw_V q1166 q1168 qs28 q63 q1169) rfl rfl rfl yd_X8_isNumber ⟨Nat.le_of_ble_eq_true rfl, Nat.le_of_ble_eq_true rfl⟩) (wpreV hK hW hv0 rfl rfl _) rfl rfl hl.1 rfl (lv_room (Nat.le_of_ble_eq_true rfl)) dX8_isChart_43 ⟨Nat.le_refl 0, Nat.le_refl 0⟩) hW (fun H locs hW => ?_)
      refine lv_if_eq (tgt := 88) hx hb dX8_isChart_46 (by decide) (fun c13 => ?_) (fun c13 => ?_)
      · have h := if_t h c13
        refine lv_iconst (v := (0 : Int32)) hx hb dX8_isChart_88 (by decide) ?_
        cases h
        exact we_z S hr hlk rfl hW dX8_isChart_89
      · have h := if_f h c13
        refine lv_aload_n hx hb dX8_isChart_49 rfl (lv_at hl 0 rfl) ?_
        refine lv_iload_n hx hb dX8_isChart_50 rfl (lv_at hl 1 rfl) ?_
        refine lv_iconst (v := (4 : Int32)) hx hb dX8_isChart_51 (by decide) ?_
        refine lv_iadd hx hb dX8_isChart_52 ?_
        refine lv_aload_n hx hb dX8_isChart_53 rfl (lv_at hl 0 rfl) ?_
        refine gf_30_27 S hK hW hv0 q1012 dX8_isChart_54 ?_
        refine lv_iload_n hx hb dX8_isChart_57 rfl (lv_at hl 1 rfl) ?_
        refine lv_iconst (v := (3 : Int32)) hx hb dX8_isChart_58 (by decide) ?_
        refine lv_iadd hx hb dX8_isChart_59 ?_
        obtain ⟨g14, h⟩ := og_e h
        refine ald_39 S hK hW (vq_30_27 hv0) g14 rfl dX8_isChart_60 ?_
        refine lv_sipush (v := (999 : Int32)) hx hb dX8_isChart_61 (by decide) ?_
        obtain ⟨F15, r16, hc17, h⟩ := ob2_e h
        refine wk_i (va_runV (As := [.int (p1 + (4 : Int32)), .int (F10 39 0 0 (p1 + (3 : Int32)).toNatClampNeg), .int (999 : Int32)]) (rest := []) S (met_X8_isNumber l hD hv0 hc17 H.size) (cwV 3 S.2.2.2.2 (lw_V q1166 q1168 qs28 q63 q1169) rfl rfl rfl yd_X8_isNumber ⟨Nat.le_of_ble_eq_true rfl, Nat.le_of_ble_eq_true rfl⟩) (wpreV hK hW hv0 rfl rfl _) rfl rfl hl.1 rfl (lv_room (Nat.le_of_ble_eq_true rfl)) dX8_isChart_64 ⟨Nat.le_refl 0, Nat.le_refl 0⟩) hW (fun H locs hW => ?_)
        refine lv_if_eq (tgt := 88) hx hb dX8_isChart_67 (by decide) (fun c18 => ?_) (fun c18 => ?_)
        · have h := if_t h c18
          refine lv_iconst (v := (0 : Int32)) hx hb dX8_isChart_88 (by decide) ?_
          cases h
          exact we_z S hr hlk rfl hW dX8_isChart_89
        · have h := if_f h c18
          refine lv_aload_n hx hb dX8_isChart_70 rfl (lv_at hl 0 rfl) ?_
          refine lv_iload_n hx hb dX8_isChart_71 rfl (lv_at hl 1 rfl) ?_
          refine lv_iconst (v := (5 : Int32)) hx hb dX8_isChart_72 (by decide) ?_
          refine lv_iadd hx hb dX8_isChart_73 ?_
          refine lv_iconst (v := (0 : Int32)) hx hb dX8_isChart_74 (by decide) ?_
          refine lv_sipush (v := (999 : Int32)) hx hb dX8_isChart_75 (by decide) ?_
          obtain ⟨F19, r20, hc21, h⟩ := ob2_e h
          refine wk_i (va_runV (As := [.int (p1 + (5 : Int32)), .int (0 : Int32), .int (999 : Int32)]) (rest := []) S (met_X8_isNumber l hD hv0 hc21 H.size) (cwV 3 S.2.2.2.2 (lw_V q1166 q1168 qs28 q63 q1169) rfl rfl rfl yd_X8_isNumber ⟨Nat.le_of_ble_eq_true rfl, Nat.le_of_ble_eq_true rfl⟩) (wpreV hK hW hv0 rfl rfl _) rfl rfl hl.1 rfl (lv_room (Nat.le_of_ble_eq_true rfl)) dX8_isChart_78 ⟨Nat.le_refl 0, Nat.le_refl 0⟩) hW (fun H locs hW => ?_)
          refine lv_if_eq (tgt := 88) hx hb dX8_isChart_81 (by decide) (fun c22 => ?_) (fun c22 => ?_)
          · have h := if_t h c22
            refine lv_iconst (v := (0 : Int32)) hx hb dX8_isChart_88 (by decide) ?_
            cases h
            exact we_z S hr hlk rfl hW dX8_isChart_89
          · have h := if_f h c22
            refine lv_iconst (v := (1 : Int32)) hx hb dX8_isChart_84 (by decide) ?_
            refine lv_goto (tgt := 89) hx hb dX8_isChart_85 (by decide) ?_
            cases h
            exact we_z S hr hlk rfl hW dX8_isChart_89
def fn_X8_isLine (F : St) (p1 : Int32) : Option (St × Int32) :=
  ob (fn_X8_nextToken F) (fun F1 => ob (if (lg_cmp (jn (F1 30 22 0 0) (F1 30 64 0 0)) (1597 : Int64)) = 0 then some (0 : Int32) else if (lg_cmp (jn (F1 30 22 0 0) (F1 30 64 0 0)) (10506516 : Int64)) = 0 then some (1 : Int32) else if (lg_cmp (jn (F1 30 22 0 0) (F1 30 64 0 0)) (355568 : Int64)) = 0 then some (2 : Int32) else if (lg_cmp (jn (F1 30 22 0 0) (F1 30 64 0 0)) (6683990 : Int64)) = 0 then some (3 : Int32) else if (lg_cmp (jn (F1 30 22 0 0) (F1 30 64 0 0)) (10334396 : Int64)) = 0 then some (4 : Int32) else if (lg_cmp (jn (F1 30 22 0 0) (F1 30 64 0 0)) (10811306 : Int64)) = 0 then some (5 : Int32) else if (lg_cmp (jn (F1 30 22 0 0) (F1 30 64 0 0)) (380651 : Int64)) = 0 then some (6 : Int32) else if (lg_cmp (jn (F1 30 22 0 0) (F1 30 64 0 0)) (13703 : Int64)) = 0 then some (7 : Int32) else some (-1 : Int32)) (fun y5 => ob (if (lg_cmp (jn (F1 30 22 0 0) (F1 30 64 0 0)) (326448 : Int64)) = 0 then some (8 : Int32) else if (lg_cmp (jn (F1 30 22 0 0) (F1 30 64 0 0)) (10497936 : Int64)) = 0 then some (9 : Int32) else if (lg_cmp (jn (F1 30 22 0 0) (F1 30 64 0 0)) (262776 : Int64)) = 0 then some (10 : Int32) else if (lg_cmp (jn (F1 30 22 0 0) (F1 30 64 0 0)) (453937 : Int64)) = 0 then some (11 : Int32) else if (lg_cmp (jn (F1 30 22 0 0) (F1 30 64 0 0)) (4075480 : Int64)) = 0 then some (12 : Int32) else if (lg_cmp (jn (F1 30 22 0 0) (F1 30 64 0 0)) (10808470 : Int64)) = 0 then some (13 : Int32) else if (lg_cmp (jn (F1 30 22 0 0) (F1 30 64 0 0)) (1753022 : Int64)) = 0 then some (14 : Int32) else some (-1 : Int32)) (fun y16 => ob (if y5 = (-1 : Int32) then some y16 else some y5) (fun y26 => og (vpb p1 60) (pl (fu F1 39 0 0 p1.toNatClampNeg y26) (fun F29 => if (F29 39 0 0 p1.toNatClampNeg).toInt < 0 ∨ 14 < (F29 39 0 0 p1.toNatClampNeg).toInt then ob2 (fn_X8_fails F29) (fun F32 r33 => og (bzb r33) (some (F32, r33))) else if (F29 39 0 0 p1.toNatClampNeg) = (0 : Int32) then ob2 (fn_X8_isBed F29 p1) (fun F37 r38 => og (bzb r38) (some (F37, r38))) else if (F29 39 0 0 p1.toNatClampNeg) = (1 : Int32) then ob2 (fn_X8_areThree F29 p1 (99 : Int32)) (fun F42 r43 => og (bzb r43) (some (F42, r43))) else if (F29 39 0 0 p1.toNatClampNeg) = (2 : Int32) then ob2 (fn_X8_areThree F29 p1 (100 : Int32)) (fun F47 r48 => og (bzb r48) (some (F47, r48))) else if (F29 39 0 0 p1.toNatClampNeg) = (3 : Int32) then ob2 (fn_X8_isNumber F29 (p1 + (1 : Int32)) (0 : Int32) (95 : Int32)) (fun F52 r53 => if r53 = 0 then some (F52, (0 : Int32)) else ob2 (fn_X8_isNumber F52 (p1 + (2 : Int32)) (0 : Int32) (9 : Int32)) (fun F56 r57 => if r57 = 0 then some (F56, (0 : Int32)) else some (F56, (1 : Int32)))) else if (F29 39 0 0 p1.toNatClampNeg) = (4 : Int32) then ob2 (fn_X8_isNumber F29 (p1 + (1 : Int32)) (0 : Int32) ((F29 30 28 0 0) - (1 : Int32))) (fun F61 r62 => if r62 = 0 then some (F61, (0 : Int32)) else ob2 (fn_X8_isNumber F61 (p1 + (2 : Int32)) (0 : Int32) ((F61 30 29 0 0) - (1 : Int32))) (fun F65 r66 => if r66 = 0 then some (F65, (0 : Int32)) else ob2 (fn_X8_isNumber F65 (p1 + (3 : Int32)) (0 : Int32) (50 : Int32)) (fun F69 r70 => if r70 = 0 then some (F69, (0 : Int32)) else some (F69, (1 : Int32))))) else if (F29 39 0 0 p1.toNatClampNeg) = (5 : Int32) then ob2 (fn_X8_isNumber F29 (p1 + (1 : Int32)) (0 : Int32) ((F29 30 28 0 0) - (1 : Int32))) (fun F74 r75 => if r75 = 0 then some (F74, (0 : Int32)) else ob2 (fn_X8_isNumber F74 (p1 + (2 : Int32)) (0 : Int32) ((F74 30 29 0 0) - (1 : Int32))) (fun F78 r79 => if r79 = 0 then some (F78, (0 : Int32)) else ob2 (fn_X8_isNumber F78 (p1 + (3 : Int32)) (0 : Int32) (50 : Int32)) (fun F82 r83 => if r83 = 0 then some (F82, (0 : Int32)) else some (F82, (1 : Int32))))) else if (F29 39 0 0 p1.toNatClampNeg) = (6 : Int32) then ob2 (fn_X8_isNumber F29 (p1 + (1 : Int32)) (0 : Int32) (20 : Int32)) (fun F87 r88 => og (bzb r88) (some (F87, r88))) else if (F29 39 0 0 p1.toNatClampNeg) = (7 : Int32) then ob2 (fn_X8_isNumber F29 (p1 + (1 : Int32)) (0 : Int32) (999 : Int32)) (fun F92 r93 => og (bzb r93) (some (F92, r93))) else if (F29 39 0 0 p1.toNatClampNeg) = (8 : Int32) then ob2 (fn_X8_isNumber F29 (p1 + (1 : Int32)) (0 : Int32) (59 : Int32)) (fun F97 r98 => if r98 = 0 then some (F97, (0 : Int32)) else ob2 (fn_X8_isNumber F97 (p1 + (2 : Int32)) (0 : Int32) ((F97 30 28 0 0) - (1 : Int32))) (fun F101 r102 => if r102 = 0 then some (F101, (0 : Int32)) else ob2 (fn_X8_isNumber F101 (p1 + (3 : Int32)) (1 : Int32) (500 : Int32)) (fun F105 r106 => if r106 = 0 then some (F105, (0 : Int32)) else some (F105, (1 : Int32))))) else if (F29 39 0 0 p1.toNatClampNeg) = (9 : Int32) then some (F29, (1 : Int32)) else if (F29 39 0 0 p1.toNatClampNeg) = (10 : Int32) then ob2 (fn_X8_isNumber F29 (p1 + (1 : Int32)) (0 : Int32) (10 : Int32)) (fun F111 r112 => og (bzb r112) (some (F111, r112))) else if (F29 39 0 0 p1.toNatClampNeg) = (11 : Int32) then ob2 (fn_X8_isNumber F29 (p1 + (1 : Int32)) (0 : Int32) (100 : Int32)) (fun F116 r117 => og (bzb r117) (some (F116, r117))) else if (F29 39 0 0 p1.toNatClampNeg) = (12 : Int32) then ob2 (fn_X8_isNumber F29 (p1 + (1 : Int32)) (1 : Int32) (20 : Int32)) (fun F121 r122 => og (bzb r122) (some (F121, r122))) else if (F29 39 0 0 p1.toNatClampNeg) = (13 : Int32) then ob2 (fn_X8_isNumber F29 (p1 + (1 : Int32)) (1 : Int32) (60 : Int32)) (fun F126 r127 => og (bzb r127) (some (F126, r127))) else if (F29 39 0 0 p1.toNatClampNeg) = (14 : Int32) then ob2 (fn_X8_isChart F29 p1) (fun F131 r132 => og (bzb r132) (some (F131, r132))) else none))))))
theorem yd_X8_isLine : yX8_isLine.cls = RX8 ∧ yX8_isLine.cls ≠ "java/lang/invoke/MethodHandle" ∧ yX8_isLine.cls ≠ "java/lang/invoke/VarHandle" ∧ (parseMethodDescriptor yX8_isLine.desc).map (fun d => d.parameters.length) = some 1 := by decide +kernel
set_option maxHeartbeats 4000000 in
theorem met_X8_isLine (l : Launch) {D : va_G} {dA : WK} {a : Ix → Nat} (hD : wD D dA a) {F : St} {p1 : Int32} {Fz : St} {rz : Int32} (hv0 : wVd dA (30, 0, 0)) (h : fn_X8_isLine F p1 = some (Fz, rz)) : Mi l yX8_isLine cX8_isLine 4 .boolean 4 87 D dA a F [.ref (a (30, 0, 0)), .int p1] Fz rz := by
  refine fun sz => mst (Qc := fun sz => wQi D dA a sz Fz rz) (by decide) (Nat.le_of_ble_eq_true rfl) ?_ sz
  intro p e s m below meth c S hr hlk hK hW ls hl
  have hl : lv_has ls 4 [(0, .ref (a (30, 0, 0))), (1, .int p1)] := hl
  have hx := S.1
  have hb := S.2.1
  generalize ([.ref (a (30, 0, 0)), .int p1] : List Value).toArray = av at S ⊢
  unfold fn_X8_isLine at h
  obtain ⟨H, eH⟩ : ∃ z, z = s.heap := ⟨_, rfl⟩
  obtain ⟨locs, eL⟩ : ∃ z : List Loc, z = [] := ⟨_, rfl⟩
  show WX p l e (rmL 4 87) s m av below meth c (wQi D dA a s.heap.size Fz rz) dA a s.heap [] (F0 m 0 ls [])
  have hW : wS D dA a s F H locs := by rw [eH, eL]; exact wS_in hW
  refine wx_in eH eL ?_
  clear eH eL
  refine lv_aload_n hx hb dX8_isLine_0 rfl (lv_at hl 0 rfl) ?_
  obtain ⟨F1, hc2, h⟩ := ob_e h
  refine wk_v (va_runV (As := []) (rest := []) S (met_X8_nextToken l hD hv0 hc2 H.size) (cwV 0 S.2.2.2.2 (lw_V q1137 q1139 qs26 q63 q1140) rfl rfl rfl yd_X8_nextToken ⟨Nat.le_of_ble_eq_true rfl, Nat.le_of_ble_eq_true rfl⟩) (wpreV hK hW hv0 rfl rfl _) rfl rfl hl.1 rfl (lv_room (Nat.le_of_ble_eq_true rfl)) dX8_isLine_1 ⟨Nat.le_refl 0, Nat.le_refl 0⟩) hW (fun H locs hW => ?_)
  refine lv_aload_n hx hb dX8_isLine_4 rfl (lv_at hl 0 rfl) ?_
  refine gf_30_22 S hK hW hv0 q1007 dX8_isLine_5 ?_
  refine lv_ldc2 (v := (1597 : Int64)) hx hb S.2.2.2.1 (S.2.2.2.2 _ q1147) dX8_isLine_8 ?_
  refine W.lcmp hx hb dX8_isLine_11 ?_
  obtain ⟨y5, hz4, h⟩ := ob_e h
  have K6 : ∀ (H : Heap) (locs : List Loc) (ls : Array Slot), wS D dA a s F1 H locs → lv_has ls 4 [(0, .ref (a (30, 0, 0))), (1, .int p1)] → WX p l e (rmL 4 87) s m av below meth c (wQi D dA a s.heap.size Fz rz) dA a H locs (F0 m 127 ls [.int y5]) := by
    intro H locs ls hW hl
    refine lv_istore_n (lv' := [(2, .int y5), (0, .ref (a (30, 0, 0))), (1, .int p1)]) hx hb dX8_isLine_127 rfl hl (by decide) rfl (fun ls hl => ?_)
    refine lv_aload_n hx hb dX8_isLine_128 rfl (lv_at hl 1 rfl) ?_
    refine gf_30_22 S hK hW hv0 q1007 dX8_isLine_129 ?_
    refine lv_ldc2 (v := (326448 : Int64)) hx hb S.2.2.2.1 (S.2.2.2.2 _ q1155) dX8_isLine_132 ?_
    refine W.lcmp hx hb dX8_isLine_135 ?_
    obtain ⟨y16, hz15, h⟩ := ob_e h
    have K17 : ∀ (H : Heap) (locs : List Loc) (ls : Array Slot), wS D dA a s F1 H locs → lv_has ls 4 [(0, .ref (a (30, 0, 0))), (1, .int p1), (2, .int y5)] → WX p l e (rmL 4 87) s m av below meth c (wQi D dA a s.heap.size Fz rz) dA a H locs (F0 m 241 ls [.int y16]) := by
      intro H locs ls hW hl
      refine lv_istore_n (lv' := [(3, .int y16), (0, .ref (a (30, 0, 0))), (1, .int p1), (2, .int y5)]) hx hb dX8_isLine_241 rfl hl (by decide) rfl (fun ls hl => ?_)
      refine lv_aload_n hx hb dX8_isLine_242 rfl (lv_at hl 1 rfl) ?_
      refine gf_30_27 S hK hW hv0 q1012 dX8_isLine_243 ?_
      refine lv_iload_n hx hb dX8_isLine_246 rfl (lv_at hl 2 rfl) ?_
      refine lv_iload_n hx hb dX8_isLine_247 rfl (lv_at hl 3 rfl) ?_
      refine lv_iconst (v := (-1 : Int32)) hx hb dX8_isLine_248 (by decide) ?_
      obtain ⟨y26, hz25, h⟩ := ob_e h
      have K27 : ∀ (H : Heap) (locs : List Loc) (ls : Array Slot), wS D dA a s F1 H locs → lv_has ls 4 [(0, .ref (a (30, 0, 0))), (1, .int p1)] → WX p l e (rmL 4 87) s m av below meth c (wQi D dA a s.heap.size Fz rz) dA a H locs (F0 m 257 ls [.int y26, .int p1, .ref (a (39, 0, 0))]) := by
        intro H locs ls hW hl
        obtain ⟨g28, h⟩ := og_e h
        obtain ⟨F29, e30, h⟩ := pl_e h
        refine ast_39 S hK hD hW (vq_30_27 hv0) g28 rfl e30 dX8_isLine_257 (fun H locs hW => ?_)
        refine lv_aload_n hx hb dX8_isLine_258 rfl (lv_at hl 0 rfl) ?_
        refine gf_30_27 S hK hW hv0 q1012 dX8_isLine_259 ?_
        refine lv_iload_n hx hb dX8_isLine_262 rfl (lv_at hl 1 rfl) ?_
        refine ald_39 S hK hW (vq_30_27 hv0) g28 rfl dX8_isLine_263 ?_
        by_cases c31 : (F29 39 0 0 p1.toNatClampNeg).toInt < 0 ∨ 14 < (F29 39 0 0 p1.toNatClampNeg).toInt
        · have h := if_t h c31
          refine lv_tableOut (tgt := 572) hx hb dX8_isLine_264 c31 (by decide) ?_
          refine lv_aload_n hx hb dX8_isLine_572 rfl (lv_at hl 0 rfl) ?_
          obtain ⟨F32, r33, hc34, h⟩ := ob2_e h
          refine wk_i (va_runV (As := []) (rest := []) S (met_X8_fails l hD hv0 hc34 H.size) (cwV 0 S.2.2.2.2 (lw_V q1170 q1172 qs29 q63 q1173) rfl rfl rfl yd_X8_fails ⟨Nat.le_of_ble_eq_true rfl, Nat.le_of_ble_eq_true rfl⟩) (wpreV hK hW hv0 rfl rfl _) rfl rfl hl.1 rfl (lv_room (Nat.le_of_ble_eq_true rfl)) dX8_isLine_573 ⟨Nat.le_refl 0, Nat.le_refl 0⟩) hW (fun H locs hW => ?_)
          obtain ⟨g35, h⟩ := og_e h
          cases h
          exact we_z S hr hlk (bzb_e g35) hW dX8_isLine_576
        · have hz := if_f h c31
          by_cases c36 : (F29 39 0 0 p1.toNatClampNeg) = (0 : Int32)
          · have h := if_t hz c36
            refine lv_sw c36 ?_
            refine lv_tableIn (off := 76) (tgt := 340) hx hb dX8_isLine_264 (by decide) (by decide) (by decide) (by decide) ?_
            refine lv_aload_n hx hb dX8_isLine_340 rfl (lv_at hl 0 rfl) ?_
            refine lv_iload_n hx hb dX8_isLine_341 rfl (lv_at hl 1 rfl) ?_
            obtain ⟨F37, r38, hc39, h⟩ := ob2_e h
            refine wk_i (va_runV (As := [.int p1]) (rest := []) S (met_X8_isBed l hD hv0 hc39 H.size) (cwV 1 S.2.2.2.2 (lw_V q1162 q1164 qs27 q63 q1165) rfl rfl rfl yd_X8_isBed ⟨Nat.le_of_ble_eq_true rfl, Nat.le_of_ble_eq_true rfl⟩) (wpreV hK hW hv0 rfl rfl _) rfl rfl hl.1 rfl (lv_room (Nat.le_of_ble_eq_true rfl)) dX8_isLine_342 ⟨Nat.le_refl 0, Nat.le_refl 0⟩) hW (fun H locs hW => ?_)
            obtain ⟨g40, h⟩ := og_e h
            cases h
            exact we_z S hr hlk (bzb_e g40) hW dX8_isLine_345
          have hz := if_f hz c36
          by_cases c41 : (F29 39 0 0 p1.toNatClampNeg) = (1 : Int32)
          · have h := if_t hz c41
            refine lv_sw c41 ?_
            refine lv_tableIn (off := 82) (tgt := 346) hx hb dX8_isLine_264 (by decide) (by decide) (by decide) (by decide) ?_
            refine lv_aload_n hx hb dX8_isLine_346 rfl (lv_at hl 0 rfl) ?_
            refine lv_iload_n hx hb dX8_isLine_347 rfl (lv_at hl 1 rfl) ?_
            refine lv_bipush (v := (99 : Int32)) hx hb dX8_isLine_348 (by decide) ?_
            obtain ⟨F42, r43, hc44, h⟩ := ob2_e h
            refine wk_i (va_runV (As := [.int p1, .int (99 : Int32)]) (rest := []) S (met_X8_areThree l hD hv0 hc44 H.size) (cwV 2 S.2.2.2.2 (lw_V q1174 q1176 qs30 q63 q1177) rfl rfl rfl yd_X8_areThree ⟨Nat.le_of_ble_eq_true rfl, Nat.le_of_ble_eq_true rfl⟩) (wpreV hK hW hv0 rfl rfl _) rfl rfl hl.1 rfl (lv_room (Nat.le_of_ble_eq_true rfl)) dX8_isLine_350 ⟨Nat.le_refl 0, Nat.le_refl 0⟩) hW (fun H locs hW => ?_)
            obtain ⟨g45, h⟩ := og_e h
            cases h
            exact we_z S hr hlk (bzb_e g45) hW dX8_isLine_353
          have hz := if_f hz c41
          by_cases c46 : (F29 39 0 0 p1.toNatClampNeg) = (2 : Int32)
          · have h := if_t hz c46
            refine lv_sw c46 ?_
            refine lv_tableIn (off := 90) (tgt := 354) hx hb dX8_isLine_264 (by decide) (by decide) (by decide) (by decide) ?_
            refine lv_aload_n hx hb dX8_isLine_354 rfl (lv_at hl 0 rfl) ?_
            refine lv_iload_n hx hb dX8_isLine_355 rfl (lv_at hl 1 rfl) ?_
            refine lv_bipush (v := (100 : Int32)) hx hb dX8_isLine_356 (by decide) ?_
            obtain ⟨F47, r48, hc49, h⟩ := ob2_e h
            refine wk_i (va_runV (As := [.int p1, .int (100 : Int32)]) (rest := []) S (met_X8_areThree l hD hv0 hc49 H.size) (cwV 2 S.2.2.2.2 (lw_V q1174 q1176 qs30 q63 q1177) rfl rfl rfl yd_X8_areThree ⟨Nat.le_of_ble_eq_true rfl, Nat.le_of_ble_eq_true rfl⟩) (wpreV hK hW hv0 rfl rfl _) rfl rfl hl.1 rfl (lv_room (Nat.le_of_ble_eq_true rfl)) dX8_isLine_358 ⟨Nat.le_refl 0, Nat.le_refl 0⟩) hW (fun H locs hW => ?_)
            obtain ⟨g50, h⟩ := og_e h
            cases h
            exact we_z S hr hlk (bzb_e g50) hW dX8_isLine_361
          have hz := if_f hz c46
          by_cases c51 : (F29 39 0 0 p1.toNatClampNeg) = (3 : Int32)
          · have h := if_t hz c51
            refine lv_sw c51 ?_
            refine lv_tableIn (off := 98) (tgt := 362) hx hb dX8_isLine_264 (by decide) (by decide) (by decide) (by decide) ?_
            refine lv_aload_n hx hb dX8_isLine_362 rfl (lv_at hl 0 rfl) ?_
            refine lv_iload_n hx hb dX8_isLine_363 rfl (lv_at hl 1 rfl) ?_
            refine lv_iconst (v := (1 : Int32)) hx hb dX8_isLine_364 (by decide) ?_
            refine lv_iadd hx hb dX8_isLine_365 ?_
            refine lv_iconst (v := (0 : Int32)) hx hb dX8_isLine_366 (by decide) ?_
            refine lv_bipush (v := (95 : Int32)) hx hb dX8_isLine_367 (by decide) ?_
            obtain ⟨F52, r53, hc54, h⟩ := ob2_e h
            refine wk_i (va_runV (As := [.int (p1 + (1 : Int32)), .int (0 : Int32), .int (95 : Int32)]) (rest := []) S (met_X8_isNumber l hD hv0 hc54 H.size) (cwV 3 S.2.2.2.2 (lw_V q1166 q1168 qs28 q63 q1169) rfl rfl rfl yd_X8_isNumber ⟨Nat.le_of_ble_eq_true rfl, Nat.le_of_ble_eq_true rfl⟩) (wpreV hK hW hv0 rfl rfl _) rfl rfl hl.1 rfl (lv_room (Nat.le_of_ble_eq_true rfl)) dX8_isLine_369 ⟨Nat.le_refl 0, Nat.le_refl 0⟩) hW (fun H locs hW => ?_)
            refine lv_if_eq (tgt := 392) hx hb dX8_isLine_372 (by decide) (fun c55 => ?_) (fun c55 => ?_)
            · have h := if_t h c55
              refine lv_iconst (v := (0 : Int32)) hx hb dX8_isLine_392 (by decide) ?_
              cases h
              exact we_z S hr hlk rfl hW dX8_isLine_393
            · have h := if_f h c55
              refine lv_aload_n hx hb dX8_isLine_375 rfl (lv_at hl 0 rfl) ?_
              refine lv_iload_n hx hb dX8_isLine_376 rfl (lv_at hl 1 rfl) ?_
              refine lv_iconst (v := (2 : Int32)) hx hb dX8_isLine_377 (by decide) ?_
              refine lv_iadd hx hb dX8_isLine_378 ?_
              refine lv_iconst (v := (0 : Int32)) hx hb dX8_isLine_379 (by decide) ?_
              refine lv_bipush (v := (9 : Int32)) hx hb dX8_isLine_380 (by decide) ?_
              obtain ⟨F56, r57, hc58, h⟩ := ob2_e h
              refine wk_i (va_runV (As := [.int (p1 + (2 : Int32)), .int (0 : Int32), .int (9 : Int32)]) (rest := []) S (met_X8_isNumber l hD hv0 hc58 H.size) (cwV 3 S.2.2.2.2 (lw_V q1166 q1168 qs28 q63 q1169) rfl rfl rfl yd_X8_isNumber ⟨Nat.le_of_ble_eq_true rfl, Nat.le_of_ble_eq_true rfl⟩) (wpreV hK hW hv0 rfl rfl _) rfl rfl hl.1 rfl (lv_room (Nat.le_of_ble_eq_true rfl)) dX8_isLine_382 ⟨Nat.le_refl 0, Nat.le_refl 0⟩) hW (fun H locs hW => ?_)
              refine lv_if_eq (tgt := 392) hx hb dX8_isLine_385 (by decide) (fun c59 => ?_) (fun c59 => ?_)
              · have h := if_t h c59
                refine lv_iconst (v := (0 : Int32)) hx hb dX8_isLine_392 (by decide) ?_
                cases h
                exact we_z S hr hlk rfl hW dX8_isLine_393
              · have h := if_f h c59
                refine lv_iconst (v := (1 : Int32)) hx hb dX8_isLine_388 (by decide) ?_
                refine lv_goto (tgt := 393) hx hb dX8_isLine_389 (by decide) ?_
                cases h
                exact we_z S hr hlk rfl hW dX8_isLine_393
          have hz := if_f hz c51
          by_cases c60 : (F29 39 0 0 p1.toNatClampNeg) = (4 : Int32)
          · have h := if_t hz c60
            refine lv_sw c60 ?_
            refine lv_tableIn (off := 130) (tgt := 394) hx hb dX8_isLine_264 (by decide) (by decide) (by decide) (by decide) ?_
            refine lv_aload_n hx hb dX8_isLine_394 rfl (lv_at hl 0 rfl) ?_
            refine lv_iload_n hx hb dX8_isLine_395 rfl (lv_at hl 1 rfl) ?_
            refine lv_iconst (v := (1 : Int32)) hx hb dX8_isLine_396 (by decide) ?_
            refine lv_iadd hx hb dX8_isLine_397 ?_
            refine lv_iconst (v := (0 : Int32)) hx hb dX8_isLine_398 (by decide) ?_
            refine lv_aload_n hx hb dX8_isLine_399 rfl (lv_at hl 0 rfl) ?_
            refine gf_30_28 S hK hW hv0 q1013 dX8_isLine_400 ?_
            refine lv_iconst (v := (1 : Int32)) hx hb dX8_isLine_403 (by decide) ?_
            refine lv_isub hx hb dX8_isLine_404 ?_
            obtain ⟨F61, r62, hc63, h⟩ := ob2_e h
            refine wk_i (va_runV (As := [.int (p1 + (1 : Int32)), .int (0 : Int32), .int ((F29 30 28 0 0) - (1 : Int32))]) (rest := []) S (met_X8_isNumber l hD hv0 hc63 H.size) (cwV 3 S.2.2.2.2 (lw_V q1166 q1168 qs28 q63 q1169) rfl rfl rfl yd_X8_isNumber ⟨Nat.le_of_ble_eq_true rfl, Nat.le_of_ble_eq_true rfl⟩) (wpreV hK hW hv0 rfl rfl _) rfl rfl hl.1 rfl (lv_room (Nat.le_of_ble_eq_true rfl)) dX8_isLine_405 ⟨Nat.le_refl 0, Nat.le_refl 0⟩) hW (fun H locs hW => ?_)
            refine lv_if_eq (tgt := 445) hx hb dX8_isLine_408 (by decide) (fun c64 => ?_) (fun c64 => ?_)
            · have h := if_t h c64
              refine lv_iconst (v := (0 : Int32)) hx hb dX8_isLine_445 (by decide) ?_
              cases h
              exact we_z S hr hlk rfl hW dX8_isLine_446
            · have h := if_f h c64
              refine lv_aload_n hx hb dX8_isLine_411 rfl (lv_at hl 0 rfl) ?_
              refine lv_iload_n hx hb dX8_isLine_412 rfl (lv_at hl 1 rfl) ?_
              refine lv_iconst (v := (2 : Int32)) hx hb dX8_isLine_413 (by decide) ?_
              refine lv_iadd hx hb dX8_isLine_414 ?_
              refine lv_iconst (v := (0 : Int32)) hx hb dX8_isLine_415 (by decide) ?_
              refine lv_aload_n hx hb dX8_isLine_416 rfl (lv_at hl 0 rfl) ?_
              refine gf_30_29 S hK hW hv0 q1014 dX8_isLine_417 ?_
              refine lv_iconst (v := (1 : Int32)) hx hb dX8_isLine_420 (by decide) ?_
              refine lv_isub hx hb dX8_isLine_421 ?_
              obtain ⟨F65, r66, hc67, h⟩ := ob2_e h
              refine wk_i (va_runV (As := [.int (p1 + (2 : Int32)), .int (0 : Int32), .int ((F61 30 29 0 0) - (1 : Int32))]) (rest := []) S (met_X8_isNumber l hD hv0 hc67 H.size) (cwV 3 S.2.2.2.2 (lw_V q1166 q1168 qs28 q63 q1169) rfl rfl rfl yd_X8_isNumber ⟨Nat.le_of_ble_eq_true rfl, Nat.le_of_ble_eq_true rfl⟩) (wpreV hK hW hv0 rfl rfl _) rfl rfl hl.1 rfl (lv_room (Nat.le_of_ble_eq_true rfl)) dX8_isLine_422 ⟨Nat.le_refl 0, Nat.le_refl 0⟩) hW (fun H locs hW => ?_)
              refine lv_if_eq (tgt := 445) hx hb dX8_isLine_425 (by decide) (fun c68 => ?_) (fun c68 => ?_)
              · have h := if_t h c68
                refine lv_iconst (v := (0 : Int32)) hx hb dX8_isLine_445 (by decide) ?_
                cases h
                exact we_z S hr hlk rfl hW dX8_isLine_446
              · have h := if_f h c68
                refine lv_aload_n hx hb dX8_isLine_428 rfl (lv_at hl 0 rfl) ?_
                refine lv_iload_n hx hb dX8_isLine_429 rfl (lv_at hl 1 rfl) ?_
                refine lv_iconst (v := (3 : Int32)) hx hb dX8_isLine_430 (by decide) ?_
                refine lv_iadd hx hb dX8_isLine_431 ?_
                refine lv_iconst (v := (0 : Int32)) hx hb dX8_isLine_432 (by decide) ?_
                refine lv_bipush (v := (50 : Int32)) hx hb dX8_isLine_433 (by decide) ?_
                obtain ⟨F69, r70, hc71, h⟩ := ob2_e h
                refine wk_i (va_runV (As := [.int (p1 + (3 : Int32)), .int (0 : Int32), .int (50 : Int32)]) (rest := []) S (met_X8_isNumber l hD hv0 hc71 H.size) (cwV 3 S.2.2.2.2 (lw_V q1166 q1168 qs28 q63 q1169) rfl rfl rfl yd_X8_isNumber ⟨Nat.le_of_ble_eq_true rfl, Nat.le_of_ble_eq_true rfl⟩) (wpreV hK hW hv0 rfl rfl _) rfl rfl hl.1 rfl (lv_room (Nat.le_of_ble_eq_true rfl)) dX8_isLine_435 ⟨Nat.le_refl 0, Nat.le_refl 0⟩) hW (fun H locs hW => ?_)
                refine lv_if_eq (tgt := 445) hx hb dX8_isLine_438 (by decide) (fun c72 => ?_) (fun c72 => ?_)
                · have h := if_t h c72
                  refine lv_iconst (v := (0 : Int32)) hx hb dX8_isLine_445 (by decide) ?_
                  cases h
                  exact we_z S hr hlk rfl hW dX8_isLine_446
                · have h := if_f h c72
                  refine lv_iconst (v := (1 : Int32)) hx hb dX8_isLine_441 (by decide) ?_
                  refine lv_goto (tgt := 446) hx hb dX8_isLine_442 (by decide) ?_
                  cases h
                  exact we_z S hr hlk rfl hW dX8_isLine_446
          have hz := if_f hz c60
          by_cases c73 : (F29 39 0 0 p1.toNatClampNeg) = (5 : Int32)
          · have h := if_t hz c73
            refine lv_sw c73 ?_
            refine lv_tableIn (off := 130) (tgt := 394) hx hb dX8_isLine_264 (by decide) (by decide) (by decide) (by decide) ?_
            refine lv_aload_n hx hb dX8_isLine_394 rfl (lv_at hl 0 rfl) ?_
            refine lv_iload_n hx hb dX8_isLine_395 rfl (lv_at hl 1 rfl) ?_
            refine lv_iconst (v := (1 : Int32)) hx hb dX8_isLine_396 (by decide) ?_
            refine lv_iadd hx hb dX8_isLine_397 ?_
            refine lv_iconst (v := (0 : Int32)) hx hb dX8_isLine_398 (by decide) ?_
            refine lv_aload_n hx hb dX8_isLine_399 rfl (lv_at hl 0 rfl) ?_
            refine gf_30_28 S hK hW hv0 q1013 dX8_isLine_400 ?_
            refine lv_iconst (v := (1 : Int32)) hx hb dX8_isLine_403 (by decide) ?_
            refine lv_isub hx hb dX8_isLine_404 ?_
            obtain ⟨F74, r75, hc76, h⟩ := ob2_e h
            refine wk_i (va_runV (As := [.int (p1 + (1 : Int32)), .int (0 : Int32), .int ((F29 30 28 0 0) - (1 : Int32))]) (rest := []) S (met_X8_isNumber l hD hv0 hc76 H.size) (cwV 3 S.2.2.2.2 (lw_V q1166 q1168 qs28 q63 q1169) rfl rfl rfl yd_X8_isNumber ⟨Nat.le_of_ble_eq_true rfl, Nat.le_of_ble_eq_true rfl⟩) (wpreV hK hW hv0 rfl rfl _) rfl rfl hl.1 rfl (lv_room (Nat.le_of_ble_eq_true rfl)) dX8_isLine_405 ⟨Nat.le_refl 0, Nat.le_refl 0⟩) hW (fun H locs hW => ?_)
            refine lv_if_eq (tgt := 445) hx hb dX8_isLine_408 (by decide) (fun c77 => ?_) (fun c77 => ?_)
            · have h := if_t h c77
              refine lv_iconst (v := (0 : Int32)) hx hb dX8_isLine_445 (by decide) ?_
              cases h
              exact we_z S hr hlk rfl hW dX8_isLine_446
            · have h := if_f h c77
              refine lv_aload_n hx hb dX8_isLine_411 rfl (lv_at hl 0 rfl) ?_
              refine lv_iload_n hx hb dX8_isLine_412 rfl (lv_at hl 1 rfl) ?_
              refine lv_iconst (v := (2 : Int32)) hx hb dX8_isLine_413 (by decide) ?_
              refine lv_iadd hx hb dX8_isLine_414 ?_
              refine lv_iconst (v := (0 : Int32)) hx hb dX8_isLine_415 (by decide) ?_
              refine lv_aload_n hx hb dX8_isLine_416 rfl (lv_at hl 0 rfl) ?_
              refine gf_30_29 S hK hW hv0 q1014 dX8_isLine_417 ?_
              refine lv_iconst (v := (1 : Int32)) hx hb dX8_isLine_420 (by decide) ?_
              refine lv_isub hx hb dX8_isLine_421 ?_
              obtain ⟨F78, r79, hc80, h⟩ := ob2_e h
              refine wk_i (va_runV (As := [.int (p1 + (2 : Int32)), .int (0 : Int32), .int ((F74 30 29 0 0) - (1 : Int32))]) (rest := []) S (met_X8_isNumber l hD hv0 hc80 H.size) (cwV 3 S.2.2.2.2 (lw_V q1166 q1168 qs28 q63 q1169) rfl rfl rfl yd_X8_isNumber ⟨Nat.le_of_ble_eq_true rfl, Nat.le_of_ble_eq_true rfl⟩) (wpreV hK hW hv0 rfl rfl _) rfl rfl hl.1 rfl (lv_room (Nat.le_of_ble_eq_true rfl)) dX8_isLine_422 ⟨Nat.le_refl 0, Nat.le_refl 0⟩) hW (fun H locs hW => ?_)
              refine lv_if_eq (tgt := 445) hx hb dX8_isLine_425 (by decide) (fun c81 => ?_) (fun c81 => ?_)
              · have h := if_t h c81
                refine lv_iconst (v := (0 : Int32)) hx hb dX8_isLine_445 (by decide) ?_
                cases h
                exact we_z S hr hlk rfl hW dX8_isLine_446
              · have h := if_f h c81
                refine lv_aload_n hx hb dX8_isLine_428 rfl (lv_at hl 0 rfl) ?_
                refine lv_iload_n hx hb dX8_isLine_429 rfl (lv_at hl 1 rfl) ?_
                refine lv_iconst (v := (3 : Int32)) hx hb dX8_isLine_430 (by decide) ?_
                refine lv_iadd hx hb dX8_isLine_431 ?_
                refine lv_iconst (v := (0 : Int32)) hx hb dX8_isLine_432 (by decide) ?_
                refine lv_bipush (v := (50 : Int32)) hx hb dX8_isLine_433 (by decide) ?_
                obtain ⟨F82, r83, hc84, h⟩ := ob2_e h
                refine wk_i (va_runV (As := [.int (p1 + (3 : Int32)), .int (0 : Int32), .int (50 : Int32)]) (rest := []) S (met_X8_isNumber l hD hv0 hc84 H.size) (cwV 3 S.2.2.2.2 (lw_V q1166 q1168 qs28 q63 q1169) rfl rfl rfl yd_X8_isNumber ⟨Nat.le_of_ble_eq_true rfl, Nat.le_of_ble_eq_true rfl⟩) (wpreV hK hW hv0 rfl rfl _) rfl rfl hl.1 rfl (lv_room (Nat.le_of_ble_eq_true rfl)) dX8_isLine_435 ⟨Nat.le_refl 0, Nat.le_refl 0⟩) hW (fun H locs hW => ?_)
                refine lv_if_eq (tgt := 445) hx hb dX8_isLine_438 (by decide) (fun c85 => ?_) (fun c85 => ?_)
                · have h := if_t h c85
                  refine lv_iconst (v := (0 : Int32)) hx hb dX8_isLine_445 (by decide) ?_
                  cases h
                  exact we_z S hr hlk rfl hW dX8_isLine_446
                · have h := if_f h c85
                  refine lv_iconst (v := (1 : Int32)) hx hb dX8_isLine_441 (by decide) ?_
                  refine lv_goto (tgt := 446) hx hb dX8_isLine_442 (by decide) ?_
                  cases h
                  exact we_z S hr hlk rfl hW dX8_isLine_446
          have hz := if_f hz c73
          by_cases c86 : (F29 39 0 0 p1.toNatClampNeg) = (6 : Int32)
          · have h := if_t hz c86
            refine lv_sw c86 ?_
            refine lv_tableIn (off := 183) (tgt := 447) hx hb dX8_isLine_264 (by decide) (by decide) (by decide) (by decide) ?_
            refine lv_aload_n hx hb dX8_isLine_447 rfl (lv_at hl 0 rfl) ?_
            refine lv_iload_n hx hb dX8_isLine_448 rfl (lv_at hl 1 rfl) ?_
            refine lv_iconst (v := (1 : Int32)) hx hb dX8_isLine_449 (by decide) ?_
            refine lv_iadd hx hb dX8_isLine_450 ?_
            refine lv_iconst (v := (0 : Int32)) hx hb dX8_isLine_451 (by decide) ?_
            refine lv_bipush (v := (20 : Int32)) hx hb dX8_isLine_452 (by decide) ?_
            obtain ⟨F87, r88, hc89, h⟩ := ob2_e h
            refine wk_i (va_runV (As := [.int (p1 + (1 : Int32)), .int (0 : Int32), .int (20 : Int32)]) (rest := []) S (met_X8_isNumber l hD hv0 hc89 H.size) (cwV 3 S.2.2.2.2 (lw_V q1166 q1168 qs28 q63 q1169) rfl rfl rfl yd_X8_isNumber ⟨Nat.le_of_ble_eq_true rfl, Nat.le_of_ble_eq_true rfl⟩) (wpreV hK hW hv0 rfl rfl _) rfl rfl hl.1 rfl (lv_room (Nat.le_of_ble_eq_true rfl)) dX8_isLine_454 ⟨Nat.le_refl 0, Nat.le_refl 0⟩) hW (fun H locs hW => ?_)
            obtain ⟨g90, h⟩ := og_e h
            cases h
            exact we_z S hr hlk (bzb_e g90) hW dX8_isLine_457
          have hz := if_f hz c86
          by_cases c91 : (F29 39 0 0 p1.toNatClampNeg) = (7 : Int32)
          · have h := if_t hz c91
            refine lv_sw c91 ?_
            refine lv_tableIn (off := 194) (tgt := 458) hx hb dX8_isLine_264 (by decide) (by decide) (by decide) (by decide) ?_
            refine lv_aload_n hx hb dX8_isLine_458 rfl (lv_at hl 0 rfl) ?_
            refine lv_iload_n hx hb dX8_isLine_459 rfl (lv_at hl 1 rfl) ?_
            refine lv_iconst (v := (1 : Int32)) hx hb dX8_isLine_460 (by decide) ?_
            refine lv_iadd hx hb dX8_isLine_461 ?_
            refine lv_iconst (v := (0 : Int32)) hx hb dX8_isLine_462 (by decide) ?_
            refine lv_sipush (v := (999 : Int32)) hx hb dX8_isLine_463 (by decide) ?_
            obtain ⟨F92, r93, hc94, h⟩ := ob2_e h
            refine wk_i (va_runV (As := [.int (p1 + (1 : Int32)), .int (0 : Int32), .int (999 : Int32)]) (rest := []) S (met_X8_isNumber l hD hv0 hc94 H.size) (cwV 3 S.2.2.2.2 (lw_V q1166 q1168 qs28 q63 q1169) rfl rfl rfl yd_X8_isNumber ⟨Nat.le_of_ble_eq_true rfl, Nat.le_of_ble_eq_true rfl⟩) (wpreV hK hW hv0 rfl rfl _) rfl rfl hl.1 rfl (lv_room (Nat.le_of_ble_eq_true rfl)) dX8_isLine_466 ⟨Nat.le_refl 0, Nat.le_refl 0⟩) hW (fun H locs hW => ?_)
            obtain ⟨g95, h⟩ := og_e h
            cases h
            exact we_z S hr hlk (bzb_e g95) hW dX8_isLine_469
          have hz := if_f hz c91
          by_cases c96 : (F29 39 0 0 p1.toNatClampNeg) = (8 : Int32)
          · have h := if_t hz c96
            refine lv_sw c96 ?_
            refine lv_tableIn (off := 206) (tgt := 470) hx hb dX8_isLine_264 (by decide) (by decide) (by decide) (by decide) ?_
            refine lv_aload_n hx hb dX8_isLine_470 rfl (lv_at hl 0 rfl) ?_
            refine lv_iload_n hx hb dX8_isLine_471 rfl (lv_at hl 1 rfl) ?_
            refine lv_iconst (v := (1 : Int32)) hx hb dX8_isLine_472 (by decide) ?_
            refine lv_iadd hx hb dX8_isLine_473 ?_
            refine lv_iconst (v := (0 : Int32)) hx hb dX8_isLine_474 (by decide) ?_
            refine lv_bipush (v := (59 : Int32)) hx hb dX8_isLine_475 (by decide) ?_
            obtain ⟨F97, r98, hc99, h⟩ := ob2_e h
            refine wk_i (va_runV (As := [.int (p1 + (1 : Int32)), .int (0 : Int32), .int (59 : Int32)]) (rest := []) S (met_X8_isNumber l hD hv0 hc99 H.size) (cwV 3 S.2.2.2.2 (lw_V q1166 q1168 qs28 q63 q1169) rfl rfl rfl yd_X8_isNumber ⟨Nat.le_of_ble_eq_true rfl, Nat.le_of_ble_eq_true rfl⟩) (wpreV hK hW hv0 rfl rfl _) rfl rfl hl.1 rfl (lv_room (Nat.le_of_ble_eq_true rfl)) dX8_isLine_477 ⟨Nat.le_refl 0, Nat.le_refl 0⟩) hW (fun H locs hW => ?_)
            refine lv_if_eq (tgt := 518) hx hb dX8_isLine_480 (by decide) (fun c100 => ?_) (fun c100 => ?_)
            · have h := if_t h c100
              refine lv_iconst (v := (0 : Int32)) hx hb dX8_isLine_518 (by decide) ?_
              cases h
              exact we_z S hr hlk rfl hW dX8_isLine_519
            · have h := if_f h c100
              refine lv_aload_n hx hb dX8_isLine_483 rfl (lv_at hl 0 rfl) ?_
              refine lv_iload_n hx hb dX8_isLine_484 rfl (lv_at hl 1 rfl) ?_
              refine lv_iconst (v := (2 : Int32)) hx hb dX8_isLine_485 (by decide) ?_
              refine lv_iadd hx hb dX8_isLine_486 ?_
              refine lv_iconst (v := (0 : Int32)) hx hb dX8_isLine_487 (by decide) ?_
              refine lv_aload_n hx hb dX8_isLine_488 rfl (lv_at hl 0 rfl) ?_
              refine gf_30_28 S hK hW hv0 q1013 dX8_isLine_489 ?_
              refine lv_iconst (v := (1 : Int32)) hx hb dX8_isLine_492 (by decide) ?_
              refine lv_isub hx hb dX8_isLine_493 ?_
              obtain ⟨F101, r102, hc103, h⟩ := ob2_e h
              refine wk_i (va_runV (As := [.int (p1 + (2 : Int32)), .int (0 : Int32), .int ((F97 30 28 0 0) - (1 : Int32))]) (rest := []) S (met_X8_isNumber l hD hv0 hc103 H.size) (cwV 3 S.2.2.2.2 (lw_V q1166 q1168 qs28 q63 q1169) rfl rfl rfl yd_X8_isNumber ⟨Nat.le_of_ble_eq_true rfl, Nat.le_of_ble_eq_true rfl⟩) (wpreV hK hW hv0 rfl rfl _) rfl rfl hl.1 rfl (lv_room (Nat.le_of_ble_eq_true rfl)) dX8_isLine_494 ⟨Nat.le_refl 0, Nat.le_refl 0⟩) hW (fun H locs hW => ?_)
              refine lv_if_eq (tgt := 518) hx hb dX8_isLine_497 (by decide) (fun c104 => ?_) (fun c104 => ?_)
              · have h := if_t h c104
                refine lv_iconst (v := (0 : Int32)) hx hb dX8_isLine_518 (by decide) ?_
                cases h
                exact we_z S hr hlk rfl hW dX8_isLine_519
              · have h := if_f h c104
                refine lv_aload_n hx hb dX8_isLine_500 rfl (lv_at hl 0 rfl) ?_
                refine lv_iload_n hx hb dX8_isLine_501 rfl (lv_at hl 1 rfl) ?_
                refine lv_iconst (v := (3 : Int32)) hx hb dX8_isLine_502 (by decide) ?_
                refine lv_iadd hx hb dX8_isLine_503 ?_
                refine lv_iconst (v := (1 : Int32)) hx hb dX8_isLine_504 (by decide) ?_
                refine lv_sipush (v := (500 : Int32)) hx hb dX8_isLine_505 (by decide) ?_
                obtain ⟨F105, r106, hc107, h⟩ := ob2_e h
                refine wk_i (va_runV (As := [.int (p1 + (3 : Int32)), .int (1 : Int32), .int (500 : Int32)]) (rest := []) S (met_X8_isNumber l hD hv0 hc107 H.size) (cwV 3 S.2.2.2.2 (lw_V q1166 q1168 qs28 q63 q1169) rfl rfl rfl yd_X8_isNumber ⟨Nat.le_of_ble_eq_true rfl, Nat.le_of_ble_eq_true rfl⟩) (wpreV hK hW hv0 rfl rfl _) rfl rfl hl.1 rfl (lv_room (Nat.le_of_ble_eq_true rfl)) dX8_isLine_508 ⟨Nat.le_refl 0, Nat.le_refl 0⟩) hW (fun H locs hW => ?_)
                refine lv_if_eq (tgt := 518) hx hb dX8_isLine_511 (by decide) (fun c108 => ?_) (fun c108 => ?_)
                · have h := if_t h c108
                  refine lv_iconst (v := (0 : Int32)) hx hb dX8_isLine_518 (by decide) ?_
                  cases h
                  exact we_z S hr hlk rfl hW dX8_isLine_519
                · have h := if_f h c108
                  refine lv_iconst (v := (1 : Int32)) hx hb dX8_isLine_514 (by decide) ?_
                  refine lv_goto (tgt := 519) hx hb dX8_isLine_515 (by decide) ?_
                  cases h
                  exact we_z S hr hlk rfl hW dX8_isLine_519
          have hz := if_f hz c96
          by_cases c109 : (F29 39 0 0 p1.toNatClampNeg) = (9 : Int32)
          · have h := if_t hz c109
            refine lv_sw c109 ?_
            refine lv_tableIn (off := 256) (tgt := 520) hx hb dX8_isLine_264 (by decide) (by decide) (by decide) (by decide) ?_
            refine lv_iconst (v := (1 : Int32)) hx hb dX8_isLine_520 (by decide) ?_
            cases h
            exact we_z S hr hlk rfl hW dX8_isLine_521
          have hz := if_f hz c109
          by_cases c110 : (F29 39 0 0 p1.toNatClampNeg) = (10 : Int32)
          · have h := if_t hz c110
            refine lv_sw c110 ?_
            refine lv_tableIn (off := 258) (tgt := 522) hx hb dX8_isLine_264 (by decide) (by decide) (by decide) (by decide) ?_
            refine lv_aload_n hx hb dX8_isLine_522 rfl (lv_at hl 0 rfl) ?_
            refine lv_iload_n hx hb dX8_isLine_523 rfl (lv_at hl 1 rfl) ?_
            refine lv_iconst (v := (1 : Int32)) hx hb dX8_isLine_524 (by decide) ?_
            refine lv_iadd hx hb dX8_isLine_525 ?_
            refine lv_iconst (v := (0 : Int32)) hx hb dX8_isLine_526 (by decide) ?_
            refine lv_bipush (v := (10 : Int32)) hx hb dX8_isLine_527 (by decide) ?_
            obtain ⟨F111, r112, hc113, h⟩ := ob2_e h
            refine wk_i (va_runV (As := [.int (p1 + (1 : Int32)), .int (0 : Int32), .int (10 : Int32)]) (rest := []) S (met_X8_isNumber l hD hv0 hc113 H.size) (cwV 3 S.2.2.2.2 (lw_V q1166 q1168 qs28 q63 q1169) rfl rfl rfl yd_X8_isNumber ⟨Nat.le_of_ble_eq_true rfl, Nat.le_of_ble_eq_true rfl⟩) (wpreV hK hW hv0 rfl rfl _) rfl rfl hl.1 rfl (lv_room (Nat.le_of_ble_eq_true rfl)) dX8_isLine_529 ⟨Nat.le_refl 0, Nat.le_refl 0⟩) hW (fun H locs hW => ?_)
            obtain ⟨g114, h⟩ := og_e h
            cases h
            exact we_z S hr hlk (bzb_e g114) hW dX8_isLine_532
          have hz := if_f hz c110
          by_cases c115 : (F29 39 0 0 p1.toNatClampNeg) = (11 : Int32)
          · have h := if_t hz c115
            refine lv_sw c115 ?_
            refine lv_tableIn (off := 269) (tgt := 533) hx hb dX8_isLine_264 (by decide) (by decide) (by decide) (by decide) ?_
            refine lv_aload_n hx hb dX8_isLine_533 rfl (lv_at hl 0 rfl) ?_
            refine lv_iload_n hx hb dX8_isLine_534 rfl (lv_at hl 1 rfl) ?_
            refine lv_iconst (v := (1 : Int32)) hx hb dX8_isLine_535 (by decide) ?_
            refine lv_iadd hx hb dX8_isLine_536 ?_
            refine lv_iconst (v := (0 : Int32)) hx hb dX8_isLine_537 (by decide) ?_
            refine lv_bipush (v := (100 : Int32)) hx hb dX8_isLine_538 (by decide) ?_
            obtain ⟨F116, r117, hc118, h⟩ := ob2_e h
            refine wk_i (va_runV (As := [.int (p1 + (1 : Int32)), .int (0 : Int32), .int (100 : Int32)]) (rest := []) S (met_X8_isNumber l hD hv0 hc118 H.size) (cwV 3 S.2.2.2.2 (lw_V q1166 q1168 qs28 q63 q1169) rfl rfl rfl yd_X8_isNumber ⟨Nat.le_of_ble_eq_true rfl, Nat.le_of_ble_eq_true rfl⟩) (wpreV hK hW hv0 rfl rfl _) rfl rfl hl.1 rfl (lv_room (Nat.le_of_ble_eq_true rfl)) dX8_isLine_540 ⟨Nat.le_refl 0, Nat.le_refl 0⟩) hW (fun H locs hW => ?_)
            obtain ⟨g119, h⟩ := og_e h
            cases h
            exact we_z S hr hlk (bzb_e g119) hW dX8_isLine_543
          have hz := if_f hz c115
          by_cases c120 : (F29 39 0 0 p1.toNatClampNeg) = (12 : Int32)
          · have h := if_t hz c120
            refine lv_sw c120 ?_
            refine lv_tableIn (off := 280) (tgt := 544) hx hb dX8_isLine_264 (by decide) (by decide) (by decide) (by decide) ?_
            refine lv_aload_n hx hb dX8_isLine_544 rfl (lv_at hl 0 rfl) ?_
            refine lv_iload_n hx hb dX8_isLine_545 rfl (lv_at hl 1 rfl) ?_
            refine lv_iconst (v := (1 : Int32)) hx hb dX8_isLine_546 (by decide) ?_
            refine lv_iadd hx hb dX8_isLine_547 ?_
            refine lv_iconst (v := (1 : Int32)) hx hb dX8_isLine_548 (by decide) ?_
            refine lv_bipush (v := (20 : Int32)) hx hb dX8_isLine_549 (by decide) ?_
            obtain ⟨F121, r122, hc123, h⟩ := ob2_e h
            refine wk_i (va_runV (As := [.int (p1 + (1 : Int32)), .int (1 : Int32), .int (20 : Int32)]) (rest := []) S (met_X8_isNumber l hD hv0 hc123 H.size) (cwV 3 S.2.2.2.2 (lw_V q1166 q1168 qs28 q63 q1169) rfl rfl rfl yd_X8_isNumber ⟨Nat.le_of_ble_eq_true rfl, Nat.le_of_ble_eq_true rfl⟩) (wpreV hK hW hv0 rfl rfl _) rfl rfl hl.1 rfl (lv_room (Nat.le_of_ble_eq_true rfl)) dX8_isLine_551 ⟨Nat.le_refl 0, Nat.le_refl 0⟩) hW (fun H locs hW => ?_)
            obtain ⟨g124, h⟩ := og_e h
            cases h
            exact we_z S hr hlk (bzb_e g124) hW dX8_isLine_554
          have hz := if_f hz c120
          by_cases c125 : (F29 39 0 0 p1.toNatClampNeg) = (13 : Int32)
          · have h := if_t hz c125
            refine lv_sw c125 ?_
            refine lv_tableIn (off := 291) (tgt := 555) hx hb dX8_isLine_264 (by decide) (by decide) (by decide) (by decide) ?_
            refine lv_aload_n hx hb dX8_isLine_555 rfl (lv_at hl 0 rfl) ?_
            refine lv_iload_n hx hb dX8_isLine_556 rfl (lv_at hl 1 rfl) ?_
            refine lv_iconst (v := (1 : Int32)) hx hb dX8_isLine_557 (by decide) ?_
            refine lv_iadd hx hb dX8_isLine_558 ?_
            refine lv_iconst (v := (1 : Int32)) hx hb dX8_isLine_559 (by decide) ?_
            refine lv_bipush (v := (60 : Int32)) hx hb dX8_isLine_560 (by decide) ?_
            obtain ⟨F126, r127, hc128, h⟩ := ob2_e h
            refine wk_i (va_runV (As := [.int (p1 + (1 : Int32)), .int (1 : Int32), .int (60 : Int32)]) (rest := []) S (met_X8_isNumber l hD hv0 hc128 H.size) (cwV 3 S.2.2.2.2 (lw_V q1166 q1168 qs28 q63 q1169) rfl rfl rfl yd_X8_isNumber ⟨Nat.le_of_ble_eq_true rfl, Nat.le_of_ble_eq_true rfl⟩) (wpreV hK hW hv0 rfl rfl _) rfl rfl hl.1 rfl (lv_room (Nat.le_of_ble_eq_true rfl)) dX8_isLine_562 ⟨Nat.le_refl 0, Nat.le_refl 0⟩) hW (fun H locs hW => ?_)
            obtain ⟨g129, h⟩ := og_e h
            cases h
            exact we_z S hr hlk (bzb_e g129) hW dX8_isLine_565
          have hz := if_f hz c125
          by_cases c130 : (F29 39 0 0 p1.toNatClampNeg) = (14 : Int32)
          · have h := if_t hz c130
            refine lv_sw c130 ?_
            refine lv_tableIn (off := 302) (tgt := 566) hx hb dX8_isLine_264 (by decide) (by decide) (by decide) (by decide) ?_
            refine lv_aload_n hx hb dX8_isLine_566 rfl (lv_at hl 0 rfl) ?_
            refine lv_iload_n hx hb dX8_isLine_567 rfl (lv_at hl 1 rfl) ?_
            obtain ⟨F131, r132, hc133, h⟩ := ob2_e h
            refine wk_i (va_runV (As := [.int p1]) (rest := []) S (met_X8_isChart l hD hv0 hc133 H.size) (cwV 1 S.2.2.2.2 (lw_V q1178 q1180 qs31 q63 q1181) rfl rfl rfl yd_X8_isChart ⟨Nat.le_of_ble_eq_true rfl, Nat.le_of_ble_eq_true rfl⟩) (wpreV hK hW hv0 rfl rfl _) rfl rfl hl.1 rfl (lv_room (Nat.le_of_ble_eq_true rfl)) dX8_isLine_568 ⟨Nat.le_refl 0, Nat.le_refl 0⟩) hW (fun H locs hW => ?_)
            obtain ⟨g134, h⟩ := og_e h
            cases h
            exact we_z S hr hlk (bzb_e g134) hW dX8_isLine_571
          have hz := if_f hz c130
          cases hz
      clear h
      refine lv_icmp_ne (tgt := 256) hx hb dX8_isLine_249 (by decide) (fun c24 => ?_) (fun c24 => ?_)
      · have h := if_f hz25 c24
        refine lv_iload_n hx hb dX8_isLine_256 rfl (lv_at hl 3 rfl) ?_
        cases h
        exact K27 H locs ls hW (lv_sub hl [1, 2] rfl)
      · have h := if_t hz25 c24
        refine lv_iload_n hx hb dX8_isLine_252 rfl (lv_at hl 0 rfl) ?_
        refine lv_goto (tgt := 257) hx hb dX8_isLine_253 (by decide) ?_
        cases h
        exact K27 H locs ls hW (lv_sub hl [1, 2] rfl)
    clear h
    refine lv_if_ne (tgt := 144) hx hb dX8_isLine_136 (by decide) (fun c14 => ?_) (fun c14 => ?_)
    · have h := if_f hz15 c14
      refine lv_aload_n hx hb dX8_isLine_144 rfl (lv_at hl 1 rfl) ?_
      refine gf_30_22 S hK hW hv0 q1007 dX8_isLine_145 ?_
      refine lv_ldc2 (v := (10497936 : Int64)) hx hb S.2.2.2.1 (S.2.2.2.2 _ q1156) dX8_isLine_148 ?_
      refine W.lcmp hx hb dX8_isLine_151 ?_
      refine lv_if_ne (tgt := 160) hx hb dX8_isLine_152 (by decide) (fun c18 => ?_) (fun c18 => ?_)
      · have h := if_f h c18
        refine lv_aload_n hx hb dX8_isLine_160 rfl (lv_at hl 1 rfl) ?_
        refine gf_30_22 S hK hW hv0 q1007 dX8_isLine_161 ?_
        refine lv_ldc2 (v := (262776 : Int64)) hx hb S.2.2.2.1 (S.2.2.2.2 _ q1157) dX8_isLine_164 ?_
        refine W.lcmp hx hb dX8_isLine_167 ?_
        refine lv_if_ne (tgt := 176) hx hb dX8_isLine_168 (by decide) (fun c19 => ?_) (fun c19 => ?_)
        · have h := if_f h c19
          refine lv_aload_n hx hb dX8_isLine_176 rfl (lv_at hl 1 rfl) ?_
          refine gf_30_22 S hK hW hv0 q1007 dX8_isLine_177 ?_
          refine lv_ldc2 (v := (453937 : Int64)) hx hb S.2.2.2.1 (S.2.2.2.2 _ q1158) dX8_isLine_180 ?_
          refine W.lcmp hx hb dX8_isLine_183 ?_
          refine lv_if_ne (tgt := 192) hx hb dX8_isLine_184 (by decide) (fun c20 => ?_) (fun c20 => ?_)
          · have h := if_f h c20
            refine lv_aload_n hx hb dX8_isLine_192 rfl (lv_at hl 1 rfl) ?_
            refine gf_30_22 S hK hW hv0 q1007 dX8_isLine_193 ?_
            refine lv_ldc2 (v := (4075480 : Int64)) hx hb S.2.2.2.1 (S.2.2.2.2 _ q1159) dX8_isLine_196 ?_
            refine W.lcmp hx hb dX8_isLine_199 ?_
            refine lv_if_ne (tgt := 208) hx hb dX8_isLine_200 (by decide) (fun c21 => ?_) (fun c21 => ?_)
            · have h := if_f h c21
              refine lv_aload_n hx hb dX8_isLine_208 rfl (lv_at hl 1 rfl) ?_
              refine gf_30_22 S hK hW hv0 q1007 dX8_isLine_209 ?_
              refine lv_ldc2 (v := (10808470 : Int64)) hx hb S.2.2.2.1 (S.2.2.2.2 _ q1160) dX8_isLine_212 ?_
              refine W.lcmp hx hb dX8_isLine_215 ?_
              refine lv_if_ne (tgt := 224) hx hb dX8_isLine_216 (by decide) (fun c22 => ?_) (fun c22 => ?_)
              · have h := if_f h c22
                refine lv_aload_n hx hb dX8_isLine_224 rfl (lv_at hl 1 rfl) ?_
                refine gf_30_22 S hK hW hv0 q1007 dX8_isLine_225 ?_
                refine lv_ldc2 (v := (1753022 : Int64)) hx hb S.2.2.2.1 (S.2.2.2.2 _ q1161) dX8_isLine_228 ?_
                refine W.lcmp hx hb dX8_isLine_231 ?_
                refine lv_if_ne (tgt := 240) hx hb dX8_isLine_232 (by decide) (fun c23 => ?_) (fun c23 => ?_)
                · have h := if_f h c23
                  refine lv_iconst (v := (-1 : Int32)) hx hb dX8_isLine_240 (by decide) ?_
                  cases h
                  exact K17 H locs ls hW (lv_sub hl [1, 2, 0] rfl)
                · have h := if_t h c23
                  refine lv_bipush (v := (14 : Int32)) hx hb dX8_isLine_235 (by decide) ?_
                  refine lv_goto (tgt := 241) hx hb dX8_isLine_237 (by decide) ?_
                  cases h
                  exact K17 H locs ls hW (lv_sub hl [1, 2, 0] rfl)
              · have h := if_t h c22
                refine lv_bipush (v := (13 : Int32)) hx hb dX8_isLine_219 (by decide) ?_
                refine lv_goto (tgt := 241) hx hb dX8_isLine_221 (by decide) ?_
                cases h
                exact K17 H locs ls hW (lv_sub hl [1, 2, 0] rfl)
            · have h := if_t h c21
              refine lv_bipush (v := (12 : Int32)) hx hb dX8_isLine_203 (by decide) ?_
              refine lv_goto (tgt := 241) hx hb dX8_isLine_205 (by decide) ?_
              cases h
              exact K17 H locs ls hW (lv_sub hl [1, 2, 0] rfl)
          · have h := if_t h c20
            refine lv_bipush (v := (11 : Int32)) hx hb dX8_isLine_187 (by decide) ?_
            refine lv_goto (tgt := 241) hx hb dX8_isLine_189 (by decide) ?_
            cases h
            exact K17 H locs ls hW (lv_sub hl [1, 2, 0] rfl)
        · have h := if_t h c19
          refine lv_bipush (v := (10 : Int32)) hx hb dX8_isLine_171 (by decide) ?_
          refine lv_goto (tgt := 241) hx hb dX8_isLine_173 (by decide) ?_
          cases h
          exact K17 H locs ls hW (lv_sub hl [1, 2, 0] rfl)
      · have h := if_t h c18
        refine lv_bipush (v := (9 : Int32)) hx hb dX8_isLine_155 (by decide) ?_
        refine lv_goto (tgt := 241) hx hb dX8_isLine_157 (by decide) ?_
        cases h
        exact K17 H locs ls hW (lv_sub hl [1, 2, 0] rfl)
    · have h := if_t hz15 c14
      refine lv_bipush (v := (8 : Int32)) hx hb dX8_isLine_139 (by decide) ?_
      refine lv_goto (tgt := 241) hx hb dX8_isLine_141 (by decide) ?_
      cases h
      exact K17 H locs ls hW (lv_sub hl [1, 2, 0] rfl)
  clear h
  refine lv_if_ne (tgt := 19) hx hb dX8_isLine_12 (by decide) (fun c3 => ?_) (fun c3 => ?_)
  · have h := if_f hz4 c3
    refine lv_aload_n hx hb dX8_isLine_19 rfl (lv_at hl 0 rfl) ?_
    refine gf_30_22 S hK hW hv0 q1007 dX8_isLine_20 ?_
    refine lv_ldc2 (v := (10506516 : Int64)) hx hb S.2.2.2.1 (S.2.2.2.2 _ q1148) dX8_isLine_23 ?_
    refine W.lcmp hx hb dX8_isLine_26 ?_
    refine lv_if_ne (tgt := 34) hx hb dX8_isLine_27 (by decide) (fun c7 => ?_) (fun c7 => ?_)
    · have h := if_f h c7
      refine lv_aload_n hx hb dX8_isLine_34 rfl (lv_at hl 0 rfl) ?_
      refine gf_30_22 S hK hW hv0 q1007 dX8_isLine_35 ?_
      refine lv_ldc2 (v := (355568 : Int64)) hx hb S.2.2.2.1 (S.2.2.2.2 _ q1149) dX8_isLine_38 ?_
      refine W.lcmp hx hb dX8_isLine_41 ?_
      refine lv_if_ne (tgt := 49) hx hb dX8_isLine_42 (by decide) (fun c8 => ?_) (fun c8 => ?_)
      · have h := if_f h c8
        refine lv_aload_n hx hb dX8_isLine_49 rfl (lv_at hl 0 rfl) ?_
        refine gf_30_22 S hK hW hv0 q1007 dX8_isLine_50 ?_
        refine lv_ldc2 (v := (6683990 : Int64)) hx hb S.2.2.2.1 (S.2.2.2.2 _ q1150) dX8_isLine_53 ?_
        refine W.lcmp hx hb dX8_isLine_56 ?_
        refine lv_if_ne (tgt := 64) hx hb dX8_isLine_57 (by decide) (fun c9 => ?_) (fun c9 => ?_)
        · have h := if_f h c9
          refine lv_aload_n hx hb dX8_isLine_64 rfl (lv_at hl 0 rfl) ?_
          refine gf_30_22 S hK hW hv0 q1007 dX8_isLine_65 ?_
          refine lv_ldc2 (v := (10334396 : Int64)) hx hb S.2.2.2.1 (S.2.2.2.2 _ q1151) dX8_isLine_68 ?_
          refine W.lcmp hx hb dX8_isLine_71 ?_
          refine lv_if_ne (tgt := 79) hx hb dX8_isLine_72 (by decide) (fun c10 => ?_) (fun c10 => ?_)
          · have h := if_f h c10
            refine lv_aload_n hx hb dX8_isLine_79 rfl (lv_at hl 0 rfl) ?_
            refine gf_30_22 S hK hW hv0 q1007 dX8_isLine_80 ?_
            refine lv_ldc2 (v := (10811306 : Int64)) hx hb S.2.2.2.1 (S.2.2.2.2 _ q1152) dX8_isLine_83 ?_
            refine W.lcmp hx hb dX8_isLine_86 ?_
            refine lv_if_ne (tgt := 94) hx hb dX8_isLine_87 (by decide) (fun c11 => ?_) (fun c11 => ?_)
            · have h := if_f h c11
              refine lv_aload_n hx hb dX8_isLine_94 rfl (lv_at hl 0 rfl) ?_
              refine gf_30_22 S hK hW hv0 q1007 dX8_isLine_95 ?_
              refine lv_ldc2 (v := (380651 : Int64)) hx hb S.2.2.2.1 (S.2.2.2.2 _ q1153) dX8_isLine_98 ?_
              refine W.lcmp hx hb dX8_isLine_101 ?_
              refine lv_if_ne (tgt := 110) hx hb dX8_isLine_102 (by decide) (fun c12 => ?_) (fun c12 => ?_)
              · have h := if_f h c12
                refine lv_aload_n hx hb dX8_isLine_110 rfl (lv_at hl 0 rfl) ?_
                refine gf_30_22 S hK hW hv0 q1007 dX8_isLine_111 ?_
                refine lv_ldc2 (v := (13703 : Int64)) hx hb S.2.2.2.1 (S.2.2.2.2 _ q1154) dX8_isLine_114 ?_
                refine W.lcmp hx hb dX8_isLine_117 ?_
                refine lv_if_ne (tgt := 126) hx hb dX8_isLine_118 (by decide) (fun c13 => ?_) (fun c13 => ?_)
                · have h := if_f h c13
                  refine lv_iconst (v := (-1 : Int32)) hx hb dX8_isLine_126 (by decide) ?_
                  cases h
                  exact K6 H locs ls hW (lv_sub hl [0, 1] rfl)
                · have h := if_t h c13
                  refine lv_bipush (v := (7 : Int32)) hx hb dX8_isLine_121 (by decide) ?_
                  refine lv_goto (tgt := 127) hx hb dX8_isLine_123 (by decide) ?_
                  cases h
                  exact K6 H locs ls hW (lv_sub hl [0, 1] rfl)
              · have h := if_t h c12
                refine lv_bipush (v := (6 : Int32)) hx hb dX8_isLine_105 (by decide) ?_
                refine lv_goto (tgt := 127) hx hb dX8_isLine_107 (by decide) ?_
                cases h
                exact K6 H locs ls hW (lv_sub hl [0, 1] rfl)
            · have h := if_t h c11
              refine lv_iconst (v := (5 : Int32)) hx hb dX8_isLine_90 (by decide) ?_
              refine lv_goto (tgt := 127) hx hb dX8_isLine_91 (by decide) ?_
              cases h
              exact K6 H locs ls hW (lv_sub hl [0, 1] rfl)
          · have h := if_t h c10
            refine lv_iconst (v := (4 : Int32)) hx hb dX8_isLine_75 (by decide) ?_
            refine lv_goto (tgt := 127) hx hb dX8_isLine_76 (by decide) ?_
            cases h
            exact K6 H locs ls hW (lv_sub hl [0, 1] rfl)
        · have h := if_t h c9
          refine lv_iconst (v := (3 : Int32)) hx hb dX8_isLine_60 (by decide) ?_
          refine lv_goto (tgt := 127) hx hb dX8_isLine_61 (by decide) ?_
          cases h
          exact K6 H locs ls hW (lv_sub hl [0, 1] rfl)
      · have h := if_t h c8
        refine lv_iconst (v := (2 : Int32)) hx hb dX8_isLine_45 (by decide) ?_
        refine lv_goto (tgt := 127) hx hb dX8_isLine_46 (by decide) ?_
        cases h
        exact K6 H locs ls hW (lv_sub hl [0, 1] rfl)
    · have h := if_t h c7
      refine lv_iconst (v := (1 : Int32)) hx hb dX8_isLine_30 (by decide) ?_
      refine lv_goto (tgt := 127) hx hb dX8_isLine_31 (by decide) ?_
      cases h
      exact K6 H locs ls hW (lv_sub hl [0, 1] rfl)
  · have h := if_t hz4 c3
    refine lv_iconst (v := (0 : Int32)) hx hb dX8_isLine_15 (by decide) ?_
    refine lv_goto (tgt := 127) hx hb dX8_isLine_16 (by decide) ?_
    cases h
    exact K6 H locs ls hW (lv_sub hl [0, 1] rfl)
/-loop lp_X8_isRead_28-/
def lp_X8_isRead_28 : Nat → St → Int32 → Option ((St × Int32) ⊕ (St × Int32))
  | 0, _, _ => none
  | n + 1, F10, x9 => if x9 = 0 then some (Sum.inr (F10, x9)) else ob2 (fn_X8_isLine F10 ((6 : Int32) * (F10 30 26 0 0))) (fun F16 r17 => if r17 = 0 then some (Sum.inl (F16, (0 : Int32))) else pl (fu F16 30 26 0 0 ((F16 30 26 0 0) + (1 : Int32))) (fun F20 => ob (fn_X8_nextToken F20) (fun F22 => ob (if (lg_cmp (jn (F22 30 22 0 0) (F22 30 64 0 0)) (-3 : Int64)) = 0 then if (10 : Int32) ≤ (F22 30 26 0 0) then some (0 : Int32) else some (1 : Int32) else some (0 : Int32)) (fun y26 => lp_X8_isRead_28 n F22 y26))))
theorem lp_X8_isRead_28_s {n : Nat} {F10 : St} {x9 : Int32} : lp_X8_isRead_28 (n + 1) F10 x9 = if x9 = 0 then some (Sum.inr (F10, x9)) else ob2 (fn_X8_isLine F10 ((6 : Int32) * (F10 30 26 0 0))) (fun F16 r17 => if r17 = 0 then some (Sum.inl (F16, (0 : Int32))) else pl (fu F16 30 26 0 0 ((F16 30 26 0 0) + (1 : Int32))) (fun F20 => ob (fn_X8_nextToken F20) (fun F22 => ob (if (lg_cmp (jn (F22 30 22 0 0) (F22 30 64 0 0)) (-3 : Int64)) = 0 then if (10 : Int32) ≤ (F22 30 26 0 0) then some (0 : Int32) else some (1 : Int32) else some (0 : Int32)) (fun y26 => lp_X8_isRead_28 n F22 y26)))) := rfl
def fn_X8_isRead (F : St) : Option (St × Int32) :=
  pl (fu F 30 20 0 0 (0 : Int32)) (fun F1 => pl (fu F1 30 26 0 0 (0 : Int32)) (fun F3 => pl (fu F3 30 28 0 0 (F3 30 0 0 0)) (fun F5 => pl (fu F5 30 29 0 0 (F5 30 1 0 0)) (fun F7 => obE2 (lp_X8_isRead_28 300 F7 (1 : Int32)) (fun y => some y) (fun F11 x12 => if (lg_cmp (jn (F11 30 22 0 0) (F11 30 64 0 0)) (-2 : Int64)) = 0 then some (F11, (1 : Int32)) else ob2 (fn_X8_fails F11) (fun F31 r32 => if r32 = 0 then some (F31, (0 : Int32)) else some (F31, (1 : Int32))))))))
theorem yd_X8_isRead : yX8_isRead.cls = RX8 ∧ yX8_isRead.cls ≠ "java/lang/invoke/MethodHandle" ∧ yX8_isRead.cls ≠ "java/lang/invoke/VarHandle" ∧ (parseMethodDescriptor yX8_isRead.desc).map (fun d => d.parameters.length) = some 0 := by decide +kernel
set_option maxHeartbeats 4000000 in
theorem met_X8_isRead (l : Launch) {D : va_G} {dA : WK} {a : Ix → Nat} (hD : wD D dA a) {F : St} {Fz : St} {rz : Int32} (hv0 : wVd dA (30, 0, 0)) (h : fn_X8_isRead F = some (Fz, rz)) : Mi l yX8_isRead cX8_isRead 2 .boolean 5 110 D dA a F [.ref (a (30, 0, 0))] Fz rz := by
  refine fun sz => mst (Qc := fun sz => wQi D dA a sz Fz rz) (by decide) (Nat.le_of_ble_eq_true rfl) ?_ sz
  intro p e s m below meth c S hr hlk hK hW ls hl
  have hl : lv_has ls 2 [(0, .ref (a (30, 0, 0)))] := hl
  have hx := S.1
  have hb := S.2.1
  generalize ([.ref (a (30, 0, 0))] : List Value).toArray = av at S ⊢
  unfold fn_X8_isRead at h
  obtain ⟨H, eH⟩ : ∃ z, z = s.heap := ⟨_, rfl⟩
  obtain ⟨locs, eL⟩ : ∃ z : List Loc, z = [] := ⟨_, rfl⟩
  show WX p l e (rmL 5 110) s m av below meth c (wQi D dA a s.heap.size Fz rz) dA a s.heap [] (F0 m 0 ls [])
  have hW : wS D dA a s F H locs := by rw [eH, eL]; exact wS_in hW
  refine wx_in eH eL ?_
  clear eH eL
  refine lv_aload_n hx hb dX8_isRead_0 rfl (lv_at hl 0 rfl) ?_
  refine lv_iconst (v := (0 : Int32)) hx hb dX8_isRead_1 (by decide) ?_
  obtain ⟨F1, e2, h⟩ := pl_e h
  refine pf_30_20 S hK hD hW hv0 e2 q1005 dX8_isRead_2 (fun H locs hW => ?_)
  refine lv_aload_n hx hb dX8_isRead_5 rfl (lv_at hl 0 rfl) ?_
  refine lv_iconst (v := (0 : Int32)) hx hb dX8_isRead_6 (by decide) ?_
  obtain ⟨F3, e4, h⟩ := pl_e h
  refine pf_30_26 S hK hD hW hv0 e4 q1011 dX8_isRead_7 (fun H locs hW => ?_)
  refine lv_aload_n hx hb dX8_isRead_10 rfl (lv_at hl 0 rfl) ?_
  refine lv_aload_n hx hb dX8_isRead_11 rfl (lv_at hl 0 rfl) ?_
  refine gf_30_0 S hK hW hv0 q985 dX8_isRead_12 ?_
  obtain ⟨F5, e6, h⟩ := pl_e h
  refine pf_30_28 S hK hD hW hv0 e6 q1013 dX8_isRead_15 (fun H locs hW => ?_)
  refine lv_aload_n hx hb dX8_isRead_18 rfl (lv_at hl 0 rfl) ?_
  refine lv_aload_n hx hb dX8_isRead_19 rfl (lv_at hl 0 rfl) ?_
  refine gf_30_1 S hK hW hv0 q986 dX8_isRead_20 ?_
  obtain ⟨F7, e8, h⟩ := pl_e h
  refine pf_30_29 S hK hD hW hv0 e8 q1014 dX8_isRead_23 (fun H locs hW => ?_)
  refine lv_iconst (v := (1 : Int32)) hx hb dX8_isRead_26 (by decide) ?_
  refine lv_istore_n (lv' := [(1, .int (1 : Int32)), (0, .ref (a (30, 0, 0)))]) hx hb dX8_isRead_27 rfl hl (by decide) rfl (fun ls hl => ?_)
  have L14 : ∀ (n : Nat) (F10 : St) (x9 : Int32) (Rr : (St × Int32) ⊕ (St × Int32)), lp_X8_isRead_28 n F10 x9 = some Rr → (∀ y, Rr = Sum.inl y → some y = some (Fz, rz)) → (∀ (F11 : St) (x12 : Int32), Rr = Sum.inr (F11, x12) → ∀ (H : Heap) (locs : List Loc) (ls : Array Slot), wS D dA a s F11 H locs → lv_has ls 2 [(0, .ref (a (30, 0, 0)))] → WX p l e (rmL 5 110) s m av below meth c (wQi D dA a s.heap.size Fz rz) dA a H locs (F0 m 91 ls [])) → ∀ (H : Heap) (locs : List Loc) (ls : Array Slot), wS D dA a s F10 H locs → lv_has ls 2 [(0, .ref (a (30, 0, 0))), (1, .int x9)] → WX p l e (rmL 5 110) s m av below meth c (wQi D dA a s.heap.size Fz rz) dA a H locs (F0 m 28 ls []) := by
    intro n
    induction n with
    | zero =>
      intro F10 x9 Rr h
      exact absurd (show (none : Option ((St × Int32) ⊕ (St × Int32))) = some Rr from h) (by simp)
    | succ n ih =>
      intro F10 x9 Rr h hfin K13 H locs ls hW hl
      have h := lp_X8_isRead_28_s.symm.trans h
      refine lv_iload_n hx hb dX8_isRead_28 rfl (lv_at hl 1 rfl) ?_
      refine lv_if_eq (tgt := 91) hx hb dX8_isRead_29 (by decide) (fun c15 => ?_) (fun c15 => ?_)
      · have h := if_t h c15
        cases h
        exact K13 _ _ rfl H locs ls hW (lv_sub hl [0] rfl)
      · have h := if_f h c15
        refine lv_aload_n hx hb dX8_isRead_32 rfl (lv_at hl 0 rfl) ?_
        refine lv_bipush (v := (6 : Int32)) hx hb dX8_isRead_33 (by decide) ?_
        refine lv_aload_n hx hb dX8_isRead_35 rfl (lv_at hl 0 rfl) ?_
        refine gf_30_26 S hK hW hv0 q1011 dX8_isRead_36 ?_
        refine lv_imul hx hb dX8_isRead_39 ?_
        obtain ⟨F16, r17, hc18, h⟩ := ob2_e h
        refine wk_i (va_runV (As := [.int ((6 : Int32) * (F10 30 26 0 0))]) (rest := []) S (met_X8_isLine l hD hv0 hc18 H.size) (cwV 1 S.2.2.2.2 (lw_V q1133 q1135 qs25 q63 q1136) rfl rfl rfl yd_X8_isLine ⟨Nat.le_of_ble_eq_true rfl, Nat.le_of_ble_eq_true rfl⟩) (wpreV hK hW hv0 rfl rfl _) rfl rfl hl.1 rfl (lv_room (Nat.le_of_ble_eq_true rfl)) dX8_isRead_40 ⟨Nat.le_refl 0, Nat.le_refl 0⟩) hW (fun H locs hW => ?_)
        refine lv_if_ne (tgt := 48) hx hb dX8_isRead_43 (by decide) (fun c19 => ?_) (fun c19 => ?_)
        · have h := if_f h c19
          refine lv_aload_n hx hb dX8_isRead_48 rfl (lv_at hl 0 rfl) ?_
          refine lv_dup hx hb dX8_isRead_49 rfl ?_
          refine gf_30_26 S hK hW hv0 q1011 dX8_isRead_50 ?_
          refine lv_iconst (v := (1 : Int32)) hx hb dX8_isRead_53 (by decide) ?_
          refine lv_iadd hx hb dX8_isRead_54 ?_
          obtain ⟨F20, e21, h⟩ := pl_e h
          refine pf_30_26 S hK hD hW hv0 e21 q1011 dX8_isRead_55 (fun H locs hW => ?_)
          refine lv_aload_n hx hb dX8_isRead_58 rfl (lv_at hl 0 rfl) ?_
          obtain ⟨F22, hc23, h⟩ := ob_e h
          refine wk_v (va_runV (As := []) (rest := []) S (met_X8_nextToken l hD hv0 hc23 H.size) (cwV 0 S.2.2.2.2 (lw_V q1137 q1139 qs26 q63 q1140) rfl rfl rfl yd_X8_nextToken ⟨Nat.le_of_ble_eq_true rfl, Nat.le_of_ble_eq_true rfl⟩) (wpreV hK hW hv0 rfl rfl _) rfl rfl hl.1 rfl (lv_room (Nat.le_of_ble_eq_true rfl)) dX8_isRead_59 ⟨Nat.le_refl 0, Nat.le_refl 0⟩) hW (fun H locs hW => ?_)
          refine lv_aload_n hx hb dX8_isRead_62 rfl (lv_at hl 0 rfl) ?_
          refine gf_30_22 S hK hW hv0 q1007 dX8_isRead_63 ?_
          refine lv_ldc2 (v := (-3 : Int64)) hx hb S.2.2.2.1 (S.2.2.2.2 _ q1146) dX8_isRead_66 ?_
          refine W.lcmp hx hb dX8_isRead_69 ?_
          obtain ⟨y26, hz25, h⟩ := ob_e h
          have K27 : ∀ (H : Heap) (locs : List Loc) (ls : Array Slot), wS D dA a s F22 H locs → lv_has ls 2 [(0, .ref (a (30, 0, 0)))] → WX p l e (rmL 5 110) s m av below meth c (wQi D dA a s.heap.size Fz rz) dA a H locs (F0 m 87 ls [.int y26]) := by
            intro H locs ls hW hl
            refine lv_istore_n (lv' := [(1, .int y26), (0, .ref (a (30, 0, 0)))]) hx hb dX8_isRead_87 rfl hl (by decide) rfl (fun ls hl => ?_)
            refine lv_goto (tgt := 28) hx hb dX8_isRead_88 (by decide) ?_
            exact ih _ _ _ h hfin K13 H locs ls hW (lv_sub hl [1, 0] rfl)
          clear h
          refine lv_if_ne (tgt := 86) hx hb dX8_isRead_70 (by decide) (fun c24 => ?_) (fun c24 => ?_)
          · have h := if_f hz25 c24
            refine lv_iconst (v := (0 : Int32)) hx hb dX8_isRead_86 (by decide) ?_
            cases h
            exact K27 H locs ls hW (lv_sub hl [0] rfl)
          · have h := if_t hz25 c24
            refine lv_aload_n hx hb dX8_isRead_73 rfl (lv_at hl 0 rfl) ?_
            refine gf_30_26 S hK hW hv0 q1011 dX8_isRead_74 ?_
            refine lv_bipush (v := (10 : Int32)) hx hb dX8_isRead_77 (by decide) ?_
            refine lv_icmp_ge (tgt := 86) hx hb dX8_isRead_79 (by decide) (fun c28 => ?_) (fun c28 => ?_)
            · have h := if_t h c28
              refine lv_iconst (v := (0 : Int32)) hx hb dX8_isRead_86 (by decide) ?_
              cases h
              exact K27 H locs ls hW (lv_sub hl [0] rfl)
            · have h := if_f h c28
              refine lv_iconst (v := (1 : Int32)) hx hb dX8_isRead_82 (by decide) ?_
              refine lv_goto (tgt := 87) hx hb dX8_isRead_83 (by decide) ?_
              cases h
              exact K27 H locs ls hW (lv_sub hl [0] rfl)
        · have h := if_t h c19
          refine lv_iconst (v := (0 : Int32)) hx hb dX8_isRead_46 (by decide) ?_
          cases h
          have h := hfin _ rfl
          cases h
          exact we_z S hr hlk rfl hW dX8_isRead_47
  rcases obE2_e h with ⟨y, hz29, h⟩ | ⟨F11, x12, hz29, h⟩
  · exact L14 300 F7 (1 : Int32) _ hz29 (fun y2 hy => by cases hy; exact h) (fun _ _ ht => by cases ht) H locs ls hW (lv_sub hl [1, 0] rfl)
  · refine L14 300 F7 (1 : Int32) _ hz29 (fun y2 hy => by cases hy) (fun _ _ ht H locs ls hW hl => ?_) H locs ls hW (lv_sub hl [1, 0] rfl)
    cases ht
    refine lv_aload_n hx hb dX8_isRead_91 rfl (lv_at hl 0 rfl) ?_
    refine gf_30_22 S hK hW hv0 q1007 dX8_isRead_92 ?_
    refine lv_ldc2 (v := (-2 : Int64)) hx hb S.2.2.2.1 (S.2.2.2.2 _ q1141) dX8_isRead_95 ?_
    refine W.lcmp hx hb dX8_isRead_98 ?_
    refine lv_if_eq (tgt := 109) hx hb dX8_isRead_99 (by decide) (fun c30 => ?_) (fun c30 => ?_)
    · have h := if_t h c30
      refine lv_iconst (v := (1 : Int32)) hx hb dX8_isRead_109 (by decide) ?_
      refine lv_goto (tgt := 114) hx hb dX8_isRead_110 (by decide) ?_
      cases h
      exact we_z S hr hlk rfl hW dX8_isRead_114
    · have h := if_f h c30
      refine lv_aload_n hx hb dX8_isRead_102 rfl (lv_at hl 0 rfl) ?_
      obtain ⟨F31, r32, hc33, h⟩ := ob2_e h
      refine wk_i (va_runV (As := []) (rest := []) S (met_X8_fails l hD hv0 hc33 H.size) (cwV 0 S.2.2.2.2 (lw_V q1170 q1172 qs29 q63 q1173) rfl rfl rfl yd_X8_fails ⟨Nat.le_of_ble_eq_true rfl, Nat.le_of_ble_eq_true rfl⟩) (wpreV hK hW hv0 rfl rfl _) rfl rfl hl.1 rfl (lv_room (Nat.le_of_ble_eq_true rfl)) dX8_isRead_103 ⟨Nat.le_refl 0, Nat.le_refl 0⟩) hW (fun H locs hW => ?_)
      refine lv_if_eq (tgt := 113) hx hb dX8_isRead_106 (by decide) (fun c34 => ?_) (fun c34 => ?_)
      · have h := if_t h c34
        refine lv_iconst (v := (0 : Int32)) hx hb dX8_isRead_113 (by decide) ?_
        cases h
        exact we_z S hr hlk rfl hW dX8_isRead_114
      · have h := if_f h c34
        refine lv_iconst (v := (1 : Int32)) hx hb dX8_isRead_109 (by decide) ?_
        refine lv_goto (tgt := 114) hx hb dX8_isRead_110 (by decide) ?_
        cases h
        exact we_z S hr hlk rfl hW dX8_isRead_114
def fn_X8_fault (F : St) : Option (St × Int32) :=
  ob2 (fn_X8_isRead F) (fun F1 r2 => if r2 = 0 then some (F1, (F1 30 25 0 0)) else some (F1, (-1 : Int32)))
theorem yd_X8_fault : yX8_fault.cls = RX8 ∧ yX8_fault.cls ≠ "java/lang/invoke/MethodHandle" ∧ yX8_fault.cls ≠ "java/lang/invoke/VarHandle" ∧ (parseMethodDescriptor yX8_fault.desc).map (fun d => d.parameters.length) = some 0 := by decide +kernel
set_option maxHeartbeats 4000000 in
theorem met_X8_fault (l : Launch) {D : va_G} {dA : WK} {a : Ix → Nat} (hD : wD D dA a) {F : St} {Fz : St} {rz : Int32} (hv0 : wVd dA (30, 0, 0)) (h : fn_X8_fault F = some (Fz, rz)) : Mi l yX8_fault cX8_fault 1 .int 6 131 D dA a F [.ref (a (30, 0, 0))] Fz rz := by
  refine fun sz => mst (Qc := fun sz => wQi D dA a sz Fz rz) (by decide) (Nat.le_of_ble_eq_true rfl) ?_ sz
  intro p e s m below meth c S hr hlk hK hW ls hl
  have hl : lv_has ls 1 [(0, .ref (a (30, 0, 0)))] := hl
  have hx := S.1
  have hb := S.2.1
  generalize ([.ref (a (30, 0, 0))] : List Value).toArray = av at S ⊢
  unfold fn_X8_fault at h
  obtain ⟨H, eH⟩ : ∃ z, z = s.heap := ⟨_, rfl⟩
  obtain ⟨locs, eL⟩ : ∃ z : List Loc, z = [] := ⟨_, rfl⟩
  show WX p l e (rmL 6 131) s m av below meth c (wQi D dA a s.heap.size Fz rz) dA a s.heap [] (F0 m 0 ls [])
  have hW : wS D dA a s F H locs := by rw [eH, eL]; exact wS_in hW
  refine wx_in eH eL ?_
  clear eH eL
  refine lv_aload_n hx hb dX8_fault_0 rfl (lv_at hl 0 rfl) ?_
  obtain ⟨F1, r2, hc3, h⟩ := ob2_e h
  refine wk_i (va_runV (As := []) (rest := []) S (met_X8_isRead l hD hv0 hc3 H.size) (cwV 0 S.2.2.2.2 (lw_V q1129 q1131 qs24 q63 q1132) rfl rfl rfl yd_X8_isRead ⟨Nat.le_of_ble_eq_true rfl, Nat.le_of_ble_eq_true rfl⟩) (wpreV hK hW hv0 rfl rfl _) rfl rfl hl.1 rfl (lv_room (Nat.le_of_ble_eq_true rfl)) dX8_fault_1 ⟨Nat.le_refl 0, Nat.le_refl 0⟩) hW (fun H locs hW => ?_)
  refine lv_if_eq (tgt := 11) hx hb dX8_fault_4 (by decide) (fun c4 => ?_) (fun c4 => ?_)
  · have h := if_t h c4
    refine lv_aload_n hx hb dX8_fault_11 rfl (lv_at hl 0 rfl) ?_
    refine gf_30_25 S hK hW hv0 q1010 dX8_fault_12 ?_
    cases h
    exact we_i S hr hlk hW dX8_fault_15
  · have h := if_f h c4
    refine lv_iconst (v := (-1 : Int32)) hx hb dX8_fault_7 (by decide) ?_
    refine lv_goto (tgt := 15) hx hb dX8_fault_8 (by decide) ?_
    cases h
    exact we_i S hr hlk hW dX8_fault_15
