set_option maxRecDepth 100000
def fn_X2_copy (F : St) (i0 : Nat) (i1 : Nat) : Option (St) :=
  pl (fu F 2 1 i0 0 (F 2 1 i1 0)) (fun F1 => pl (fu F1 2 2 i0 0 (F1 2 2 i1 0)) (fun F3 => pl (fu F3 4 0 i0 0 (F3 4 0 i1 0)) (fun F7 => pl (fu F7 4 1 i0 0 (F7 4 1 i1 0)) (fun F11 => pl (fu F11 4 0 i0 1 (F11 4 0 i1 1)) (fun F15 => pl (fu F15 4 1 i0 1 (F15 4 1 i1 1)) (fun F19 => pl (fu F19 4 0 i0 2 (F19 4 0 i1 2)) (fun F23 => pl (fu F23 4 1 i0 2 (F23 4 1 i1 2)) (fun F27 => some F27))))))))
theorem yd_X2_copy : yX2_copy.cls = RX2 ∧ yX2_copy.cls ≠ "java/lang/invoke/MethodHandle" ∧ yX2_copy.cls ≠ "java/lang/invoke/VarHandle" ∧ (parseMethodDescriptor yX2_copy.desc).map (fun d => d.parameters.length) = some 1 := by decide +kernel
set_option maxHeartbeats 4000000 in
theorem met_X2_copy (l : Launch) {D : va_G} {dA : WK} {a : Ix → Nat} (hD : wD D dA a) {F : St} {i0 : Nat} {i1 : Nat} {Fz : St} (hv0 : wVd dA (2, i0, 0)) (hv1 : wVd dA (2, i1, 0)) (h : fn_X2_copy F i0 i1 = some Fz) : Mv l yX2_copy cX2_copy 3 0 0 D dA a F [.ref (a (2, i0, 0)), .ref (a (2, i1, 0))] Fz := by
  refine fun sz => mst (Qc := fun sz => wQv D dA a sz Fz) (by decide) (Nat.le_of_ble_eq_true rfl) ?_ sz
  intro p e s m below meth c S hr hlk hK hW ls hl
  have hl : lv_has ls 3 [(0, .ref (a (2, i0, 0))), (1, .ref (a (2, i1, 0)))] := hl
  have hx := S.1
  have hb := S.2.1
  generalize ([.ref (a (2, i0, 0)), .ref (a (2, i1, 0))] : List Value).toArray = av at S ⊢
  unfold fn_X2_copy at h
  obtain ⟨H, eH⟩ : ∃ z, z = s.heap := ⟨_, rfl⟩
  obtain ⟨locs, eL⟩ : ∃ z : List Loc, z = [] := ⟨_, rfl⟩
  show WX p l e (rmL 0 0) s m av below meth c (wQv D dA a s.heap.size Fz) dA a s.heap [] (F0 m 0 ls [])
  have hW : wS D dA a s F H locs := by rw [eH, eL]; exact wS_in hW
  refine wx_in eH eL ?_
  clear eH eL
  refine lv_aload_n hx hb dX2_copy_0 rfl (lv_at hl 0 rfl) ?_
  refine lv_aload_n hx hb dX2_copy_1 rfl (lv_at hl 1 rfl) ?_
  refine gf_2_1 S hK hW hv1 q127 dX2_copy_2 ?_
  obtain ⟨F1, e2, h⟩ := pl_e h
  refine pf_2_1 S hK hD hW hv0 e2 q127 dX2_copy_5 (fun H locs hW => ?_)
  refine lv_aload_n hx hb dX2_copy_8 rfl (lv_at hl 0 rfl) ?_
  refine lv_aload_n hx hb dX2_copy_9 rfl (lv_at hl 1 rfl) ?_
  refine gf_2_2 S hK hW hv1 q130 dX2_copy_10 ?_
  obtain ⟨F3, e4, h⟩ := pl_e h
  refine pf_2_2 S hK hD hW hv0 e4 q130 dX2_copy_13 (fun H locs hW => ?_)
  refine lv_iconst (v := (0 : Int32)) hx hb dX2_copy_16 (by decide) ?_
  refine lv_istore_n (lv' := [(2, .int (0 : Int32)), (0, .ref (a (2, i0, 0))), (1, .ref (a (2, i1, 0)))]) hx hb dX2_copy_17 rfl hl (by decide) rfl (fun ls hl => ?_)
  refine lv_iload_n hx hb dX2_copy_18 rfl (lv_at hl 0 rfl) ?_
  refine lv_iconst (v := (3 : Int32)) hx hb dX2_copy_19 (by decide) ?_
  refine lv_icmp_ge (tgt := 65) hx hb dX2_copy_20 (by decide) (fun c => absurd c (by decide)) (fun _ => ?_)
  refine lv_aload_n hx hb dX2_copy_23 rfl (lv_at hl 1 rfl) ?_
  refine gf_2_0 S hK hW hv0 q124 dX2_copy_24 ?_
  refine lv_iload_n hx hb dX2_copy_27 rfl (lv_at hl 0 rfl) ?_
  refine aald_3 (z := 0) S hK hW (vq_2_0 hv0) (by decide) (by decide) dX2_copy_28 ?_
  refine lv_aload_n hx hb dX2_copy_29 rfl (lv_at hl 2 rfl) ?_
  refine gf_2_0 S hK hW hv1 q124 dX2_copy_30 ?_
  refine lv_iload_n hx hb dX2_copy_33 rfl (lv_at hl 0 rfl) ?_
  refine aald_3 (z := 0) S hK hW (vq_2_0 hv1) (by decide) (by decide) dX2_copy_34 ?_
  refine gn_4_0 S hK hW (ve_3 (vq_2_0 hv1) (by decide)) q112 dX2_copy_35 ?_
  obtain ⟨F7, e8, h⟩ := pl_e h
  refine pn_4_0 S hK hD hW (ve_3 (vq_2_0 hv0) (by decide)) e8 q112 dX2_copy_38 (fun H locs hW => ?_)
  refine lv_aload_n hx hb dX2_copy_41 rfl (lv_at hl 1 rfl) ?_
  refine gf_2_0 S hK hW hv0 q124 dX2_copy_42 ?_
  refine lv_iload_n hx hb dX2_copy_45 rfl (lv_at hl 0 rfl) ?_
  refine aald_3 (z := 0) S hK hW (vq_2_0 hv0) (by decide) (by decide) dX2_copy_46 ?_
  refine lv_aload_n hx hb dX2_copy_47 rfl (lv_at hl 2 rfl) ?_
  refine gf_2_0 S hK hW hv1 q124 dX2_copy_48 ?_
  refine lv_iload_n hx hb dX2_copy_51 rfl (lv_at hl 0 rfl) ?_
  refine aald_3 (z := 0) S hK hW (vq_2_0 hv1) (by decide) (by decide) dX2_copy_52 ?_
  refine gn_4_1 S hK hW (ve_3 (vq_2_0 hv1) (by decide)) q115 dX2_copy_53 ?_
  obtain ⟨F11, e12, h⟩ := pl_e h
  refine pn_4_1 S hK hD hW (ve_3 (vq_2_0 hv0) (by decide)) e12 q115 dX2_copy_56 (fun H locs hW => ?_)
  refine lv_iinc (v := (1 : Int32)) (lv' := [(2, .int (1 : Int32)), (0, .ref (a (2, i0, 0))), (1, .ref (a (2, i1, 0)))]) hx hb dX2_copy_59 hl (k := 0) rfl (by decide) (by decide) rfl (fun ls hl => ?_)
  refine lv_goto (tgt := 18) hx hb dX2_copy_62 (by decide) ?_
  refine lv_iload_n hx hb dX2_copy_18 rfl (lv_at hl 0 rfl) ?_
  refine lv_iconst (v := (3 : Int32)) hx hb dX2_copy_19 (by decide) ?_
  refine lv_icmp_ge (tgt := 65) hx hb dX2_copy_20 (by decide) (fun c => absurd c (by decide)) (fun _ => ?_)
  refine lv_aload_n hx hb dX2_copy_23 rfl (lv_at hl 1 rfl) ?_
  refine gf_2_0 S hK hW hv0 q124 dX2_copy_24 ?_
  refine lv_iload_n hx hb dX2_copy_27 rfl (lv_at hl 0 rfl) ?_
  refine aald_3 (z := 1) S hK hW (vq_2_0 hv0) (by decide) (by decide) dX2_copy_28 ?_
  refine lv_aload_n hx hb dX2_copy_29 rfl (lv_at hl 2 rfl) ?_
  refine gf_2_0 S hK hW hv1 q124 dX2_copy_30 ?_
  refine lv_iload_n hx hb dX2_copy_33 rfl (lv_at hl 0 rfl) ?_
  refine aald_3 (z := 1) S hK hW (vq_2_0 hv1) (by decide) (by decide) dX2_copy_34 ?_
  refine gn_4_0 S hK hW (ve_3 (vq_2_0 hv1) (by decide)) q112 dX2_copy_35 ?_
  obtain ⟨F15, e16, h⟩ := pl_e h
  refine pn_4_0 S hK hD hW (ve_3 (vq_2_0 hv0) (by decide)) e16 q112 dX2_copy_38 (fun H locs hW => ?_)
  refine lv_aload_n hx hb dX2_copy_41 rfl (lv_at hl 1 rfl) ?_
  refine gf_2_0 S hK hW hv0 q124 dX2_copy_42 ?_
  refine lv_iload_n hx hb dX2_copy_45 rfl (lv_at hl 0 rfl) ?_
  refine aald_3 (z := 1) S hK hW (vq_2_0 hv0) (by decide) (by decide) dX2_copy_46 ?_
  refine lv_aload_n hx hb dX2_copy_47 rfl (lv_at hl 2 rfl) ?_
  refine gf_2_0 S hK hW hv1 q124 dX2_copy_48 ?_
  refine lv_iload_n hx hb dX2_copy_51 rfl (lv_at hl 0 rfl) ?_
  refine aald_3 (z := 1) S hK hW (vq_2_0 hv1) (by decide) (by decide) dX2_copy_52 ?_
  refine gn_4_1 S hK hW (ve_3 (vq_2_0 hv1) (by decide)) q115 dX2_copy_53 ?_
  obtain ⟨F19, e20, h⟩ := pl_e h
  refine pn_4_1 S hK hD hW (ve_3 (vq_2_0 hv0) (by decide)) e20 q115 dX2_copy_56 (fun H locs hW => ?_)
  refine lv_iinc (v := (2 : Int32)) (lv' := [(2, .int (2 : Int32)), (0, .ref (a (2, i0, 0))), (1, .ref (a (2, i1, 0)))]) hx hb dX2_copy_59 hl (k := 0) rfl (by decide) (by decide) rfl (fun ls hl => ?_)
  refine lv_goto (tgt := 18) hx hb dX2_copy_62 (by decide) ?_
  refine lv_iload_n hx hb dX2_copy_18 rfl (lv_at hl 0 rfl) ?_
  refine lv_iconst (v := (3 : Int32)) hx hb dX2_copy_19 (by decide) ?_
  refine lv_icmp_ge (tgt := 65) hx hb dX2_copy_20 (by decide) (fun c => absurd c (by decide)) (fun _ => ?_)
  refine lv_aload_n hx hb dX2_copy_23 rfl (lv_at hl 1 rfl) ?_
  refine gf_2_0 S hK hW hv0 q124 dX2_copy_24 ?_
  refine lv_iload_n hx hb dX2_copy_27 rfl (lv_at hl 0 rfl) ?_
  refine aald_3 (z := 2) S hK hW (vq_2_0 hv0) (by decide) (by decide) dX2_copy_28 ?_
  refine lv_aload_n hx hb dX2_copy_29 rfl (lv_at hl 2 rfl) ?_
  refine gf_2_0 S hK hW hv1 q124 dX2_copy_30 ?_
  refine lv_iload_n hx hb dX2_copy_33 rfl (lv_at hl 0 rfl) ?_
  refine aald_3 (z := 2) S hK hW (vq_2_0 hv1) (by decide) (by decide) dX2_copy_34 ?_
  refine gn_4_0 S hK hW (ve_3 (vq_2_0 hv1) (by decide)) q112 dX2_copy_35 ?_
  obtain ⟨F23, e24, h⟩ := pl_e h
  refine pn_4_0 S hK hD hW (ve_3 (vq_2_0 hv0) (by decide)) e24 q112 dX2_copy_38 (fun H locs hW => ?_)
  refine lv_aload_n hx hb dX2_copy_41 rfl (lv_at hl 1 rfl) ?_
  refine gf_2_0 S hK hW hv0 q124 dX2_copy_42 ?_
  refine lv_iload_n hx hb dX2_copy_45 rfl (lv_at hl 0 rfl) ?_
  refine aald_3 (z := 2) S hK hW (vq_2_0 hv0) (by decide) (by decide) dX2_copy_46 ?_
  refine lv_aload_n hx hb dX2_copy_47 rfl (lv_at hl 2 rfl) ?_
  refine gf_2_0 S hK hW hv1 q124 dX2_copy_48 ?_
  refine lv_iload_n hx hb dX2_copy_51 rfl (lv_at hl 0 rfl) ?_
  refine aald_3 (z := 2) S hK hW (vq_2_0 hv1) (by decide) (by decide) dX2_copy_52 ?_
  refine gn_4_1 S hK hW (ve_3 (vq_2_0 hv1) (by decide)) q115 dX2_copy_53 ?_
  obtain ⟨F27, e28, h⟩ := pl_e h
  refine pn_4_1 S hK hD hW (ve_3 (vq_2_0 hv0) (by decide)) e28 q115 dX2_copy_56 (fun H locs hW => ?_)
  refine lv_iinc (v := (3 : Int32)) (lv' := [(2, .int (3 : Int32)), (0, .ref (a (2, i0, 0))), (1, .ref (a (2, i1, 0)))]) hx hb dX2_copy_59 hl (k := 0) rfl (by decide) (by decide) rfl (fun ls hl => ?_)
  refine lv_goto (tgt := 18) hx hb dX2_copy_62 (by decide) ?_
  refine lv_iload_n hx hb dX2_copy_18 rfl (lv_at hl 0 rfl) ?_
  refine lv_iconst (v := (3 : Int32)) hx hb dX2_copy_19 (by decide) ?_
  refine lv_icmp_ge (tgt := 65) hx hb dX2_copy_20 (by decide) (fun _ => ?_) (fun c => absurd c (by decide))
  cases h
  exact we_v S hr hlk hW dX2_copy_65
def fn_X2_with (F : St) (i0 : Nat) (p1 : Int32) (p2 : Int32) : Option (Int32) :=
  if (F 2 1 i0 0) = 0 then some (0 : Int32) else og (vpb p2 3) (og (nzl ((F 2 1 i0 0).toInt64)) (some ((((F 4 1 i0 p2.toNatClampNeg).toInt64 * p1.toInt64) / (F 2 1 i0 0).toInt64).toInt32)))
theorem yd_X2_with : yX2_with.cls = RX2 ∧ yX2_with.cls ≠ "java/lang/invoke/MethodHandle" ∧ yX2_with.cls ≠ "java/lang/invoke/VarHandle" ∧ (parseMethodDescriptor yX2_with.desc).map (fun d => d.parameters.length) = some 2 := by decide +kernel
set_option maxHeartbeats 4000000 in
theorem met_X2_with (l : Launch) {D : va_G} {dA : WK} {a : Ix → Nat} (hD : wD D dA a) {F : St} {i0 : Nat} {p1 : Int32} {p2 : Int32} {rz : Int32} (hv0 : wVd dA (2, i0, 0)) (h : fn_X2_with F i0 p1 p2 = some rz) : Mi l yX2_with cX2_with 3 .int 0 0 D dA a F [.ref (a (2, i0, 0)), .int p1, .int p2] F rz := by
  refine fun sz => mst (Qc := fun sz => wQi D dA a sz F rz) (by decide) (Nat.le_of_ble_eq_true rfl) ?_ sz
  intro p e s m below meth c S hr hlk hK hW ls hl
  have hl : lv_has ls 3 [(0, .ref (a (2, i0, 0))), (1, .int p1), (2, .int p2)] := hl
  have hx := S.1
  have hb := S.2.1
  generalize ([.ref (a (2, i0, 0)), .int p1, .int p2] : List Value).toArray = av at S ⊢
  unfold fn_X2_with at h
  obtain ⟨H, eH⟩ : ∃ z, z = s.heap := ⟨_, rfl⟩
  obtain ⟨locs, eL⟩ : ∃ z : List Loc, z = [] := ⟨_, rfl⟩
  show WX p l e (rmL 0 0) s m av below meth c (wQi D dA a s.heap.size F rz) dA a s.heap [] (F0 m 0 ls [])
  have hW : wS D dA a s F H locs := by rw [eH, eL]; exact wS_in hW
  refine wx_in eH eL ?_
  clear eH eL
  refine lv_aload_n hx hb dX2_with_0 rfl (lv_at hl 0 rfl) ?_
  refine gf_2_1 S hK hW hv0 q127 dX2_with_1 ?_
  refine lv_if_ne (tgt := 11) hx hb dX2_with_4 (by decide) (fun c1 => ?_) (fun c1 => ?_)
  · have h := if_f h c1
    refine lv_aload_n hx hb dX2_with_11 rfl (lv_at hl 0 rfl) ?_
    refine gf_2_0 S hK hW hv0 q124 dX2_with_12 ?_
    refine lv_iload_n hx hb dX2_with_15 rfl (lv_at hl 2 rfl) ?_
    obtain ⟨g2, h⟩ := og_e h
    refine aald_3 S hK hW (vq_2_0 hv0) g2 rfl dX2_with_16 ?_
    have v3 := (ve_3 (vq_2_0 hv0) (vpb_lt g2))
    refine gn_4_1 S hK hW v3 q115 dX2_with_17 ?_
    refine lv_i2l hx hb dX2_with_20 rfl ?_
    refine lv_iload_n hx hb dX2_with_21 rfl (lv_at hl 1 rfl) ?_
    refine lv_i2l hx hb dX2_with_22 rfl ?_
    refine lv_lmul hx hb dX2_with_23 ?_
    refine lv_aload_n hx hb dX2_with_24 rfl (lv_at hl 0 rfl) ?_
    refine gf_2_1 S hK hW hv0 q127 dX2_with_25 ?_
    refine lv_i2l hx hb dX2_with_28 rfl ?_
    obtain ⟨g4, h⟩ := og_e h
    refine lv_ldiv hx hb dX2_with_29 (nzl_e g4) ?_
    refine lv_l2i hx hb dX2_with_30 rfl ?_
    cases h
    exact we_i S hr hlk hW dX2_with_31
  · have h := if_t h c1
    refine lv_iconst (v := (0 : Int32)) hx hb dX2_with_7 (by decide) ?_
    refine lv_goto (tgt := 31) hx hb dX2_with_8 (by decide) ?_
    cases h
    exact we_i S hr hlk hW dX2_with_31
def fn_X2_note (F : St) (i0 : Nat) (i1 : Nat) (p2 : Int32) (p3 : Int32) : Option (St) :=
  pl (fu F 2 3 i0 0 ((F 2 3 i0 0) + (p3 * p2))) (fun F1 => ob (fn_X2_with F1 i1 p2 (0 : Int32)) (fun r3 => pl (fu F1 5 0 i0 0 ((F1 5 0 i0 0) + (p3 * r3))) (fun F5 => ob (fn_X2_with F5 i1 p2 (1 : Int32)) (fun r7 => pl (fu F5 5 0 i0 1 ((F5 5 0 i0 1) + (p3 * r7))) (fun F9 => ob (fn_X2_with F9 i1 p2 (2 : Int32)) (fun r11 => pl (fu F9 5 0 i0 2 ((F9 5 0 i0 2) + (p3 * r11))) (fun F13 => some F13)))))))
theorem yd_X2_note : yX2_note.cls = RX2 ∧ yX2_note.cls ≠ "java/lang/invoke/MethodHandle" ∧ yX2_note.cls ≠ "java/lang/invoke/VarHandle" ∧ (parseMethodDescriptor yX2_note.desc).map (fun d => d.parameters.length) = some 3 := by decide +kernel
set_option maxHeartbeats 4000000 in
theorem met_X2_note (l : Launch) {D : va_G} {dA : WK} {a : Ix → Nat} (hD : wD D dA a) {F : St} {i0 : Nat} {i1 : Nat} {p2 : Int32} {p3 : Int32} {Fz : St} (hv0 : wVd dA (2, i0, 0)) (hv1 : wVd dA (2, i1, 0)) (h : fn_X2_note F i0 i1 p2 p3 = some Fz) : Mv l yX2_note cX2_note 5 1 22 D dA a F [.ref (a (2, i0, 0)), .ref (a (2, i1, 0)), .int p2, .int p3] Fz := by
  refine fun sz => mst (Qc := fun sz => wQv D dA a sz Fz) (by decide) (Nat.le_of_ble_eq_true rfl) ?_ sz
  intro p e s m below meth c S hr hlk hK hW ls hl
  have hl : lv_has ls 5 [(0, .ref (a (2, i0, 0))), (1, .ref (a (2, i1, 0))), (2, .int p2), (3, .int p3)] := hl
  have hx := S.1
  have hb := S.2.1
  generalize ([.ref (a (2, i0, 0)), .ref (a (2, i1, 0)), .int p2, .int p3] : List Value).toArray = av at S ⊢
  unfold fn_X2_note at h
  obtain ⟨H, eH⟩ : ∃ z, z = s.heap := ⟨_, rfl⟩
  obtain ⟨locs, eL⟩ : ∃ z : List Loc, z = [] := ⟨_, rfl⟩
  show WX p l e (rmL 1 22) s m av below meth c (wQv D dA a s.heap.size Fz) dA a s.heap [] (F0 m 0 ls [])
  have hW : wS D dA a s F H locs := by rw [eH, eL]; exact wS_in hW
  refine wx_in eH eL ?_
  clear eH eL
  refine lv_aload_n hx hb dX2_note_0 rfl (lv_at hl 0 rfl) ?_
  refine lv_dup hx hb dX2_note_1 rfl ?_
  refine gf_2_3 S hK hW hv0 q133 dX2_note_2 ?_
  refine lv_iload_n hx hb dX2_note_5 rfl (lv_at hl 3 rfl) ?_
  refine lv_iload_n hx hb dX2_note_6 rfl (lv_at hl 2 rfl) ?_
  refine lv_imul hx hb dX2_note_7 ?_
  refine lv_iadd hx hb dX2_note_8 ?_
  obtain ⟨F1, e2, h⟩ := pl_e h
  refine pf_2_3 S hK hD hW hv0 e2 q133 dX2_note_9 (fun H locs hW => ?_)
  refine lv_iconst (v := (0 : Int32)) hx hb dX2_note_12 (by decide) ?_
  refine lv_istore (lv' := [(4, .int (0 : Int32)), (0, .ref (a (2, i0, 0))), (1, .ref (a (2, i1, 0))), (2, .int p2), (3, .int p3)]) hx hb dX2_note_13 hl (by decide) rfl (fun ls hl => ?_)
  refine lv_iload hx hb dX2_note_15 (lv_at hl 0 rfl) ?_
  refine lv_iconst (v := (3 : Int32)) hx hb dX2_note_17 (by decide) ?_
  refine lv_icmp_ge (tgt := 46) hx hb dX2_note_18 (by decide) (fun c => absurd c (by decide)) (fun _ => ?_)
  refine lv_aload_n hx hb dX2_note_21 rfl (lv_at hl 1 rfl) ?_
  refine gf_2_4 S hK hW hv0 q134 dX2_note_22 ?_
  refine lv_iload hx hb dX2_note_25 (lv_at hl 0 rfl) ?_
  refine lv_dup2_11 hx hb dX2_note_27 rfl rfl ?_
  refine ald_5 (z := 0) S hK hW (vq_2_4 hv0) (by decide) (by decide) dX2_note_28 ?_
  refine lv_iload_n hx hb dX2_note_29 rfl (lv_at hl 4 rfl) ?_
  refine lv_aload_n hx hb dX2_note_30 rfl (lv_at hl 2 rfl) ?_
  refine lv_iload_n hx hb dX2_note_31 rfl (lv_at hl 3 rfl) ?_
  refine lv_iload hx hb dX2_note_32 (lv_at hl 0 rfl) ?_
  obtain ⟨r3, hc4, h⟩ := ob_e h
  refine wk_i (va_runV (As := [.int p2, .int (0 : Int32)]) (rest := [.int p3, .int (F1 5 0 i0 0), .int (0 : Int32), .ref (a (5, i0, 0))]) S (met_X2_with l hD hv1 hc4 H.size) (cwV 2 S.2.2.2.2 (lw_V q748 q749 q750 q57 q751) rfl rfl rfl yd_X2_with ⟨Nat.le_of_ble_eq_true rfl, Nat.le_of_ble_eq_true rfl⟩) (wpreV hK hW hv1 rfl rfl _) rfl rfl hl.1 rfl (lv_room (Nat.le_of_ble_eq_true rfl)) dX2_note_34 ⟨Nat.le_refl 0, Nat.le_refl 0⟩) hW (fun H locs hW => ?_)
  refine lv_imul hx hb dX2_note_37 ?_
  refine lv_iadd hx hb dX2_note_38 ?_
  obtain ⟨F5, e6, h⟩ := pl_e h
  refine ast_5 (z := 0) S hK hD hW (vq_2_4 hv0) (by decide) (by decide) e6 dX2_note_39 (fun H locs hW => ?_)
  refine lv_iinc (v := (1 : Int32)) (lv' := [(4, .int (1 : Int32)), (0, .ref (a (2, i0, 0))), (1, .ref (a (2, i1, 0))), (2, .int p2), (3, .int p3)]) hx hb dX2_note_40 hl (k := 0) rfl (by decide) (by decide) rfl (fun ls hl => ?_)
  refine lv_goto (tgt := 15) hx hb dX2_note_43 (by decide) ?_
  refine lv_iload hx hb dX2_note_15 (lv_at hl 0 rfl) ?_
  refine lv_iconst (v := (3 : Int32)) hx hb dX2_note_17 (by decide) ?_
  refine lv_icmp_ge (tgt := 46) hx hb dX2_note_18 (by decide) (fun c => absurd c (by decide)) (fun _ => ?_)
  refine lv_aload_n hx hb dX2_note_21 rfl (lv_at hl 1 rfl) ?_
  refine gf_2_4 S hK hW hv0 q134 dX2_note_22 ?_
  refine lv_iload hx hb dX2_note_25 (lv_at hl 0 rfl) ?_
  refine lv_dup2_11 hx hb dX2_note_27 rfl rfl ?_
  refine ald_5 (z := 1) S hK hW (vq_2_4 hv0) (by decide) (by decide) dX2_note_28 ?_
  refine lv_iload_n hx hb dX2_note_29 rfl (lv_at hl 4 rfl) ?_
  refine lv_aload_n hx hb dX2_note_30 rfl (lv_at hl 2 rfl) ?_
  refine lv_iload_n hx hb dX2_note_31 rfl (lv_at hl 3 rfl) ?_
  refine lv_iload hx hb dX2_note_32 (lv_at hl 0 rfl) ?_
  obtain ⟨r7, hc8, h⟩ := ob_e h
  refine wk_i (va_runV (As := [.int p2, .int (1 : Int32)]) (rest := [.int p3, .int (F5 5 0 i0 1), .int (1 : Int32), .ref (a (5, i0, 0))]) S (met_X2_with l hD hv1 hc8 H.size) (cwV 2 S.2.2.2.2 (lw_V q748 q749 q750 q57 q751) rfl rfl rfl yd_X2_with ⟨Nat.le_of_ble_eq_true rfl, Nat.le_of_ble_eq_true rfl⟩) (wpreV hK hW hv1 rfl rfl _) rfl rfl hl.1 rfl (lv_room (Nat.le_of_ble_eq_true rfl)) dX2_note_34 ⟨Nat.le_refl 0, Nat.le_refl 0⟩) hW (fun H locs hW => ?_)
  refine lv_imul hx hb dX2_note_37 ?_
  refine lv_iadd hx hb dX2_note_38 ?_
  obtain ⟨F9, e10, h⟩ := pl_e h
  refine ast_5 (z := 1) S hK hD hW (vq_2_4 hv0) (by decide) (by decide) e10 dX2_note_39 (fun H locs hW => ?_)
  refine lv_iinc (v := (2 : Int32)) (lv' := [(4, .int (2 : Int32)), (0, .ref (a (2, i0, 0))), (1, .ref (a (2, i1, 0))), (2, .int p2), (3, .int p3)]) hx hb dX2_note_40 hl (k := 0) rfl (by decide) (by decide) rfl (fun ls hl => ?_)
  refine lv_goto (tgt := 15) hx hb dX2_note_43 (by decide) ?_
  refine lv_iload hx hb dX2_note_15 (lv_at hl 0 rfl) ?_
  refine lv_iconst (v := (3 : Int32)) hx hb dX2_note_17 (by decide) ?_
  refine lv_icmp_ge (tgt := 46) hx hb dX2_note_18 (by decide) (fun c => absurd c (by decide)) (fun _ => ?_)
  refine lv_aload_n hx hb dX2_note_21 rfl (lv_at hl 1 rfl) ?_
  refine gf_2_4 S hK hW hv0 q134 dX2_note_22 ?_
  refine lv_iload hx hb dX2_note_25 (lv_at hl 0 rfl) ?_
  refine lv_dup2_11 hx hb dX2_note_27 rfl rfl ?_
  refine ald_5 (z := 2) S hK hW (vq_2_4 hv0) (by decide) (by decide) dX2_note_28 ?_
  refine lv_iload_n hx hb dX2_note_29 rfl (lv_at hl 4 rfl) ?_
  refine lv_aload_n hx hb dX2_note_30 rfl (lv_at hl 2 rfl) ?_
  refine lv_iload_n hx hb dX2_note_31 rfl (lv_at hl 3 rfl) ?_
  refine lv_iload hx hb dX2_note_32 (lv_at hl 0 rfl) ?_
  obtain ⟨r11, hc12, h⟩ := ob_e h
  refine wk_i (va_runV (As := [.int p2, .int (2 : Int32)]) (rest := [.int p3, .int (F9 5 0 i0 2), .int (2 : Int32), .ref (a (5, i0, 0))]) S (met_X2_with l hD hv1 hc12 H.size) (cwV 2 S.2.2.2.2 (lw_V q748 q749 q750 q57 q751) rfl rfl rfl yd_X2_with ⟨Nat.le_of_ble_eq_true rfl, Nat.le_of_ble_eq_true rfl⟩) (wpreV hK hW hv1 rfl rfl _) rfl rfl hl.1 rfl (lv_room (Nat.le_of_ble_eq_true rfl)) dX2_note_34 ⟨Nat.le_refl 0, Nat.le_refl 0⟩) hW (fun H locs hW => ?_)
  refine lv_imul hx hb dX2_note_37 ?_
  refine lv_iadd hx hb dX2_note_38 ?_
  obtain ⟨F13, e14, h⟩ := pl_e h
  refine ast_5 (z := 2) S hK hD hW (vq_2_4 hv0) (by decide) (by decide) e14 dX2_note_39 (fun H locs hW => ?_)
  refine lv_iinc (v := (3 : Int32)) (lv' := [(4, .int (3 : Int32)), (0, .ref (a (2, i0, 0))), (1, .ref (a (2, i1, 0))), (2, .int p2), (3, .int p3)]) hx hb dX2_note_40 hl (k := 0) rfl (by decide) (by decide) rfl (fun ls hl => ?_)
  refine lv_goto (tgt := 15) hx hb dX2_note_43 (by decide) ?_
  refine lv_iload hx hb dX2_note_15 (lv_at hl 0 rfl) ?_
  refine lv_iconst (v := (3 : Int32)) hx hb dX2_note_17 (by decide) ?_
  refine lv_icmp_ge (tgt := 46) hx hb dX2_note_18 (by decide) (fun _ => ?_) (fun c => absurd c (by decide))
  cases h
  exact we_v S hr hlk hW dX2_note_46
def fn_X2_settle (F : St) (i0 : Nat) : Option (St) :=
  pl (fu F 2 1 i0 0 ((F 2 1 i0 0) + (F 2 3 i0 0))) (fun F1 => pl (fu F1 2 3 i0 0 (0 : Int32)) (fun F3 => pl (fu F3 4 1 i0 0 ((F3 4 1 i0 0) + (F3 5 0 i0 0))) (fun F6 => pl (fu F6 5 0 i0 0 (0 : Int32)) (fun F8 => pl (fu F8 4 1 i0 1 ((F8 4 1 i0 1) + (F8 5 0 i0 1))) (fun F11 => pl (fu F11 5 0 i0 1 (0 : Int32)) (fun F13 => pl (fu F13 4 1 i0 2 ((F13 4 1 i0 2) + (F13 5 0 i0 2))) (fun F16 => pl (fu F16 5 0 i0 2 (0 : Int32)) (fun F18 => some F18))))))))
theorem yd_X2_settle : yX2_settle.cls = RX2 ∧ yX2_settle.cls ≠ "java/lang/invoke/MethodHandle" ∧ yX2_settle.cls ≠ "java/lang/invoke/VarHandle" ∧ (parseMethodDescriptor yX2_settle.desc).map (fun d => d.parameters.length) = some 0 := by decide +kernel
set_option maxHeartbeats 4000000 in
theorem met_X2_settle (l : Launch) {D : va_G} {dA : WK} {a : Ix → Nat} (hD : wD D dA a) {F : St} {i0 : Nat} {Fz : St} (hv0 : wVd dA (2, i0, 0)) (h : fn_X2_settle F i0 = some Fz) : Mv l yX2_settle cX2_settle 2 0 0 D dA a F [.ref (a (2, i0, 0))] Fz := by
  refine fun sz => mst (Qc := fun sz => wQv D dA a sz Fz) (by decide) (Nat.le_of_ble_eq_true rfl) ?_ sz
  intro p e s m below meth c S hr hlk hK hW ls hl
  have hl : lv_has ls 2 [(0, .ref (a (2, i0, 0)))] := hl
  have hx := S.1
  have hb := S.2.1
  generalize ([.ref (a (2, i0, 0))] : List Value).toArray = av at S ⊢
  unfold fn_X2_settle at h
  obtain ⟨H, eH⟩ : ∃ z, z = s.heap := ⟨_, rfl⟩
  obtain ⟨locs, eL⟩ : ∃ z : List Loc, z = [] := ⟨_, rfl⟩
  show WX p l e (rmL 0 0) s m av below meth c (wQv D dA a s.heap.size Fz) dA a s.heap [] (F0 m 0 ls [])
  have hW : wS D dA a s F H locs := by rw [eH, eL]; exact wS_in hW
  refine wx_in eH eL ?_
  clear eH eL
  refine lv_aload_n hx hb dX2_settle_0 rfl (lv_at hl 0 rfl) ?_
  refine lv_dup hx hb dX2_settle_1 rfl ?_
  refine gf_2_1 S hK hW hv0 q127 dX2_settle_2 ?_
  refine lv_aload_n hx hb dX2_settle_5 rfl (lv_at hl 0 rfl) ?_
  refine gf_2_3 S hK hW hv0 q133 dX2_settle_6 ?_
  refine lv_iadd hx hb dX2_settle_9 ?_
  obtain ⟨F1, e2, h⟩ := pl_e h
  refine pf_2_1 S hK hD hW hv0 e2 q127 dX2_settle_10 (fun H locs hW => ?_)
  refine lv_aload_n hx hb dX2_settle_13 rfl (lv_at hl 0 rfl) ?_
  refine lv_iconst (v := (0 : Int32)) hx hb dX2_settle_14 (by decide) ?_
  obtain ⟨F3, e4, h⟩ := pl_e h
  refine pf_2_3 S hK hD hW hv0 e4 q133 dX2_settle_15 (fun H locs hW => ?_)
  refine lv_iconst (v := (0 : Int32)) hx hb dX2_settle_18 (by decide) ?_
  refine lv_istore_n (lv' := [(1, .int (0 : Int32)), (0, .ref (a (2, i0, 0)))]) hx hb dX2_settle_19 rfl hl (by decide) rfl (fun ls hl => ?_)
  refine lv_iload_n hx hb dX2_settle_20 rfl (lv_at hl 0 rfl) ?_
  refine lv_iconst (v := (3 : Int32)) hx hb dX2_settle_21 (by decide) ?_
  refine lv_icmp_ge (tgt := 58) hx hb dX2_settle_22 (by decide) (fun c => absurd c (by decide)) (fun _ => ?_)
  refine lv_aload_n hx hb dX2_settle_25 rfl (lv_at hl 1 rfl) ?_
  refine gf_2_0 S hK hW hv0 q124 dX2_settle_26 ?_
  refine lv_iload_n hx hb dX2_settle_29 rfl (lv_at hl 0 rfl) ?_
  refine aald_3 (z := 0) S hK hW (vq_2_0 hv0) (by decide) (by decide) dX2_settle_30 ?_
  refine lv_dup hx hb dX2_settle_31 rfl ?_
  refine gn_4_1 S hK hW (ve_3 (vq_2_0 hv0) (by decide)) q115 dX2_settle_32 ?_
  refine lv_aload_n hx hb dX2_settle_35 rfl (lv_at hl 1 rfl) ?_
  refine gf_2_4 S hK hW hv0 q134 dX2_settle_36 ?_
  refine lv_iload_n hx hb dX2_settle_39 rfl (lv_at hl 0 rfl) ?_
  refine ald_5 (z := 0) S hK hW (vq_2_4 hv0) (by decide) (by decide) dX2_settle_40 ?_
  refine lv_iadd hx hb dX2_settle_41 ?_
  obtain ⟨F6, e7, h⟩ := pl_e h
  refine pn_4_1 S hK hD hW (ve_3 (vq_2_0 hv0) (by decide)) e7 q115 dX2_settle_42 (fun H locs hW => ?_)
  refine lv_aload_n hx hb dX2_settle_45 rfl (lv_at hl 1 rfl) ?_
  refine gf_2_4 S hK hW hv0 q134 dX2_settle_46 ?_
  refine lv_iload_n hx hb dX2_settle_49 rfl (lv_at hl 0 rfl) ?_
  refine lv_iconst (v := (0 : Int32)) hx hb dX2_settle_50 (by decide) ?_
  obtain ⟨F8, e9, h⟩ := pl_e h
  refine ast_5 (z := 0) S hK hD hW (vq_2_4 hv0) (by decide) (by decide) e9 dX2_settle_51 (fun H locs hW => ?_)
  refine lv_iinc (v := (1 : Int32)) (lv' := [(1, .int (1 : Int32)), (0, .ref (a (2, i0, 0)))]) hx hb dX2_settle_52 hl (k := 0) rfl (by decide) (by decide) rfl (fun ls hl => ?_)
  refine lv_goto (tgt := 20) hx hb dX2_settle_55 (by decide) ?_
  refine lv_iload_n hx hb dX2_settle_20 rfl (lv_at hl 0 rfl) ?_
  refine lv_iconst (v := (3 : Int32)) hx hb dX2_settle_21 (by decide) ?_
  refine lv_icmp_ge (tgt := 58) hx hb dX2_settle_22 (by decide) (fun c => absurd c (by decide)) (fun _ => ?_)
  refine lv_aload_n hx hb dX2_settle_25 rfl (lv_at hl 1 rfl) ?_
  refine gf_2_0 S hK hW hv0 q124 dX2_settle_26 ?_
  refine lv_iload_n hx hb dX2_settle_29 rfl (lv_at hl 0 rfl) ?_
  refine aald_3 (z := 1) S hK hW (vq_2_0 hv0) (by decide) (by decide) dX2_settle_30 ?_
  refine lv_dup hx hb dX2_settle_31 rfl ?_
  refine gn_4_1 S hK hW (ve_3 (vq_2_0 hv0) (by decide)) q115 dX2_settle_32 ?_
  refine lv_aload_n hx hb dX2_settle_35 rfl (lv_at hl 1 rfl) ?_
  refine gf_2_4 S hK hW hv0 q134 dX2_settle_36 ?_
  refine lv_iload_n hx hb dX2_settle_39 rfl (lv_at hl 0 rfl) ?_
  refine ald_5 (z := 1) S hK hW (vq_2_4 hv0) (by decide) (by decide) dX2_settle_40 ?_
  refine lv_iadd hx hb dX2_settle_41 ?_
  obtain ⟨F11, e12, h⟩ := pl_e h
  refine pn_4_1 S hK hD hW (ve_3 (vq_2_0 hv0) (by decide)) e12 q115 dX2_settle_42 (fun H locs hW => ?_)
  refine lv_aload_n hx hb dX2_settle_45 rfl (lv_at hl 1 rfl) ?_
  refine gf_2_4 S hK hW hv0 q134 dX2_settle_46 ?_
  refine lv_iload_n hx hb dX2_settle_49 rfl (lv_at hl 0 rfl) ?_
  refine lv_iconst (v := (0 : Int32)) hx hb dX2_settle_50 (by decide) ?_
  obtain ⟨F13, e14, h⟩ := pl_e h
  refine ast_5 (z := 1) S hK hD hW (vq_2_4 hv0) (by decide) (by decide) e14 dX2_settle_51 (fun H locs hW => ?_)
  refine lv_iinc (v := (2 : Int32)) (lv' := [(1, .int (2 : Int32)), (0, .ref (a (2, i0, 0)))]) hx hb dX2_settle_52 hl (k := 0) rfl (by decide) (by decide) rfl (fun ls hl => ?_)
  refine lv_goto (tgt := 20) hx hb dX2_settle_55 (by decide) ?_
  refine lv_iload_n hx hb dX2_settle_20 rfl (lv_at hl 0 rfl) ?_
  refine lv_iconst (v := (3 : Int32)) hx hb dX2_settle_21 (by decide) ?_
  refine lv_icmp_ge (tgt := 58) hx hb dX2_settle_22 (by decide) (fun c => absurd c (by decide)) (fun _ => ?_)
  refine lv_aload_n hx hb dX2_settle_25 rfl (lv_at hl 1 rfl) ?_
  refine gf_2_0 S hK hW hv0 q124 dX2_settle_26 ?_
  refine lv_iload_n hx hb dX2_settle_29 rfl (lv_at hl 0 rfl) ?_
  refine aald_3 (z := 2) S hK hW (vq_2_0 hv0) (by decide) (by decide) dX2_settle_30 ?_
  refine lv_dup hx hb dX2_settle_31 rfl ?_
  refine gn_4_1 S hK hW (ve_3 (vq_2_0 hv0) (by decide)) q115 dX2_settle_32 ?_
  refine lv_aload_n hx hb dX2_settle_35 rfl (lv_at hl 1 rfl) ?_
  refine gf_2_4 S hK hW hv0 q134 dX2_settle_36 ?_
  refine lv_iload_n hx hb dX2_settle_39 rfl (lv_at hl 0 rfl) ?_
  refine ald_5 (z := 2) S hK hW (vq_2_4 hv0) (by decide) (by decide) dX2_settle_40 ?_
  refine lv_iadd hx hb dX2_settle_41 ?_
  obtain ⟨F16, e17, h⟩ := pl_e h
  refine pn_4_1 S hK hD hW (ve_3 (vq_2_0 hv0) (by decide)) e17 q115 dX2_settle_42 (fun H locs hW => ?_)
  refine lv_aload_n hx hb dX2_settle_45 rfl (lv_at hl 1 rfl) ?_
  refine gf_2_4 S hK hW hv0 q134 dX2_settle_46 ?_
  refine lv_iload_n hx hb dX2_settle_49 rfl (lv_at hl 0 rfl) ?_
  refine lv_iconst (v := (0 : Int32)) hx hb dX2_settle_50 (by decide) ?_
  obtain ⟨F18, e19, h⟩ := pl_e h
  refine ast_5 (z := 2) S hK hD hW (vq_2_4 hv0) (by decide) (by decide) e19 dX2_settle_51 (fun H locs hW => ?_)
  refine lv_iinc (v := (3 : Int32)) (lv' := [(1, .int (3 : Int32)), (0, .ref (a (2, i0, 0)))]) hx hb dX2_settle_52 hl (k := 0) rfl (by decide) (by decide) rfl (fun ls hl => ?_)
  refine lv_goto (tgt := 20) hx hb dX2_settle_55 (by decide) ?_
  refine lv_iload_n hx hb dX2_settle_20 rfl (lv_at hl 0 rfl) ?_
  refine lv_iconst (v := (3 : Int32)) hx hb dX2_settle_21 (by decide) ?_
  refine lv_icmp_ge (tgt := 58) hx hb dX2_settle_22 (by decide) (fun _ => ?_) (fun c => absurd c (by decide))
  cases h
  exact we_v S hr hlk hW dX2_settle_58
def fn_X1_clear (F : St) (i0 : Nat) (i1 : Nat) (p2 : Int32) : Option (St) :=
  pl (fu F 2 1 i1 0 (0 : Int32)) (fun F1 => pl (fu F1 2 2 i1 0 (0 : Int32)) (fun F3 => pl (fu F3 4 0 i1 0 ((F3 23 0 0 0) * p2)) (fun F6 => pl (fu F6 4 1 i1 0 (0 : Int32)) (fun F9 => pl (fu F9 4 0 i1 1 ((F9 23 0 0 1) * p2)) (fun F12 => pl (fu F12 4 1 i1 1 (0 : Int32)) (fun F15 => pl (fu F15 4 0 i1 2 ((F15 23 0 0 2) * p2)) (fun F18 => pl (fu F18 4 1 i1 2 (0 : Int32)) (fun F21 => some F21))))))))
theorem yd_X1_clear : yX1_clear.cls = RX1 ∧ yX1_clear.cls ≠ "java/lang/invoke/MethodHandle" ∧ yX1_clear.cls ≠ "java/lang/invoke/VarHandle" ∧ (parseMethodDescriptor yX1_clear.desc).map (fun d => d.parameters.length) = some 2 := by decide +kernel
set_option maxHeartbeats 4000000 in
theorem met_X1_clear (l : Launch) {D : va_G} {dA : WK} {a : Ix → Nat} (hD : wD D dA a) {F : St} {i0 : Nat} {i1 : Nat} {p2 : Int32} {Fz : St} (hv0 : wVd dA (1, i0, 0)) (hv1 : wVd dA (2, i1, 0)) (h : fn_X1_clear F i0 i1 p2 = some Fz) : Mv l yX1_clear cX1_clear 4 0 0 D dA a F [.ref (a (1, i0, 0)), .ref (a (2, i1, 0)), .int p2] Fz := by
  refine fun sz => mst (Qc := fun sz => wQv D dA a sz Fz) (by decide) (Nat.le_of_ble_eq_true rfl) ?_ sz
  intro p e s m below meth c S hr hlk hK hW ls hl
  have hl : lv_has ls 4 [(0, .ref (a (1, i0, 0))), (1, .ref (a (2, i1, 0))), (2, .int p2)] := hl
  have hx := S.1
  have hb := S.2.1
  generalize ([.ref (a (1, i0, 0)), .ref (a (2, i1, 0)), .int p2] : List Value).toArray = av at S ⊢
  unfold fn_X1_clear at h
  obtain ⟨H, eH⟩ : ∃ z, z = s.heap := ⟨_, rfl⟩
  obtain ⟨locs, eL⟩ : ∃ z : List Loc, z = [] := ⟨_, rfl⟩
  show WX p l e (rmL 0 0) s m av below meth c (wQv D dA a s.heap.size Fz) dA a s.heap [] (F0 m 0 ls [])
  have hW : wS D dA a s F H locs := by rw [eH, eL]; exact wS_in hW
  refine wx_in eH eL ?_
  clear eH eL
  refine lv_aload_n hx hb dX1_clear_0 rfl (lv_at hl 1 rfl) ?_
  refine lv_iconst (v := (0 : Int32)) hx hb dX1_clear_1 (by decide) ?_
  obtain ⟨F1, e2, h⟩ := pl_e h
  refine pn_2_1 S hK hD hW hv1 e2 q128 dX1_clear_2 (fun H locs hW => ?_)
  refine lv_aload_n hx hb dX1_clear_5 rfl (lv_at hl 1 rfl) ?_
  refine lv_iconst (v := (0 : Int32)) hx hb dX1_clear_6 (by decide) ?_
  obtain ⟨F3, e4, h⟩ := pl_e h
  refine pn_2_2 S hK hD hW hv1 e4 q131 dX1_clear_7 (fun H locs hW => ?_)
  refine lv_iconst (v := (0 : Int32)) hx hb dX1_clear_10 (by decide) ?_
  refine lv_istore_n (lv' := [(3, .int (0 : Int32)), (0, .ref (a (1, i0, 0))), (1, .ref (a (2, i1, 0))), (2, .int p2)]) hx hb dX1_clear_11 rfl hl (by decide) rfl (fun ls hl => ?_)
  refine lv_iload_n hx hb dX1_clear_12 rfl (lv_at hl 0 rfl) ?_
  refine lv_iconst (v := (3 : Int32)) hx hb dX1_clear_13 (by decide) ?_
  refine lv_icmp_ge (tgt := 53) hx hb dX1_clear_14 (by decide) (fun c => absurd c (by decide)) (fun _ => ?_)
  refine lv_aload_n hx hb dX1_clear_17 rfl (lv_at hl 2 rfl) ?_
  refine gn_2_0 S hK hW hv1 q125 dX1_clear_18 ?_
  refine lv_iload_n hx hb dX1_clear_21 rfl (lv_at hl 0 rfl) ?_
  refine aald_3 (z := 0) S hK hW (vq_2_0 hv1) (by decide) (by decide) dX1_clear_22 ?_
  refine lv_aload_n hx hb dX1_clear_23 rfl (lv_at hl 1 rfl) ?_
  refine gf_1_4 S hK hW hv0 q155 dX1_clear_24 ?_
  refine gn_0_2 S hK hW (vq_1_4 hv0) q275 dX1_clear_27 ?_
  refine lv_iload_n hx hb dX1_clear_30 rfl (lv_at hl 0 rfl) ?_
  refine ald_23 (z := 0) S hK hW (vq_0_2 (vq_1_4 hv0)) (by decide) (by decide) dX1_clear_31 ?_
  refine lv_iload_n hx hb dX1_clear_32 rfl (lv_at hl 3 rfl) ?_
  refine lv_imul hx hb dX1_clear_33 ?_
  obtain ⟨F6, e7, h⟩ := pl_e h
  refine pn_4_0 S hK hD hW (ve_3 (vq_2_0 hv1) (by decide)) e7 q113 dX1_clear_34 (fun H locs hW => ?_)
  refine lv_aload_n hx hb dX1_clear_37 rfl (lv_at hl 2 rfl) ?_
  refine gn_2_0 S hK hW hv1 q125 dX1_clear_38 ?_
  refine lv_iload_n hx hb dX1_clear_41 rfl (lv_at hl 0 rfl) ?_
  refine aald_3 (z := 0) S hK hW (vq_2_0 hv1) (by decide) (by decide) dX1_clear_42 ?_
  refine lv_iconst (v := (0 : Int32)) hx hb dX1_clear_43 (by decide) ?_
  obtain ⟨F9, e10, h⟩ := pl_e h
  refine pn_4_1 S hK hD hW (ve_3 (vq_2_0 hv1) (by decide)) e10 q116 dX1_clear_44 (fun H locs hW => ?_)
  refine lv_iinc (v := (1 : Int32)) (lv' := [(3, .int (1 : Int32)), (0, .ref (a (1, i0, 0))), (1, .ref (a (2, i1, 0))), (2, .int p2)]) hx hb dX1_clear_47 hl (k := 0) rfl (by decide) (by decide) rfl (fun ls hl => ?_)
  refine lv_goto (tgt := 12) hx hb dX1_clear_50 (by decide) ?_
  refine lv_iload_n hx hb dX1_clear_12 rfl (lv_at hl 0 rfl) ?_
  refine lv_iconst (v := (3 : Int32)) hx hb dX1_clear_13 (by decide) ?_
  refine lv_icmp_ge (tgt := 53) hx hb dX1_clear_14 (by decide) (fun c => absurd c (by decide)) (fun _ => ?_)
  refine lv_aload_n hx hb dX1_clear_17 rfl (lv_at hl 2 rfl) ?_
  refine gn_2_0 S hK hW hv1 q125 dX1_clear_18 ?_
  refine lv_iload_n hx hb dX1_clear_21 rfl (lv_at hl 0 rfl) ?_
  refine aald_3 (z := 1) S hK hW (vq_2_0 hv1) (by decide) (by decide) dX1_clear_22 ?_
  refine lv_aload_n hx hb dX1_clear_23 rfl (lv_at hl 1 rfl) ?_
  refine gf_1_4 S hK hW hv0 q155 dX1_clear_24 ?_
  refine gn_0_2 S hK hW (vq_1_4 hv0) q275 dX1_clear_27 ?_
  refine lv_iload_n hx hb dX1_clear_30 rfl (lv_at hl 0 rfl) ?_
  refine ald_23 (z := 1) S hK hW (vq_0_2 (vq_1_4 hv0)) (by decide) (by decide) dX1_clear_31 ?_
  refine lv_iload_n hx hb dX1_clear_32 rfl (lv_at hl 3 rfl) ?_
  refine lv_imul hx hb dX1_clear_33 ?_
  obtain ⟨F12, e13, h⟩ := pl_e h
  refine pn_4_0 S hK hD hW (ve_3 (vq_2_0 hv1) (by decide)) e13 q113 dX1_clear_34 (fun H locs hW => ?_)
  refine lv_aload_n hx hb dX1_clear_37 rfl (lv_at hl 2 rfl) ?_
  refine gn_2_0 S hK hW hv1 q125 dX1_clear_38 ?_
  refine lv_iload_n hx hb dX1_clear_41 rfl (lv_at hl 0 rfl) ?_
  refine aald_3 (z := 1) S hK hW (vq_2_0 hv1) (by decide) (by decide) dX1_clear_42 ?_
  refine lv_iconst (v := (0 : Int32)) hx hb dX1_clear_43 (by decide) ?_
  obtain ⟨F15, e16, h⟩ := pl_e h
  refine pn_4_1 S hK hD hW (ve_3 (vq_2_0 hv1) (by decide)) e16 q116 dX1_clear_44 (fun H locs hW => ?_)
  refine lv_iinc (v := (2 : Int32)) (lv' := [(3, .int (2 : Int32)), (0, .ref (a (1, i0, 0))), (1, .ref (a (2, i1, 0))), (2, .int p2)]) hx hb dX1_clear_47 hl (k := 0) rfl (by decide) (by decide) rfl (fun ls hl => ?_)
  refine lv_goto (tgt := 12) hx hb dX1_clear_50 (by decide) ?_
  refine lv_iload_n hx hb dX1_clear_12 rfl (lv_at hl 0 rfl) ?_
  refine lv_iconst (v := (3 : Int32)) hx hb dX1_clear_13 (by decide) ?_
  refine lv_icmp_ge (tgt := 53) hx hb dX1_clear_14 (by decide) (fun c => absurd c (by decide)) (fun _ => ?_)
  refine lv_aload_n hx hb dX1_clear_17 rfl (lv_at hl 2 rfl) ?_
  refine gn_2_0 S hK hW hv1 q125 dX1_clear_18 ?_
  refine lv_iload_n hx hb dX1_clear_21 rfl (lv_at hl 0 rfl) ?_
  refine aald_3 (z := 2) S hK hW (vq_2_0 hv1) (by decide) (by decide) dX1_clear_22 ?_
  refine lv_aload_n hx hb dX1_clear_23 rfl (lv_at hl 1 rfl) ?_
  refine gf_1_4 S hK hW hv0 q155 dX1_clear_24 ?_
  refine gn_0_2 S hK hW (vq_1_4 hv0) q275 dX1_clear_27 ?_
  refine lv_iload_n hx hb dX1_clear_30 rfl (lv_at hl 0 rfl) ?_
  refine ald_23 (z := 2) S hK hW (vq_0_2 (vq_1_4 hv0)) (by decide) (by decide) dX1_clear_31 ?_
  refine lv_iload_n hx hb dX1_clear_32 rfl (lv_at hl 3 rfl) ?_
  refine lv_imul hx hb dX1_clear_33 ?_
  obtain ⟨F18, e19, h⟩ := pl_e h
  refine pn_4_0 S hK hD hW (ve_3 (vq_2_0 hv1) (by decide)) e19 q113 dX1_clear_34 (fun H locs hW => ?_)
  refine lv_aload_n hx hb dX1_clear_37 rfl (lv_at hl 2 rfl) ?_
  refine gn_2_0 S hK hW hv1 q125 dX1_clear_38 ?_
  refine lv_iload_n hx hb dX1_clear_41 rfl (lv_at hl 0 rfl) ?_
  refine aald_3 (z := 2) S hK hW (vq_2_0 hv1) (by decide) (by decide) dX1_clear_42 ?_
  refine lv_iconst (v := (0 : Int32)) hx hb dX1_clear_43 (by decide) ?_
  obtain ⟨F21, e22, h⟩ := pl_e h
  refine pn_4_1 S hK hD hW (ve_3 (vq_2_0 hv1) (by decide)) e22 q116 dX1_clear_44 (fun H locs hW => ?_)
  refine lv_iinc (v := (3 : Int32)) (lv' := [(3, .int (3 : Int32)), (0, .ref (a (1, i0, 0))), (1, .ref (a (2, i1, 0))), (2, .int p2)]) hx hb dX1_clear_47 hl (k := 0) rfl (by decide) (by decide) rfl (fun ls hl => ?_)
  refine lv_goto (tgt := 12) hx hb dX1_clear_50 (by decide) ?_
  refine lv_iload_n hx hb dX1_clear_12 rfl (lv_at hl 0 rfl) ?_
  refine lv_iconst (v := (3 : Int32)) hx hb dX1_clear_13 (by decide) ?_
  refine lv_icmp_ge (tgt := 53) hx hb dX1_clear_14 (by decide) (fun _ => ?_) (fun c => absurd c (by decide))
  cases h
  exact we_v S hr hlk hW dX1_clear_53
/-loop lp_X1_begin_9-/
def lp_X1_begin_9 (i0 : Nat) (p1 : Int32) (x1 : Int32) : Nat → St → Int32 → Option (St × Int32)
  | 0, _, _ => none
  | n + 1, F9, x8 => if (4 : Int32) ≤ x8 then some (F9, x8) else og (vpb x1 4) (og (vpb x8 4) (ob (fn_X1_clear F9 i0 (4 * (4 * i0 + x1.toNatClampNeg) + x8.toNatClampNeg) p1) (fun F19 => lp_X1_begin_9 i0 p1 x1 n F19 (x8 + 1))))
theorem lp_X1_begin_9_s {i0 : Nat} {p1 : Int32} {x1 : Int32} {n : Nat} {F9 : St} {x8 : Int32} : lp_X1_begin_9 i0 p1 x1 (n + 1) F9 x8 = if (4 : Int32) ≤ x8 then some (F9, x8) else og (vpb x1 4) (og (vpb x8 4) (ob (fn_X1_clear F9 i0 (4 * (4 * i0 + x1.toNatClampNeg) + x8.toNatClampNeg) p1) (fun F19 => lp_X1_begin_9 i0 p1 x1 n F19 (x8 + 1)))) := rfl
/-loop lp_X1_begin_2-/
def lp_X1_begin_2 (i0 : Nat) (p1 : Int32) : Nat → St → Int32 → Option (St × Int32)
  | 0, _, _ => none
  | n + 1, F2, x1 => if (4 : Int32) ≤ x1 then some (F2, x1) else ob2 (lp_X1_begin_9 i0 p1 x1 300 F2 (0 : Int32)) (fun F10 x11 => lp_X1_begin_2 i0 p1 n F10 (x1 + 1))
theorem lp_X1_begin_2_s {i0 : Nat} {p1 : Int32} {n : Nat} {F2 : St} {x1 : Int32} : lp_X1_begin_2 i0 p1 (n + 1) F2 x1 = if (4 : Int32) ≤ x1 then some (F2, x1) else ob2 (lp_X1_begin_9 i0 p1 x1 300 F2 (0 : Int32)) (fun F10 x11 => lp_X1_begin_2 i0 p1 n F10 (x1 + 1)) := rfl
def fn_X1_begin (F : St) (i0 : Nat) (p1 : Int32) : Option (St) :=
  ob2 (lp_X1_begin_2 i0 p1 300 F (0 : Int32)) (fun F3 x4 => ob (fn_X1_clear F3 i0 (64 + i0) (0 : Int32)) (fun F23 => pl (fu F23 1 2 i0 0 (0 : Int32)) (fun F25 => some F25)))
theorem yd_X1_begin : yX1_begin.cls = RX1 ∧ yX1_begin.cls ≠ "java/lang/invoke/MethodHandle" ∧ yX1_begin.cls ≠ "java/lang/invoke/VarHandle" ∧ (parseMethodDescriptor yX1_begin.desc).map (fun d => d.parameters.length) = some 1 := by decide +kernel
set_option maxHeartbeats 4000000 in
theorem met_X1_begin (l : Launch) {D : va_G} {dA : WK} {a : Ix → Nat} (hD : wD D dA a) {F : St} {i0 : Nat} {p1 : Int32} {Fz : St} (hv0 : wVd dA (1, i0, 0)) (h : fn_X1_begin F i0 p1 = some Fz) : Mv l yX1_begin cX1_begin 4 1 23 D dA a F [.ref (a (1, i0, 0)), .int p1] Fz := by
  refine fun sz => mst (Qc := fun sz => wQv D dA a sz Fz) (by decide) (Nat.le_of_ble_eq_true rfl) ?_ sz
  intro p e s m below meth c S hr hlk hK hW ls hl
  have hl : lv_has ls 4 [(0, .ref (a (1, i0, 0))), (1, .int p1)] := hl
  have hx := S.1
  have hb := S.2.1
  generalize ([.ref (a (1, i0, 0)), .int p1] : List Value).toArray = av at S ⊢
  unfold fn_X1_begin at h
  obtain ⟨H, eH⟩ : ∃ z, z = s.heap := ⟨_, rfl⟩
  obtain ⟨locs, eL⟩ : ∃ z : List Loc, z = [] := ⟨_, rfl⟩
  show WX p l e (rmL 1 23) s m av below meth c (wQv D dA a s.heap.size Fz) dA a s.heap [] (F0 m 0 ls [])
  have hW : wS D dA a s F H locs := by rw [eH, eL]; exact wS_in hW
  refine wx_in eH eL ?_
  clear eH eL
  refine lv_iconst (v := (0 : Int32)) hx hb dX1_begin_0 (by decide) ?_
  refine lv_istore_n (lv' := [(2, .int (0 : Int32)), (0, .ref (a (1, i0, 0))), (1, .int p1)]) hx hb dX1_begin_1 rfl hl (by decide) rfl (fun ls hl => ?_)
  have L6 : ∀ (n : Nat) (F2 : St) (x1 : Int32) (F3 : St) (x4 : Int32), lp_X1_begin_2 i0 p1 n F2 x1 = some (F3, x4) → (∀ (H : Heap) (locs : List Loc) (ls : Array Slot), wS D dA a s F3 H locs → lv_has ls 4 [(0, .ref (a (1, i0, 0)))] → WX p l e (rmL 1 23) s m av below meth c (wQv D dA a s.heap.size Fz) dA a H locs (F0 m 39 ls [])) → ∀ (H : Heap) (locs : List Loc) (ls : Array Slot), wS D dA a s F2 H locs → lv_has ls 4 [(0, .ref (a (1, i0, 0))), (1, .int p1), (2, .int x1)] → WX p l e (rmL 1 23) s m av below meth c (wQv D dA a s.heap.size Fz) dA a H locs (F0 m 2 ls []) := by
    intro n
    induction n with
    | zero =>
      intro F2 x1 F3 x4 h
      exact absurd (show (none : Option (St × Int32)) = some (F3, x4) from h) (by simp)
    | succ n ih =>
      intro F2 x1 F3 x4 h K5 H locs ls hW hl
      have h := lp_X1_begin_2_s.symm.trans h
      refine lv_iload_n hx hb dX1_begin_2 rfl (lv_at hl 2 rfl) ?_
      refine lv_iconst (v := (4 : Int32)) hx hb dX1_begin_3 (by decide) ?_
      refine lv_icmp_ge (tgt := 39) hx hb dX1_begin_4 (by decide) (fun c7 => ?_) (fun c7 => ?_)
      · have h := if_t h c7
        cases h
        exact K5 H locs ls hW (lv_sub hl [0] rfl)
      · have h := if_f h c7
        refine lv_iconst (v := (0 : Int32)) hx hb dX1_begin_7 (by decide) ?_
        refine lv_istore_n (lv' := [(3, .int (0 : Int32)), (0, .ref (a (1, i0, 0))), (1, .int p1), (2, .int x1)]) hx hb dX1_begin_8 rfl hl (by decide) rfl (fun ls hl => ?_)
        have L13 : ∀ (n : Nat) (F9 : St) (x8 : Int32) (F10 : St) (x11 : Int32), lp_X1_begin_9 i0 p1 x1 n F9 x8 = some (F10, x11) → (∀ (H : Heap) (locs : List Loc) (ls : Array Slot), wS D dA a s F10 H locs → lv_has ls 4 [(0, .ref (a (1, i0, 0))), (1, .int p1), (2, .int x1)] → WX p l e (rmL 1 23) s m av below meth c (wQv D dA a s.heap.size Fz) dA a H locs (F0 m 33 ls [])) → ∀ (H : Heap) (locs : List Loc) (ls : Array Slot), wS D dA a s F9 H locs → lv_has ls 4 [(0, .ref (a (1, i0, 0))), (1, .int p1), (2, .int x1), (3, .int x8)] → WX p l e (rmL 1 23) s m av below meth c (wQv D dA a s.heap.size Fz) dA a H locs (F0 m 9 ls []) := by
          intro n
          induction n with
          | zero =>
            intro F9 x8 F10 x11 h
            exact absurd (show (none : Option (St × Int32)) = some (F10, x11) from h) (by simp)
          | succ n ih =>
            intro F9 x8 F10 x11 h K12 H locs ls hW hl
            have h := lp_X1_begin_9_s.symm.trans h
            refine lv_iload_n hx hb dX1_begin_9 rfl (lv_at hl 3 rfl) ?_
            refine lv_iconst (v := (4 : Int32)) hx hb dX1_begin_10 (by decide) ?_
            refine lv_icmp_ge (tgt := 33) hx hb dX1_begin_11 (by decide) (fun c14 => ?_) (fun c14 => ?_)
            · have h := if_t h c14
              cases h
              exact K12 H locs ls hW (lv_sub hl [0, 1, 2] rfl)
            · have h := if_f h c14
              refine lv_aload_n hx hb dX1_begin_14 rfl (lv_at hl 0 rfl) ?_
              refine lv_aload_n hx hb dX1_begin_15 rfl (lv_at hl 0 rfl) ?_
              refine gf_1_0 S hK hW hv0 q147 dX1_begin_16 ?_
              refine lv_iload_n hx hb dX1_begin_19 rfl (lv_at hl 2 rfl) ?_
              obtain ⟨g15, h⟩ := og_e h
              refine aald_6 S hK hW (vq_1_0 hv0) g15 rfl dX1_begin_20 ?_
              have v16 := (ve_6 (vq_1_0 hv0) (vpb_lt g15))
              refine lv_iload_n hx hb dX1_begin_21 rfl (lv_at hl 3 rfl) ?_
              obtain ⟨g17, h⟩ := og_e h
              refine aald_7 S hK hW v16 g17 rfl dX1_begin_22 ?_
              have v18 := (ve_7 v16 (vpb_lt g17))
              refine lv_iload_n hx hb dX1_begin_23 rfl (lv_at hl 1 rfl) ?_
              obtain ⟨F19, hc20, h⟩ := ob_e h
              refine wk_v (va_runV (As := [.ref (a (2, (4 * (4 * i0 + x1.toNatClampNeg) + x8.toNatClampNeg), 0)), .int p1]) (rest := []) S (met_X1_clear l hD hv0 v18 hc20 H.size) (cwV 2 S.2.2.2.2 (lw_V q261 q263 qs0 q56 q264) rfl rfl rfl yd_X1_clear ⟨Nat.le_of_ble_eq_true rfl, Nat.le_of_ble_eq_true rfl⟩) (wpreV hK hW hv0 rfl rfl _) rfl rfl hl.1 rfl (lv_room (Nat.le_of_ble_eq_true rfl)) dX1_begin_24 ⟨Nat.le_refl 0, Nat.le_refl 0⟩) hW (fun H locs hW => ?_)
              refine lv_iinc (v := (x8 + 1)) (lv' := [(3, .int (x8 + 1)), (0, .ref (a (1, i0, 0))), (1, .int p1), (2, .int x1)]) hx hb dX1_begin_27 hl (k := 3) rfl rfl (by decide) rfl (fun ls hl => ?_)
              refine lv_goto (tgt := 9) hx hb dX1_begin_30 (by decide) ?_
              exact ih _ _ _ _ h K12 H locs ls hW (lv_sub hl [1, 2, 3, 0] rfl)
        obtain ⟨F10, x11, hz21, h⟩ := ob2_e h
        refine L13 300 F2 (0 : Int32) F10 x11 hz21 (fun H locs ls hW hl => ?_) H locs ls hW (lv_sub hl [1, 2, 3, 0] rfl)
        refine lv_iinc (v := (x1 + 1)) (lv' := [(2, .int (x1 + 1)), (0, .ref (a (1, i0, 0))), (1, .int p1)]) hx hb dX1_begin_33 hl (k := 2) rfl rfl (by decide) rfl (fun ls hl => ?_)
        refine lv_goto (tgt := 2) hx hb dX1_begin_36 (by decide) ?_
        exact ih _ _ _ _ h K5 H locs ls hW (lv_sub hl [1, 2, 0] rfl)
  obtain ⟨F3, x4, hz22, h⟩ := ob2_e h
  refine L6 300 F (0 : Int32) F3 x4 hz22 (fun H locs ls hW hl => ?_) H locs ls hW (lv_sub hl [1, 2, 0] rfl)
  refine lv_aload_n hx hb dX1_begin_39 rfl (lv_at hl 0 rfl) ?_
  refine lv_aload_n hx hb dX1_begin_40 rfl (lv_at hl 0 rfl) ?_
  refine gf_1_1 S hK hW hv0 q149 dX1_begin_41 ?_
  refine lv_iconst (v := (0 : Int32)) hx hb dX1_begin_44 (by decide) ?_
  obtain ⟨F23, hc24, h⟩ := ob_e h
  refine wk_v (va_runV (As := [.ref (a (2, (64 + i0), 0)), .int (0 : Int32)]) (rest := []) S (met_X1_clear l hD hv0 (vq_1_1 hv0) hc24 H.size) (cwV 2 S.2.2.2.2 (lw_V q261 q263 qs0 q56 q264) rfl rfl rfl yd_X1_clear ⟨Nat.le_of_ble_eq_true rfl, Nat.le_of_ble_eq_true rfl⟩) (wpreV hK hW hv0 rfl rfl _) rfl rfl hl.1 rfl (lv_room (Nat.le_of_ble_eq_true rfl)) dX1_begin_45 ⟨Nat.le_refl 0, Nat.le_refl 0⟩) hW (fun H locs hW => ?_)
  refine lv_aload_n hx hb dX1_begin_48 rfl (lv_at hl 0 rfl) ?_
  refine lv_iconst (v := (0 : Int32)) hx hb dX1_begin_49 (by decide) ?_
  obtain ⟨F25, e26, h⟩ := pl_e h
  refine pf_1_2 S hK hD hW hv0 e26 q151 dX1_begin_50 (fun H locs hW => ?_)
  cases h
  exact we_v S hr hlk hW dX1_begin_53
/-loop lp_X1_copy_9-/
def lp_X1_copy_9 (i0 : Nat) (i1 : Nat) (x1 : Int32) : Nat → St → Int32 → Option (St × Int32)
  | 0, _, _ => none
  | n + 1, F9, x8 => if (4 : Int32) ≤ x8 then some (F9, x8) else og (vpb x1 4) (og (vpb x8 4) (ob (fn_X2_copy F9 (4 * (4 * i0 + x1.toNatClampNeg) + x8.toNatClampNeg) (4 * (4 * i1 + x1.toNatClampNeg) + x8.toNatClampNeg)) (fun F21 => lp_X1_copy_9 i0 i1 x1 n F21 (x8 + 1))))
theorem lp_X1_copy_9_s {i0 : Nat} {i1 : Nat} {x1 : Int32} {n : Nat} {F9 : St} {x8 : Int32} : lp_X1_copy_9 i0 i1 x1 (n + 1) F9 x8 = if (4 : Int32) ≤ x8 then some (F9, x8) else og (vpb x1 4) (og (vpb x8 4) (ob (fn_X2_copy F9 (4 * (4 * i0 + x1.toNatClampNeg) + x8.toNatClampNeg) (4 * (4 * i1 + x1.toNatClampNeg) + x8.toNatClampNeg)) (fun F21 => lp_X1_copy_9 i0 i1 x1 n F21 (x8 + 1)))) := rfl
/-loop lp_X1_copy_2-/
def lp_X1_copy_2 (i0 : Nat) (i1 : Nat) : Nat → St → Int32 → Option (St × Int32)
  | 0, _, _ => none
  | n + 1, F2, x1 => if (4 : Int32) ≤ x1 then some (F2, x1) else ob2 (lp_X1_copy_9 i0 i1 x1 300 F2 (0 : Int32)) (fun F10 x11 => lp_X1_copy_2 i0 i1 n F10 (x1 + 1))
theorem lp_X1_copy_2_s {i0 : Nat} {i1 : Nat} {n : Nat} {F2 : St} {x1 : Int32} : lp_X1_copy_2 i0 i1 (n + 1) F2 x1 = if (4 : Int32) ≤ x1 then some (F2, x1) else ob2 (lp_X1_copy_9 i0 i1 x1 300 F2 (0 : Int32)) (fun F10 x11 => lp_X1_copy_2 i0 i1 n F10 (x1 + 1)) := rfl
def fn_X1_copy (F : St) (i0 : Nat) (i1 : Nat) : Option (St) :=
  ob2 (lp_X1_copy_2 i0 i1 300 F (0 : Int32)) (fun F3 x4 => ob (fn_X2_copy F3 (64 + i0) (64 + i1)) (fun F25 => pl (fu F25 1 2 i0 0 (F25 1 2 i1 0)) (fun F27 => some F27)))
theorem yd_X1_copy : yX1_copy.cls = RX1 ∧ yX1_copy.cls ≠ "java/lang/invoke/MethodHandle" ∧ yX1_copy.cls ≠ "java/lang/invoke/VarHandle" ∧ (parseMethodDescriptor yX1_copy.desc).map (fun d => d.parameters.length) = some 1 := by decide +kernel
set_option maxHeartbeats 4000000 in
theorem met_X1_copy (l : Launch) {D : va_G} {dA : WK} {a : Ix → Nat} (hD : wD D dA a) {F : St} {i0 : Nat} {i1 : Nat} {Fz : St} (hv0 : wVd dA (1, i0, 0)) (hv1 : wVd dA (1, i1, 0)) (h : fn_X1_copy F i0 i1 = some Fz) : Mv l yX1_copy cX1_copy 4 1 22 D dA a F [.ref (a (1, i0, 0)), .ref (a (1, i1, 0))] Fz := by
  refine fun sz => mst (Qc := fun sz => wQv D dA a sz Fz) (by decide) (Nat.le_of_ble_eq_true rfl) ?_ sz
  intro p e s m below meth c S hr hlk hK hW ls hl
  have hl : lv_has ls 4 [(0, .ref (a (1, i0, 0))), (1, .ref (a (1, i1, 0)))] := hl
  have hx := S.1
  have hb := S.2.1
  generalize ([.ref (a (1, i0, 0)), .ref (a (1, i1, 0))] : List Value).toArray = av at S ⊢
  unfold fn_X1_copy at h
  obtain ⟨H, eH⟩ : ∃ z, z = s.heap := ⟨_, rfl⟩
  obtain ⟨locs, eL⟩ : ∃ z : List Loc, z = [] := ⟨_, rfl⟩
  show WX p l e (rmL 1 22) s m av below meth c (wQv D dA a s.heap.size Fz) dA a s.heap [] (F0 m 0 ls [])
  have hW : wS D dA a s F H locs := by rw [eH, eL]; exact wS_in hW
  refine wx_in eH eL ?_
  clear eH eL
  refine lv_iconst (v := (0 : Int32)) hx hb dX1_copy_0 (by decide) ?_
  refine lv_istore_n (lv' := [(2, .int (0 : Int32)), (0, .ref (a (1, i0, 0))), (1, .ref (a (1, i1, 0)))]) hx hb dX1_copy_1 rfl hl (by decide) rfl (fun ls hl => ?_)
  have L6 : ∀ (n : Nat) (F2 : St) (x1 : Int32) (F3 : St) (x4 : Int32), lp_X1_copy_2 i0 i1 n F2 x1 = some (F3, x4) → (∀ (H : Heap) (locs : List Loc) (ls : Array Slot), wS D dA a s F3 H locs → lv_has ls 4 [(0, .ref (a (1, i0, 0))), (1, .ref (a (1, i1, 0)))] → WX p l e (rmL 1 22) s m av below meth c (wQv D dA a s.heap.size Fz) dA a H locs (F0 m 45 ls [])) → ∀ (H : Heap) (locs : List Loc) (ls : Array Slot), wS D dA a s F2 H locs → lv_has ls 4 [(0, .ref (a (1, i0, 0))), (1, .ref (a (1, i1, 0))), (2, .int x1)] → WX p l e (rmL 1 22) s m av below meth c (wQv D dA a s.heap.size Fz) dA a H locs (F0 m 2 ls []) := by
    intro n
    induction n with
    | zero =>
      intro F2 x1 F3 x4 h
      exact absurd (show (none : Option (St × Int32)) = some (F3, x4) from h) (by simp)
    | succ n ih =>
      intro F2 x1 F3 x4 h K5 H locs ls hW hl
      have h := lp_X1_copy_2_s.symm.trans h
      refine lv_iload_n hx hb dX1_copy_2 rfl (lv_at hl 2 rfl) ?_
      refine lv_iconst (v := (4 : Int32)) hx hb dX1_copy_3 (by decide) ?_
      refine lv_icmp_ge (tgt := 45) hx hb dX1_copy_4 (by decide) (fun c7 => ?_) (fun c7 => ?_)
      · have h := if_t h c7
        cases h
        exact K5 H locs ls hW (lv_sub hl [0, 1] rfl)
      · have h := if_f h c7
        refine lv_iconst (v := (0 : Int32)) hx hb dX1_copy_7 (by decide) ?_
        refine lv_istore_n (lv' := [(3, .int (0 : Int32)), (0, .ref (a (1, i0, 0))), (1, .ref (a (1, i1, 0))), (2, .int x1)]) hx hb dX1_copy_8 rfl hl (by decide) rfl (fun ls hl => ?_)
        have L13 : ∀ (n : Nat) (F9 : St) (x8 : Int32) (F10 : St) (x11 : Int32), lp_X1_copy_9 i0 i1 x1 n F9 x8 = some (F10, x11) → (∀ (H : Heap) (locs : List Loc) (ls : Array Slot), wS D dA a s F10 H locs → lv_has ls 4 [(0, .ref (a (1, i0, 0))), (1, .ref (a (1, i1, 0))), (2, .int x1)] → WX p l e (rmL 1 22) s m av below meth c (wQv D dA a s.heap.size Fz) dA a H locs (F0 m 39 ls [])) → ∀ (H : Heap) (locs : List Loc) (ls : Array Slot), wS D dA a s F9 H locs → lv_has ls 4 [(0, .ref (a (1, i0, 0))), (1, .ref (a (1, i1, 0))), (2, .int x1), (3, .int x8)] → WX p l e (rmL 1 22) s m av below meth c (wQv D dA a s.heap.size Fz) dA a H locs (F0 m 9 ls []) := by
          intro n
          induction n with
          | zero =>
            intro F9 x8 F10 x11 h
            exact absurd (show (none : Option (St × Int32)) = some (F10, x11) from h) (by simp)
          | succ n ih =>
            intro F9 x8 F10 x11 h K12 H locs ls hW hl
            have h := lp_X1_copy_9_s.symm.trans h
            refine lv_iload_n hx hb dX1_copy_9 rfl (lv_at hl 3 rfl) ?_
            refine lv_iconst (v := (4 : Int32)) hx hb dX1_copy_10 (by decide) ?_
            refine lv_icmp_ge (tgt := 39) hx hb dX1_copy_11 (by decide) (fun c14 => ?_) (fun c14 => ?_)
            · have h := if_t h c14
              cases h
              exact K12 H locs ls hW (lv_sub hl [0, 1, 2] rfl)
            · have h := if_f h c14
              refine lv_aload_n hx hb dX1_copy_14 rfl (lv_at hl 0 rfl) ?_
              refine gf_1_0 S hK hW hv0 q147 dX1_copy_15 ?_
              refine lv_iload_n hx hb dX1_copy_18 rfl (lv_at hl 2 rfl) ?_
              obtain ⟨g15, h⟩ := og_e h
              refine aald_6 S hK hW (vq_1_0 hv0) g15 rfl dX1_copy_19 ?_
              have v16 := (ve_6 (vq_1_0 hv0) (vpb_lt g15))
              refine lv_iload_n hx hb dX1_copy_20 rfl (lv_at hl 3 rfl) ?_
              obtain ⟨g17, h⟩ := og_e h
              refine aald_7 S hK hW v16 g17 rfl dX1_copy_21 ?_
              have v18 := (ve_7 v16 (vpb_lt g17))
              refine lv_aload_n hx hb dX1_copy_22 rfl (lv_at hl 1 rfl) ?_
              refine gf_1_0 S hK hW hv1 q147 dX1_copy_23 ?_
              refine lv_iload_n hx hb dX1_copy_26 rfl (lv_at hl 2 rfl) ?_
              refine aald_6 S hK hW (vq_1_0 hv1) g15 rfl dX1_copy_27 ?_
              have v19 := (ve_6 (vq_1_0 hv1) (vpb_lt g15))
              refine lv_iload_n hx hb dX1_copy_28 rfl (lv_at hl 3 rfl) ?_
              refine aald_7 S hK hW v19 g17 rfl dX1_copy_29 ?_
              have v20 := (ve_7 v19 (vpb_lt g17))
              obtain ⟨F21, hc22, h⟩ := ob_e h
              refine wk_v (va_runV (As := [.ref (a (2, (4 * (4 * i1 + x1.toNatClampNeg) + x8.toNatClampNeg), 0))]) (rest := []) S (met_X2_copy l hD v18 v20 hc22 H.size) (cwV 1 S.2.2.2.2 (lw_V q817 q818 q819 q57 q820) rfl rfl rfl yd_X2_copy ⟨Nat.le_of_ble_eq_true rfl, Nat.le_of_ble_eq_true rfl⟩) (wpreV hK hW v18 rfl rfl _) rfl rfl hl.1 rfl (lv_room (Nat.le_of_ble_eq_true rfl)) dX1_copy_30 ⟨Nat.le_refl 0, Nat.le_refl 0⟩) hW (fun H locs hW => ?_)
              refine lv_iinc (v := (x8 + 1)) (lv' := [(3, .int (x8 + 1)), (0, .ref (a (1, i0, 0))), (1, .ref (a (1, i1, 0))), (2, .int x1)]) hx hb dX1_copy_33 hl (k := 3) rfl rfl (by decide) rfl (fun ls hl => ?_)
              refine lv_goto (tgt := 9) hx hb dX1_copy_36 (by decide) ?_
              exact ih _ _ _ _ h K12 H locs ls hW (lv_sub hl [1, 2, 3, 0] rfl)
        obtain ⟨F10, x11, hz23, h⟩ := ob2_e h
        refine L13 300 F2 (0 : Int32) F10 x11 hz23 (fun H locs ls hW hl => ?_) H locs ls hW (lv_sub hl [1, 2, 3, 0] rfl)
        refine lv_iinc (v := (x1 + 1)) (lv' := [(2, .int (x1 + 1)), (0, .ref (a (1, i0, 0))), (1, .ref (a (1, i1, 0)))]) hx hb dX1_copy_39 hl (k := 2) rfl rfl (by decide) rfl (fun ls hl => ?_)
        refine lv_goto (tgt := 2) hx hb dX1_copy_42 (by decide) ?_
        exact ih _ _ _ _ h K5 H locs ls hW (lv_sub hl [1, 2, 0] rfl)
  obtain ⟨F3, x4, hz24, h⟩ := ob2_e h
  refine L6 300 F (0 : Int32) F3 x4 hz24 (fun H locs ls hW hl => ?_) H locs ls hW (lv_sub hl [1, 2, 0] rfl)
  refine lv_aload_n hx hb dX1_copy_45 rfl (lv_at hl 0 rfl) ?_
  refine gf_1_1 S hK hW hv0 q149 dX1_copy_46 ?_
  refine lv_aload_n hx hb dX1_copy_49 rfl (lv_at hl 1 rfl) ?_
  refine gf_1_1 S hK hW hv1 q149 dX1_copy_50 ?_
  obtain ⟨F25, hc26, h⟩ := ob_e h
  refine wk_v (va_runV (As := [.ref (a (2, (64 + i1), 0))]) (rest := []) S (met_X2_copy l hD (vq_1_1 hv0) (vq_1_1 hv1) hc26 H.size) (cwV 1 S.2.2.2.2 (lw_V q817 q818 q819 q57 q820) rfl rfl rfl yd_X2_copy ⟨Nat.le_of_ble_eq_true rfl, Nat.le_of_ble_eq_true rfl⟩) (wpreV hK hW (vq_1_1 hv0) rfl rfl _) rfl rfl hl.1 rfl (lv_room (Nat.le_of_ble_eq_true rfl)) dX1_copy_53 ⟨Nat.le_refl 0, Nat.le_refl 0⟩) hW (fun H locs hW => ?_)
  refine lv_aload_n hx hb dX1_copy_56 rfl (lv_at hl 0 rfl) ?_
  refine lv_aload_n hx hb dX1_copy_57 rfl (lv_at hl 1 rfl) ?_
  refine gf_1_2 S hK hW hv1 q151 dX1_copy_58 ?_
  obtain ⟨F27, e28, h⟩ := pl_e h
  refine pf_1_2 S hK hD hW hv0 e28 q151 dX1_copy_61 (fun H locs hW => ?_)
  cases h
  exact we_v S hr hlk hW dX1_copy_64
/-loop lp_X1_pourAll_2-/
def lp_X1_pourAll_2 (i0 : Nat) : Nat → St → Int32 → Option (St × Int32)
  | 0, _, _ => none
  | n + 1, F2, x1 => if (F2 0 14 0 0) ≤ x1 then some (F2, x1) else og (vpb x1 12) (og (vpb (F2 13 0 x1.toNatClampNeg 1) 4) (ob (if (F2 13 0 x1.toNatClampNeg 0) = (F2 1 2 i0 0) then some (F2 13 0 x1.toNatClampNeg 2) else some (0 : Int32)) (fun y16 => pl (fu F2 2 1 (4 * (4 * i0 + (F2 13 0 x1.toNatClampNeg 1).toNatClampNeg) + 0) 0 ((F2 2 1 (4 * (4 * i0 + (F2 13 0 x1.toNatClampNeg 1).toNatClampNeg) + 0) 0) + y16)) (fun F19 => lp_X1_pourAll_2 i0 n F19 (x1 + 1)))))
theorem lp_X1_pourAll_2_s {i0 : Nat} {n : Nat} {F2 : St} {x1 : Int32} : lp_X1_pourAll_2 i0 (n + 1) F2 x1 = if (F2 0 14 0 0) ≤ x1 then some (F2, x1) else og (vpb x1 12) (og (vpb (F2 13 0 x1.toNatClampNeg 1) 4) (ob (if (F2 13 0 x1.toNatClampNeg 0) = (F2 1 2 i0 0) then some (F2 13 0 x1.toNatClampNeg 2) else some (0 : Int32)) (fun y16 => pl (fu F2 2 1 (4 * (4 * i0 + (F2 13 0 x1.toNatClampNeg 1).toNatClampNeg) + 0) 0 ((F2 2 1 (4 * (4 * i0 + (F2 13 0 x1.toNatClampNeg 1).toNatClampNeg) + 0) 0) + y16)) (fun F19 => lp_X1_pourAll_2 i0 n F19 (x1 + 1))))) := rfl
def fn_X1_pourAll (F : St) (i0 : Nat) : Option (St) :=
  ob2 (lp_X1_pourAll_2 i0 300 F (0 : Int32)) (fun F3 x4 => some F3)
theorem yd_X1_pourAll : yX1_pourAll.cls = RX1 ∧ yX1_pourAll.cls ≠ "java/lang/invoke/MethodHandle" ∧ yX1_pourAll.cls ≠ "java/lang/invoke/VarHandle" ∧ (parseMethodDescriptor yX1_pourAll.desc).map (fun d => d.parameters.length) = some 0 := by decide +kernel
set_option maxHeartbeats 4000000 in
theorem met_X1_pourAll (l : Launch) {D : va_G} {dA : WK} {a : Ix → Nat} (hD : wD D dA a) {F : St} {i0 : Nat} {Fz : St} (hv0 : wVd dA (1, i0, 0)) (h : fn_X1_pourAll F i0 = some Fz) : Mv l yX1_pourAll cX1_pourAll 2 0 0 D dA a F [.ref (a (1, i0, 0))] Fz := by
  refine fun sz => mst (Qc := fun sz => wQv D dA a sz Fz) (by decide) (Nat.le_of_ble_eq_true rfl) ?_ sz
  intro p e s m below meth c S hr hlk hK hW ls hl
  have hl : lv_has ls 2 [(0, .ref (a (1, i0, 0)))] := hl
  have hx := S.1
  have hb := S.2.1
  generalize ([.ref (a (1, i0, 0))] : List Value).toArray = av at S ⊢
  unfold fn_X1_pourAll at h
  obtain ⟨H, eH⟩ : ∃ z, z = s.heap := ⟨_, rfl⟩
  obtain ⟨locs, eL⟩ : ∃ z : List Loc, z = [] := ⟨_, rfl⟩
  show WX p l e (rmL 0 0) s m av below meth c (wQv D dA a s.heap.size Fz) dA a s.heap [] (F0 m 0 ls [])
  have hW : wS D dA a s F H locs := by rw [eH, eL]; exact wS_in hW
  refine wx_in eH eL ?_
  clear eH eL
  refine lv_iconst (v := (0 : Int32)) hx hb dX1_pourAll_0 (by decide) ?_
  refine lv_istore_n (lv' := [(1, .int (0 : Int32)), (0, .ref (a (1, i0, 0)))]) hx hb dX1_pourAll_1 rfl hl (by decide) rfl (fun ls hl => ?_)
  have L6 : ∀ (n : Nat) (F2 : St) (x1 : Int32) (F3 : St) (x4 : Int32), lp_X1_pourAll_2 i0 n F2 x1 = some (F3, x4) → (∀ (H : Heap) (locs : List Loc) (ls : Array Slot), wS D dA a s F3 H locs → lv_has ls 2 [] → WX p l e (rmL 0 0) s m av below meth c (wQv D dA a s.heap.size Fz) dA a H locs (F0 m 78 ls [])) → ∀ (H : Heap) (locs : List Loc) (ls : Array Slot), wS D dA a s F2 H locs → lv_has ls 2 [(0, .ref (a (1, i0, 0))), (1, .int x1)] → WX p l e (rmL 0 0) s m av below meth c (wQv D dA a s.heap.size Fz) dA a H locs (F0 m 2 ls []) := by
    intro n
    induction n with
    | zero =>
      intro F2 x1 F3 x4 h
      exact absurd (show (none : Option (St × Int32)) = some (F3, x4) from h) (by simp)
    | succ n ih =>
      intro F2 x1 F3 x4 h K5 H locs ls hW hl
      have h := lp_X1_pourAll_2_s.symm.trans h
      refine lv_iload_n hx hb dX1_pourAll_2 rfl (lv_at hl 1 rfl) ?_
      refine lv_aload_n hx hb dX1_pourAll_3 rfl (lv_at hl 0 rfl) ?_
      refine gf_1_4 S hK hW hv0 q155 dX1_pourAll_4 ?_
      refine gn_0_14 S hK hW (vq_1_4 hv0) q315 dX1_pourAll_7 ?_
      refine lv_icmp_ge (tgt := 78) hx hb dX1_pourAll_10 (by decide) (fun c7 => ?_) (fun c7 => ?_)
      · have h := if_t h c7
        cases h
        exact K5 H locs ls hW (lv_sub hl [] rfl)
      · have h := if_f h c7
        refine lv_aload_n hx hb dX1_pourAll_13 rfl (lv_at hl 0 rfl) ?_
        refine gf_1_0 S hK hW hv0 q147 dX1_pourAll_14 ?_
        refine lv_aload_n hx hb dX1_pourAll_17 rfl (lv_at hl 0 rfl) ?_
        refine gf_1_4 S hK hW hv0 q155 dX1_pourAll_18 ?_
        refine gn_0_13 S hK hW (vq_1_4 hv0) q312 dX1_pourAll_21 ?_
        refine lv_iload_n hx hb dX1_pourAll_24 rfl (lv_at hl 1 rfl) ?_
        obtain ⟨g8, h⟩ := og_e h
        refine aald_12 S hK hW (vq_0_13 (vq_1_4 hv0)) g8 rfl dX1_pourAll_25 ?_
        have v9 := (ve_12 (vq_0_13 (vq_1_4 hv0)) (vpb_lt g8))
        refine lv_iconst (v := (1 : Int32)) hx hb dX1_pourAll_26 (by decide) ?_
        refine ald_13 (z := 1) S hK hW v9 (by decide) (by decide) dX1_pourAll_27 ?_
        obtain ⟨g10, h⟩ := og_e h
        refine aald_6 S hK hW (vq_1_0 hv0) g10 rfl dX1_pourAll_28 ?_
        have v11 := (ve_6 (vq_1_0 hv0) (vpb_lt g10))
        refine lv_iconst (v := (0 : Int32)) hx hb dX1_pourAll_29 (by decide) ?_
        refine aald_7 (z := 0) S hK hW v11 (by decide) (by decide) dX1_pourAll_30 ?_
        refine lv_dup hx hb dX1_pourAll_31 rfl ?_
        refine gn_2_1 S hK hW (ve_7 v11 (by decide)) q128 dX1_pourAll_32 ?_
        refine lv_aload_n hx hb dX1_pourAll_35 rfl (lv_at hl 0 rfl) ?_
        refine gf_1_4 S hK hW hv0 q155 dX1_pourAll_36 ?_
        refine gn_0_13 S hK hW (vq_1_4 hv0) q312 dX1_pourAll_39 ?_
        refine lv_iload_n hx hb dX1_pourAll_42 rfl (lv_at hl 1 rfl) ?_
        refine aald_12 S hK hW (vq_0_13 (vq_1_4 hv0)) g8 rfl dX1_pourAll_43 ?_
        have v13 := (ve_12 (vq_0_13 (vq_1_4 hv0)) (vpb_lt g8))
        refine lv_iconst (v := (0 : Int32)) hx hb dX1_pourAll_44 (by decide) ?_
        refine ald_13 (z := 0) S hK hW v13 (by decide) (by decide) dX1_pourAll_45 ?_
        refine lv_aload_n hx hb dX1_pourAll_46 rfl (lv_at hl 0 rfl) ?_
        refine gf_1_2 S hK hW hv0 q151 dX1_pourAll_47 ?_
        obtain ⟨y16, hz15, h⟩ := ob_e h
        have K17 : ∀ (H : Heap) (locs : List Loc) (ls : Array Slot), wS D dA a s F2 H locs → lv_has ls 2 [(0, .ref (a (1, i0, 0))), (1, .int x1)] → WX p l e (rmL 0 0) s m av below meth c (wQv D dA a s.heap.size Fz) dA a H locs (F0 m 68 ls [.int y16, .int (F2 2 1 (4 * (4 * i0 + (F2 13 0 x1.toNatClampNeg 1).toNatClampNeg) + 0) 0), .ref (a (2, (4 * (4 * i0 + (F2 13 0 x1.toNatClampNeg 1).toNatClampNeg) + 0), 0))]) := by
          intro H locs ls hW hl
          refine lv_iadd hx hb dX1_pourAll_68 ?_
          obtain ⟨F19, e20, h⟩ := pl_e h
          refine pn_2_1 S hK hD hW (ve_7 v11 (by decide)) e20 q128 dX1_pourAll_69 (fun H locs hW => ?_)
          refine lv_iinc (v := (x1 + 1)) (lv' := [(1, .int (x1 + 1)), (0, .ref (a (1, i0, 0)))]) hx hb dX1_pourAll_72 hl (k := 1) rfl rfl (by decide) rfl (fun ls hl => ?_)
          refine lv_goto (tgt := 2) hx hb dX1_pourAll_75 (by decide) ?_
          exact ih _ _ _ _ h K5 H locs ls hW (lv_sub hl [1, 0] rfl)
        clear h
        refine lv_icmp_ne (tgt := 67) hx hb dX1_pourAll_50 (by decide) (fun c14 => ?_) (fun c14 => ?_)
        · have h := if_f hz15 c14
          refine lv_iconst (v := (0 : Int32)) hx hb dX1_pourAll_67 (by decide) ?_
          cases h
          exact K17 H locs ls hW (lv_sub hl [0, 1] rfl)
        · have h := if_t hz15 c14
          refine lv_aload_n hx hb dX1_pourAll_53 rfl (lv_at hl 0 rfl) ?_
          refine gf_1_4 S hK hW hv0 q155 dX1_pourAll_54 ?_
          refine gn_0_13 S hK hW (vq_1_4 hv0) q312 dX1_pourAll_57 ?_
          refine lv_iload_n hx hb dX1_pourAll_60 rfl (lv_at hl 1 rfl) ?_
          refine aald_12 S hK hW (vq_0_13 (vq_1_4 hv0)) g8 rfl dX1_pourAll_61 ?_
          have v18 := (ve_12 (vq_0_13 (vq_1_4 hv0)) (vpb_lt g8))
          refine lv_iconst (v := (2 : Int32)) hx hb dX1_pourAll_62 (by decide) ?_
          refine ald_13 (z := 2) S hK hW v18 (by decide) (by decide) dX1_pourAll_63 ?_
          refine lv_goto (tgt := 68) hx hb dX1_pourAll_64 (by decide) ?_
          cases h
          exact K17 H locs ls hW (lv_sub hl [0, 1] rfl)
  obtain ⟨F3, x4, hz21, h⟩ := ob2_e h
  refine L6 300 F (0 : Int32) F3 x4 hz21 (fun H locs ls hW hl => ?_) H locs ls hW (lv_sub hl [1, 0] rfl)
  cases h
  exact we_v S hr hlk hW dX1_pourAll_78
def fn_X1_take (F : St) (i0 : Nat) (i1 : Nat) (p2 : Int32) : Option (St) :=
  pl ((((((F 4 0 i1 0).toInt64 * (F 24 0 0 0).toInt64) * p2.toInt64) * (if (F 2 1 i1 0) < (100 : Int32) then (F 2 1 i1 0) else (100 : Int32)).toInt64) / (1000000 : Int64)).toInt32) (fun x2 => pl (fu F 4 0 i1 0 ((F 4 0 i1 0) - x2)) (fun F4 => pl (fu F4 4 1 i1 0 ((F4 4 1 i1 0) + x2)) (fun F6 => pl ((((((F6 4 0 i1 1).toInt64 * (F6 24 0 0 1).toInt64) * p2.toInt64) * (if (F6 2 1 i1 0) < (100 : Int32) then (F6 2 1 i1 0) else (100 : Int32)).toInt64) / (1000000 : Int64)).toInt32) (fun x9 => pl (fu F6 4 0 i1 1 ((F6 4 0 i1 1) - x9)) (fun F11 => pl (fu F11 4 1 i1 1 ((F11 4 1 i1 1) + x9)) (fun F13 => pl ((((((F13 4 0 i1 2).toInt64 * (F13 24 0 0 2).toInt64) * p2.toInt64) * (if (F13 2 1 i1 0) < (100 : Int32) then (F13 2 1 i1 0) else (100 : Int32)).toInt64) / (1000000 : Int64)).toInt32) (fun x16 => pl (fu F13 4 0 i1 2 ((F13 4 0 i1 2) - x16)) (fun F18 => pl (fu F18 4 1 i1 2 ((F18 4 1 i1 2) + x16)) (fun F20 => some F20)))))))))
theorem yd_X1_take : yX1_take.cls = RX1 ∧ yX1_take.cls ≠ "java/lang/invoke/MethodHandle" ∧ yX1_take.cls ≠ "java/lang/invoke/VarHandle" ∧ (parseMethodDescriptor yX1_take.desc).map (fun d => d.parameters.length) = some 2 := by decide +kernel
set_option maxHeartbeats 4000000 in
theorem met_X1_take (l : Launch) {D : va_G} {dA : WK} {a : Ix → Nat} (hD : wD D dA a) {F : St} {i0 : Nat} {i1 : Nat} {p2 : Int32} {Fz : St} (hv0 : wVd dA (1, i0, 0)) (hv1 : wVd dA (2, i1, 0)) (h : fn_X1_take F i0 i1 p2 = some Fz) : Mv l yX1_take cX1_take 6 1 21 D dA a F [.ref (a (1, i0, 0)), .ref (a (2, i1, 0)), .int p2] Fz := by
  refine fun sz => mst (Qc := fun sz => wQv D dA a sz Fz) (by decide) (Nat.le_of_ble_eq_true rfl) ?_ sz
  intro p e s m below meth c S hr hlk hK hW ls hl
  have hl : lv_has ls 6 [(0, .ref (a (1, i0, 0))), (1, .ref (a (2, i1, 0))), (2, .int p2)] := hl
  have hx := S.1
  have hb := S.2.1
  generalize ([.ref (a (1, i0, 0)), .ref (a (2, i1, 0)), .int p2] : List Value).toArray = av at S ⊢
  unfold fn_X1_take at h
  obtain ⟨H, eH⟩ : ∃ z, z = s.heap := ⟨_, rfl⟩
  obtain ⟨locs, eL⟩ : ∃ z : List Loc, z = [] := ⟨_, rfl⟩
  show WX p l e (rmL 1 21) s m av below meth c (wQv D dA a s.heap.size Fz) dA a s.heap [] (F0 m 0 ls [])
  have hW : wS D dA a s F H locs := by rw [eH, eL]; exact wS_in hW
  refine wx_in eH eL ?_
  clear eH eL
  refine lv_iconst (v := (0 : Int32)) hx hb dX1_take_0 (by decide) ?_
  refine lv_istore_n (lv' := [(3, .int (0 : Int32)), (0, .ref (a (1, i0, 0))), (1, .ref (a (2, i1, 0))), (2, .int p2)]) hx hb dX1_take_1 rfl hl (by decide) rfl (fun ls hl => ?_)
  refine lv_iload_n hx hb dX1_take_2 rfl (lv_at hl 0 rfl) ?_
  refine lv_iconst (v := (3 : Int32)) hx hb dX1_take_3 (by decide) ?_
  refine lv_icmp_ge (tgt := 83) hx hb dX1_take_4 (by decide) (fun c => absurd c (by decide)) (fun _ => ?_)
  refine lv_aload_n hx hb dX1_take_7 rfl (lv_at hl 2 rfl) ?_
  refine gn_2_0 S hK hW hv1 q125 dX1_take_8 ?_
  refine lv_iload_n hx hb dX1_take_11 rfl (lv_at hl 0 rfl) ?_
  refine aald_3 (z := 0) S hK hW (vq_2_0 hv1) (by decide) (by decide) dX1_take_12 ?_
  refine lv_astore (lv' := [(4, .ref (a (4, i1, 0))), (3, .int (0 : Int32)), (0, .ref (a (1, i0, 0))), (1, .ref (a (2, i1, 0))), (2, .int p2)]) hx hb dX1_take_13 hl (by decide) rfl (fun ls hl => ?_)
  refine lv_aload hx hb dX1_take_15 (lv_at hl 0 rfl) ?_
  refine gn_4_0 S hK hW (ve_3 (vq_2_0 hv1) (by decide)) q113 dX1_take_17 ?_
  refine lv_i2l hx hb dX1_take_20 rfl ?_
  refine lv_aload_n hx hb dX1_take_21 rfl (lv_at hl 2 rfl) ?_
  refine gf_1_4 S hK hW hv0 q155 dX1_take_22 ?_
  refine gn_0_3 S hK hW (vq_1_4 hv0) q278 dX1_take_25 ?_
  refine lv_iload_n hx hb dX1_take_28 rfl (lv_at hl 1 rfl) ?_
  refine ald_24 (z := 0) S hK hW (vq_0_3 (vq_1_4 hv0)) (by decide) (by decide) dX1_take_29 ?_
  refine lv_i2l hx hb dX1_take_30 rfl ?_
  refine lv_lmul hx hb dX1_take_31 ?_
  refine lv_iload_n hx hb dX1_take_32 rfl (lv_at hl 4 rfl) ?_
  refine lv_i2l hx hb dX1_take_33 rfl ?_
  refine lv_lmul hx hb dX1_take_34 ?_
  refine lv_bipush (v := (100 : Int32)) hx hb dX1_take_35 (by decide) ?_
  refine lv_aload_n hx hb dX1_take_37 rfl (lv_at hl 3 rfl) ?_
  refine gn_2_1 S hK hW hv1 q128 dX1_take_38 ?_
  refine va_mmin hx hb (S.2.2.1.trans hl.1.symm) S.2.2.2.1 (S.2.2.2.2 _ q735) (S.2.2.2.2 _ q736) (S.2.2.2.2 _ q79) (S.2.2.2.2 _ q737) (Nat.le_of_ble_eq_true rfl) (Nat.le_of_ble_eq_true rfl) (Nat.zero_le _) (Nat.zero_le _) dX1_take_41 ?_
  refine lv_i2l hx hb dX1_take_44 rfl ?_
  refine lv_lmul hx hb dX1_take_45 ?_
  refine lv_ldc2 (v := (1000000 : Int64)) hx hb S.2.2.2.1 (S.2.2.2.2 _ q738) dX1_take_46 ?_
  refine lv_ldiv hx hb dX1_take_49 (by decide) ?_
  refine lv_l2i hx hb dX1_take_50 rfl ?_
  obtain ⟨x2, e3, h⟩ := pl_e h
  refine lv_nm e3 ?_
  refine lv_istore (lv' := [(5, .int x2), (4, .ref (a (4, i1, 0))), (3, .int (0 : Int32)), (0, .ref (a (1, i0, 0))), (1, .ref (a (2, i1, 0))), (2, .int p2)]) hx hb dX1_take_51 hl (by decide) rfl (fun ls hl => ?_)
  refine lv_aload hx hb dX1_take_53 (lv_at hl 1 rfl) ?_
  refine lv_dup hx hb dX1_take_55 rfl ?_
  refine gn_4_0 S hK hW (ve_3 (vq_2_0 hv1) (by decide)) q113 dX1_take_56 ?_
  refine lv_iload hx hb dX1_take_59 (lv_at hl 0 rfl) ?_
  refine lv_isub hx hb dX1_take_61 ?_
  obtain ⟨F4, e5, h⟩ := pl_e h
  refine pn_4_0 S hK hD hW (ve_3 (vq_2_0 hv1) (by decide)) e5 q113 dX1_take_62 (fun H locs hW => ?_)
  refine lv_aload hx hb dX1_take_65 (lv_at hl 1 rfl) ?_
  refine lv_dup hx hb dX1_take_67 rfl ?_
  refine gn_4_1 S hK hW (ve_3 (vq_2_0 hv1) (by decide)) q116 dX1_take_68 ?_
  refine lv_iload hx hb dX1_take_71 (lv_at hl 0 rfl) ?_
  refine lv_iadd hx hb dX1_take_73 ?_
  obtain ⟨F6, e7, h⟩ := pl_e h
  refine pn_4_1 S hK hD hW (ve_3 (vq_2_0 hv1) (by decide)) e7 q116 dX1_take_74 (fun H locs hW => ?_)
  refine lv_iinc (v := (1 : Int32)) (lv' := [(3, .int (1 : Int32)), (5, .int x2), (4, .ref (a (4, i1, 0))), (0, .ref (a (1, i0, 0))), (1, .ref (a (2, i1, 0))), (2, .int p2)]) hx hb dX1_take_77 hl (k := 2) rfl (by decide) (by decide) rfl (fun ls hl => ?_)
  refine lv_goto (tgt := 2) hx hb dX1_take_80 (by decide) ?_
  refine lv_iload_n hx hb dX1_take_2 rfl (lv_at hl 0 rfl) ?_
  refine lv_iconst (v := (3 : Int32)) hx hb dX1_take_3 (by decide) ?_
  refine lv_icmp_ge (tgt := 83) hx hb dX1_take_4 (by decide) (fun c => absurd c (by decide)) (fun _ => ?_)
  refine lv_aload_n hx hb dX1_take_7 rfl (lv_at hl 4 rfl) ?_
  refine gn_2_0 S hK hW hv1 q125 dX1_take_8 ?_
  refine lv_iload_n hx hb dX1_take_11 rfl (lv_at hl 0 rfl) ?_
  refine aald_3 (z := 1) S hK hW (vq_2_0 hv1) (by decide) (by decide) dX1_take_12 ?_
  refine lv_astore (lv' := [(4, .ref (a (4, i1, 1))), (3, .int (1 : Int32)), (5, .int x2), (0, .ref (a (1, i0, 0))), (1, .ref (a (2, i1, 0))), (2, .int p2)]) hx hb dX1_take_13 hl (by decide) rfl (fun ls hl => ?_)
  refine lv_aload hx hb dX1_take_15 (lv_at hl 0 rfl) ?_
  refine gn_4_0 S hK hW (ve_3 (vq_2_0 hv1) (by decide)) q113 dX1_take_17 ?_
  refine lv_i2l hx hb dX1_take_20 rfl ?_
  refine lv_aload_n hx hb dX1_take_21 rfl (lv_at hl 3 rfl) ?_
  refine gf_1_4 S hK hW hv0 q155 dX1_take_22 ?_
  refine gn_0_3 S hK hW (vq_1_4 hv0) q278 dX1_take_25 ?_
  refine lv_iload_n hx hb dX1_take_28 rfl (lv_at hl 1 rfl) ?_
  refine ald_24 (z := 1) S hK hW (vq_0_3 (vq_1_4 hv0)) (by decide) (by decide) dX1_take_29 ?_
  refine lv_i2l hx hb dX1_take_30 rfl ?_
  refine lv_lmul hx hb dX1_take_31 ?_
  refine lv_iload_n hx hb dX1_take_32 rfl (lv_at hl 5 rfl) ?_
  refine lv_i2l hx hb dX1_take_33 rfl ?_
  refine lv_lmul hx hb dX1_take_34 ?_
  refine lv_bipush (v := (100 : Int32)) hx hb dX1_take_35 (by decide) ?_
  refine lv_aload_n hx hb dX1_take_37 rfl (lv_at hl 4 rfl) ?_
  refine gn_2_1 S hK hW hv1 q128 dX1_take_38 ?_
  refine va_mmin hx hb (S.2.2.1.trans hl.1.symm) S.2.2.2.1 (S.2.2.2.2 _ q735) (S.2.2.2.2 _ q736) (S.2.2.2.2 _ q79) (S.2.2.2.2 _ q737) (Nat.le_of_ble_eq_true rfl) (Nat.le_of_ble_eq_true rfl) (Nat.zero_le _) (Nat.zero_le _) dX1_take_41 ?_
  refine lv_i2l hx hb dX1_take_44 rfl ?_
  refine lv_lmul hx hb dX1_take_45 ?_
  refine lv_ldc2 (v := (1000000 : Int64)) hx hb S.2.2.2.1 (S.2.2.2.2 _ q738) dX1_take_46 ?_
  refine lv_ldiv hx hb dX1_take_49 (by decide) ?_
  refine lv_l2i hx hb dX1_take_50 rfl ?_
  obtain ⟨x9, e10, h⟩ := pl_e h
  refine lv_nm e10 ?_
  refine lv_istore (lv' := [(5, .int x9), (4, .ref (a (4, i1, 1))), (3, .int (1 : Int32)), (0, .ref (a (1, i0, 0))), (1, .ref (a (2, i1, 0))), (2, .int p2)]) hx hb dX1_take_51 hl (by decide) rfl (fun ls hl => ?_)
  refine lv_aload hx hb dX1_take_53 (lv_at hl 1 rfl) ?_
  refine lv_dup hx hb dX1_take_55 rfl ?_
  refine gn_4_0 S hK hW (ve_3 (vq_2_0 hv1) (by decide)) q113 dX1_take_56 ?_
  refine lv_iload hx hb dX1_take_59 (lv_at hl 0 rfl) ?_
  refine lv_isub hx hb dX1_take_61 ?_
  obtain ⟨F11, e12, h⟩ := pl_e h
  refine pn_4_0 S hK hD hW (ve_3 (vq_2_0 hv1) (by decide)) e12 q113 dX1_take_62 (fun H locs hW => ?_)
  refine lv_aload hx hb dX1_take_65 (lv_at hl 1 rfl) ?_
  refine lv_dup hx hb dX1_take_67 rfl ?_
  refine gn_4_1 S hK hW (ve_3 (vq_2_0 hv1) (by decide)) q116 dX1_take_68 ?_
  refine lv_iload hx hb dX1_take_71 (lv_at hl 0 rfl) ?_
  refine lv_iadd hx hb dX1_take_73 ?_
  obtain ⟨F13, e14, h⟩ := pl_e h
  refine pn_4_1 S hK hD hW (ve_3 (vq_2_0 hv1) (by decide)) e14 q116 dX1_take_74 (fun H locs hW => ?_)
  refine lv_iinc (v := (2 : Int32)) (lv' := [(3, .int (2 : Int32)), (5, .int x9), (4, .ref (a (4, i1, 1))), (0, .ref (a (1, i0, 0))), (1, .ref (a (2, i1, 0))), (2, .int p2)]) hx hb dX1_take_77 hl (k := 2) rfl (by decide) (by decide) rfl (fun ls hl => ?_)
  refine lv_goto (tgt := 2) hx hb dX1_take_80 (by decide) ?_
  refine lv_iload_n hx hb dX1_take_2 rfl (lv_at hl 0 rfl) ?_
  refine lv_iconst (v := (3 : Int32)) hx hb dX1_take_3 (by decide) ?_
  refine lv_icmp_ge (tgt := 83) hx hb dX1_take_4 (by decide) (fun c => absurd c (by decide)) (fun _ => ?_)
  refine lv_aload_n hx hb dX1_take_7 rfl (lv_at hl 4 rfl) ?_
  refine gn_2_0 S hK hW hv1 q125 dX1_take_8 ?_
  refine lv_iload_n hx hb dX1_take_11 rfl (lv_at hl 0 rfl) ?_
  refine aald_3 (z := 2) S hK hW (vq_2_0 hv1) (by decide) (by decide) dX1_take_12 ?_
  refine lv_astore (lv' := [(4, .ref (a (4, i1, 2))), (3, .int (2 : Int32)), (5, .int x9), (0, .ref (a (1, i0, 0))), (1, .ref (a (2, i1, 0))), (2, .int p2)]) hx hb dX1_take_13 hl (by decide) rfl (fun ls hl => ?_)
  refine lv_aload hx hb dX1_take_15 (lv_at hl 0 rfl) ?_
  refine gn_4_0 S hK hW (ve_3 (vq_2_0 hv1) (by decide)) q113 dX1_take_17 ?_
  refine lv_i2l hx hb dX1_take_20 rfl ?_
  refine lv_aload_n hx hb dX1_take_21 rfl (lv_at hl 3 rfl) ?_
  refine gf_1_4 S hK hW hv0 q155 dX1_take_22 ?_
  refine gn_0_3 S hK hW (vq_1_4 hv0) q278 dX1_take_25 ?_
  refine lv_iload_n hx hb dX1_take_28 rfl (lv_at hl 1 rfl) ?_
  refine ald_24 (z := 2) S hK hW (vq_0_3 (vq_1_4 hv0)) (by decide) (by decide) dX1_take_29 ?_
  refine lv_i2l hx hb dX1_take_30 rfl ?_
  refine lv_lmul hx hb dX1_take_31 ?_
  refine lv_iload_n hx hb dX1_take_32 rfl (lv_at hl 5 rfl) ?_
  refine lv_i2l hx hb dX1_take_33 rfl ?_
  refine lv_lmul hx hb dX1_take_34 ?_
  refine lv_bipush (v := (100 : Int32)) hx hb dX1_take_35 (by decide) ?_
  refine lv_aload_n hx hb dX1_take_37 rfl (lv_at hl 4 rfl) ?_
  refine gn_2_1 S hK hW hv1 q128 dX1_take_38 ?_
  refine va_mmin hx hb (S.2.2.1.trans hl.1.symm) S.2.2.2.1 (S.2.2.2.2 _ q735) (S.2.2.2.2 _ q736) (S.2.2.2.2 _ q79) (S.2.2.2.2 _ q737) (Nat.le_of_ble_eq_true rfl) (Nat.le_of_ble_eq_true rfl) (Nat.zero_le _) (Nat.zero_le _) dX1_take_41 ?_
  refine lv_i2l hx hb dX1_take_44 rfl ?_
  refine lv_lmul hx hb dX1_take_45 ?_
  refine lv_ldc2 (v := (1000000 : Int64)) hx hb S.2.2.2.1 (S.2.2.2.2 _ q738) dX1_take_46 ?_
  refine lv_ldiv hx hb dX1_take_49 (by decide) ?_
  refine lv_l2i hx hb dX1_take_50 rfl ?_
  obtain ⟨x16, e17, h⟩ := pl_e h
  refine lv_nm e17 ?_
  refine lv_istore (lv' := [(5, .int x16), (4, .ref (a (4, i1, 2))), (3, .int (2 : Int32)), (0, .ref (a (1, i0, 0))), (1, .ref (a (2, i1, 0))), (2, .int p2)]) hx hb dX1_take_51 hl (by decide) rfl (fun ls hl => ?_)
  refine lv_aload hx hb dX1_take_53 (lv_at hl 1 rfl) ?_
  refine lv_dup hx hb dX1_take_55 rfl ?_
  refine gn_4_0 S hK hW (ve_3 (vq_2_0 hv1) (by decide)) q113 dX1_take_56 ?_
  refine lv_iload hx hb dX1_take_59 (lv_at hl 0 rfl) ?_
  refine lv_isub hx hb dX1_take_61 ?_
  obtain ⟨F18, e19, h⟩ := pl_e h
  refine pn_4_0 S hK hD hW (ve_3 (vq_2_0 hv1) (by decide)) e19 q113 dX1_take_62 (fun H locs hW => ?_)
  refine lv_aload hx hb dX1_take_65 (lv_at hl 1 rfl) ?_
  refine lv_dup hx hb dX1_take_67 rfl ?_
  refine gn_4_1 S hK hW (ve_3 (vq_2_0 hv1) (by decide)) q116 dX1_take_68 ?_
  refine lv_iload hx hb dX1_take_71 (lv_at hl 0 rfl) ?_
  refine lv_iadd hx hb dX1_take_73 ?_
  obtain ⟨F20, e21, h⟩ := pl_e h
  refine pn_4_1 S hK hD hW (ve_3 (vq_2_0 hv1) (by decide)) e21 q116 dX1_take_74 (fun H locs hW => ?_)
  refine lv_iinc (v := (3 : Int32)) (lv' := [(3, .int (3 : Int32)), (5, .int x16), (4, .ref (a (4, i1, 2))), (0, .ref (a (1, i0, 0))), (1, .ref (a (2, i1, 0))), (2, .int p2)]) hx hb dX1_take_77 hl (k := 2) rfl (by decide) (by decide) rfl (fun ls hl => ?_)
  refine lv_goto (tgt := 2) hx hb dX1_take_80 (by decide) ?_
  refine lv_iload_n hx hb dX1_take_2 rfl (lv_at hl 0 rfl) ?_
  refine lv_iconst (v := (3 : Int32)) hx hb dX1_take_3 (by decide) ?_
  refine lv_icmp_ge (tgt := 83) hx hb dX1_take_4 (by decide) (fun _ => ?_) (fun c => absurd c (by decide))
  cases h
  exact we_v S hr hlk hW dX1_take_83
def fn_X0_isIn (F : St) (p0 : Int64) (p1 : Int64) (p2 : Int64) : Option (Int32) :=
  if (lg_cmp p0 p1) < 0 then some (0 : Int32) else if 0 < (lg_cmp p0 p2) then some (0 : Int32) else some (1 : Int32)
theorem yd_X0_isIn : yX0_isIn.cls = RX0 ∧ yX0_isIn.cls ≠ "java/lang/invoke/MethodHandle" ∧ yX0_isIn.cls ≠ "java/lang/invoke/VarHandle" ∧ (parseMethodDescriptor yX0_isIn.desc).map (fun d => d.parameters.length) = some 3 := by decide +kernel
set_option maxHeartbeats 4000000 in
theorem met_X0_isIn (l : Launch) {D : va_G} {dA : WK} {a : Ix → Nat} (hD : wD D dA a) {F : St} {p0 : Int64} {p1 : Int64} {p2 : Int64} {rz : Int32} (h : fn_X0_isIn F p0 p1 p2 = some rz) : Mi l yX0_isIn cX0_isIn 6 .boolean 0 0 D dA a F [.long p0, .long p1, .long p2] F rz := by
  refine fun sz => mst (Qc := fun sz => wQi D dA a sz F rz) (by decide) (Nat.le_of_ble_eq_true rfl) ?_ sz
  intro p e s m below meth c S hr hlk hK hW ls hl
  have hl : lv_has ls 6 [(0, .long p0), (2, .long p1), (4, .long p2)] := hl
  have hx := S.1
  have hb := S.2.1
  generalize ([.long p0, .long p1, .long p2] : List Value).toArray = av at S ⊢
  unfold fn_X0_isIn at h
  obtain ⟨H, eH⟩ : ∃ z, z = s.heap := ⟨_, rfl⟩
  obtain ⟨locs, eL⟩ : ∃ z : List Loc, z = [] := ⟨_, rfl⟩
  show WX p l e (rmL 0 0) s m av below meth c (wQi D dA a s.heap.size F rz) dA a s.heap [] (F0 m 0 ls [])
  have hW : wS D dA a s F H locs := by rw [eH, eL]; exact wS_in hW
  refine wx_in eH eL ?_
  clear eH eL
  refine lv_lload_n hx hb dX0_isIn_0 rfl (lv_at hl 0 rfl) ?_
  refine lv_lload_n hx hb dX0_isIn_1 rfl (lv_at hl 1 rfl) ?_
  refine W.lcmp hx hb dX0_isIn_2 ?_
  refine lv_if_lt (tgt := 17) hx hb dX0_isIn_3 (by decide) (fun c1 => ?_) (fun c1 => ?_)
  · have h := if_t h c1
    refine lv_iconst (v := (0 : Int32)) hx hb dX0_isIn_17 (by decide) ?_
    cases h
    exact we_z S hr hlk rfl hW dX0_isIn_18
  · have h := if_f h c1
    refine lv_lload_n hx hb dX0_isIn_6 rfl (lv_at hl 0 rfl) ?_
    refine lv_lload hx hb dX0_isIn_7 (lv_at hl 2 rfl) ?_
    refine W.lcmp hx hb dX0_isIn_9 ?_
    refine lv_if_gt (tgt := 17) hx hb dX0_isIn_10 (by decide) (fun c2 => ?_) (fun c2 => ?_)
    · have h := if_t h c2
      refine lv_iconst (v := (0 : Int32)) hx hb dX0_isIn_17 (by decide) ?_
      cases h
      exact we_z S hr hlk rfl hW dX0_isIn_18
    · have h := if_f h c2
      refine lv_iconst (v := (1 : Int32)) hx hb dX0_isIn_13 (by decide) ?_
      refine lv_goto (tgt := 18) hx hb dX0_isIn_14 (by decide) ?_
      cases h
      exact we_z S hr hlk rfl hW dX0_isIn_18
/-loop lp_X1_settleAll_15-/
def lp_X1_settleAll_15 (i0 : Nat) (x1 : Int32) : Nat → St → Int32 → Option (St × Int32)
  | 0, _, _ => none
  | n + 1, F9, x8 => if (F9 0 1 0 0) ≤ x8 then some (F9, x8) else og (vpb x1 4) (og (vpb x8 4) (ob (fn_X2_settle F9 (4 * (4 * i0 + x1.toNatClampNeg) + x8.toNatClampNeg)) (fun F19 => lp_X1_settleAll_15 i0 x1 n F19 (x8 + 1))))
theorem lp_X1_settleAll_15_s {i0 : Nat} {x1 : Int32} {n : Nat} {F9 : St} {x8 : Int32} : lp_X1_settleAll_15 i0 x1 (n + 1) F9 x8 = if (F9 0 1 0 0) ≤ x8 then some (F9, x8) else og (vpb x1 4) (og (vpb x8 4) (ob (fn_X2_settle F9 (4 * (4 * i0 + x1.toNatClampNeg) + x8.toNatClampNeg)) (fun F19 => lp_X1_settleAll_15 i0 x1 n F19 (x8 + 1)))) := rfl
/-loop lp_X1_settleAll_2-/
def lp_X1_settleAll_2 (i0 : Nat) : Nat → St → Int32 → Option (St × Int32)
  | 0, _, _ => none
  | n + 1, F2, x1 => if (F2 0 0 0 0) ≤ x1 then some (F2, x1) else ob2 (lp_X1_settleAll_15 i0 x1 300 F2 (0 : Int32)) (fun F10 x11 => lp_X1_settleAll_2 i0 n F10 (x1 + 1))
theorem lp_X1_settleAll_2_s {i0 : Nat} {n : Nat} {F2 : St} {x1 : Int32} : lp_X1_settleAll_2 i0 (n + 1) F2 x1 = if (F2 0 0 0 0) ≤ x1 then some (F2, x1) else ob2 (lp_X1_settleAll_15 i0 x1 300 F2 (0 : Int32)) (fun F10 x11 => lp_X1_settleAll_2 i0 n F10 (x1 + 1)) := rfl
def fn_X1_settleAll (F : St) (i0 : Nat) : Option (St) :=
  ob2 (lp_X1_settleAll_2 i0 300 F (0 : Int32)) (fun F3 x4 => ob (fn_X2_settle F3 (64 + i0)) (fun F23 => some F23))
theorem yd_X1_settleAll : yX1_settleAll.cls = RX1 ∧ yX1_settleAll.cls ≠ "java/lang/invoke/MethodHandle" ∧ yX1_settleAll.cls ≠ "java/lang/invoke/VarHandle" ∧ (parseMethodDescriptor yX1_settleAll.desc).map (fun d => d.parameters.length) = some 0 := by decide +kernel
set_option maxHeartbeats 4000000 in
theorem met_X1_settleAll (l : Launch) {D : va_G} {dA : WK} {a : Ix → Nat} (hD : wD D dA a) {F : St} {i0 : Nat} {Fz : St} (hv0 : wVd dA (1, i0, 0)) (h : fn_X1_settleAll F i0 = some Fz) : Mv l yX1_settleAll cX1_settleAll 3 1 21 D dA a F [.ref (a (1, i0, 0))] Fz := by
  refine fun sz => mst (Qc := fun sz => wQv D dA a sz Fz) (by decide) (Nat.le_of_ble_eq_true rfl) ?_ sz
  intro p e s m below meth c S hr hlk hK hW ls hl
  have hl : lv_has ls 3 [(0, .ref (a (1, i0, 0)))] := hl
  have hx := S.1
  have hb := S.2.1
  generalize ([.ref (a (1, i0, 0))] : List Value).toArray = av at S ⊢
  unfold fn_X1_settleAll at h
  obtain ⟨H, eH⟩ : ∃ z, z = s.heap := ⟨_, rfl⟩
  obtain ⟨locs, eL⟩ : ∃ z : List Loc, z = [] := ⟨_, rfl⟩
  show WX p l e (rmL 1 21) s m av below meth c (wQv D dA a s.heap.size Fz) dA a s.heap [] (F0 m 0 ls [])
  have hW : wS D dA a s F H locs := by rw [eH, eL]; exact wS_in hW
  refine wx_in eH eL ?_
  clear eH eL
  refine lv_iconst (v := (0 : Int32)) hx hb dX1_settleAll_0 (by decide) ?_
  refine lv_istore_n (lv' := [(1, .int (0 : Int32)), (0, .ref (a (1, i0, 0)))]) hx hb dX1_settleAll_1 rfl hl (by decide) rfl (fun ls hl => ?_)
  have L6 : ∀ (n : Nat) (F2 : St) (x1 : Int32) (F3 : St) (x4 : Int32), lp_X1_settleAll_2 i0 n F2 x1 = some (F3, x4) → (∀ (H : Heap) (locs : List Loc) (ls : Array Slot), wS D dA a s F3 H locs → lv_has ls 3 [(0, .ref (a (1, i0, 0)))] → WX p l e (rmL 1 21) s m av below meth c (wQv D dA a s.heap.size Fz) dA a H locs (F0 m 49 ls [])) → ∀ (H : Heap) (locs : List Loc) (ls : Array Slot), wS D dA a s F2 H locs → lv_has ls 3 [(0, .ref (a (1, i0, 0))), (1, .int x1)] → WX p l e (rmL 1 21) s m av below meth c (wQv D dA a s.heap.size Fz) dA a H locs (F0 m 2 ls []) := by
    intro n
    induction n with
    | zero =>
      intro F2 x1 F3 x4 h
      exact absurd (show (none : Option (St × Int32)) = some (F3, x4) from h) (by simp)
    | succ n ih =>
      intro F2 x1 F3 x4 h K5 H locs ls hW hl
      have h := lp_X1_settleAll_2_s.symm.trans h
      refine lv_iload_n hx hb dX1_settleAll_2 rfl (lv_at hl 1 rfl) ?_
      refine lv_aload_n hx hb dX1_settleAll_3 rfl (lv_at hl 0 rfl) ?_
      refine gf_1_4 S hK hW hv0 q155 dX1_settleAll_4 ?_
      refine gn_0_0 S hK hW (vq_1_4 hv0) q267 dX1_settleAll_7 ?_
      refine lv_icmp_ge (tgt := 49) hx hb dX1_settleAll_10 (by decide) (fun c7 => ?_) (fun c7 => ?_)
      · have h := if_t h c7
        cases h
        exact K5 H locs ls hW (lv_sub hl [0] rfl)
      · have h := if_f h c7
        refine lv_iconst (v := (0 : Int32)) hx hb dX1_settleAll_13 (by decide) ?_
        refine lv_istore_n (lv' := [(2, .int (0 : Int32)), (0, .ref (a (1, i0, 0))), (1, .int x1)]) hx hb dX1_settleAll_14 rfl hl (by decide) rfl (fun ls hl => ?_)
        have L13 : ∀ (n : Nat) (F9 : St) (x8 : Int32) (F10 : St) (x11 : Int32), lp_X1_settleAll_15 i0 x1 n F9 x8 = some (F10, x11) → (∀ (H : Heap) (locs : List Loc) (ls : Array Slot), wS D dA a s F10 H locs → lv_has ls 3 [(0, .ref (a (1, i0, 0))), (1, .int x1)] → WX p l e (rmL 1 21) s m av below meth c (wQv D dA a s.heap.size Fz) dA a H locs (F0 m 43 ls [])) → ∀ (H : Heap) (locs : List Loc) (ls : Array Slot), wS D dA a s F9 H locs → lv_has ls 3 [(0, .ref (a (1, i0, 0))), (1, .int x1), (2, .int x8)] → WX p l e (rmL 1 21) s m av below meth c (wQv D dA a s.heap.size Fz) dA a H locs (F0 m 15 ls []) := by
          intro n
          induction n with
          | zero =>
            intro F9 x8 F10 x11 h
            exact absurd (show (none : Option (St × Int32)) = some (F10, x11) from h) (by simp)
          | succ n ih =>
            intro F9 x8 F10 x11 h K12 H locs ls hW hl
            have h := lp_X1_settleAll_15_s.symm.trans h
            refine lv_iload_n hx hb dX1_settleAll_15 rfl (lv_at hl 2 rfl) ?_
            refine lv_aload_n hx hb dX1_settleAll_16 rfl (lv_at hl 0 rfl) ?_
            refine gf_1_4 S hK hW hv0 q155 dX1_settleAll_17 ?_
            refine gn_0_1 S hK hW (vq_1_4 hv0) q271 dX1_settleAll_20 ?_
            refine lv_icmp_ge (tgt := 43) hx hb dX1_settleAll_23 (by decide) (fun c14 => ?_) (fun c14 => ?_)
            · have h := if_t h c14
              cases h
              exact K12 H locs ls hW (lv_sub hl [0, 1] rfl)
            · have h := if_f h c14
              refine lv_aload_n hx hb dX1_settleAll_26 rfl (lv_at hl 0 rfl) ?_
              refine gf_1_0 S hK hW hv0 q147 dX1_settleAll_27 ?_
              refine lv_iload_n hx hb dX1_settleAll_30 rfl (lv_at hl 1 rfl) ?_
              obtain ⟨g15, h⟩ := og_e h
              refine aald_6 S hK hW (vq_1_0 hv0) g15 rfl dX1_settleAll_31 ?_
              have v16 := (ve_6 (vq_1_0 hv0) (vpb_lt g15))
              refine lv_iload_n hx hb dX1_settleAll_32 rfl (lv_at hl 2 rfl) ?_
              obtain ⟨g17, h⟩ := og_e h
              refine aald_7 S hK hW v16 g17 rfl dX1_settleAll_33 ?_
              have v18 := (ve_7 v16 (vpb_lt g17))
              obtain ⟨F19, hc20, h⟩ := ob_e h
              refine wk_v (va_runV (As := []) (rest := []) S (met_X2_settle l hD v18 hc20 H.size) (cwV 0 S.2.2.2.2 (lw_V q756 q757 q758 q57 q759) rfl rfl rfl yd_X2_settle ⟨Nat.le_of_ble_eq_true rfl, Nat.le_of_ble_eq_true rfl⟩) (wpreV hK hW v18 rfl rfl _) rfl rfl hl.1 rfl (lv_room (Nat.le_of_ble_eq_true rfl)) dX1_settleAll_34 ⟨Nat.le_refl 0, Nat.le_refl 0⟩) hW (fun H locs hW => ?_)
              refine lv_iinc (v := (x8 + 1)) (lv' := [(2, .int (x8 + 1)), (0, .ref (a (1, i0, 0))), (1, .int x1)]) hx hb dX1_settleAll_37 hl (k := 2) rfl rfl (by decide) rfl (fun ls hl => ?_)
              refine lv_goto (tgt := 15) hx hb dX1_settleAll_40 (by decide) ?_
              exact ih _ _ _ _ h K12 H locs ls hW (lv_sub hl [1, 2, 0] rfl)
        obtain ⟨F10, x11, hz21, h⟩ := ob2_e h
        refine L13 300 F2 (0 : Int32) F10 x11 hz21 (fun H locs ls hW hl => ?_) H locs ls hW (lv_sub hl [1, 2, 0] rfl)
        refine lv_iinc (v := (x1 + 1)) (lv' := [(1, .int (x1 + 1)), (0, .ref (a (1, i0, 0)))]) hx hb dX1_settleAll_43 hl (k := 1) rfl rfl (by decide) rfl (fun ls hl => ?_)
        refine lv_goto (tgt := 2) hx hb dX1_settleAll_46 (by decide) ?_
        exact ih _ _ _ _ h K5 H locs ls hW (lv_sub hl [1, 0] rfl)
  obtain ⟨F3, x4, hz22, h⟩ := ob2_e h
  refine L6 300 F (0 : Int32) F3 x4 hz22 (fun H locs ls hW hl => ?_) H locs ls hW (lv_sub hl [1, 0] rfl)
  refine lv_aload_n hx hb dX1_settleAll_49 rfl (lv_at hl 0 rfl) ?_
  refine gf_1_1 S hK hW hv0 q149 dX1_settleAll_50 ?_
  obtain ⟨F23, hc24, h⟩ := ob_e h
  refine wk_v (va_runV (As := []) (rest := []) S (met_X2_settle l hD (vq_1_1 hv0) hc24 H.size) (cwV 0 S.2.2.2.2 (lw_V q756 q757 q758 q57 q759) rfl rfl rfl yd_X2_settle ⟨Nat.le_of_ble_eq_true rfl, Nat.le_of_ble_eq_true rfl⟩) (wpreV hK hW (vq_1_1 hv0) rfl rfl _) rfl rfl hl.1 rfl (lv_room (Nat.le_of_ble_eq_true rfl)) dX1_settleAll_53 ⟨Nat.le_refl 0, Nat.le_refl 0⟩) hW (fun H locs hW => ?_)
  cases h
  exact we_v S hr hlk hW dX1_settleAll_56
/-loop lp_X1_goSideways_30-/
def lp_X1_goSideways_30 (i0 : Nat) (x1 : Int32) (x8 : Int32) : Nat → St → Int32 → Option (St × Int32)
  | 0, _, _ => none
  | n + 1, F18, x17 => if (x1 + (1 : Int32)) < x17 then some (F18, x17) else ob (fn_X0_isIn F18 x17.toInt64 (0 : Int64) (((F18 0 0 0 0) - (1 : Int32)).toInt64)) (fun r24 => ob (if r24 = 0 then some F18 else og (vpb x17 4) (og (vpb x8 4) (og (vpb x1 4) (if (F18 2 1 (4 * (4 * i0 + x1.toNatClampNeg) + x8.toNatClampNeg) 0) ≤ (F18 2 1 (4 * (4 * i0 + x17.toNatClampNeg) + x8.toNatClampNeg) 0) then some F18 else pl ((((F18 2 1 (4 * (4 * i0 + x1.toNatClampNeg) + x8.toNatClampNeg) 0) - (F18 2 1 (4 * (4 * i0 + x17.toNatClampNeg) + x8.toNatClampNeg) 0)) * (F18 0 6 0 0)) / (100 : Int32)) (fun x42 => ob (fn_X2_note F18 (4 * (4 * i0 + x17.toNatClampNeg) + x8.toNatClampNeg) (4 * (4 * i0 + x1.toNatClampNeg) + x8.toNatClampNeg) x42 (1 : Int32)) (fun F46 => ob (fn_X2_note F46 (4 * (4 * i0 + x1.toNatClampNeg) + x8.toNatClampNeg) (4 * (4 * i0 + x1.toNatClampNeg) + x8.toNatClampNeg) x42 (-1 : Int32)) (fun F48 => some F48))))))) (fun F28 => lp_X1_goSideways_30 i0 x1 x8 n F28 (x17 + 2)))
theorem lp_X1_goSideways_30_s {i0 : Nat} {x1 : Int32} {x8 : Int32} {n : Nat} {F18 : St} {x17 : Int32} : lp_X1_goSideways_30 i0 x1 x8 (n + 1) F18 x17 = if (x1 + (1 : Int32)) < x17 then some (F18, x17) else ob (fn_X0_isIn F18 x17.toInt64 (0 : Int64) (((F18 0 0 0 0) - (1 : Int32)).toInt64)) (fun r24 => ob (if r24 = 0 then some F18 else og (vpb x17 4) (og (vpb x8 4) (og (vpb x1 4) (if (F18 2 1 (4 * (4 * i0 + x1.toNatClampNeg) + x8.toNatClampNeg) 0) ≤ (F18 2 1 (4 * (4 * i0 + x17.toNatClampNeg) + x8.toNatClampNeg) 0) then some F18 else pl ((((F18 2 1 (4 * (4 * i0 + x1.toNatClampNeg) + x8.toNatClampNeg) 0) - (F18 2 1 (4 * (4 * i0 + x17.toNatClampNeg) + x8.toNatClampNeg) 0)) * (F18 0 6 0 0)) / (100 : Int32)) (fun x42 => ob (fn_X2_note F18 (4 * (4 * i0 + x17.toNatClampNeg) + x8.toNatClampNeg) (4 * (4 * i0 + x1.toNatClampNeg) + x8.toNatClampNeg) x42 (1 : Int32)) (fun F46 => ob (fn_X2_note F46 (4 * (4 * i0 + x1.toNatClampNeg) + x8.toNatClampNeg) (4 * (4 * i0 + x1.toNatClampNeg) + x8.toNatClampNeg) x42 (-1 : Int32)) (fun F48 => some F48))))))) (fun F28 => lp_X1_goSideways_30 i0 x1 x8 n F28 (x17 + 2))) := rfl
/-loop lp_X1_goSideways_15-/
def lp_X1_goSideways_15 (i0 : Nat) (x1 : Int32) : Nat → St → Int32 → Option (St × Int32)
  | 0, _, _ => none
  | n + 1, F9, x8 => if (F9 0 1 0 0) ≤ x8 then some (F9, x8) else pl (x1 - (1 : Int32)) (fun x15 => ob2 (lp_X1_goSideways_30 i0 x1 x8 300 F9 x15) (fun F19 x20 => lp_X1_goSideways_15 i0 x1 n F19 (x8 + 1)))
theorem lp_X1_goSideways_15_s {i0 : Nat} {x1 : Int32} {n : Nat} {F9 : St} {x8 : Int32} : lp_X1_goSideways_15 i0 x1 (n + 1) F9 x8 = if (F9 0 1 0 0) ≤ x8 then some (F9, x8) else pl (x1 - (1 : Int32)) (fun x15 => ob2 (lp_X1_goSideways_30 i0 x1 x8 300 F9 x15) (fun F19 x20 => lp_X1_goSideways_15 i0 x1 n F19 (x8 + 1))) := rfl
/-loop lp_X1_goSideways_2-/
def lp_X1_goSideways_2 (i0 : Nat) : Nat → St → Int32 → Option (St × Int32)
  | 0, _, _ => none
  | n + 1, F2, x1 => if (F2 0 0 0 0) ≤ x1 then some (F2, x1) else ob2 (lp_X1_goSideways_15 i0 x1 300 F2 (0 : Int32)) (fun F10 x11 => lp_X1_goSideways_2 i0 n F10 (x1 + 1))
theorem lp_X1_goSideways_2_s {i0 : Nat} {n : Nat} {F2 : St} {x1 : Int32} : lp_X1_goSideways_2 i0 (n + 1) F2 x1 = if (F2 0 0 0 0) ≤ x1 then some (F2, x1) else ob2 (lp_X1_goSideways_15 i0 x1 300 F2 (0 : Int32)) (fun F10 x11 => lp_X1_goSideways_2 i0 n F10 (x1 + 1)) := rfl
def fn_X1_goSideways (F : St) (i0 : Nat) : Option (St) :=
  ob2 (lp_X1_goSideways_2 i0 300 F (0 : Int32)) (fun F3 x4 => ob (fn_X1_settleAll F3 i0) (fun F53 => some F53))
theorem yd_X1_goSideways : yX1_goSideways.cls = RX1 ∧ yX1_goSideways.cls ≠ "java/lang/invoke/MethodHandle" ∧ yX1_goSideways.cls ≠ "java/lang/invoke/VarHandle" ∧ (parseMethodDescriptor yX1_goSideways.desc).map (fun d => d.parameters.length) = some 0 := by decide +kernel
set_option maxHeartbeats 4000000 in
theorem met_X1_goSideways (l : Launch) {D : va_G} {dA : WK} {a : Ix → Nat} (hD : wD D dA a) {F : St} {i0 : Nat} {Fz : St} (hv0 : wVd dA (1, i0, 0)) (h : fn_X1_goSideways F i0 = some Fz) : Mv l yX1_goSideways cX1_goSideways 6 2 46 D dA a F [.ref (a (1, i0, 0))] Fz := by
  refine fun sz => mst (Qc := fun sz => wQv D dA a sz Fz) (by decide) (Nat.le_of_ble_eq_true rfl) ?_ sz
  intro p e s m below meth c S hr hlk hK hW ls hl
  have hl : lv_has ls 6 [(0, .ref (a (1, i0, 0)))] := hl
  have hx := S.1
  have hb := S.2.1
  generalize ([.ref (a (1, i0, 0))] : List Value).toArray = av at S ⊢
  unfold fn_X1_goSideways at h
  obtain ⟨H, eH⟩ : ∃ z, z = s.heap := ⟨_, rfl⟩
  obtain ⟨locs, eL⟩ : ∃ z : List Loc, z = [] := ⟨_, rfl⟩
  show WX p l e (rmL 2 46) s m av below meth c (wQv D dA a s.heap.size Fz) dA a s.heap [] (F0 m 0 ls [])
  have hW : wS D dA a s F H locs := by rw [eH, eL]; exact wS_in hW
  refine wx_in eH eL ?_
  clear eH eL
  refine lv_iconst (v := (0 : Int32)) hx hb dX1_goSideways_0 (by decide) ?_
  refine lv_istore_n (lv' := [(1, .int (0 : Int32)), (0, .ref (a (1, i0, 0)))]) hx hb dX1_goSideways_1 rfl hl (by decide) rfl (fun ls hl => ?_)
  have L6 : ∀ (n : Nat) (F2 : St) (x1 : Int32) (F3 : St) (x4 : Int32), lp_X1_goSideways_2 i0 n F2 x1 = some (F3, x4) → (∀ (H : Heap) (locs : List Loc) (ls : Array Slot), wS D dA a s F3 H locs → lv_has ls 6 [(0, .ref (a (1, i0, 0)))] → WX p l e (rmL 2 46) s m av below meth c (wQv D dA a s.heap.size Fz) dA a H locs (F0 m 165 ls [])) → ∀ (H : Heap) (locs : List Loc) (ls : Array Slot), wS D dA a s F2 H locs → lv_has ls 6 [(0, .ref (a (1, i0, 0))), (1, .int x1)] → WX p l e (rmL 2 46) s m av below meth c (wQv D dA a s.heap.size Fz) dA a H locs (F0 m 2 ls []) := by
    intro n
    induction n with
    | zero =>
      intro F2 x1 F3 x4 h
      exact absurd (show (none : Option (St × Int32)) = some (F3, x4) from h) (by simp)
    | succ n ih =>
      intro F2 x1 F3 x4 h K5 H locs ls hW hl
      have h := lp_X1_goSideways_2_s.symm.trans h
      refine lv_iload_n hx hb dX1_goSideways_2 rfl (lv_at hl 1 rfl) ?_
      refine lv_aload_n hx hb dX1_goSideways_3 rfl (lv_at hl 0 rfl) ?_
      refine gf_1_4 S hK hW hv0 q155 dX1_goSideways_4 ?_
      refine gn_0_0 S hK hW (vq_1_4 hv0) q267 dX1_goSideways_7 ?_
      refine lv_icmp_ge (tgt := 165) hx hb dX1_goSideways_10 (by decide) (fun c7 => ?_) (fun c7 => ?_)
      · have h := if_t h c7
        cases h
        exact K5 H locs ls hW (lv_sub hl [0] rfl)
      · have h := if_f h c7
        refine lv_iconst (v := (0 : Int32)) hx hb dX1_goSideways_13 (by decide) ?_
        refine lv_istore_n (lv' := [(2, .int (0 : Int32)), (0, .ref (a (1, i0, 0))), (1, .int x1)]) hx hb dX1_goSideways_14 rfl hl (by decide) rfl (fun ls hl => ?_)
        have L13 : ∀ (n : Nat) (F9 : St) (x8 : Int32) (F10 : St) (x11 : Int32), lp_X1_goSideways_15 i0 x1 n F9 x8 = some (F10, x11) → (∀ (H : Heap) (locs : List Loc) (ls : Array Slot), wS D dA a s F10 H locs → lv_has ls 6 [(0, .ref (a (1, i0, 0))), (1, .int x1)] → WX p l e (rmL 2 46) s m av below meth c (wQv D dA a s.heap.size Fz) dA a H locs (F0 m 159 ls [])) → ∀ (H : Heap) (locs : List Loc) (ls : Array Slot), wS D dA a s F9 H locs → lv_has ls 6 [(0, .ref (a (1, i0, 0))), (1, .int x1), (2, .int x8)] → WX p l e (rmL 2 46) s m av below meth c (wQv D dA a s.heap.size Fz) dA a H locs (F0 m 15 ls []) := by
          intro n
          induction n with
          | zero =>
            intro F9 x8 F10 x11 h
            exact absurd (show (none : Option (St × Int32)) = some (F10, x11) from h) (by simp)
          | succ n ih =>
            intro F9 x8 F10 x11 h K12 H locs ls hW hl
            have h := lp_X1_goSideways_15_s.symm.trans h
            refine lv_iload_n hx hb dX1_goSideways_15 rfl (lv_at hl 2 rfl) ?_
            refine lv_aload_n hx hb dX1_goSideways_16 rfl (lv_at hl 0 rfl) ?_
            refine gf_1_4 S hK hW hv0 q155 dX1_goSideways_17 ?_
            refine gn_0_1 S hK hW (vq_1_4 hv0) q271 dX1_goSideways_20 ?_
            refine lv_icmp_ge (tgt := 159) hx hb dX1_goSideways_23 (by decide) (fun c14 => ?_) (fun c14 => ?_)
            · have h := if_t h c14
              cases h
              exact K12 H locs ls hW (lv_sub hl [0, 1] rfl)
            · have h := if_f h c14
              refine lv_iload_n hx hb dX1_goSideways_26 rfl (lv_at hl 1 rfl) ?_
              refine lv_iconst (v := (1 : Int32)) hx hb dX1_goSideways_27 (by decide) ?_
              refine lv_isub hx hb dX1_goSideways_28 ?_
              obtain ⟨x15, e16, h⟩ := pl_e h
              refine lv_nm e16 ?_
              refine lv_istore_n (lv' := [(3, .int x15), (0, .ref (a (1, i0, 0))), (1, .int x1), (2, .int x8)]) hx hb dX1_goSideways_29 rfl hl (by decide) rfl (fun ls hl => ?_)
              have L22 : ∀ (n : Nat) (F18 : St) (x17 : Int32) (F19 : St) (x20 : Int32), lp_X1_goSideways_30 i0 x1 x8 n F18 x17 = some (F19, x20) → (∀ (H : Heap) (locs : List Loc) (ls : Array Slot), wS D dA a s F19 H locs → lv_has ls 6 [(0, .ref (a (1, i0, 0))), (1, .int x1), (2, .int x8)] → WX p l e (rmL 2 46) s m av below meth c (wQv D dA a s.heap.size Fz) dA a H locs (F0 m 153 ls [])) → ∀ (H : Heap) (locs : List Loc) (ls : Array Slot), wS D dA a s F18 H locs → lv_has ls 6 [(0, .ref (a (1, i0, 0))), (1, .int x1), (2, .int x8), (3, .int x17)] → WX p l e (rmL 2 46) s m av below meth c (wQv D dA a s.heap.size Fz) dA a H locs (F0 m 30 ls []) := by
                intro n
                induction n with
                | zero =>
                  intro F18 x17 F19 x20 h
                  exact absurd (show (none : Option (St × Int32)) = some (F19, x20) from h) (by simp)
                | succ n ih =>
                  intro F18 x17 F19 x20 h K21 H locs ls hW hl
                  have h := lp_X1_goSideways_30_s.symm.trans h
                  refine lv_iload_n hx hb dX1_goSideways_30 rfl (lv_at hl 3 rfl) ?_
                  refine lv_iload_n hx hb dX1_goSideways_31 rfl (lv_at hl 1 rfl) ?_
                  refine lv_iconst (v := (1 : Int32)) hx hb dX1_goSideways_32 (by decide) ?_
                  refine lv_iadd hx hb dX1_goSideways_33 ?_
                  refine lv_icmp_gt (tgt := 153) hx hb dX1_goSideways_34 (by decide) (fun c23 => ?_) (fun c23 => ?_)
                  · have h := if_t h c23
                    cases h
                    exact K21 H locs ls hW (lv_sub hl [0, 1, 2] rfl)
                  · have h := if_f h c23
                    refine lv_iload_n hx hb dX1_goSideways_37 rfl (lv_at hl 3 rfl) ?_
                    refine lv_i2l hx hb dX1_goSideways_38 rfl ?_
                    refine lv_lconst (v := (0 : Int64)) hx hb dX1_goSideways_39 (by decide) ?_
                    refine lv_aload_n hx hb dX1_goSideways_40 rfl (lv_at hl 0 rfl) ?_
                    refine gf_1_4 S hK hW hv0 q155 dX1_goSideways_41 ?_
                    refine gn_0_0 S hK hW (vq_1_4 hv0) q267 dX1_goSideways_44 ?_
                    refine lv_iconst (v := (1 : Int32)) hx hb dX1_goSideways_47 (by decide) ?_
                    refine lv_isub hx hb dX1_goSideways_48 ?_
                    refine lv_i2l hx hb dX1_goSideways_49 rfl ?_
                    obtain ⟨r24, hc25, h⟩ := ob_e h
                    refine wk_i (va_runSN (As := [.long x17.toInt64, .long (0 : Int64), .long (((F18 0 0 0 0) - (1 : Int32)).toInt64)]) (rest := []) S (met_X0_isIn l hD hc25 H.size) ⟨va_cnB 3 S.2.2.2.2 (lw_meth q391) rfl rfl rfl (hK.2.1 _ (List.mem_filter.mpr ⟨q743, rfl⟩)) (S.2.2.2.2 _ q55) yd_X0_isIn.2 ⟨Nat.le_of_ble_eq_true rfl, Nat.le_of_ble_eq_true rfl⟩, S.2.2.2.2 _ q390, trivial⟩ (wpreS hK hW _) rfl rfl hl.1 rfl (lv_room (Nat.le_of_ble_eq_true rfl)) dX1_goSideways_50 ⟨Nat.le_refl 0, Nat.le_refl 0⟩) hW (fun H locs hW => ?_)
                    obtain ⟨F28, hz27, h⟩ := ob_e h
                    have K29 : ∀ (H : Heap) (locs : List Loc) (ls : Array Slot), wS D dA a s F28 H locs → lv_has ls 6 [(0, .ref (a (1, i0, 0))), (1, .int x1), (2, .int x8), (3, .int x17)] → WX p l e (rmL 2 46) s m av below meth c (wQv D dA a s.heap.size Fz) dA a H locs (F0 m 147 ls []) := by
                      intro H locs ls hW hl
                      refine lv_iinc (v := (x17 + 2)) (lv' := [(3, .int (x17 + 2)), (0, .ref (a (1, i0, 0))), (1, .int x1), (2, .int x8)]) hx hb dX1_goSideways_147 hl (k := 3) rfl rfl (by decide) rfl (fun ls hl => ?_)
                      refine lv_goto (tgt := 30) hx hb dX1_goSideways_150 (by decide) ?_
                      exact ih _ _ _ _ h K21 H locs ls hW (lv_sub hl [1, 2, 3, 0] rfl)
                    clear h
                    refine lv_if_eq (tgt := 147) hx hb dX1_goSideways_53 (by decide) (fun c26 => ?_) (fun c26 => ?_)
                    · have h := if_t hz27 c26
                      cases h
                      exact K29 H locs ls hW (lv_sub hl [0, 1, 2, 3] rfl)
                    · have h := if_f hz27 c26
                      refine lv_aload_n hx hb dX1_goSideways_56 rfl (lv_at hl 0 rfl) ?_
                      refine gf_1_0 S hK hW hv0 q147 dX1_goSideways_57 ?_
                      refine lv_iload_n hx hb dX1_goSideways_60 rfl (lv_at hl 3 rfl) ?_
                      obtain ⟨g30, h⟩ := og_e h
                      refine aald_6 S hK hW (vq_1_0 hv0) g30 rfl dX1_goSideways_61 ?_
                      have v31 := (ve_6 (vq_1_0 hv0) (vpb_lt g30))
                      refine lv_iload_n hx hb dX1_goSideways_62 rfl (lv_at hl 2 rfl) ?_
                      obtain ⟨g32, h⟩ := og_e h
                      refine aald_7 S hK hW v31 g32 rfl dX1_goSideways_63 ?_
                      have v33 := (ve_7 v31 (vpb_lt g32))
                      refine gn_2_1 S hK hW v33 q128 dX1_goSideways_64 ?_
                      refine lv_aload_n hx hb dX1_goSideways_67 rfl (lv_at hl 0 rfl) ?_
                      refine gf_1_0 S hK hW hv0 q147 dX1_goSideways_68 ?_
                      refine lv_iload_n hx hb dX1_goSideways_71 rfl (lv_at hl 1 rfl) ?_
                      obtain ⟨g34, h⟩ := og_e h
                      refine aald_6 S hK hW (vq_1_0 hv0) g34 rfl dX1_goSideways_72 ?_
                      have v35 := (ve_6 (vq_1_0 hv0) (vpb_lt g34))
                      refine lv_iload_n hx hb dX1_goSideways_73 rfl (lv_at hl 2 rfl) ?_
                      refine aald_7 S hK hW v35 g32 rfl dX1_goSideways_74 ?_
                      have v36 := (ve_7 v35 (vpb_lt g32))
                      refine gn_2_1 S hK hW v36 q128 dX1_goSideways_75 ?_
                      refine lv_icmp_ge (tgt := 147) hx hb dX1_goSideways_78 (by decide) (fun c37 => ?_) (fun c37 => ?_)
                      · have h := if_t h c37
                        cases h
                        exact K29 H locs ls hW (lv_sub hl [0, 1, 2, 3] rfl)
                      · have h := if_f h c37
                        refine lv_aload_n hx hb dX1_goSideways_81 rfl (lv_at hl 0 rfl) ?_
                        refine gf_1_0 S hK hW hv0 q147 dX1_goSideways_82 ?_
                        refine lv_iload_n hx hb dX1_goSideways_85 rfl (lv_at hl 1 rfl) ?_
                        refine aald_6 S hK hW (vq_1_0 hv0) g34 rfl dX1_goSideways_86 ?_
                        have v38 := (ve_6 (vq_1_0 hv0) (vpb_lt g34))
                        refine lv_iload_n hx hb dX1_goSideways_87 rfl (lv_at hl 2 rfl) ?_
                        refine aald_7 S hK hW v38 g32 rfl dX1_goSideways_88 ?_
                        have v39 := (ve_7 v38 (vpb_lt g32))
                        refine lv_astore (lv' := [(4, .ref (a (2, (4 * (4 * i0 + x1.toNatClampNeg) + x8.toNatClampNeg), 0))), (0, .ref (a (1, i0, 0))), (1, .int x1), (2, .int x8), (3, .int x17)]) hx hb dX1_goSideways_89 hl (by decide) rfl (fun ls hl => ?_)
                        refine lv_aload hx hb dX1_goSideways_91 (lv_at hl 0 rfl) ?_
                        refine gn_2_1 S hK hW v39 q128 dX1_goSideways_93 ?_
                        refine lv_aload_n hx hb dX1_goSideways_96 rfl (lv_at hl 1 rfl) ?_
                        refine gf_1_0 S hK hW hv0 q147 dX1_goSideways_97 ?_
                        refine lv_iload_n hx hb dX1_goSideways_100 rfl (lv_at hl 4 rfl) ?_
                        refine aald_6 S hK hW (vq_1_0 hv0) g30 rfl dX1_goSideways_101 ?_
                        have v40 := (ve_6 (vq_1_0 hv0) (vpb_lt g30))
                        refine lv_iload_n hx hb dX1_goSideways_102 rfl (lv_at hl 3 rfl) ?_
                        refine aald_7 S hK hW v40 g32 rfl dX1_goSideways_103 ?_
                        have v41 := (ve_7 v40 (vpb_lt g32))
                        refine gn_2_1 S hK hW v41 q128 dX1_goSideways_104 ?_
                        refine lv_isub hx hb dX1_goSideways_107 ?_
                        refine lv_aload_n hx hb dX1_goSideways_108 rfl (lv_at hl 1 rfl) ?_
                        refine gf_1_4 S hK hW hv0 q155 dX1_goSideways_109 ?_
                        refine gn_0_6 S hK hW (vq_1_4 hv0) q288 dX1_goSideways_112 ?_
                        refine lv_imul hx hb dX1_goSideways_115 ?_
                        refine lv_bipush (v := (100 : Int32)) hx hb dX1_goSideways_116 (by decide) ?_
                        refine lv_idiv hx hb dX1_goSideways_118 (by decide) ?_
                        obtain ⟨x42, e43, h⟩ := pl_e h
                        refine lv_nm e43 ?_
                        refine lv_istore (lv' := [(5, .int x42), (4, .ref (a (2, (4 * (4 * i0 + x1.toNatClampNeg) + x8.toNatClampNeg), 0))), (0, .ref (a (1, i0, 0))), (1, .int x1), (2, .int x8), (3, .int x17)]) hx hb dX1_goSideways_119 hl (by decide) rfl (fun ls hl => ?_)
                        refine lv_aload_n hx hb dX1_goSideways_121 rfl (lv_at hl 2 rfl) ?_
                        refine gf_1_0 S hK hW hv0 q147 dX1_goSideways_122 ?_
                        refine lv_iload_n hx hb dX1_goSideways_125 rfl (lv_at hl 5 rfl) ?_
                        refine aald_6 S hK hW (vq_1_0 hv0) g30 rfl dX1_goSideways_126 ?_
                        have v44 := (ve_6 (vq_1_0 hv0) (vpb_lt g30))
                        refine lv_iload_n hx hb dX1_goSideways_127 rfl (lv_at hl 4 rfl) ?_
                        refine aald_7 S hK hW v44 g32 rfl dX1_goSideways_128 ?_
                        have v45 := (ve_7 v44 (vpb_lt g32))
                        refine lv_aload hx hb dX1_goSideways_129 (lv_at hl 1 rfl) ?_
                        refine lv_iload hx hb dX1_goSideways_131 (lv_at hl 0 rfl) ?_
                        refine lv_iconst (v := (1 : Int32)) hx hb dX1_goSideways_133 (by decide) ?_
                        obtain ⟨F46, hc47, h⟩ := ob_e h
                        refine wk_v (va_runV (As := [.ref (a (2, (4 * (4 * i0 + x1.toNatClampNeg) + x8.toNatClampNeg), 0)), .int x42, .int (1 : Int32)]) (rest := []) S (met_X2_note l hD v45 v39 hc47 H.size) (cwV 3 S.2.2.2.2 (lw_V q744 q745 q746 q57 q747) rfl rfl rfl yd_X2_note ⟨Nat.le_of_ble_eq_true rfl, Nat.le_of_ble_eq_true rfl⟩) (wpreV hK hW v45 rfl rfl _) rfl rfl hl.1 rfl (lv_room (Nat.le_of_ble_eq_true rfl)) dX1_goSideways_134 ⟨Nat.le_refl 0, Nat.le_refl 0⟩) hW (fun H locs hW => ?_)
                        refine lv_aload hx hb dX1_goSideways_137 (lv_at hl 1 rfl) ?_
                        refine lv_aload hx hb dX1_goSideways_139 (lv_at hl 1 rfl) ?_
                        refine lv_iload hx hb dX1_goSideways_141 (lv_at hl 0 rfl) ?_
                        refine lv_iconst (v := (-1 : Int32)) hx hb dX1_goSideways_143 (by decide) ?_
                        obtain ⟨F48, hc49, h⟩ := ob_e h
                        refine wk_v (va_runV (As := [.ref (a (2, (4 * (4 * i0 + x1.toNatClampNeg) + x8.toNatClampNeg), 0)), .int x42, .int (-1 : Int32)]) (rest := []) S (met_X2_note l hD v39 v39 hc49 H.size) (cwV 3 S.2.2.2.2 (lw_V q744 q745 q746 q57 q747) rfl rfl rfl yd_X2_note ⟨Nat.le_of_ble_eq_true rfl, Nat.le_of_ble_eq_true rfl⟩) (wpreV hK hW v39 rfl rfl _) rfl rfl hl.1 rfl (lv_room (Nat.le_of_ble_eq_true rfl)) dX1_goSideways_144 ⟨Nat.le_refl 0, Nat.le_refl 0⟩) hW (fun H locs hW => ?_)
                        cases h
                        exact K29 H locs ls hW (lv_sub hl [2, 3, 4, 5] rfl)
              obtain ⟨F19, x20, hz50, h⟩ := ob2_e h
              refine L22 300 F9 x15 F19 x20 hz50 (fun H locs ls hW hl => ?_) H locs ls hW (lv_sub hl [1, 2, 3, 0] rfl)
              refine lv_iinc (v := (x8 + 1)) (lv' := [(2, .int (x8 + 1)), (0, .ref (a (1, i0, 0))), (1, .int x1)]) hx hb dX1_goSideways_153 hl (k := 2) rfl rfl (by decide) rfl (fun ls hl => ?_)
              refine lv_goto (tgt := 15) hx hb dX1_goSideways_156 (by decide) ?_
              exact ih _ _ _ _ h K12 H locs ls hW (lv_sub hl [1, 2, 0] rfl)
        obtain ⟨F10, x11, hz51, h⟩ := ob2_e h
        refine L13 300 F2 (0 : Int32) F10 x11 hz51 (fun H locs ls hW hl => ?_) H locs ls hW (lv_sub hl [1, 2, 0] rfl)
        refine lv_iinc (v := (x1 + 1)) (lv' := [(1, .int (x1 + 1)), (0, .ref (a (1, i0, 0)))]) hx hb dX1_goSideways_159 hl (k := 1) rfl rfl (by decide) rfl (fun ls hl => ?_)
        refine lv_goto (tgt := 2) hx hb dX1_goSideways_162 (by decide) ?_
        exact ih _ _ _ _ h K5 H locs ls hW (lv_sub hl [1, 0] rfl)
  obtain ⟨F3, x4, hz52, h⟩ := ob2_e h
  refine L6 300 F (0 : Int32) F3 x4 hz52 (fun H locs ls hW hl => ?_) H locs ls hW (lv_sub hl [1, 0] rfl)
  refine lv_aload_n hx hb dX1_goSideways_165 rfl (lv_at hl 0 rfl) ?_
  obtain ⟨F53, hc54, h⟩ := ob_e h
  refine wk_v (va_runV (As := []) (rest := []) S (met_X1_settleAll l hD hv0 hc54 H.size) (cwV 0 S.2.2.2.2 (lw_V q752 q754 qs17 q56 q755) rfl rfl rfl yd_X1_settleAll ⟨Nat.le_of_ble_eq_true rfl, Nat.le_of_ble_eq_true rfl⟩) (wpreV hK hW hv0 rfl rfl _) rfl rfl hl.1 rfl (lv_room (Nat.le_of_ble_eq_true rfl)) dX1_goSideways_166 ⟨Nat.le_refl 0, Nat.le_refl 0⟩) hW (fun H locs hW => ?_)
  cases h
  exact we_v S hr hlk hW dX1_goSideways_169
def fn_X1_looseOf (F : St) (i0 : Nat) (p1 : Int32) (p2 : Int32) (p3 : Int32) (p4 : Int32) : Option (Int32) :=
  og (vpb p1 4) (og (vpb p2 4) (ob (if p4 = 0 then some (0 : Int32) else some (F 2 2 (4 * (4 * i0 + p1.toNatClampNeg) + p2.toNatClampNeg) 0)) (fun y6 => pl ((((F 25 0 0 0) + (p3 * (F 25 0 0 1))) + (F 11 0 p1.toNatClampNeg p2.toNatClampNeg)) + y6) (fun x10 => some (if (1 : Int32) < (if x10 < (95 : Int32) then x10 else (95 : Int32)) then (if x10 < (95 : Int32) then x10 else (95 : Int32)) else (1 : Int32))))))
theorem yd_X1_looseOf : yX1_looseOf.cls = RX1 ∧ yX1_looseOf.cls ≠ "java/lang/invoke/MethodHandle" ∧ yX1_looseOf.cls ≠ "java/lang/invoke/VarHandle" ∧ (parseMethodDescriptor yX1_looseOf.desc).map (fun d => d.parameters.length) = some 4 := by decide +kernel
set_option maxHeartbeats 4000000 in
theorem met_X1_looseOf (l : Launch) {D : va_G} {dA : WK} {a : Ix → Nat} (hD : wD D dA a) {F : St} {i0 : Nat} {p1 : Int32} {p2 : Int32} {p3 : Int32} {p4 : Int32} {rz : Int32} (hv0 : wVd dA (1, i0, 0)) (h : fn_X1_looseOf F i0 p1 p2 p3 p4 = some rz) : Mi l yX1_looseOf cX1_looseOf 6 .int 1 21 D dA a F [.ref (a (1, i0, 0)), .int p1, .int p2, .int p3, .int p4] F rz := by
  refine fun sz => mst (Qc := fun sz => wQi D dA a sz F rz) (by decide) (Nat.le_of_ble_eq_true rfl) ?_ sz
  intro p e s m below meth c S hr hlk hK hW ls hl
  have hl : lv_has ls 6 [(0, .ref (a (1, i0, 0))), (1, .int p1), (2, .int p2), (3, .int p3), (4, .int p4)] := hl
  have hx := S.1
  have hb := S.2.1
  generalize ([.ref (a (1, i0, 0)), .int p1, .int p2, .int p3, .int p4] : List Value).toArray = av at S ⊢
  unfold fn_X1_looseOf at h
  obtain ⟨H, eH⟩ : ∃ z, z = s.heap := ⟨_, rfl⟩
  obtain ⟨locs, eL⟩ : ∃ z : List Loc, z = [] := ⟨_, rfl⟩
  show WX p l e (rmL 1 21) s m av below meth c (wQi D dA a s.heap.size F rz) dA a s.heap [] (F0 m 0 ls [])
  have hW : wS D dA a s F H locs := by rw [eH, eL]; exact wS_in hW
  refine wx_in eH eL ?_
  clear eH eL
  refine lv_aload_n hx hb dX1_looseOf_0 rfl (lv_at hl 0 rfl) ?_
  refine gf_1_4 S hK hW hv0 q155 dX1_looseOf_1 ?_
  refine gn_0_4 S hK hW (vq_1_4 hv0) q281 dX1_looseOf_4 ?_
  refine lv_iconst (v := (0 : Int32)) hx hb dX1_looseOf_7 (by decide) ?_
  refine ald_25 (z := 0) S hK hW (vq_0_4 (vq_1_4 hv0)) (by decide) (by decide) dX1_looseOf_8 ?_
  refine lv_iload_n hx hb dX1_looseOf_9 rfl (lv_at hl 3 rfl) ?_
  refine lv_aload_n hx hb dX1_looseOf_10 rfl (lv_at hl 0 rfl) ?_
  refine gf_1_4 S hK hW hv0 q155 dX1_looseOf_11 ?_
  refine gn_0_4 S hK hW (vq_1_4 hv0) q281 dX1_looseOf_14 ?_
  refine lv_iconst (v := (1 : Int32)) hx hb dX1_looseOf_17 (by decide) ?_
  refine ald_25 (z := 1) S hK hW (vq_0_4 (vq_1_4 hv0)) (by decide) (by decide) dX1_looseOf_18 ?_
  refine lv_imul hx hb dX1_looseOf_19 ?_
  refine lv_iadd hx hb dX1_looseOf_20 ?_
  refine lv_aload_n hx hb dX1_looseOf_21 rfl (lv_at hl 0 rfl) ?_
  refine gf_1_4 S hK hW hv0 q155 dX1_looseOf_22 ?_
  refine gn_0_5 S hK hW (vq_1_4 hv0) q285 dX1_looseOf_25 ?_
  refine lv_iload_n hx hb dX1_looseOf_28 rfl (lv_at hl 1 rfl) ?_
  obtain ⟨g1, h⟩ := og_e h
  refine aald_10 S hK hW (vq_0_5 (vq_1_4 hv0)) g1 rfl dX1_looseOf_29 ?_
  have v2 := (ve_10 (vq_0_5 (vq_1_4 hv0)) (vpb_lt g1))
  refine lv_iload_n hx hb dX1_looseOf_30 rfl (lv_at hl 2 rfl) ?_
  obtain ⟨g3, h⟩ := og_e h
  refine ald_11 S hK hW v2 g3 rfl dX1_looseOf_31 ?_
  refine lv_iadd hx hb dX1_looseOf_32 ?_
  refine lv_iload hx hb dX1_looseOf_33 (lv_at hl 4 rfl) ?_
  obtain ⟨y6, hz5, h⟩ := ob_e h
  have K7 : ∀ (H : Heap) (locs : List Loc) (ls : Array Slot), wS D dA a s F H locs → lv_has ls 6 [] → WX p l e (rmL 1 21) s m av below meth c (wQi D dA a s.heap.size F rz) dA a H locs (F0 m 53 ls [.int y6, .int (((F 25 0 0 0) + (p3 * (F 25 0 0 1))) + (F 11 0 p1.toNatClampNeg p2.toNatClampNeg))]) := by
    intro H locs ls hW hl
    refine lv_iadd hx hb dX1_looseOf_53 ?_
    obtain ⟨x10, e11, h⟩ := pl_e h
    refine lv_nm e11 ?_
    refine lv_istore (lv' := [(5, .int x10)]) hx hb dX1_looseOf_54 hl (by decide) rfl (fun ls hl => ?_)
    refine lv_iconst (v := (1 : Int32)) hx hb dX1_looseOf_56 (by decide) ?_
    refine lv_bipush (v := (95 : Int32)) hx hb dX1_looseOf_57 (by decide) ?_
    refine lv_iload hx hb dX1_looseOf_59 (lv_at hl 0 rfl) ?_
    refine va_mmin hx hb (S.2.2.1.trans hl.1.symm) S.2.2.2.1 (S.2.2.2.2 _ q735) (S.2.2.2.2 _ q736) (S.2.2.2.2 _ q79) (S.2.2.2.2 _ q737) (Nat.le_of_ble_eq_true rfl) (Nat.le_of_ble_eq_true rfl) (Nat.zero_le _) (Nat.zero_le _) dX1_looseOf_61 ?_
    refine va_mmax hx hb (S.2.2.1.trans hl.1.symm) S.2.2.2.1 (S.2.2.2.2 _ q768) (S.2.2.2.2 _ q769) (S.2.2.2.2 _ q79) (S.2.2.2.2 _ q770) (Nat.le_of_ble_eq_true rfl) (Nat.le_of_ble_eq_true rfl) (Nat.zero_le _) (Nat.zero_le _) dX1_looseOf_64 ?_
    cases h
    exact we_i S hr hlk hW dX1_looseOf_67
  clear h
  refine lv_if_eq (tgt := 52) hx hb dX1_looseOf_35 (by decide) (fun c4 => ?_) (fun c4 => ?_)
  · have h := if_t hz5 c4
    refine lv_iconst (v := (0 : Int32)) hx hb dX1_looseOf_52 (by decide) ?_
    cases h
    exact K7 H locs ls hW (lv_sub hl [] rfl)
  · have h := if_f hz5 c4
    refine lv_aload_n hx hb dX1_looseOf_38 rfl (lv_at hl 0 rfl) ?_
    refine gf_1_0 S hK hW hv0 q147 dX1_looseOf_39 ?_
    refine lv_iload_n hx hb dX1_looseOf_42 rfl (lv_at hl 1 rfl) ?_
    refine aald_6 S hK hW (vq_1_0 hv0) g1 rfl dX1_looseOf_43 ?_
    have v8 := (ve_6 (vq_1_0 hv0) (vpb_lt g1))
    refine lv_iload_n hx hb dX1_looseOf_44 rfl (lv_at hl 2 rfl) ?_
    refine aald_7 S hK hW v8 g3 rfl dX1_looseOf_45 ?_
    have v9 := (ve_7 v8 (vpb_lt g3))
    refine gn_2_2 S hK hW v9 q131 dX1_looseOf_46 ?_
    refine lv_goto (tgt := 53) hx hb dX1_looseOf_49 (by decide) ?_
    cases h
    exact K7 H locs ls hW (lv_sub hl [] rfl)
/-loop lp_X1_goDown_15-/
def lp_X1_goDown_15 (i0 : Nat) (p1 : Int32) (x1 : Int32) : Nat → St → Int32 → Option (St × Int32)
  | 0, _, _ => none
  | n + 1, F9, x8 => if (F9 0 1 0 0) ≤ x8 then some (F9, x8) else og (vpb x1 4) (og (vpb x8 4) (ob (if x8 = ((F9 0 1 0 0) - (1 : Int32)) then some (64 + i0) else og (vpb (x8 + (1 : Int32)) 4) (some (4 * (4 * i0 + x1.toNatClampNeg) + (x8 + (1 : Int32)).toNatClampNeg))) (fun y21 => ob (fn_X1_looseOf F9 i0 x1 x8 p1 (1 : Int32)) (fun r27 => pl (((F9 2 1 (4 * (4 * i0 + x1.toNatClampNeg) + x8.toNatClampNeg) 0) * r27) / (100 : Int32)) (fun x29 => ob (fn_X2_note F9 y21 (4 * (4 * i0 + x1.toNatClampNeg) + x8.toNatClampNeg) x29 (1 : Int32)) (fun F31 => ob (fn_X2_note F31 (4 * (4 * i0 + x1.toNatClampNeg) + x8.toNatClampNeg) (4 * (4 * i0 + x1.toNatClampNeg) + x8.toNatClampNeg) x29 (-1 : Int32)) (fun F33 => ob (if (F33 0 7 0 0) ≤ 0 then some (0 : Int32) else if x29 ≤ (F33 0 7 0 0) then some (0 : Int32) else some (1 : Int32)) (fun y38 => pl (fu F33 9 0 (4 * i0 + x1.toNatClampNeg) x8.toNatClampNeg y38) (fun F41 => lp_X1_goDown_15 i0 p1 x1 n F41 (x8 + 1))))))))))
theorem lp_X1_goDown_15_s {i0 : Nat} {p1 : Int32} {x1 : Int32} {n : Nat} {F9 : St} {x8 : Int32} : lp_X1_goDown_15 i0 p1 x1 (n + 1) F9 x8 = if (F9 0 1 0 0) ≤ x8 then some (F9, x8) else og (vpb x1 4) (og (vpb x8 4) (ob (if x8 = ((F9 0 1 0 0) - (1 : Int32)) then some (64 + i0) else og (vpb (x8 + (1 : Int32)) 4) (some (4 * (4 * i0 + x1.toNatClampNeg) + (x8 + (1 : Int32)).toNatClampNeg))) (fun y21 => ob (fn_X1_looseOf F9 i0 x1 x8 p1 (1 : Int32)) (fun r27 => pl (((F9 2 1 (4 * (4 * i0 + x1.toNatClampNeg) + x8.toNatClampNeg) 0) * r27) / (100 : Int32)) (fun x29 => ob (fn_X2_note F9 y21 (4 * (4 * i0 + x1.toNatClampNeg) + x8.toNatClampNeg) x29 (1 : Int32)) (fun F31 => ob (fn_X2_note F31 (4 * (4 * i0 + x1.toNatClampNeg) + x8.toNatClampNeg) (4 * (4 * i0 + x1.toNatClampNeg) + x8.toNatClampNeg) x29 (-1 : Int32)) (fun F33 => ob (if (F33 0 7 0 0) ≤ 0 then some (0 : Int32) else if x29 ≤ (F33 0 7 0 0) then some (0 : Int32) else some (1 : Int32)) (fun y38 => pl (fu F33 9 0 (4 * i0 + x1.toNatClampNeg) x8.toNatClampNeg y38) (fun F41 => lp_X1_goDown_15 i0 p1 x1 n F41 (x8 + 1)))))))))) := rfl
/-loop lp_X1_goDown_2-/
def lp_X1_goDown_2 (i0 : Nat) (p1 : Int32) : Nat → St → Int32 → Option (St × Int32)
  | 0, _, _ => none
  | n + 1, F2, x1 => if (F2 0 0 0 0) ≤ x1 then some (F2, x1) else ob2 (lp_X1_goDown_15 i0 p1 x1 300 F2 (0 : Int32)) (fun F10 x11 => lp_X1_goDown_2 i0 p1 n F10 (x1 + 1))
theorem lp_X1_goDown_2_s {i0 : Nat} {p1 : Int32} {n : Nat} {F2 : St} {x1 : Int32} : lp_X1_goDown_2 i0 p1 (n + 1) F2 x1 = if (F2 0 0 0 0) ≤ x1 then some (F2, x1) else ob2 (lp_X1_goDown_15 i0 p1 x1 300 F2 (0 : Int32)) (fun F10 x11 => lp_X1_goDown_2 i0 p1 n F10 (x1 + 1)) := rfl
/-loop lp_X1_goDown_173-/
def lp_X1_goDown_173 (i0 : Nat) (x47 : Int32) : Nat → St → Int32 → Option (St × Int32)
  | 0, _, _ => none
  | n + 1, F55, x54 => if (F55 0 1 0 0) ≤ x54 then some (F55, x54) else og (vpb x47 4) (og (vpb x54 4) (pl (fu F55 2 2 (4 * (4 * i0 + x47.toNatClampNeg) + x54.toNatClampNeg) 0 ((F55 2 2 (4 * (4 * i0 + x47.toNatClampNeg) + x54.toNatClampNeg) 0) + (F55 9 0 (4 * i0 + x47.toNatClampNeg) x54.toNatClampNeg))) (fun F66 => lp_X1_goDown_173 i0 x47 n F66 (x54 + 1))))
theorem lp_X1_goDown_173_s {i0 : Nat} {x47 : Int32} {n : Nat} {F55 : St} {x54 : Int32} : lp_X1_goDown_173 i0 x47 (n + 1) F55 x54 = if (F55 0 1 0 0) ≤ x54 then some (F55, x54) else og (vpb x47 4) (og (vpb x54 4) (pl (fu F55 2 2 (4 * (4 * i0 + x47.toNatClampNeg) + x54.toNatClampNeg) 0 ((F55 2 2 (4 * (4 * i0 + x47.toNatClampNeg) + x54.toNatClampNeg) 0) + (F55 9 0 (4 * i0 + x47.toNatClampNeg) x54.toNatClampNeg))) (fun F66 => lp_X1_goDown_173 i0 x47 n F66 (x54 + 1)))) := rfl
/-loop lp_X1_goDown_160-/
def lp_X1_goDown_160 (i0 : Nat) : Nat → St → Int32 → Option (St × Int32)
  | 0, _, _ => none
  | n + 1, F48, x47 => if (F48 0 0 0 0) ≤ x47 then some (F48, x47) else ob2 (lp_X1_goDown_173 i0 x47 300 F48 (0 : Int32)) (fun F56 x57 => lp_X1_goDown_160 i0 n F56 (x47 + 1))
theorem lp_X1_goDown_160_s {i0 : Nat} {n : Nat} {F48 : St} {x47 : Int32} : lp_X1_goDown_160 i0 (n + 1) F48 x47 = if (F48 0 0 0 0) ≤ x47 then some (F48, x47) else ob2 (lp_X1_goDown_173 i0 x47 300 F48 (0 : Int32)) (fun F56 x57 => lp_X1_goDown_160 i0 n F56 (x47 + 1)) := rfl
def fn_X1_goDown (F : St) (i0 : Nat) (p1 : Int32) : Option (St) :=
  ob2 (lp_X1_goDown_2 i0 p1 300 F (0 : Int32)) (fun F3 x4 => ob (fn_X1_settleAll F3 i0) (fun F45 => ob2 (lp_X1_goDown_160 i0 300 F45 (0 : Int32)) (fun F49 x50 => some F49)))
theorem yd_X1_goDown : yX1_goDown.cls = RX1 ∧ yX1_goDown.cls ≠ "java/lang/invoke/MethodHandle" ∧ yX1_goDown.cls ≠ "java/lang/invoke/VarHandle" ∧ (parseMethodDescriptor yX1_goDown.desc).map (fun d => d.parameters.length) = some 1 := by decide +kernel
set_option maxHeartbeats 4000000 in
theorem met_X1_goDown (l : Launch) {D : va_G} {dA : WK} {a : Ix → Nat} (hD : wD D dA a) {F : St} {i0 : Nat} {p1 : Int32} {Fz : St} (hv0 : wVd dA (1, i0, 0)) (h : fn_X1_goDown F i0 p1 = some Fz) : Mv l yX1_goDown cX1_goDown 7 2 46 D dA a F [.ref (a (1, i0, 0)), .int p1] Fz := by
  refine fun sz => mst (Qc := fun sz => wQv D dA a sz Fz) (by decide) (Nat.le_of_ble_eq_true rfl) ?_ sz
  intro p e s m below meth c S hr hlk hK hW ls hl
  have hl : lv_has ls 7 [(0, .ref (a (1, i0, 0))), (1, .int p1)] := hl
  have hx := S.1
  have hb := S.2.1
  generalize ([.ref (a (1, i0, 0)), .int p1] : List Value).toArray = av at S ⊢
  unfold fn_X1_goDown at h
  obtain ⟨H, eH⟩ : ∃ z, z = s.heap := ⟨_, rfl⟩
  obtain ⟨locs, eL⟩ : ∃ z : List Loc, z = [] := ⟨_, rfl⟩
  show WX p l e (rmL 2 46) s m av below meth c (wQv D dA a s.heap.size Fz) dA a s.heap [] (F0 m 0 ls [])
  have hW : wS D dA a s F H locs := by rw [eH, eL]; exact wS_in hW
  refine wx_in eH eL ?_
  clear eH eL
  refine lv_iconst (v := (0 : Int32)) hx hb dX1_goDown_0 (by decide) ?_
  refine lv_istore_n (lv' := [(2, .int (0 : Int32)), (0, .ref (a (1, i0, 0))), (1, .int p1)]) hx hb dX1_goDown_1 rfl hl (by decide) rfl (fun ls hl => ?_)
  have L6 : ∀ (n : Nat) (F2 : St) (x1 : Int32) (F3 : St) (x4 : Int32), lp_X1_goDown_2 i0 p1 n F2 x1 = some (F3, x4) → (∀ (H : Heap) (locs : List Loc) (ls : Array Slot), wS D dA a s F3 H locs → lv_has ls 7 [(0, .ref (a (1, i0, 0)))] → WX p l e (rmL 2 46) s m av below meth c (wQv D dA a s.heap.size Fz) dA a H locs (F0 m 154 ls [])) → ∀ (H : Heap) (locs : List Loc) (ls : Array Slot), wS D dA a s F2 H locs → lv_has ls 7 [(0, .ref (a (1, i0, 0))), (1, .int p1), (2, .int x1)] → WX p l e (rmL 2 46) s m av below meth c (wQv D dA a s.heap.size Fz) dA a H locs (F0 m 2 ls []) := by
    intro n
    induction n with
    | zero =>
      intro F2 x1 F3 x4 h
      exact absurd (show (none : Option (St × Int32)) = some (F3, x4) from h) (by simp)
    | succ n ih =>
      intro F2 x1 F3 x4 h K5 H locs ls hW hl
      have h := lp_X1_goDown_2_s.symm.trans h
      refine lv_iload_n hx hb dX1_goDown_2 rfl (lv_at hl 2 rfl) ?_
      refine lv_aload_n hx hb dX1_goDown_3 rfl (lv_at hl 0 rfl) ?_
      refine gf_1_4 S hK hW hv0 q155 dX1_goDown_4 ?_
      refine gn_0_0 S hK hW (vq_1_4 hv0) q267 dX1_goDown_7 ?_
      refine lv_icmp_ge (tgt := 154) hx hb dX1_goDown_10 (by decide) (fun c7 => ?_) (fun c7 => ?_)
      · have h := if_t h c7
        cases h
        exact K5 H locs ls hW (lv_sub hl [0] rfl)
      · have h := if_f h c7
        refine lv_iconst (v := (0 : Int32)) hx hb dX1_goDown_13 (by decide) ?_
        refine lv_istore_n (lv' := [(3, .int (0 : Int32)), (0, .ref (a (1, i0, 0))), (1, .int p1), (2, .int x1)]) hx hb dX1_goDown_14 rfl hl (by decide) rfl (fun ls hl => ?_)
        have L13 : ∀ (n : Nat) (F9 : St) (x8 : Int32) (F10 : St) (x11 : Int32), lp_X1_goDown_15 i0 p1 x1 n F9 x8 = some (F10, x11) → (∀ (H : Heap) (locs : List Loc) (ls : Array Slot), wS D dA a s F10 H locs → lv_has ls 7 [(0, .ref (a (1, i0, 0))), (1, .int p1), (2, .int x1)] → WX p l e (rmL 2 46) s m av below meth c (wQv D dA a s.heap.size Fz) dA a H locs (F0 m 148 ls [])) → ∀ (H : Heap) (locs : List Loc) (ls : Array Slot), wS D dA a s F9 H locs → lv_has ls 7 [(0, .ref (a (1, i0, 0))), (1, .int p1), (2, .int x1), (3, .int x8)] → WX p l e (rmL 2 46) s m av below meth c (wQv D dA a s.heap.size Fz) dA a H locs (F0 m 15 ls []) := by
          intro n
          induction n with
          | zero =>
            intro F9 x8 F10 x11 h
            exact absurd (show (none : Option (St × Int32)) = some (F10, x11) from h) (by simp)
          | succ n ih =>
            intro F9 x8 F10 x11 h K12 H locs ls hW hl
            have h := lp_X1_goDown_15_s.symm.trans h
            refine lv_iload_n hx hb dX1_goDown_15 rfl (lv_at hl 3 rfl) ?_
            refine lv_aload_n hx hb dX1_goDown_16 rfl (lv_at hl 0 rfl) ?_
            refine gf_1_4 S hK hW hv0 q155 dX1_goDown_17 ?_
            refine gn_0_1 S hK hW (vq_1_4 hv0) q271 dX1_goDown_20 ?_
            refine lv_icmp_ge (tgt := 148) hx hb dX1_goDown_23 (by decide) (fun c14 => ?_) (fun c14 => ?_)
            · have h := if_t h c14
              cases h
              exact K12 H locs ls hW (lv_sub hl [0, 1, 2] rfl)
            · have h := if_f h c14
              refine lv_aload_n hx hb dX1_goDown_26 rfl (lv_at hl 0 rfl) ?_
              refine gf_1_0 S hK hW hv0 q147 dX1_goDown_27 ?_
              refine lv_iload_n hx hb dX1_goDown_30 rfl (lv_at hl 2 rfl) ?_
              obtain ⟨g15, h⟩ := og_e h
              refine aald_6 S hK hW (vq_1_0 hv0) g15 rfl dX1_goDown_31 ?_
              have v16 := (ve_6 (vq_1_0 hv0) (vpb_lt g15))
              refine lv_iload_n hx hb dX1_goDown_32 rfl (lv_at hl 3 rfl) ?_
              obtain ⟨g17, h⟩ := og_e h
              refine aald_7 S hK hW v16 g17 rfl dX1_goDown_33 ?_
              have v18 := (ve_7 v16 (vpb_lt g17))
              refine lv_astore (lv' := [(4, .ref (a (2, (4 * (4 * i0 + x1.toNatClampNeg) + x8.toNatClampNeg), 0))), (0, .ref (a (1, i0, 0))), (1, .int p1), (2, .int x1), (3, .int x8)]) hx hb dX1_goDown_34 hl (by decide) rfl (fun ls hl => ?_)
              refine lv_iload_n hx hb dX1_goDown_36 rfl (lv_at hl 4 rfl) ?_
              refine lv_aload_n hx hb dX1_goDown_37 rfl (lv_at hl 1 rfl) ?_
              refine gf_1_4 S hK hW hv0 q155 dX1_goDown_38 ?_
              refine gn_0_1 S hK hW (vq_1_4 hv0) q271 dX1_goDown_41 ?_
              refine lv_iconst (v := (1 : Int32)) hx hb dX1_goDown_44 (by decide) ?_
              refine lv_isub hx hb dX1_goDown_45 ?_
              obtain ⟨y21, hz20, h⟩ := ob_e h
              have K23 : ∀ (v22 : wVd dA (2, y21, 0)), ∀ (H : Heap) (locs : List Loc) (ls : Array Slot), wS D dA a s F9 H locs → lv_has ls 7 [(0, .ref (a (1, i0, 0))), (1, .int p1), (2, .int x1), (3, .int x8), (4, .ref (a (2, (4 * (4 * i0 + x1.toNatClampNeg) + x8.toNatClampNeg), 0)))] → WX p l e (rmL 2 46) s m av below meth c (wQv D dA a s.heap.size Fz) dA a H locs (F0 m 66 ls [.ref (a (2, y21, 0))]) := by
                intro v22 H locs ls hW hl
                refine lv_astore (lv' := [(5, .ref (a (2, y21, 0))), (0, .ref (a (1, i0, 0))), (1, .int p1), (2, .int x1), (3, .int x8), (4, .ref (a (2, (4 * (4 * i0 + x1.toNatClampNeg) + x8.toNatClampNeg), 0)))]) hx hb dX1_goDown_66 hl (by decide) rfl (fun ls hl => ?_)
                refine lv_aload hx hb dX1_goDown_68 (lv_at hl 5 rfl) ?_
                refine gn_2_1 S hK hW v18 q128 dX1_goDown_70 ?_
                refine lv_aload_n hx hb dX1_goDown_73 rfl (lv_at hl 1 rfl) ?_
                refine lv_iload_n hx hb dX1_goDown_74 rfl (lv_at hl 3 rfl) ?_
                refine lv_iload_n hx hb dX1_goDown_75 rfl (lv_at hl 4 rfl) ?_
                refine lv_iload_n hx hb dX1_goDown_76 rfl (lv_at hl 2 rfl) ?_
                refine lv_iconst (v := (1 : Int32)) hx hb dX1_goDown_77 (by decide) ?_
                obtain ⟨r27, hc28, h⟩ := ob_e h
                refine wk_i (va_runV (As := [.int x1, .int x8, .int p1, .int (1 : Int32)]) (rest := [.int (F9 2 1 (4 * (4 * i0 + x1.toNatClampNeg) + x8.toNatClampNeg) 0)]) S (met_X1_looseOf l hD hv0 hc28 H.size) (cwV 4 S.2.2.2.2 (lw_V q764 q765 q766 q56 q767) rfl rfl rfl yd_X1_looseOf ⟨Nat.le_of_ble_eq_true rfl, Nat.le_of_ble_eq_true rfl⟩) (wpreV hK hW hv0 rfl rfl _) rfl rfl hl.1 rfl (lv_room (Nat.le_of_ble_eq_true rfl)) dX1_goDown_78 ⟨Nat.le_refl 0, Nat.le_refl 0⟩) hW (fun H locs hW => ?_)
                refine lv_imul hx hb dX1_goDown_81 ?_
                refine lv_bipush (v := (100 : Int32)) hx hb dX1_goDown_82 (by decide) ?_
                refine lv_idiv hx hb dX1_goDown_84 (by decide) ?_
                obtain ⟨x29, e30, h⟩ := pl_e h
                refine lv_nm e30 ?_
                refine lv_istore (lv' := [(6, .int x29), (5, .ref (a (2, y21, 0))), (0, .ref (a (1, i0, 0))), (1, .int p1), (2, .int x1), (3, .int x8), (4, .ref (a (2, (4 * (4 * i0 + x1.toNatClampNeg) + x8.toNatClampNeg), 0)))]) hx hb dX1_goDown_85 hl (by decide) rfl (fun ls hl => ?_)
                refine lv_aload hx hb dX1_goDown_87 (lv_at hl 1 rfl) ?_
                refine lv_aload hx hb dX1_goDown_89 (lv_at hl 6 rfl) ?_
                refine lv_iload hx hb dX1_goDown_91 (lv_at hl 0 rfl) ?_
                refine lv_iconst (v := (1 : Int32)) hx hb dX1_goDown_93 (by decide) ?_
                obtain ⟨F31, hc32, h⟩ := ob_e h
                refine wk_v (va_runV (As := [.ref (a (2, (4 * (4 * i0 + x1.toNatClampNeg) + x8.toNatClampNeg), 0)), .int x29, .int (1 : Int32)]) (rest := []) S (met_X2_note l hD v22 v18 hc32 H.size) (cwV 3 S.2.2.2.2 (lw_V q744 q745 q746 q57 q747) rfl rfl rfl yd_X2_note ⟨Nat.le_of_ble_eq_true rfl, Nat.le_of_ble_eq_true rfl⟩) (wpreV hK hW v22 rfl rfl _) rfl rfl hl.1 rfl (lv_room (Nat.le_of_ble_eq_true rfl)) dX1_goDown_94 ⟨Nat.le_refl 0, Nat.le_refl 0⟩) hW (fun H locs hW => ?_)
                refine lv_aload hx hb dX1_goDown_97 (lv_at hl 6 rfl) ?_
                refine lv_aload hx hb dX1_goDown_99 (lv_at hl 6 rfl) ?_
                refine lv_iload hx hb dX1_goDown_101 (lv_at hl 0 rfl) ?_
                refine lv_iconst (v := (-1 : Int32)) hx hb dX1_goDown_103 (by decide) ?_
                obtain ⟨F33, hc34, h⟩ := ob_e h
                refine wk_v (va_runV (As := [.ref (a (2, (4 * (4 * i0 + x1.toNatClampNeg) + x8.toNatClampNeg), 0)), .int x29, .int (-1 : Int32)]) (rest := []) S (met_X2_note l hD v18 v18 hc34 H.size) (cwV 3 S.2.2.2.2 (lw_V q744 q745 q746 q57 q747) rfl rfl rfl yd_X2_note ⟨Nat.le_of_ble_eq_true rfl, Nat.le_of_ble_eq_true rfl⟩) (wpreV hK hW v18 rfl rfl _) rfl rfl hl.1 rfl (lv_room (Nat.le_of_ble_eq_true rfl)) dX1_goDown_104 ⟨Nat.le_refl 0, Nat.le_refl 0⟩) hW (fun H locs hW => ?_)
                refine lv_aload_n hx hb dX1_goDown_107 rfl (lv_at hl 2 rfl) ?_
                refine gf_1_3 S hK hW hv0 q154 dX1_goDown_108 ?_
                refine lv_iload_n hx hb dX1_goDown_111 rfl (lv_at hl 4 rfl) ?_
                refine aald_8 S hK hW (vq_1_3 hv0) g15 rfl dX1_goDown_112 ?_
                have v35 := (ve_8 (vq_1_3 hv0) (vpb_lt g15))
                refine lv_iload_n hx hb dX1_goDown_113 rfl (lv_at hl 5 rfl) ?_
                refine lv_aload_n hx hb dX1_goDown_114 rfl (lv_at hl 2 rfl) ?_
                refine gf_1_4 S hK hW hv0 q155 dX1_goDown_115 ?_
                refine gn_0_7 S hK hW (vq_1_4 hv0) q290 dX1_goDown_118 ?_
                obtain ⟨y38, hz37, h⟩ := ob_e h
                have K39 : ∀ (H : Heap) (locs : List Loc) (ls : Array Slot), wS D dA a s F33 H locs → lv_has ls 7 [(0, .ref (a (1, i0, 0))), (1, .int p1), (2, .int x1), (3, .int x8)] → WX p l e (rmL 2 46) s m av below meth c (wQv D dA a s.heap.size Fz) dA a H locs (F0 m 141 ls [.int y38, .int x8, .ref (a (9, (4 * i0 + x1.toNatClampNeg), 0))]) := by
                  intro H locs ls hW hl
                  obtain ⟨F41, e42, h⟩ := pl_e h
                  refine ast_9 S hK hD hW v35 g17 rfl e42 dX1_goDown_141 (fun H locs hW => ?_)
                  refine lv_iinc (v := (x8 + 1)) (lv' := [(3, .int (x8 + 1)), (0, .ref (a (1, i0, 0))), (1, .int p1), (2, .int x1)]) hx hb dX1_goDown_142 hl (k := 3) rfl rfl (by decide) rfl (fun ls hl => ?_)
                  refine lv_goto (tgt := 15) hx hb dX1_goDown_145 (by decide) ?_
                  exact ih _ _ _ _ h K12 H locs ls hW (lv_sub hl [1, 2, 3, 0] rfl)
                clear h
                refine lv_if_le (tgt := 140) hx hb dX1_goDown_121 (by decide) (fun c36 => ?_) (fun c36 => ?_)
                · have h := if_t hz37 c36
                  refine lv_iconst (v := (0 : Int32)) hx hb dX1_goDown_140 (by decide) ?_
                  cases h
                  exact K39 H locs ls hW (lv_sub hl [2, 3, 4, 5] rfl)
                · have h := if_f hz37 c36
                  refine lv_iload hx hb dX1_goDown_124 (lv_at hl 0 rfl) ?_
                  refine lv_aload_n hx hb dX1_goDown_126 rfl (lv_at hl 2 rfl) ?_
                  refine gf_1_4 S hK hW hv0 q155 dX1_goDown_127 ?_
                  refine gn_0_7 S hK hW (vq_1_4 hv0) q290 dX1_goDown_130 ?_
                  refine lv_icmp_le (tgt := 140) hx hb dX1_goDown_133 (by decide) (fun c40 => ?_) (fun c40 => ?_)
                  · have h := if_t h c40
                    refine lv_iconst (v := (0 : Int32)) hx hb dX1_goDown_140 (by decide) ?_
                    cases h
                    exact K39 H locs ls hW (lv_sub hl [2, 3, 4, 5] rfl)
                  · have h := if_f h c40
                    refine lv_iconst (v := (1 : Int32)) hx hb dX1_goDown_136 (by decide) ?_
                    refine lv_goto (tgt := 141) hx hb dX1_goDown_137 (by decide) ?_
                    cases h
                    exact K39 H locs ls hW (lv_sub hl [2, 3, 4, 5] rfl)
              clear h
              refine lv_icmp_ne (tgt := 56) hx hb dX1_goDown_46 (by decide) (fun c19 => ?_) (fun c19 => ?_)
              · have h := if_f hz20 c19
                refine lv_aload_n hx hb dX1_goDown_56 rfl (lv_at hl 1 rfl) ?_
                refine gf_1_0 S hK hW hv0 q147 dX1_goDown_57 ?_
                refine lv_iload_n hx hb dX1_goDown_60 rfl (lv_at hl 3 rfl) ?_
                refine aald_6 S hK hW (vq_1_0 hv0) g15 rfl dX1_goDown_61 ?_
                have v24 := (ve_6 (vq_1_0 hv0) (vpb_lt g15))
                refine lv_iload_n hx hb dX1_goDown_62 rfl (lv_at hl 4 rfl) ?_
                refine lv_iconst (v := (1 : Int32)) hx hb dX1_goDown_63 (by decide) ?_
                refine lv_iadd hx hb dX1_goDown_64 ?_
                obtain ⟨g25, h⟩ := og_e h
                refine aald_7 S hK hW v24 g25 rfl dX1_goDown_65 ?_
                have v26 := (ve_7 v24 (vpb_lt g25))
                cases h
                exact K23 v26 H locs ls hW (lv_sub hl [1, 2, 3, 4, 0] rfl)
              · have h := if_t hz20 c19
                refine lv_aload_n hx hb dX1_goDown_49 rfl (lv_at hl 1 rfl) ?_
                refine gf_1_1 S hK hW hv0 q149 dX1_goDown_50 ?_
                refine lv_goto (tgt := 66) hx hb dX1_goDown_53 (by decide) ?_
                cases h
                exact K23 (vq_1_1 hv0) H locs ls hW (lv_sub hl [1, 2, 3, 4, 0] rfl)
        obtain ⟨F10, x11, hz43, h⟩ := ob2_e h
        refine L13 300 F2 (0 : Int32) F10 x11 hz43 (fun H locs ls hW hl => ?_) H locs ls hW (lv_sub hl [1, 2, 3, 0] rfl)
        refine lv_iinc (v := (x1 + 1)) (lv' := [(2, .int (x1 + 1)), (0, .ref (a (1, i0, 0))), (1, .int p1)]) hx hb dX1_goDown_148 hl (k := 2) rfl rfl (by decide) rfl (fun ls hl => ?_)
        refine lv_goto (tgt := 2) hx hb dX1_goDown_151 (by decide) ?_
        exact ih _ _ _ _ h K5 H locs ls hW (lv_sub hl [1, 2, 0] rfl)
  obtain ⟨F3, x4, hz44, h⟩ := ob2_e h
  refine L6 300 F (0 : Int32) F3 x4 hz44 (fun H locs ls hW hl => ?_) H locs ls hW (lv_sub hl [1, 2, 0] rfl)
  refine lv_aload_n hx hb dX1_goDown_154 rfl (lv_at hl 0 rfl) ?_
  obtain ⟨F45, hc46, h⟩ := ob_e h
  refine wk_v (va_runV (As := []) (rest := []) S (met_X1_settleAll l hD hv0 hc46 H.size) (cwV 0 S.2.2.2.2 (lw_V q752 q754 qs17 q56 q755) rfl rfl rfl yd_X1_settleAll ⟨Nat.le_of_ble_eq_true rfl, Nat.le_of_ble_eq_true rfl⟩) (wpreV hK hW hv0 rfl rfl _) rfl rfl hl.1 rfl (lv_room (Nat.le_of_ble_eq_true rfl)) dX1_goDown_155 ⟨Nat.le_refl 0, Nat.le_refl 0⟩) hW (fun H locs hW => ?_)
  refine lv_iconst (v := (0 : Int32)) hx hb dX1_goDown_158 (by decide) ?_
  refine lv_istore_n (lv' := [(2, .int (0 : Int32)), (0, .ref (a (1, i0, 0)))]) hx hb dX1_goDown_159 rfl hl (by decide) rfl (fun ls hl => ?_)
  have L52 : ∀ (n : Nat) (F48 : St) (x47 : Int32) (F49 : St) (x50 : Int32), lp_X1_goDown_160 i0 n F48 x47 = some (F49, x50) → (∀ (H : Heap) (locs : List Loc) (ls : Array Slot), wS D dA a s F49 H locs → lv_has ls 7 [] → WX p l e (rmL 2 46) s m av below meth c (wQv D dA a s.heap.size Fz) dA a H locs (F0 m 220 ls [])) → ∀ (H : Heap) (locs : List Loc) (ls : Array Slot), wS D dA a s F48 H locs → lv_has ls 7 [(0, .ref (a (1, i0, 0))), (2, .int x47)] → WX p l e (rmL 2 46) s m av below meth c (wQv D dA a s.heap.size Fz) dA a H locs (F0 m 160 ls []) := by
    intro n
    induction n with
    | zero =>
      intro F48 x47 F49 x50 h
      exact absurd (show (none : Option (St × Int32)) = some (F49, x50) from h) (by simp)
    | succ n ih =>
      intro F48 x47 F49 x50 h K51 H locs ls hW hl
      have h := lp_X1_goDown_160_s.symm.trans h
      refine lv_iload_n hx hb dX1_goDown_160 rfl (lv_at hl 1 rfl) ?_
      refine lv_aload_n hx hb dX1_goDown_161 rfl (lv_at hl 0 rfl) ?_
      refine gf_1_4 S hK hW hv0 q155 dX1_goDown_162 ?_
      refine gn_0_0 S hK hW (vq_1_4 hv0) q267 dX1_goDown_165 ?_
      refine lv_icmp_ge (tgt := 220) hx hb dX1_goDown_168 (by decide) (fun c53 => ?_) (fun c53 => ?_)
      · have h := if_t h c53
        cases h
        exact K51 H locs ls hW (lv_sub hl [] rfl)
      · have h := if_f h c53
        refine lv_iconst (v := (0 : Int32)) hx hb dX1_goDown_171 (by decide) ?_
        refine lv_istore_n (lv' := [(3, .int (0 : Int32)), (0, .ref (a (1, i0, 0))), (2, .int x47)]) hx hb dX1_goDown_172 rfl hl (by decide) rfl (fun ls hl => ?_)
        have L59 : ∀ (n : Nat) (F55 : St) (x54 : Int32) (F56 : St) (x57 : Int32), lp_X1_goDown_173 i0 x47 n F55 x54 = some (F56, x57) → (∀ (H : Heap) (locs : List Loc) (ls : Array Slot), wS D dA a s F56 H locs → lv_has ls 7 [(0, .ref (a (1, i0, 0))), (2, .int x47)] → WX p l e (rmL 2 46) s m av below meth c (wQv D dA a s.heap.size Fz) dA a H locs (F0 m 214 ls [])) → ∀ (H : Heap) (locs : List Loc) (ls : Array Slot), wS D dA a s F55 H locs → lv_has ls 7 [(0, .ref (a (1, i0, 0))), (2, .int x47), (3, .int x54)] → WX p l e (rmL 2 46) s m av below meth c (wQv D dA a s.heap.size Fz) dA a H locs (F0 m 173 ls []) := by
          intro n
          induction n with
          | zero =>
            intro F55 x54 F56 x57 h
            exact absurd (show (none : Option (St × Int32)) = some (F56, x57) from h) (by simp)
          | succ n ih =>
            intro F55 x54 F56 x57 h K58 H locs ls hW hl
            have h := lp_X1_goDown_173_s.symm.trans h
            refine lv_iload_n hx hb dX1_goDown_173 rfl (lv_at hl 2 rfl) ?_
            refine lv_aload_n hx hb dX1_goDown_174 rfl (lv_at hl 0 rfl) ?_
            refine gf_1_4 S hK hW hv0 q155 dX1_goDown_175 ?_
            refine gn_0_1 S hK hW (vq_1_4 hv0) q271 dX1_goDown_178 ?_
            refine lv_icmp_ge (tgt := 214) hx hb dX1_goDown_181 (by decide) (fun c60 => ?_) (fun c60 => ?_)
            · have h := if_t h c60
              cases h
              exact K58 H locs ls hW (lv_sub hl [0, 1] rfl)
            · have h := if_f h c60
              refine lv_aload_n hx hb dX1_goDown_184 rfl (lv_at hl 0 rfl) ?_
              refine gf_1_0 S hK hW hv0 q147 dX1_goDown_185 ?_
              refine lv_iload_n hx hb dX1_goDown_188 rfl (lv_at hl 1 rfl) ?_
              obtain ⟨g61, h⟩ := og_e h
              refine aald_6 S hK hW (vq_1_0 hv0) g61 rfl dX1_goDown_189 ?_
              have v62 := (ve_6 (vq_1_0 hv0) (vpb_lt g61))
              refine lv_iload_n hx hb dX1_goDown_190 rfl (lv_at hl 2 rfl) ?_
              obtain ⟨g63, h⟩ := og_e h
              refine aald_7 S hK hW v62 g63 rfl dX1_goDown_191 ?_
              have v64 := (ve_7 v62 (vpb_lt g63))
              refine lv_dup hx hb dX1_goDown_192 rfl ?_
              refine gn_2_2 S hK hW v64 q131 dX1_goDown_193 ?_
              refine lv_aload_n hx hb dX1_goDown_196 rfl (lv_at hl 0 rfl) ?_
              refine gf_1_3 S hK hW hv0 q154 dX1_goDown_197 ?_
              refine lv_iload_n hx hb dX1_goDown_200 rfl (lv_at hl 1 rfl) ?_
              refine aald_8 S hK hW (vq_1_3 hv0) g61 rfl dX1_goDown_201 ?_
              have v65 := (ve_8 (vq_1_3 hv0) (vpb_lt g61))
              refine lv_iload_n hx hb dX1_goDown_202 rfl (lv_at hl 2 rfl) ?_
              refine ald_9 S hK hW v65 g63 rfl dX1_goDown_203 ?_
              refine lv_iadd hx hb dX1_goDown_204 ?_
              obtain ⟨F66, e67, h⟩ := pl_e h
              refine pn_2_2 S hK hD hW v64 e67 q131 dX1_goDown_205 (fun H locs hW => ?_)
              refine lv_iinc (v := (x54 + 1)) (lv' := [(3, .int (x54 + 1)), (0, .ref (a (1, i0, 0))), (2, .int x47)]) hx hb dX1_goDown_208 hl (k := 2) rfl rfl (by decide) rfl (fun ls hl => ?_)
              refine lv_goto (tgt := 173) hx hb dX1_goDown_211 (by decide) ?_
              exact ih _ _ _ _ h K58 H locs ls hW (lv_sub hl [1, 2, 0] rfl)
        obtain ⟨F56, x57, hz68, h⟩ := ob2_e h
        refine L59 300 F48 (0 : Int32) F56 x57 hz68 (fun H locs ls hW hl => ?_) H locs ls hW (lv_sub hl [1, 2, 0] rfl)
        refine lv_iinc (v := (x47 + 1)) (lv' := [(2, .int (x47 + 1)), (0, .ref (a (1, i0, 0)))]) hx hb dX1_goDown_214 hl (k := 1) rfl rfl (by decide) rfl (fun ls hl => ?_)
        refine lv_goto (tgt := 160) hx hb dX1_goDown_217 (by decide) ?_
        exact ih _ _ _ _ h K51 H locs ls hW (lv_sub hl [1, 0] rfl)
  obtain ⟨F49, x50, hz69, h⟩ := ob2_e h
  refine L52 300 F45 (0 : Int32) F49 x50 hz69 (fun H locs ls hW hl => ?_) H locs ls hW (lv_sub hl [1, 0] rfl)
  cases h
  exact we_v S hr hlk hW dX1_goDown_220
/-loop lp_X1_go_20-/
def lp_X1_go_20 (i0 : Nat) (p2 : Int32) (x3 : Int32) : Nat → St → Int32 → Option (St × Int32)
  | 0, _, _ => none
  | n + 1, F11, x10 => if (F11 0 1 0 0) ≤ x10 then some (F11, x10) else og (vpb x3 4) (og (vpb x10 4) (ob (fn_X1_take F11 i0 (4 * (4 * i0 + x3.toNatClampNeg) + x10.toNatClampNeg) p2) (fun F21 => lp_X1_go_20 i0 p2 x3 n F21 (x10 + 1))))
theorem lp_X1_go_20_s {i0 : Nat} {p2 : Int32} {x3 : Int32} {n : Nat} {F11 : St} {x10 : Int32} : lp_X1_go_20 i0 p2 x3 (n + 1) F11 x10 = if (F11 0 1 0 0) ≤ x10 then some (F11, x10) else og (vpb x3 4) (og (vpb x10 4) (ob (fn_X1_take F11 i0 (4 * (4 * i0 + x3.toNatClampNeg) + x10.toNatClampNeg) p2) (fun F21 => lp_X1_go_20 i0 p2 x3 n F21 (x10 + 1)))) := rfl
/-loop lp_X1_go_6-/
def lp_X1_go_6 (i0 : Nat) (p2 : Int32) : Nat → St → Int32 → Option (St × Int32)
  | 0, _, _ => none
  | n + 1, F4, x3 => if (F4 0 0 0 0) ≤ x3 then some (F4, x3) else ob2 (lp_X1_go_20 i0 p2 x3 300 F4 (0 : Int32)) (fun F12 x13 => lp_X1_go_6 i0 p2 n F12 (x3 + 1))
theorem lp_X1_go_6_s {i0 : Nat} {p2 : Int32} {n : Nat} {F4 : St} {x3 : Int32} : lp_X1_go_6 i0 p2 (n + 1) F4 x3 = if (F4 0 0 0 0) ≤ x3 then some (F4, x3) else ob2 (lp_X1_go_20 i0 p2 x3 300 F4 (0 : Int32)) (fun F12 x13 => lp_X1_go_6 i0 p2 n F12 (x3 + 1)) := rfl
def fn_X1_go (F : St) (i0 : Nat) (p1 : Int32) (p2 : Int32) : Option (St) :=
  ob (fn_X1_pourAll F i0) (fun F1 => ob2 (lp_X1_go_6 i0 p2 300 F1 (0 : Int32)) (fun F5 x6 => ob (fn_X1_goSideways F5 i0) (fun F25 => ob (fn_X1_goDown F25 i0 p1) (fun F27 => pl (fu F27 1 2 i0 0 ((F27 1 2 i0 0) + (1 : Int32))) (fun F29 => some F29)))))
theorem yd_X1_go : yX1_go.cls = RX1 ∧ yX1_go.cls ≠ "java/lang/invoke/MethodHandle" ∧ yX1_go.cls ≠ "java/lang/invoke/VarHandle" ∧ (parseMethodDescriptor yX1_go.desc).map (fun d => d.parameters.length) = some 2 := by decide +kernel
set_option maxHeartbeats 4000000 in
theorem met_X1_go (l : Launch) {D : va_G} {dA : WK} {a : Ix → Nat} (hD : wD D dA a) {F : St} {i0 : Nat} {p1 : Int32} {p2 : Int32} {Fz : St} (hv0 : wVd dA (1, i0, 0)) (h : fn_X1_go F i0 p1 p2 = some Fz) : Mv l yX1_go cX1_go 5 3 72 D dA a F [.ref (a (1, i0, 0)), .int p1, .int p2] Fz := by
  refine fun sz => mst (Qc := fun sz => wQv D dA a sz Fz) (by decide) (Nat.le_of_ble_eq_true rfl) ?_ sz
  intro p e s m below meth c S hr hlk hK hW ls hl
  have hl : lv_has ls 5 [(0, .ref (a (1, i0, 0))), (1, .int p1), (2, .int p2)] := hl
  have hx := S.1
  have hb := S.2.1
  generalize ([.ref (a (1, i0, 0)), .int p1, .int p2] : List Value).toArray = av at S ⊢
  unfold fn_X1_go at h
  obtain ⟨H, eH⟩ : ∃ z, z = s.heap := ⟨_, rfl⟩
  obtain ⟨locs, eL⟩ : ∃ z : List Loc, z = [] := ⟨_, rfl⟩
  show WX p l e (rmL 3 72) s m av below meth c (wQv D dA a s.heap.size Fz) dA a s.heap [] (F0 m 0 ls [])
  have hW : wS D dA a s F H locs := by rw [eH, eL]; exact wS_in hW
  refine wx_in eH eL ?_
  clear eH eL
  refine lv_aload_n hx hb dX1_go_0 rfl (lv_at hl 0 rfl) ?_
  obtain ⟨F1, hc2, h⟩ := ob_e h
  refine wk_v (va_runV (As := []) (rest := []) S (met_X1_pourAll l hD hv0 hc2 H.size) (cwV 0 S.2.2.2.2 (lw_V q727 q729 qs14 q56 q730) rfl rfl rfl yd_X1_pourAll ⟨Nat.le_of_ble_eq_true rfl, Nat.le_of_ble_eq_true rfl⟩) (wpreV hK hW hv0 rfl rfl _) rfl rfl hl.1 rfl (lv_room (Nat.le_of_ble_eq_true rfl)) dX1_go_1 ⟨Nat.le_refl 0, Nat.le_refl 0⟩) hW (fun H locs hW => ?_)
  refine lv_iconst (v := (0 : Int32)) hx hb dX1_go_4 (by decide) ?_
  refine lv_istore_n (lv' := [(3, .int (0 : Int32)), (0, .ref (a (1, i0, 0))), (1, .int p1), (2, .int p2)]) hx hb dX1_go_5 rfl hl (by decide) rfl (fun ls hl => ?_)
  have L8 : ∀ (n : Nat) (F4 : St) (x3 : Int32) (F5 : St) (x6 : Int32), lp_X1_go_6 i0 p2 n F4 x3 = some (F5, x6) → (∀ (H : Heap) (locs : List Loc) (ls : Array Slot), wS D dA a s F5 H locs → lv_has ls 5 [(0, .ref (a (1, i0, 0))), (1, .int p1)] → WX p l e (rmL 3 72) s m av below meth c (wQv D dA a s.heap.size Fz) dA a H locs (F0 m 58 ls [])) → ∀ (H : Heap) (locs : List Loc) (ls : Array Slot), wS D dA a s F4 H locs → lv_has ls 5 [(0, .ref (a (1, i0, 0))), (1, .int p1), (2, .int p2), (3, .int x3)] → WX p l e (rmL 3 72) s m av below meth c (wQv D dA a s.heap.size Fz) dA a H locs (F0 m 6 ls []) := by
    intro n
    induction n with
    | zero =>
      intro F4 x3 F5 x6 h
      exact absurd (show (none : Option (St × Int32)) = some (F5, x6) from h) (by simp)
    | succ n ih =>
      intro F4 x3 F5 x6 h K7 H locs ls hW hl
      have h := lp_X1_go_6_s.symm.trans h
      refine lv_iload_n hx hb dX1_go_6 rfl (lv_at hl 3 rfl) ?_
      refine lv_aload_n hx hb dX1_go_7 rfl (lv_at hl 0 rfl) ?_
      refine gf_1_4 S hK hW hv0 q155 dX1_go_8 ?_
      refine gn_0_0 S hK hW (vq_1_4 hv0) q267 dX1_go_11 ?_
      refine lv_icmp_ge (tgt := 58) hx hb dX1_go_14 (by decide) (fun c9 => ?_) (fun c9 => ?_)
      · have h := if_t h c9
        cases h
        exact K7 H locs ls hW (lv_sub hl [0, 1] rfl)
      · have h := if_f h c9
        refine lv_iconst (v := (0 : Int32)) hx hb dX1_go_17 (by decide) ?_
        refine lv_istore (lv' := [(4, .int (0 : Int32)), (0, .ref (a (1, i0, 0))), (1, .int p1), (2, .int p2), (3, .int x3)]) hx hb dX1_go_18 hl (by decide) rfl (fun ls hl => ?_)
        have L15 : ∀ (n : Nat) (F11 : St) (x10 : Int32) (F12 : St) (x13 : Int32), lp_X1_go_20 i0 p2 x3 n F11 x10 = some (F12, x13) → (∀ (H : Heap) (locs : List Loc) (ls : Array Slot), wS D dA a s F12 H locs → lv_has ls 5 [(0, .ref (a (1, i0, 0))), (1, .int p1), (2, .int p2), (3, .int x3)] → WX p l e (rmL 3 72) s m av below meth c (wQv D dA a s.heap.size Fz) dA a H locs (F0 m 52 ls [])) → ∀ (H : Heap) (locs : List Loc) (ls : Array Slot), wS D dA a s F11 H locs → lv_has ls 5 [(0, .ref (a (1, i0, 0))), (1, .int p1), (2, .int p2), (3, .int x3), (4, .int x10)] → WX p l e (rmL 3 72) s m av below meth c (wQv D dA a s.heap.size Fz) dA a H locs (F0 m 20 ls []) := by
          intro n
          induction n with
          | zero =>
            intro F11 x10 F12 x13 h
            exact absurd (show (none : Option (St × Int32)) = some (F12, x13) from h) (by simp)
          | succ n ih =>
            intro F11 x10 F12 x13 h K14 H locs ls hW hl
            have h := lp_X1_go_20_s.symm.trans h
            refine lv_iload hx hb dX1_go_20 (lv_at hl 4 rfl) ?_
            refine lv_aload_n hx hb dX1_go_22 rfl (lv_at hl 0 rfl) ?_
            refine gf_1_4 S hK hW hv0 q155 dX1_go_23 ?_
            refine gn_0_1 S hK hW (vq_1_4 hv0) q271 dX1_go_26 ?_
            refine lv_icmp_ge (tgt := 52) hx hb dX1_go_29 (by decide) (fun c16 => ?_) (fun c16 => ?_)
            · have h := if_t h c16
              cases h
              exact K14 H locs ls hW (lv_sub hl [0, 1, 2, 3] rfl)
            · have h := if_f h c16
              refine lv_aload_n hx hb dX1_go_32 rfl (lv_at hl 0 rfl) ?_
              refine lv_aload_n hx hb dX1_go_33 rfl (lv_at hl 0 rfl) ?_
              refine gf_1_0 S hK hW hv0 q147 dX1_go_34 ?_
              refine lv_iload_n hx hb dX1_go_37 rfl (lv_at hl 3 rfl) ?_
              obtain ⟨g17, h⟩ := og_e h
              refine aald_6 S hK hW (vq_1_0 hv0) g17 rfl dX1_go_38 ?_
              have v18 := (ve_6 (vq_1_0 hv0) (vpb_lt g17))
              refine lv_iload hx hb dX1_go_39 (lv_at hl 4 rfl) ?_
              obtain ⟨g19, h⟩ := og_e h
              refine aald_7 S hK hW v18 g19 rfl dX1_go_41 ?_
              have v20 := (ve_7 v18 (vpb_lt g19))
              refine lv_iload_n hx hb dX1_go_42 rfl (lv_at hl 2 rfl) ?_
              obtain ⟨F21, hc22, h⟩ := ob_e h
              refine wk_v (va_runV (As := [.ref (a (2, (4 * (4 * i0 + x3.toNatClampNeg) + x10.toNatClampNeg), 0)), .int p2]) (rest := []) S (met_X1_take l hD hv0 v20 hc22 H.size) (cwV 2 S.2.2.2.2 (lw_V q731 q733 qs15 q56 q734) rfl rfl rfl yd_X1_take ⟨Nat.le_of_ble_eq_true rfl, Nat.le_of_ble_eq_true rfl⟩) (wpreV hK hW hv0 rfl rfl _) rfl rfl hl.1 rfl (lv_room (Nat.le_of_ble_eq_true rfl)) dX1_go_43 ⟨Nat.le_refl 0, Nat.le_refl 0⟩) hW (fun H locs hW => ?_)
              refine lv_iinc (v := (x10 + 1)) (lv' := [(4, .int (x10 + 1)), (0, .ref (a (1, i0, 0))), (1, .int p1), (2, .int p2), (3, .int x3)]) hx hb dX1_go_46 hl (k := 4) rfl rfl (by decide) rfl (fun ls hl => ?_)
              refine lv_goto (tgt := 20) hx hb dX1_go_49 (by decide) ?_
              exact ih _ _ _ _ h K14 H locs ls hW (lv_sub hl [1, 2, 3, 4, 0] rfl)
        obtain ⟨F12, x13, hz23, h⟩ := ob2_e h
        refine L15 300 F4 (0 : Int32) F12 x13 hz23 (fun H locs ls hW hl => ?_) H locs ls hW (lv_sub hl [1, 2, 3, 4, 0] rfl)
        refine lv_iinc (v := (x3 + 1)) (lv' := [(3, .int (x3 + 1)), (0, .ref (a (1, i0, 0))), (1, .int p1), (2, .int p2)]) hx hb dX1_go_52 hl (k := 3) rfl rfl (by decide) rfl (fun ls hl => ?_)
        refine lv_goto (tgt := 6) hx hb dX1_go_55 (by decide) ?_
        exact ih _ _ _ _ h K7 H locs ls hW (lv_sub hl [1, 2, 3, 0] rfl)
  obtain ⟨F5, x6, hz24, h⟩ := ob2_e h
  refine L8 300 F1 (0 : Int32) F5 x6 hz24 (fun H locs ls hW hl => ?_) H locs ls hW (lv_sub hl [1, 2, 3, 0] rfl)
  refine lv_aload_n hx hb dX1_go_58 rfl (lv_at hl 0 rfl) ?_
  obtain ⟨F25, hc26, h⟩ := ob_e h
  refine wk_v (va_runV (As := []) (rest := []) S (met_X1_goSideways l hD hv0 hc26 H.size) (cwV 0 S.2.2.2.2 (lw_V q739 q741 qs16 q56 q742) rfl rfl rfl yd_X1_goSideways ⟨Nat.le_of_ble_eq_true rfl, Nat.le_of_ble_eq_true rfl⟩) (wpreV hK hW hv0 rfl rfl _) rfl rfl hl.1 rfl (lv_room (Nat.le_of_ble_eq_true rfl)) dX1_go_59 ⟨Nat.le_refl 0, Nat.le_refl 0⟩) hW (fun H locs hW => ?_)
  refine lv_aload_n hx hb dX1_go_62 rfl (lv_at hl 0 rfl) ?_
  refine lv_iload_n hx hb dX1_go_63 rfl (lv_at hl 1 rfl) ?_
  obtain ⟨F27, hc28, h⟩ := ob_e h
  refine wk_v (va_runV (As := [.int p1]) (rest := []) S (met_X1_goDown l hD hv0 hc28 H.size) (cwV 1 S.2.2.2.2 (lw_V q760 q762 qs18 q56 q763) rfl rfl rfl yd_X1_goDown ⟨Nat.le_of_ble_eq_true rfl, Nat.le_of_ble_eq_true rfl⟩) (wpreV hK hW hv0 rfl rfl _) rfl rfl hl.1 rfl (lv_room (Nat.le_of_ble_eq_true rfl)) dX1_go_64 ⟨Nat.le_refl 0, Nat.le_refl 0⟩) hW (fun H locs hW => ?_)
  refine lv_aload_n hx hb dX1_go_67 rfl (lv_at hl 0 rfl) ?_
  refine lv_dup hx hb dX1_go_68 rfl ?_
  refine gf_1_2 S hK hW hv0 q151 dX1_go_69 ?_
  refine lv_iconst (v := (1 : Int32)) hx hb dX1_go_72 (by decide) ?_
  refine lv_iadd hx hb dX1_go_73 ?_
  obtain ⟨F29, e30, h⟩ := pl_e h
  refine pf_1_2 S hK hD hW hv0 e30 q151 dX1_go_74 (fun H locs hW => ?_)
  cases h
  exact we_v S hr hlk hW dX1_go_77
def fn_X1_inCup (F : St) (i0 : Nat) : Option (Int32) :=
  some (((F 4 1 (64 + i0) 0) + (F 4 1 (64 + i0) 1)) + (F 4 1 (64 + i0) 2))
theorem yd_X1_inCup : yX1_inCup.cls = RX1 ∧ yX1_inCup.cls ≠ "java/lang/invoke/MethodHandle" ∧ yX1_inCup.cls ≠ "java/lang/invoke/VarHandle" ∧ (parseMethodDescriptor yX1_inCup.desc).map (fun d => d.parameters.length) = some 0 := by decide +kernel
set_option maxHeartbeats 4000000 in
theorem met_X1_inCup (l : Launch) {D : va_G} {dA : WK} {a : Ix → Nat} (hD : wD D dA a) {F : St} {i0 : Nat} {rz : Int32} (hv0 : wVd dA (1, i0, 0)) (h : fn_X1_inCup F i0 = some rz) : Mi l yX1_inCup cX1_inCup 1 .int 0 0 D dA a F [.ref (a (1, i0, 0))] F rz := by
  refine fun sz => mst (Qc := fun sz => wQi D dA a sz F rz) (by decide) (Nat.le_of_ble_eq_true rfl) ?_ sz
  intro p e s m below meth c S hr hlk hK hW ls hl
  have hl : lv_has ls 1 [(0, .ref (a (1, i0, 0)))] := hl
  have hx := S.1
  have hb := S.2.1
  generalize ([.ref (a (1, i0, 0))] : List Value).toArray = av at S ⊢
  unfold fn_X1_inCup at h
  obtain ⟨H, eH⟩ : ∃ z, z = s.heap := ⟨_, rfl⟩
  obtain ⟨locs, eL⟩ : ∃ z : List Loc, z = [] := ⟨_, rfl⟩
  show WX p l e (rmL 0 0) s m av below meth c (wQi D dA a s.heap.size F rz) dA a s.heap [] (F0 m 0 ls [])
  have hW : wS D dA a s F H locs := by rw [eH, eL]; exact wS_in hW
  refine wx_in eH eL ?_
  clear eH eL
  refine lv_aload_n hx hb dX1_inCup_0 rfl (lv_at hl 0 rfl) ?_
  refine gf_1_1 S hK hW hv0 q149 dX1_inCup_1 ?_
  refine gn_2_0 S hK hW (vq_1_1 hv0) q125 dX1_inCup_4 ?_
  refine lv_iconst (v := (0 : Int32)) hx hb dX1_inCup_7 (by decide) ?_
  refine aald_3 (z := 0) S hK hW (vq_2_0 (vq_1_1 hv0)) (by decide) (by decide) dX1_inCup_8 ?_
  refine gn_4_1 S hK hW (ve_3 (vq_2_0 (vq_1_1 hv0)) (by decide)) q116 dX1_inCup_9 ?_
  refine lv_aload_n hx hb dX1_inCup_12 rfl (lv_at hl 0 rfl) ?_
  refine gf_1_1 S hK hW hv0 q149 dX1_inCup_13 ?_
  refine gn_2_0 S hK hW (vq_1_1 hv0) q125 dX1_inCup_16 ?_
  refine lv_iconst (v := (1 : Int32)) hx hb dX1_inCup_19 (by decide) ?_
  refine aald_3 (z := 1) S hK hW (vq_2_0 (vq_1_1 hv0)) (by decide) (by decide) dX1_inCup_20 ?_
  refine gn_4_1 S hK hW (ve_3 (vq_2_0 (vq_1_1 hv0)) (by decide)) q116 dX1_inCup_21 ?_
  refine lv_iadd hx hb dX1_inCup_24 ?_
  refine lv_aload_n hx hb dX1_inCup_25 rfl (lv_at hl 0 rfl) ?_
  refine gf_1_1 S hK hW hv0 q149 dX1_inCup_26 ?_
  refine gn_2_0 S hK hW (vq_1_1 hv0) q125 dX1_inCup_29 ?_
  refine lv_iconst (v := (2 : Int32)) hx hb dX1_inCup_32 (by decide) ?_
  refine aald_3 (z := 2) S hK hW (vq_2_0 (vq_1_1 hv0)) (by decide) (by decide) dX1_inCup_33 ?_
  refine gn_4_1 S hK hW (ve_3 (vq_2_0 (vq_1_1 hv0)) (by decide)) q116 dX1_inCup_34 ?_
  refine lv_iadd hx hb dX1_inCup_37 ?_
  cases h
  exact we_i S hr hlk hW dX1_inCup_38
/-loop lp_X1_leftIn_4-/
def lp_X1_leftIn_4 (F : St) (i0 : Nat) (p1 : Int32) : Nat → Int32 → Int32 → Option (Int32 × Int32)
  | 0, _, _ => none
  | n + 1, x1, x2 => if (F 0 1 0 0) ≤ x2 then some (x1, x2) else og (vpb p1 4) (og (vpb x2 4) (pl (x1 + (F 4 0 (4 * (4 * i0 + p1.toNatClampNeg) + x2.toNatClampNeg) 0)) (fun x13 => pl (x13 + (F 4 0 (4 * (4 * i0 + p1.toNatClampNeg) + x2.toNatClampNeg) 1)) (fun x18 => pl (x18 + (F 4 0 (4 * (4 * i0 + p1.toNatClampNeg) + x2.toNatClampNeg) 2)) (fun x23 => lp_X1_leftIn_4 F i0 p1 n x23 (x2 + 1))))))
theorem lp_X1_leftIn_4_s {F : St} {i0 : Nat} {p1 : Int32} {n : Nat} {x1 : Int32} {x2 : Int32} : lp_X1_leftIn_4 F i0 p1 (n + 1) x1 x2 = if (F 0 1 0 0) ≤ x2 then some (x1, x2) else og (vpb p1 4) (og (vpb x2 4) (pl (x1 + (F 4 0 (4 * (4 * i0 + p1.toNatClampNeg) + x2.toNatClampNeg) 0)) (fun x13 => pl (x13 + (F 4 0 (4 * (4 * i0 + p1.toNatClampNeg) + x2.toNatClampNeg) 1)) (fun x18 => pl (x18 + (F 4 0 (4 * (4 * i0 + p1.toNatClampNeg) + x2.toNatClampNeg) 2)) (fun x23 => lp_X1_leftIn_4 F i0 p1 n x23 (x2 + 1)))))) := rfl
def fn_X1_leftIn (F : St) (i0 : Nat) (p1 : Int32) : Option (Int32) :=
  ob2 (lp_X1_leftIn_4 F i0 p1 300 (0 : Int32) (0 : Int32)) (fun x3 x4 => some x3)
theorem yd_X1_leftIn : yX1_leftIn.cls = RX1 ∧ yX1_leftIn.cls ≠ "java/lang/invoke/MethodHandle" ∧ yX1_leftIn.cls ≠ "java/lang/invoke/VarHandle" ∧ (parseMethodDescriptor yX1_leftIn.desc).map (fun d => d.parameters.length) = some 1 := by decide +kernel
set_option maxHeartbeats 4000000 in
theorem met_X1_leftIn (l : Launch) {D : va_G} {dA : WK} {a : Ix → Nat} (hD : wD D dA a) {F : St} {i0 : Nat} {p1 : Int32} {rz : Int32} (hv0 : wVd dA (1, i0, 0)) (h : fn_X1_leftIn F i0 p1 = some rz) : Mi l yX1_leftIn cX1_leftIn 5 .int 0 0 D dA a F [.ref (a (1, i0, 0)), .int p1] F rz := by
  refine fun sz => mst (Qc := fun sz => wQi D dA a sz F rz) (by decide) (Nat.le_of_ble_eq_true rfl) ?_ sz
  intro p e s m below meth c S hr hlk hK hW ls hl
  have hl : lv_has ls 5 [(0, .ref (a (1, i0, 0))), (1, .int p1)] := hl
  have hx := S.1
  have hb := S.2.1
  generalize ([.ref (a (1, i0, 0)), .int p1] : List Value).toArray = av at S ⊢
  unfold fn_X1_leftIn at h
  obtain ⟨H, eH⟩ : ∃ z, z = s.heap := ⟨_, rfl⟩
  obtain ⟨locs, eL⟩ : ∃ z : List Loc, z = [] := ⟨_, rfl⟩
  show WX p l e (rmL 0 0) s m av below meth c (wQi D dA a s.heap.size F rz) dA a s.heap [] (F0 m 0 ls [])
  have hW : wS D dA a s F H locs := by rw [eH, eL]; exact wS_in hW
  refine wx_in eH eL ?_
  clear eH eL
  refine lv_iconst (v := (0 : Int32)) hx hb dX1_leftIn_0 (by decide) ?_
  refine lv_istore_n (lv' := [(2, .int (0 : Int32)), (0, .ref (a (1, i0, 0))), (1, .int p1)]) hx hb dX1_leftIn_1 rfl hl (by decide) rfl (fun ls hl => ?_)
  refine lv_iconst (v := (0 : Int32)) hx hb dX1_leftIn_2 (by decide) ?_
  refine lv_istore_n (lv' := [(3, .int (0 : Int32)), (2, .int (0 : Int32)), (0, .ref (a (1, i0, 0))), (1, .int p1)]) hx hb dX1_leftIn_3 rfl hl (by decide) rfl (fun ls hl => ?_)
  have L6 : ∀ (n : Nat) (x1 : Int32) (x2 : Int32) (x3 : Int32) (x4 : Int32), lp_X1_leftIn_4 F i0 p1 n x1 x2 = some (x3, x4) → (∀ (H : Heap) (locs : List Loc) (ls : Array Slot), wS D dA a s F H locs → lv_has ls 5 [(2, .int x3)] → WX p l e (rmL 0 0) s m av below meth c (wQi D dA a s.heap.size F rz) dA a H locs (F0 m 56 ls [])) → ∀ (H : Heap) (locs : List Loc) (ls : Array Slot), wS D dA a s F H locs → lv_has ls 5 [(0, .ref (a (1, i0, 0))), (1, .int p1), (2, .int x1), (3, .int x2)] → WX p l e (rmL 0 0) s m av below meth c (wQi D dA a s.heap.size F rz) dA a H locs (F0 m 4 ls []) := by
    intro n
    induction n with
    | zero =>
      intro x1 x2 x3 x4 h
      exact absurd (show (none : Option (Int32 × Int32)) = some (x3, x4) from h) (by simp)
    | succ n ih =>
      intro x1 x2 x3 x4 h K5 H locs ls hW hl
      have h := lp_X1_leftIn_4_s.symm.trans h
      refine lv_iload_n hx hb dX1_leftIn_4 rfl (lv_at hl 3 rfl) ?_
      refine lv_aload_n hx hb dX1_leftIn_5 rfl (lv_at hl 0 rfl) ?_
      refine gf_1_4 S hK hW hv0 q155 dX1_leftIn_6 ?_
      refine gn_0_1 S hK hW (vq_1_4 hv0) q271 dX1_leftIn_9 ?_
      refine lv_icmp_ge (tgt := 56) hx hb dX1_leftIn_12 (by decide) (fun c7 => ?_) (fun c7 => ?_)
      · have h := if_t h c7
        cases h
        exact K5 H locs ls hW (lv_sub hl [2] rfl)
      · have h := if_f h c7
        refine lv_iconst (v := (0 : Int32)) hx hb dX1_leftIn_15 (by decide) ?_
        refine lv_istore (lv' := [(4, .int (0 : Int32)), (0, .ref (a (1, i0, 0))), (1, .int p1), (2, .int x1), (3, .int x2)]) hx hb dX1_leftIn_16 hl (by decide) rfl (fun ls hl => ?_)
        refine lv_iload hx hb dX1_leftIn_18 (lv_at hl 0 rfl) ?_
        refine lv_iconst (v := (3 : Int32)) hx hb dX1_leftIn_20 (by decide) ?_
        refine lv_icmp_ge (tgt := 50) hx hb dX1_leftIn_21 (by decide) (fun c => absurd c (by decide)) (fun _ => ?_)
        refine lv_iload_n hx hb dX1_leftIn_24 rfl (lv_at hl 3 rfl) ?_
        refine lv_aload_n hx hb dX1_leftIn_25 rfl (lv_at hl 1 rfl) ?_
        refine gf_1_0 S hK hW hv0 q147 dX1_leftIn_26 ?_
        refine lv_iload_n hx hb dX1_leftIn_29 rfl (lv_at hl 2 rfl) ?_
        obtain ⟨g8, h⟩ := og_e h
        refine aald_6 S hK hW (vq_1_0 hv0) g8 rfl dX1_leftIn_30 ?_
        have v9 := (ve_6 (vq_1_0 hv0) (vpb_lt g8))
        refine lv_iload_n hx hb dX1_leftIn_31 rfl (lv_at hl 4 rfl) ?_
        obtain ⟨g10, h⟩ := og_e h
        refine aald_7 S hK hW v9 g10 rfl dX1_leftIn_32 ?_
        have v11 := (ve_7 v9 (vpb_lt g10))
        refine gn_2_0 S hK hW v11 q125 dX1_leftIn_33 ?_
        refine lv_iload hx hb dX1_leftIn_36 (lv_at hl 0 rfl) ?_
        refine aald_3 (z := 0) S hK hW (vq_2_0 v11) (by decide) (by decide) dX1_leftIn_38 ?_
        refine gn_4_0 S hK hW (ve_3 (vq_2_0 v11) (by decide)) q113 dX1_leftIn_39 ?_
        refine lv_iadd hx hb dX1_leftIn_42 ?_
        obtain ⟨x13, e14, h⟩ := pl_e h
        refine lv_nm e14 ?_
        refine lv_istore_n (lv' := [(2, .int x13), (4, .int (0 : Int32)), (0, .ref (a (1, i0, 0))), (1, .int p1), (3, .int x2)]) hx hb dX1_leftIn_43 rfl hl (by decide) rfl (fun ls hl => ?_)
        refine lv_iinc (v := (1 : Int32)) (lv' := [(4, .int (1 : Int32)), (2, .int x13), (0, .ref (a (1, i0, 0))), (1, .int p1), (3, .int x2)]) hx hb dX1_leftIn_44 hl (k := 1) rfl (by decide) (by decide) rfl (fun ls hl => ?_)
        refine lv_goto (tgt := 18) hx hb dX1_leftIn_47 (by decide) ?_
        refine lv_iload hx hb dX1_leftIn_18 (lv_at hl 0 rfl) ?_
        refine lv_iconst (v := (3 : Int32)) hx hb dX1_leftIn_20 (by decide) ?_
        refine lv_icmp_ge (tgt := 50) hx hb dX1_leftIn_21 (by decide) (fun c => absurd c (by decide)) (fun _ => ?_)
        refine lv_iload_n hx hb dX1_leftIn_24 rfl (lv_at hl 1 rfl) ?_
        refine lv_aload_n hx hb dX1_leftIn_25 rfl (lv_at hl 2 rfl) ?_
        refine gf_1_0 S hK hW hv0 q147 dX1_leftIn_26 ?_
        refine lv_iload_n hx hb dX1_leftIn_29 rfl (lv_at hl 3 rfl) ?_
        refine aald_6 S hK hW (vq_1_0 hv0) g8 rfl dX1_leftIn_30 ?_
        have v15 := (ve_6 (vq_1_0 hv0) (vpb_lt g8))
        refine lv_iload_n hx hb dX1_leftIn_31 rfl (lv_at hl 4 rfl) ?_
        refine aald_7 S hK hW v15 g10 rfl dX1_leftIn_32 ?_
        have v16 := (ve_7 v15 (vpb_lt g10))
        refine gn_2_0 S hK hW v16 q125 dX1_leftIn_33 ?_
        refine lv_iload hx hb dX1_leftIn_36 (lv_at hl 0 rfl) ?_
        refine aald_3 (z := 1) S hK hW (vq_2_0 v16) (by decide) (by decide) dX1_leftIn_38 ?_
        refine gn_4_0 S hK hW (ve_3 (vq_2_0 v16) (by decide)) q113 dX1_leftIn_39 ?_
        refine lv_iadd hx hb dX1_leftIn_42 ?_
        obtain ⟨x18, e19, h⟩ := pl_e h
        refine lv_nm e19 ?_
        refine lv_istore_n (lv' := [(2, .int x18), (4, .int (1 : Int32)), (0, .ref (a (1, i0, 0))), (1, .int p1), (3, .int x2)]) hx hb dX1_leftIn_43 rfl hl (by decide) rfl (fun ls hl => ?_)
        refine lv_iinc (v := (2 : Int32)) (lv' := [(4, .int (2 : Int32)), (2, .int x18), (0, .ref (a (1, i0, 0))), (1, .int p1), (3, .int x2)]) hx hb dX1_leftIn_44 hl (k := 1) rfl (by decide) (by decide) rfl (fun ls hl => ?_)
        refine lv_goto (tgt := 18) hx hb dX1_leftIn_47 (by decide) ?_
        refine lv_iload hx hb dX1_leftIn_18 (lv_at hl 0 rfl) ?_
        refine lv_iconst (v := (3 : Int32)) hx hb dX1_leftIn_20 (by decide) ?_
        refine lv_icmp_ge (tgt := 50) hx hb dX1_leftIn_21 (by decide) (fun c => absurd c (by decide)) (fun _ => ?_)
        refine lv_iload_n hx hb dX1_leftIn_24 rfl (lv_at hl 1 rfl) ?_
        refine lv_aload_n hx hb dX1_leftIn_25 rfl (lv_at hl 2 rfl) ?_
        refine gf_1_0 S hK hW hv0 q147 dX1_leftIn_26 ?_
        refine lv_iload_n hx hb dX1_leftIn_29 rfl (lv_at hl 3 rfl) ?_
        refine aald_6 S hK hW (vq_1_0 hv0) g8 rfl dX1_leftIn_30 ?_
        have v20 := (ve_6 (vq_1_0 hv0) (vpb_lt g8))
        refine lv_iload_n hx hb dX1_leftIn_31 rfl (lv_at hl 4 rfl) ?_
        refine aald_7 S hK hW v20 g10 rfl dX1_leftIn_32 ?_
        have v21 := (ve_7 v20 (vpb_lt g10))
        refine gn_2_0 S hK hW v21 q125 dX1_leftIn_33 ?_
        refine lv_iload hx hb dX1_leftIn_36 (lv_at hl 0 rfl) ?_
        refine aald_3 (z := 2) S hK hW (vq_2_0 v21) (by decide) (by decide) dX1_leftIn_38 ?_
        refine gn_4_0 S hK hW (ve_3 (vq_2_0 v21) (by decide)) q113 dX1_leftIn_39 ?_
        refine lv_iadd hx hb dX1_leftIn_42 ?_
        obtain ⟨x23, e24, h⟩ := pl_e h
        refine lv_nm e24 ?_
        refine lv_istore_n (lv' := [(2, .int x23), (4, .int (2 : Int32)), (0, .ref (a (1, i0, 0))), (1, .int p1), (3, .int x2)]) hx hb dX1_leftIn_43 rfl hl (by decide) rfl (fun ls hl => ?_)
        refine lv_iinc (v := (3 : Int32)) (lv' := [(4, .int (3 : Int32)), (2, .int x23), (0, .ref (a (1, i0, 0))), (1, .int p1), (3, .int x2)]) hx hb dX1_leftIn_44 hl (k := 1) rfl (by decide) (by decide) rfl (fun ls hl => ?_)
        refine lv_goto (tgt := 18) hx hb dX1_leftIn_47 (by decide) ?_
        refine lv_iload hx hb dX1_leftIn_18 (lv_at hl 0 rfl) ?_
        refine lv_iconst (v := (3 : Int32)) hx hb dX1_leftIn_20 (by decide) ?_
        refine lv_icmp_ge (tgt := 50) hx hb dX1_leftIn_21 (by decide) (fun _ => ?_) (fun c => absurd c (by decide))
        refine lv_iinc (v := (x2 + 1)) (lv' := [(3, .int (x2 + 1)), (4, .int (3 : Int32)), (2, .int x23), (0, .ref (a (1, i0, 0))), (1, .int p1)]) hx hb dX1_leftIn_50 hl (k := 4) rfl rfl (by decide) rfl (fun ls hl => ?_)
        refine lv_goto (tgt := 4) hx hb dX1_leftIn_53 (by decide) ?_
        exact ih _ _ _ _ h K5 H locs ls hW (lv_sub hl [3, 4, 2, 0] rfl)
  obtain ⟨x3, x4, hz25, h⟩ := ob2_e h
  refine L6 300 (0 : Int32) (0 : Int32) x3 x4 hz25 (fun H locs ls hW hl => ?_) H locs ls hW (lv_sub hl [2, 3, 1, 0] rfl)
  refine lv_iload_n hx hb dX1_leftIn_56 rfl (lv_at hl 0 rfl) ?_
  cases h
  exact we_i S hr hlk hW dX1_leftIn_57
def fn_X1_ofRing (F : St) (i0 : Nat) (p1 : Int32) : Option (Int32) :=
  some (((((F 23 0 0 0) + (F 23 0 0 1)) + (F 23 0 0 2)) * p1) * (F 0 1 0 0))
theorem yd_X1_ofRing : yX1_ofRing.cls = RX1 ∧ yX1_ofRing.cls ≠ "java/lang/invoke/MethodHandle" ∧ yX1_ofRing.cls ≠ "java/lang/invoke/VarHandle" ∧ (parseMethodDescriptor yX1_ofRing.desc).map (fun d => d.parameters.length) = some 1 := by decide +kernel
set_option maxHeartbeats 4000000 in
theorem met_X1_ofRing (l : Launch) {D : va_G} {dA : WK} {a : Ix → Nat} (hD : wD D dA a) {F : St} {i0 : Nat} {p1 : Int32} {rz : Int32} (hv0 : wVd dA (1, i0, 0)) (h : fn_X1_ofRing F i0 p1 = some rz) : Mi l yX1_ofRing cX1_ofRing 2 .int 0 0 D dA a F [.ref (a (1, i0, 0)), .int p1] F rz := by
  refine fun sz => mst (Qc := fun sz => wQi D dA a sz F rz) (by decide) (Nat.le_of_ble_eq_true rfl) ?_ sz
  intro p e s m below meth c S hr hlk hK hW ls hl
  have hl : lv_has ls 2 [(0, .ref (a (1, i0, 0))), (1, .int p1)] := hl
  have hx := S.1
  have hb := S.2.1
  generalize ([.ref (a (1, i0, 0)), .int p1] : List Value).toArray = av at S ⊢
  unfold fn_X1_ofRing at h
  obtain ⟨H, eH⟩ : ∃ z, z = s.heap := ⟨_, rfl⟩
  obtain ⟨locs, eL⟩ : ∃ z : List Loc, z = [] := ⟨_, rfl⟩
  show WX p l e (rmL 0 0) s m av below meth c (wQi D dA a s.heap.size F rz) dA a s.heap [] (F0 m 0 ls [])
  have hW : wS D dA a s F H locs := by rw [eH, eL]; exact wS_in hW
  refine wx_in eH eL ?_
  clear eH eL
  refine lv_aload_n hx hb dX1_ofRing_0 rfl (lv_at hl 0 rfl) ?_
  refine gf_1_4 S hK hW hv0 q155 dX1_ofRing_1 ?_
  refine gn_0_2 S hK hW (vq_1_4 hv0) q275 dX1_ofRing_4 ?_
  refine lv_iconst (v := (0 : Int32)) hx hb dX1_ofRing_7 (by decide) ?_
  refine ald_23 (z := 0) S hK hW (vq_0_2 (vq_1_4 hv0)) (by decide) (by decide) dX1_ofRing_8 ?_
  refine lv_aload_n hx hb dX1_ofRing_9 rfl (lv_at hl 0 rfl) ?_
  refine gf_1_4 S hK hW hv0 q155 dX1_ofRing_10 ?_
  refine gn_0_2 S hK hW (vq_1_4 hv0) q275 dX1_ofRing_13 ?_
  refine lv_iconst (v := (1 : Int32)) hx hb dX1_ofRing_16 (by decide) ?_
  refine ald_23 (z := 1) S hK hW (vq_0_2 (vq_1_4 hv0)) (by decide) (by decide) dX1_ofRing_17 ?_
  refine lv_iadd hx hb dX1_ofRing_18 ?_
  refine lv_aload_n hx hb dX1_ofRing_19 rfl (lv_at hl 0 rfl) ?_
  refine gf_1_4 S hK hW hv0 q155 dX1_ofRing_20 ?_
  refine gn_0_2 S hK hW (vq_1_4 hv0) q275 dX1_ofRing_23 ?_
  refine lv_iconst (v := (2 : Int32)) hx hb dX1_ofRing_26 (by decide) ?_
  refine ald_23 (z := 2) S hK hW (vq_0_2 (vq_1_4 hv0)) (by decide) (by decide) dX1_ofRing_27 ?_
  refine lv_iadd hx hb dX1_ofRing_28 ?_
  refine lv_iload_n hx hb dX1_ofRing_29 rfl (lv_at hl 1 rfl) ?_
  refine lv_imul hx hb dX1_ofRing_30 ?_
  refine lv_aload_n hx hb dX1_ofRing_31 rfl (lv_at hl 0 rfl) ?_
  refine gf_1_4 S hK hW hv0 q155 dX1_ofRing_32 ?_
  refine gn_0_1 S hK hW (vq_1_4 hv0) q271 dX1_ofRing_35 ?_
  refine lv_imul hx hb dX1_ofRing_38 ?_
  cases h
  exact we_i S hr hlk hW dX1_ofRing_39
def fn_X1_out (F : St) (i0 : Nat) (p1 : Int32) : Option (Int32) :=
  ob (fn_X1_ofRing F i0 p1) (fun r1 => pl (r1 * (F 0 0 0 0)) (fun x3 => if x3 = 0 then some (0 : Int32) else ob (fn_X1_inCup F i0) (fun r6 => og (nzb x3) (some (((1000 : Int32) * r6) / x3)))))
theorem yd_X1_out : yX1_out.cls = RX1 ∧ yX1_out.cls ≠ "java/lang/invoke/MethodHandle" ∧ yX1_out.cls ≠ "java/lang/invoke/VarHandle" ∧ (parseMethodDescriptor yX1_out.desc).map (fun d => d.parameters.length) = some 1 := by decide +kernel
set_option maxHeartbeats 4000000 in
theorem met_X1_out (l : Launch) {D : va_G} {dA : WK} {a : Ix → Nat} (hD : wD D dA a) {F : St} {i0 : Nat} {p1 : Int32} {rz : Int32} (hv0 : wVd dA (1, i0, 0)) (h : fn_X1_out F i0 p1 = some rz) : Mi l yX1_out cX1_out 3 .int 1 21 D dA a F [.ref (a (1, i0, 0)), .int p1] F rz := by
  refine fun sz => mst (Qc := fun sz => wQi D dA a sz F rz) (by decide) (Nat.le_of_ble_eq_true rfl) ?_ sz
  intro p e s m below meth c S hr hlk hK hW ls hl
  have hl : lv_has ls 3 [(0, .ref (a (1, i0, 0))), (1, .int p1)] := hl
  have hx := S.1
  have hb := S.2.1
  generalize ([.ref (a (1, i0, 0)), .int p1] : List Value).toArray = av at S ⊢
  unfold fn_X1_out at h
  obtain ⟨H, eH⟩ : ∃ z, z = s.heap := ⟨_, rfl⟩
  obtain ⟨locs, eL⟩ : ∃ z : List Loc, z = [] := ⟨_, rfl⟩
  show WX p l e (rmL 1 21) s m av below meth c (wQi D dA a s.heap.size F rz) dA a s.heap [] (F0 m 0 ls [])
  have hW : wS D dA a s F H locs := by rw [eH, eL]; exact wS_in hW
  refine wx_in eH eL ?_
  clear eH eL
  refine lv_aload_n hx hb dX1_out_0 rfl (lv_at hl 0 rfl) ?_
  refine lv_iload_n hx hb dX1_out_1 rfl (lv_at hl 1 rfl) ?_
  obtain ⟨r1, hc2, h⟩ := ob_e h
  refine wk_i (va_runV (As := [.int p1]) (rest := []) S (met_X1_ofRing l hD hv0 hc2 H.size) (cwV 1 S.2.2.2.2 (lw_V q797 q799 qs19 q56 q800) rfl rfl rfl yd_X1_ofRing ⟨Nat.le_of_ble_eq_true rfl, Nat.le_of_ble_eq_true rfl⟩) (wpreV hK hW hv0 rfl rfl _) rfl rfl hl.1 rfl (lv_room (Nat.le_of_ble_eq_true rfl)) dX1_out_2 ⟨Nat.le_refl 0, Nat.le_refl 0⟩) hW (fun H locs hW => ?_)
  refine lv_aload_n hx hb dX1_out_5 rfl (lv_at hl 0 rfl) ?_
  refine gf_1_4 S hK hW hv0 q155 dX1_out_6 ?_
  refine gn_0_0 S hK hW (vq_1_4 hv0) q267 dX1_out_9 ?_
  refine lv_imul hx hb dX1_out_12 ?_
  obtain ⟨x3, e4, h⟩ := pl_e h
  refine lv_nm e4 ?_
  refine lv_istore_n (lv' := [(2, .int x3), (0, .ref (a (1, i0, 0))), (1, .int p1)]) hx hb dX1_out_13 rfl hl (by decide) rfl (fun ls hl => ?_)
  refine lv_iload_n hx hb dX1_out_14 rfl (lv_at hl 0 rfl) ?_
  refine lv_if_ne (tgt := 22) hx hb dX1_out_15 (by decide) (fun c5 => ?_) (fun c5 => ?_)
  · have h := if_f h c5
    refine lv_sipush (v := (1000 : Int32)) hx hb dX1_out_22 (by decide) ?_
    refine lv_aload_n hx hb dX1_out_25 rfl (lv_at hl 1 rfl) ?_
    obtain ⟨r6, hc7, h⟩ := ob_e h
    refine wk_i (va_runV (As := []) (rest := [.int (1000 : Int32)]) S (met_X1_inCup l hD hv0 hc7 H.size) (cwV 0 S.2.2.2.2 (lw_V q789 q790 q791 q56 q792) rfl rfl rfl yd_X1_inCup ⟨Nat.le_of_ble_eq_true rfl, Nat.le_of_ble_eq_true rfl⟩) (wpreV hK hW hv0 rfl rfl _) rfl rfl hl.1 rfl (lv_room (Nat.le_of_ble_eq_true rfl)) dX1_out_26 ⟨Nat.le_refl 0, Nat.le_refl 0⟩) hW (fun H locs hW => ?_)
    refine lv_imul hx hb dX1_out_29 ?_
    refine lv_iload_n hx hb dX1_out_30 rfl (lv_at hl 0 rfl) ?_
    obtain ⟨g8, h⟩ := og_e h
    refine lv_idiv hx hb dX1_out_31 (nzb_e g8) ?_
    cases h
    exact we_i S hr hlk hW dX1_out_32
  · have h := if_t h c5
    refine lv_iconst (v := (0 : Int32)) hx hb dX1_out_18 (by decide) ?_
    refine lv_goto (tgt := 32) hx hb dX1_out_19 (by decide) ?_
    cases h
    exact we_i S hr hlk hW dX1_out_32
