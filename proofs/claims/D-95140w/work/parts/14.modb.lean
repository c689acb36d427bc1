set_option maxRecDepth 100000
/-loop lp_X8_doGoings_2-/
def lp_X8_doGoings_2 : Nat → St → Int32 → Option (St × Int32)
  | 0, _, _ => none
  | n + 1, F2, x1 => if (16 : Int32) ≤ x1 then some (F2, x1) else og (vpb x1 138) (og (vpb x1 64) (pl (fu F2 40 0 0 x1.toNatClampNeg ((F2 40 0 0 x1.toNatClampNeg) + (F2 44 0 0 x1.toNatClampNeg))) (fun F10 => og (vpb ((80 : Int32) + x1) 138) (og (vpb ((16 : Int32) + x1) 64) (pl (fu F10 40 0 0 ((80 : Int32) + x1).toNatClampNeg ((F10 40 0 0 ((80 : Int32) + x1).toNatClampNeg) + (F10 44 0 0 ((16 : Int32) + x1).toNatClampNeg))) (fun F14 => og (vpb ((96 : Int32) + x1) 138) (og (vpb ((32 : Int32) + x1) 64) (pl (fu F14 40 0 0 ((96 : Int32) + x1).toNatClampNeg ((F14 40 0 0 ((96 : Int32) + x1).toNatClampNeg) + (F14 44 0 0 ((32 : Int32) + x1).toNatClampNeg))) (fun F18 => og (vpb ((112 : Int32) + x1) 138) (og (vpb ((48 : Int32) + x1) 64) (pl (fu F18 40 0 0 ((112 : Int32) + x1).toNatClampNeg ((F18 40 0 0 ((112 : Int32) + x1).toNatClampNeg) + (F18 44 0 0 ((48 : Int32) + x1).toNatClampNeg))) (fun F22 => lp_X8_doGoings_2 n F22 (x1 + 1)))))))))))))
theorem lp_X8_doGoings_2_s {n : Nat} {F2 : St} {x1 : Int32} : lp_X8_doGoings_2 (n + 1) F2 x1 = if (16 : Int32) ≤ x1 then some (F2, x1) else og (vpb x1 138) (og (vpb x1 64) (pl (fu F2 40 0 0 x1.toNatClampNeg ((F2 40 0 0 x1.toNatClampNeg) + (F2 44 0 0 x1.toNatClampNeg))) (fun F10 => og (vpb ((80 : Int32) + x1) 138) (og (vpb ((16 : Int32) + x1) 64) (pl (fu F10 40 0 0 ((80 : Int32) + x1).toNatClampNeg ((F10 40 0 0 ((80 : Int32) + x1).toNatClampNeg) + (F10 44 0 0 ((16 : Int32) + x1).toNatClampNeg))) (fun F14 => og (vpb ((96 : Int32) + x1) 138) (og (vpb ((32 : Int32) + x1) 64) (pl (fu F14 40 0 0 ((96 : Int32) + x1).toNatClampNeg ((F14 40 0 0 ((96 : Int32) + x1).toNatClampNeg) + (F14 44 0 0 ((32 : Int32) + x1).toNatClampNeg))) (fun F18 => og (vpb ((112 : Int32) + x1) 138) (og (vpb ((48 : Int32) + x1) 64) (pl (fu F18 40 0 0 ((112 : Int32) + x1).toNatClampNeg ((F18 40 0 0 ((112 : Int32) + x1).toNatClampNeg) + (F18 44 0 0 ((48 : Int32) + x1).toNatClampNeg))) (fun F22 => lp_X8_doGoings_2 n F22 (x1 + 1))))))))))))) := rfl
def fn_X8_doGoings (F : St) : Option (St) :=
  ob2 (lp_X8_doGoings_2 300 F (0 : Int32)) (fun F3 x4 => some F3)
theorem yd_X8_doGoings : yX8_doGoings.cls = RX8 ∧ yX8_doGoings.cls ≠ "java/lang/invoke/MethodHandle" ∧ yX8_doGoings.cls ≠ "java/lang/invoke/VarHandle" ∧ (parseMethodDescriptor yX8_doGoings.desc).map (fun d => d.parameters.length) = some 0 := by decide +kernel
set_option maxHeartbeats 4000000 in
theorem met_X8_doGoings (l : Launch) {D : va_G} {dA : WK} {a : Ix → Nat} (hD : wD D dA a) {F : St} {Fz : St} (hv0 : wVd dA (30, 0, 0)) (h : fn_X8_doGoings F = some Fz) : Mv l yX8_doGoings cX8_doGoings 3 0 0 D dA a F [.ref (a (30, 0, 0))] Fz := by
  refine fun sz => mst (Qc := fun sz => wQv D dA a sz Fz) (by decide) (Nat.le_of_ble_eq_true rfl) ?_ sz
  intro p e s m below meth c S hr hlk hK hW ls hl
  have hl : lv_has ls 3 [(0, .ref (a (30, 0, 0)))] := hl
  have hx := S.1
  have hb := S.2.1
  generalize ([.ref (a (30, 0, 0))] : List Value).toArray = av at S ⊢
  unfold fn_X8_doGoings at h
  obtain ⟨H, eH⟩ : ∃ z, z = s.heap := ⟨_, rfl⟩
  obtain ⟨locs, eL⟩ : ∃ z : List Loc, z = [] := ⟨_, rfl⟩
  show WX p l e (rmL 0 0) s m av below meth c (wQv D dA a s.heap.size Fz) dA a s.heap [] (F0 m 0 ls [])
  have hW : wS D dA a s F H locs := by rw [eH, eL]; exact wS_in hW
  refine wx_in eH eL ?_
  clear eH eL
  refine lv_iconst (v := (0 : Int32)) hx hb dX8_doGoings_0 (by decide) ?_
  refine lv_istore_n (lv' := [(1, .int (0 : Int32)), (0, .ref (a (30, 0, 0)))]) hx hb dX8_doGoings_1 rfl hl (by decide) rfl (fun ls hl => ?_)
  have L6 : ∀ (n : Nat) (F2 : St) (x1 : Int32) (F3 : St) (x4 : Int32), lp_X8_doGoings_2 n F2 x1 = some (F3, x4) → (∀ (H : Heap) (locs : List Loc) (ls : Array Slot), wS D dA a s F3 H locs → lv_has ls 3 [] → WX p l e (rmL 0 0) s m av below meth c (wQv D dA a s.heap.size Fz) dA a H locs (F0 m 73 ls [])) → ∀ (H : Heap) (locs : List Loc) (ls : Array Slot), wS D dA a s F2 H locs → lv_has ls 3 [(0, .ref (a (30, 0, 0))), (1, .int x1)] → WX p l e (rmL 0 0) s m av below meth c (wQv D dA a s.heap.size Fz) dA a H locs (F0 m 2 ls []) := by
    intro n
    induction n with
    | zero =>
      intro F2 x1 F3 x4 h
      exact absurd (show (none : Option (St × Int32)) = some (F3, x4) from h) (by simp)
    | succ n ih =>
      intro F2 x1 F3 x4 h K5 H locs ls hW hl
      have h := lp_X8_doGoings_2_s.symm.trans h
      refine lv_iload_n hx hb dX8_doGoings_2 rfl (lv_at hl 1 rfl) ?_
      refine lv_bipush (v := (16 : Int32)) hx hb dX8_doGoings_3 (by decide) ?_
      refine lv_icmp_ge (tgt := 73) hx hb dX8_doGoings_5 (by decide) (fun c7 => ?_) (fun c7 => ?_)
      · have h := if_t h c7
        cases h
        exact K5 H locs ls hW (lv_sub hl [] rfl)
      · have h := if_f h c7
        refine lv_aload_n hx hb dX8_doGoings_8 rfl (lv_at hl 0 rfl) ?_
        refine gf_30_30 S hK hW hv0 q1015 dX8_doGoings_9 ?_
        refine lv_iload_n hx hb dX8_doGoings_12 rfl (lv_at hl 1 rfl) ?_
        refine lv_dup2_11 hx hb dX8_doGoings_13 rfl rfl ?_
        obtain ⟨g8, h⟩ := og_e h
        refine ald_40 S hK hW (vq_30_30 hv0) g8 rfl dX8_doGoings_14 ?_
        refine lv_aload_n hx hb dX8_doGoings_15 rfl (lv_at hl 0 rfl) ?_
        refine gf_30_34 S hK hW hv0 q1019 dX8_doGoings_16 ?_
        refine lv_iload_n hx hb dX8_doGoings_19 rfl (lv_at hl 1 rfl) ?_
        obtain ⟨g9, h⟩ := og_e h
        refine ald_44 S hK hW (vq_30_34 hv0) g9 rfl dX8_doGoings_20 ?_
        refine lv_iadd hx hb dX8_doGoings_21 ?_
        obtain ⟨F10, e11, h⟩ := pl_e h
        refine ast_40 S hK hD hW (vq_30_30 hv0) g8 rfl e11 dX8_doGoings_22 (fun H locs hW => ?_)
        refine lv_iconst (v := (0 : Int32)) hx hb dX8_doGoings_23 (by decide) ?_
        refine lv_istore_n (lv' := [(2, .int (0 : Int32)), (0, .ref (a (30, 0, 0))), (1, .int x1)]) hx hb dX8_doGoings_24 rfl hl (by decide) rfl (fun ls hl => ?_)
        refine lv_iload_n hx hb dX8_doGoings_25 rfl (lv_at hl 0 rfl) ?_
        refine lv_iconst (v := (3 : Int32)) hx hb dX8_doGoings_26 (by decide) ?_
        refine lv_icmp_ge (tgt := 67) hx hb dX8_doGoings_27 (by decide) (fun c => absurd c (by decide)) (fun _ => ?_)
        refine lv_aload_n hx hb dX8_doGoings_30 rfl (lv_at hl 1 rfl) ?_
        refine gf_30_30 S hK hW hv0 q1015 dX8_doGoings_31 ?_
        refine lv_bipush (v := (80 : Int32)) hx hb dX8_doGoings_34 (by decide) ?_
        refine lv_bipush (v := (16 : Int32)) hx hb dX8_doGoings_36 (by decide) ?_
        refine lv_iload_n hx hb dX8_doGoings_38 rfl (lv_at hl 0 rfl) ?_
        refine lv_imul hx hb dX8_doGoings_39 ?_
        refine lv_nm (y := (0 : Int32)) (by decide) ?_
        refine lv_iadd hx hb dX8_doGoings_40 ?_
        refine lv_nm (y := (80 : Int32)) (by decide) ?_
        refine lv_iload_n hx hb dX8_doGoings_41 rfl (lv_at hl 2 rfl) ?_
        refine lv_iadd hx hb dX8_doGoings_42 ?_
        refine lv_dup2_11 hx hb dX8_doGoings_43 rfl rfl ?_
        obtain ⟨g12, h⟩ := og_e h
        refine ald_40 S hK hW (vq_30_30 hv0) g12 rfl dX8_doGoings_44 ?_
        refine lv_aload_n hx hb dX8_doGoings_45 rfl (lv_at hl 1 rfl) ?_
        refine gf_30_34 S hK hW hv0 q1019 dX8_doGoings_46 ?_
        refine lv_bipush (v := (16 : Int32)) hx hb dX8_doGoings_49 (by decide) ?_
        refine lv_bipush (v := (16 : Int32)) hx hb dX8_doGoings_51 (by decide) ?_
        refine lv_iload_n hx hb dX8_doGoings_53 rfl (lv_at hl 0 rfl) ?_
        refine lv_imul hx hb dX8_doGoings_54 ?_
        refine lv_nm (y := (0 : Int32)) (by decide) ?_
        refine lv_iadd hx hb dX8_doGoings_55 ?_
        refine lv_nm (y := (16 : Int32)) (by decide) ?_
        refine lv_iload_n hx hb dX8_doGoings_56 rfl (lv_at hl 2 rfl) ?_
        refine lv_iadd hx hb dX8_doGoings_57 ?_
        obtain ⟨g13, h⟩ := og_e h
        refine ald_44 S hK hW (vq_30_34 hv0) g13 rfl dX8_doGoings_58 ?_
        refine lv_iadd hx hb dX8_doGoings_59 ?_
        obtain ⟨F14, e15, h⟩ := pl_e h
        refine ast_40 S hK hD hW (vq_30_30 hv0) g12 rfl e15 dX8_doGoings_60 (fun H locs hW => ?_)
        refine lv_iinc (v := (1 : Int32)) (lv' := [(2, .int (1 : Int32)), (0, .ref (a (30, 0, 0))), (1, .int x1)]) hx hb dX8_doGoings_61 hl (k := 0) rfl (by decide) (by decide) rfl (fun ls hl => ?_)
        refine lv_goto (tgt := 25) hx hb dX8_doGoings_64 (by decide) ?_
        refine lv_iload_n hx hb dX8_doGoings_25 rfl (lv_at hl 0 rfl) ?_
        refine lv_iconst (v := (3 : Int32)) hx hb dX8_doGoings_26 (by decide) ?_
        refine lv_icmp_ge (tgt := 67) hx hb dX8_doGoings_27 (by decide) (fun c => absurd c (by decide)) (fun _ => ?_)
        refine lv_aload_n hx hb dX8_doGoings_30 rfl (lv_at hl 1 rfl) ?_
        refine gf_30_30 S hK hW hv0 q1015 dX8_doGoings_31 ?_
        refine lv_bipush (v := (80 : Int32)) hx hb dX8_doGoings_34 (by decide) ?_
        refine lv_bipush (v := (16 : Int32)) hx hb dX8_doGoings_36 (by decide) ?_
        refine lv_iload_n hx hb dX8_doGoings_38 rfl (lv_at hl 0 rfl) ?_
        refine lv_imul hx hb dX8_doGoings_39 ?_
        refine lv_nm (y := (16 : Int32)) (by decide) ?_
        refine lv_iadd hx hb dX8_doGoings_40 ?_
        refine lv_nm (y := (96 : Int32)) (by decide) ?_
        refine lv_iload_n hx hb dX8_doGoings_41 rfl (lv_at hl 2 rfl) ?_
        refine lv_iadd hx hb dX8_doGoings_42 ?_
        refine lv_dup2_11 hx hb dX8_doGoings_43 rfl rfl ?_
        obtain ⟨g16, h⟩ := og_e h
        refine ald_40 S hK hW (vq_30_30 hv0) g16 rfl dX8_doGoings_44 ?_
        refine lv_aload_n hx hb dX8_doGoings_45 rfl (lv_at hl 1 rfl) ?_
        refine gf_30_34 S hK hW hv0 q1019 dX8_doGoings_46 ?_
        refine lv_bipush (v := (16 : Int32)) hx hb dX8_doGoings_49 (by decide) ?_
        refine lv_bipush (v := (16 : Int32)) hx hb dX8_doGoings_51 (by decide) ?_
        refine lv_iload_n hx hb dX8_doGoings_53 rfl (lv_at hl 0 rfl) ?_
        refine lv_imul hx hb dX8_doGoings_54 ?_
        refine lv_nm (y := (16 : Int32)) (by decide) ?_
        refine lv_iadd hx hb dX8_doGoings_55 ?_
        refine lv_nm (y := (32 : Int32)) (by decide) ?_
        refine lv_iload_n hx hb dX8_doGoings_56 rfl (lv_at hl 2 rfl) ?_
        refine lv_iadd hx hb dX8_doGoings_57 ?_
        obtain ⟨g17, h⟩ := og_e h
        refine ald_44 S hK hW (vq_30_34 hv0) g17 rfl dX8_doGoings_58 ?_
        refine lv_iadd hx hb dX8_doGoings_59 ?_
        obtain ⟨F18, e19, h⟩ := pl_e h
        refine ast_40 S hK hD hW (vq_30_30 hv0) g16 rfl e19 dX8_doGoings_60 (fun H locs hW => ?_)
        refine lv_iinc (v := (2 : Int32)) (lv' := [(2, .int (2 : Int32)), (0, .ref (a (30, 0, 0))), (1, .int x1)]) hx hb dX8_doGoings_61 hl (k := 0) rfl (by decide) (by decide) rfl (fun ls hl => ?_)
        refine lv_goto (tgt := 25) hx hb dX8_doGoings_64 (by decide) ?_
        refine lv_iload_n hx hb dX8_doGoings_25 rfl (lv_at hl 0 rfl) ?_
        refine lv_iconst (v := (3 : Int32)) hx hb dX8_doGoings_26 (by decide) ?_
        refine lv_icmp_ge (tgt := 67) hx hb dX8_doGoings_27 (by decide) (fun c => absurd c (by decide)) (fun _ => ?_)
        refine lv_aload_n hx hb dX8_doGoings_30 rfl (lv_at hl 1 rfl) ?_
        refine gf_30_30 S hK hW hv0 q1015 dX8_doGoings_31 ?_
        refine lv_bipush (v := (80 : Int32)) hx hb dX8_doGoings_34 (by decide) ?_
        refine lv_bipush (v := (16 : Int32)) hx hb dX8_doGoings_36 (by decide) ?_
        refine lv_iload_n hx hb dX8_doGoings_38 rfl (lv_at hl 0 rfl) ?_
        refine lv_imul hx hb dX8_doGoings_39 ?_
        refine lv_nm (y := (32 : Int32)) (by decide) ?_
        refine lv_iadd hx hb dX8_doGoings_40 ?_
        refine lv_nm (y := (112 : Int32)) (by decide) ?_
        refine lv_iload_n hx hb dX8_doGoings_41 rfl (lv_at hl 2 rfl) ?_
        refine lv_iadd hx hb dX8_doGoings_42 ?_
        refine lv_dup2_11 hx hb dX8_doGoings_43 rfl rfl ?_
        obtain ⟨g20, h⟩ := og_e h
        refine ald_40 S hK hW (vq_30_30 hv0) g20 rfl dX8_doGoings_44 ?_
        refine lv_aload_n hx hb dX8_doGoings_45 rfl (lv_at hl 1 rfl) ?_
        refine gf_30_34 S hK hW hv0 q1019 dX8_doGoings_46 ?_
        refine lv_bipush (v := (16 : Int32)) hx hb dX8_doGoings_49 (by decide) ?_
        refine lv_bipush (v := (16 : Int32)) hx hb dX8_doGoings_51 (by decide) ?_
        refine lv_iload_n hx hb dX8_doGoings_53 rfl (lv_at hl 0 rfl) ?_
        refine lv_imul hx hb dX8_doGoings_54 ?_
        refine lv_nm (y := (32 : Int32)) (by decide) ?_
        refine lv_iadd hx hb dX8_doGoings_55 ?_
        refine lv_nm (y := (48 : Int32)) (by decide) ?_
        refine lv_iload_n hx hb dX8_doGoings_56 rfl (lv_at hl 2 rfl) ?_
        refine lv_iadd hx hb dX8_doGoings_57 ?_
        obtain ⟨g21, h⟩ := og_e h
        refine ald_44 S hK hW (vq_30_34 hv0) g21 rfl dX8_doGoings_58 ?_
        refine lv_iadd hx hb dX8_doGoings_59 ?_
        obtain ⟨F22, e23, h⟩ := pl_e h
        refine ast_40 S hK hD hW (vq_30_30 hv0) g20 rfl e23 dX8_doGoings_60 (fun H locs hW => ?_)
        refine lv_iinc (v := (3 : Int32)) (lv' := [(2, .int (3 : Int32)), (0, .ref (a (30, 0, 0))), (1, .int x1)]) hx hb dX8_doGoings_61 hl (k := 0) rfl (by decide) (by decide) rfl (fun ls hl => ?_)
        refine lv_goto (tgt := 25) hx hb dX8_doGoings_64 (by decide) ?_
        refine lv_iload_n hx hb dX8_doGoings_25 rfl (lv_at hl 0 rfl) ?_
        refine lv_iconst (v := (3 : Int32)) hx hb dX8_doGoings_26 (by decide) ?_
        refine lv_icmp_ge (tgt := 67) hx hb dX8_doGoings_27 (by decide) (fun _ => ?_) (fun c => absurd c (by decide))
        refine lv_iinc (v := (x1 + 1)) (lv' := [(1, .int (x1 + 1)), (2, .int (3 : Int32)), (0, .ref (a (30, 0, 0)))]) hx hb dX8_doGoings_67 hl (k := 2) rfl rfl (by decide) rfl (fun ls hl => ?_)
        refine lv_goto (tgt := 2) hx hb dX8_doGoings_70 (by decide) ?_
        exact ih _ _ _ _ h K5 H locs ls hW (lv_sub hl [2, 0] rfl)
  obtain ⟨F3, x4, hz24, h⟩ := ob2_e h
  refine L6 300 F (0 : Int32) F3 x4 hz24 (fun H locs ls hW hl => ?_) H locs ls hW (lv_sub hl [1, 0] rfl)
  cases h
  exact we_v S hr hlk hW dX8_doGoings_73
def fn_X8_looseOf (F : St) (p1 : Int32) (p2 : Int32) : Option (Int32) :=
  og (vpb p1 16) (pl ((((F 30 5 0 0) + ((F 30 4 0 0) * (F 30 6 0 0))) + (F 33 0 0 p1.toNatClampNeg)) + p2) (fun x2 => if (1 : Int32) ≤ x2 then if x2 ≤ (95 : Int32) then some x2 else some (95 : Int32) else some (1 : Int32)))
theorem yd_X8_looseOf : yX8_looseOf.cls = RX8 ∧ yX8_looseOf.cls ≠ "java/lang/invoke/MethodHandle" ∧ yX8_looseOf.cls ≠ "java/lang/invoke/VarHandle" ∧ (parseMethodDescriptor yX8_looseOf.desc).map (fun d => d.parameters.length) = some 2 := by decide +kernel
set_option maxHeartbeats 4000000 in
theorem met_X8_looseOf (l : Launch) {D : va_G} {dA : WK} {a : Ix → Nat} (hD : wD D dA a) {F : St} {p1 : Int32} {p2 : Int32} {rz : Int32} (hv0 : wVd dA (30, 0, 0)) (h : fn_X8_looseOf F p1 p2 = some rz) : Mi l yX8_looseOf cX8_looseOf 4 .int 0 0 D dA a F [.ref (a (30, 0, 0)), .int p1, .int p2] F rz := by
  refine fun sz => mst (Qc := fun sz => wQi D dA a sz F rz) (by decide) (Nat.le_of_ble_eq_true rfl) ?_ sz
  intro p e s m below meth c S hr hlk hK hW ls hl
  have hl : lv_has ls 4 [(0, .ref (a (30, 0, 0))), (1, .int p1), (2, .int p2)] := hl
  have hx := S.1
  have hb := S.2.1
  generalize ([.ref (a (30, 0, 0)), .int p1, .int p2] : List Value).toArray = av at S ⊢
  unfold fn_X8_looseOf at h
  obtain ⟨H, eH⟩ : ∃ z, z = s.heap := ⟨_, rfl⟩
  obtain ⟨locs, eL⟩ : ∃ z : List Loc, z = [] := ⟨_, rfl⟩
  show WX p l e (rmL 0 0) s m av below meth c (wQi D dA a s.heap.size F rz) dA a s.heap [] (F0 m 0 ls [])
  have hW : wS D dA a s F H locs := by rw [eH, eL]; exact wS_in hW
  refine wx_in eH eL ?_
  clear eH eL
  refine lv_aload_n hx hb dX8_looseOf_0 rfl (lv_at hl 0 rfl) ?_
  refine gf_30_5 S hK hW hv0 q990 dX8_looseOf_1 ?_
  refine lv_aload_n hx hb dX8_looseOf_4 rfl (lv_at hl 0 rfl) ?_
  refine gf_30_4 S hK hW hv0 q989 dX8_looseOf_5 ?_
  refine lv_aload_n hx hb dX8_looseOf_8 rfl (lv_at hl 0 rfl) ?_
  refine gf_30_6 S hK hW hv0 q991 dX8_looseOf_9 ?_
  refine lv_imul hx hb dX8_looseOf_12 ?_
  refine lv_iadd hx hb dX8_looseOf_13 ?_
  refine lv_aload_n hx hb dX8_looseOf_14 rfl (lv_at hl 0 rfl) ?_
  refine gf_30_7 S hK hW hv0 q992 dX8_looseOf_15 ?_
  refine lv_iload_n hx hb dX8_looseOf_18 rfl (lv_at hl 1 rfl) ?_
  obtain ⟨g1, h⟩ := og_e h
  refine ald_33 S hK hW (vq_30_7 hv0) g1 rfl dX8_looseOf_19 ?_
  refine lv_iadd hx hb dX8_looseOf_20 ?_
  refine lv_iload_n hx hb dX8_looseOf_21 rfl (lv_at hl 2 rfl) ?_
  refine lv_iadd hx hb dX8_looseOf_22 ?_
  obtain ⟨x2, e3, h⟩ := pl_e h
  refine lv_nm e3 ?_
  refine lv_istore_n (lv' := [(3, .int x2), (0, .ref (a (30, 0, 0))), (1, .int p1), (2, .int p2)]) hx hb dX8_looseOf_23 rfl hl (by decide) rfl (fun ls hl => ?_)
  refine lv_iload_n hx hb dX8_looseOf_24 rfl (lv_at hl 0 rfl) ?_
  refine lv_iconst (v := (1 : Int32)) hx hb dX8_looseOf_25 (by decide) ?_
  refine lv_icmp_ge (tgt := 33) hx hb dX8_looseOf_26 (by decide) (fun c4 => ?_) (fun c4 => ?_)
  · have h := if_t h c4
    refine lv_iload_n hx hb dX8_looseOf_33 rfl (lv_at hl 0 rfl) ?_
    refine lv_bipush (v := (95 : Int32)) hx hb dX8_looseOf_34 (by decide) ?_
    refine lv_icmp_le (tgt := 44) hx hb dX8_looseOf_36 (by decide) (fun c5 => ?_) (fun c5 => ?_)
    · have h := if_t h c5
      refine lv_iload_n hx hb dX8_looseOf_44 rfl (lv_at hl 0 rfl) ?_
      cases h
      exact we_i S hr hlk hW dX8_looseOf_45
    · have h := if_f h c5
      refine lv_bipush (v := (95 : Int32)) hx hb dX8_looseOf_39 (by decide) ?_
      refine lv_goto (tgt := 45) hx hb dX8_looseOf_41 (by decide) ?_
      cases h
      exact we_i S hr hlk hW dX8_looseOf_45
  · have h := if_f h c4
    refine lv_iconst (v := (1 : Int32)) hx hb dX8_looseOf_29 (by decide) ?_
    refine lv_goto (tgt := 45) hx hb dX8_looseOf_30 (by decide) ?_
    cases h
    exact we_i S hr hlk hW dX8_looseOf_45
/-loop lp_X8_goTick_2-/
def lp_X8_goTick_2 : Nat → St → Int32 → Option (St × Int32)
  | 0, _, _ => none
  | n + 1, F2, x1 => if (F2 30 12 0 0) ≤ x1 then some (F2, x1) else og (vpb x1 12) (og (vpb (F2 35 0 0 x1.toNatClampNeg) 138) (ob (if (F2 34 0 0 x1.toNatClampNeg) = (F2 40 0 0 132) then some (F2 36 0 0 x1.toNatClampNeg) else some (0 : Int32)) (fun y12 => pl (fu F2 40 0 0 (F2 35 0 0 x1.toNatClampNeg).toNatClampNeg ((F2 40 0 0 (F2 35 0 0 x1.toNatClampNeg).toNatClampNeg) + y12)) (fun F14 => lp_X8_goTick_2 n F14 (x1 + 1)))))
theorem lp_X8_goTick_2_s {n : Nat} {F2 : St} {x1 : Int32} : lp_X8_goTick_2 (n + 1) F2 x1 = if (F2 30 12 0 0) ≤ x1 then some (F2, x1) else og (vpb x1 12) (og (vpb (F2 35 0 0 x1.toNatClampNeg) 138) (ob (if (F2 34 0 0 x1.toNatClampNeg) = (F2 40 0 0 132) then some (F2 36 0 0 x1.toNatClampNeg) else some (0 : Int32)) (fun y12 => pl (fu F2 40 0 0 (F2 35 0 0 x1.toNatClampNeg).toNatClampNeg ((F2 40 0 0 (F2 35 0 0 x1.toNatClampNeg).toNatClampNeg) + y12)) (fun F14 => lp_X8_goTick_2 n F14 (x1 + 1))))) := rfl
/-loop lp_X8_goTick_59-/
def lp_X8_goTick_59 : Nat → St → Int32 → Option (St × Int32)
  | 0, _, _ => none
  | n + 1, F18, x17 => if (16 : Int32) ≤ x17 then some (F18, x17) else ob (fn_X8_isCell F18 x17) (fun r24 => ob (if r24 = 0 then some F18 else ob (fn_X8_give F18 x17) (fun F30 => some F30)) (fun F28 => lp_X8_goTick_59 n F28 (x17 + 1)))
theorem lp_X8_goTick_59_s {n : Nat} {F18 : St} {x17 : Int32} : lp_X8_goTick_59 (n + 1) F18 x17 = if (16 : Int32) ≤ x17 then some (F18, x17) else ob (fn_X8_isCell F18 x17) (fun r24 => ob (if r24 = 0 then some F18 else ob (fn_X8_give F18 x17) (fun F30 => some F30)) (fun F28 => lp_X8_goTick_59 n F28 (x17 + 1))) := rfl
/-loop lp_X8_goTick_90-/
def lp_X8_goTick_90 : Nat → St → Int32 → Option (St × Int32)
  | 0, _, _ => none
  | n + 1, F36, x35 => if (16 : Int32) ≤ x35 then some (F36, x35) else ob (fn_X8_isCell F36 x35) (fun r42 => ob (if r42 = 0 then some F36 else ob (if (x35 - x35 / (4 : Int32) * (4 : Int32)) ≤ 0 then some F36 else ob (fn_X8_goSide F36 x35 (x35 - (1 : Int32))) (fun F52 => some F52)) (fun F50 => if (3 : Int32) ≤ (x35 - x35 / (4 : Int32) * (4 : Int32)) then some F50 else ob (fn_X8_goSide F50 x35 (x35 + (1 : Int32))) (fun F55 => some F55))) (fun F46 => lp_X8_goTick_90 n F46 (x35 + 1)))
theorem lp_X8_goTick_90_s {n : Nat} {F36 : St} {x35 : Int32} : lp_X8_goTick_90 (n + 1) F36 x35 = if (16 : Int32) ≤ x35 then some (F36, x35) else ob (fn_X8_isCell F36 x35) (fun r42 => ob (if r42 = 0 then some F36 else ob (if (x35 - x35 / (4 : Int32) * (4 : Int32)) ≤ 0 then some F36 else ob (fn_X8_goSide F36 x35 (x35 - (1 : Int32))) (fun F52 => some F52)) (fun F50 => if (3 : Int32) ≤ (x35 - x35 / (4 : Int32) * (4 : Int32)) then some F50 else ob (fn_X8_goSide F50 x35 (x35 + (1 : Int32))) (fun F55 => some F55))) (fun F46 => lp_X8_goTick_90 n F46 (x35 + 1))) := rfl
/-loop lp_X8_goTick_149-/
def lp_X8_goTick_149 : Nat → St → Int32 → Option (St × Int32)
  | 0, _, _ => none
  | n + 1, F63, x62 => if (16 : Int32) ≤ x62 then some (F63, x62) else ob (fn_X8_isCell F63 x62) (fun r69 => ob (if r69 = 0 then some F63 else og (vpb x62 138) (og (vpb ((16 : Int32) + x62) 138) (ob (fn_X8_looseOf F63 x62 (F63 40 0 0 ((16 : Int32) + x62).toNatClampNeg)) (fun r77 => pl (((F63 40 0 0 x62.toNatClampNeg) * r77) / (100 : Int32)) (fun x79 => ob (if (x62 / (4 : Int32)) = ((F63 30 1 0 0) - (1 : Int32)) then some (-1 : Int32) else some (x62 + (4 : Int32))) (fun y83 => ob (fn_X8_goes F63 x62 y83 x79) (fun F85 => ob (if (F85 30 9 0 0) ≤ 0 then some (0 : Int32) else if x79 ≤ (F85 30 9 0 0) then some (0 : Int32) else some (1 : Int32)) (fun y89 => pl (fu F85 40 0 0 ((16 : Int32) + x62).toNatClampNeg ((F85 40 0 0 ((16 : Int32) + x62).toNatClampNeg) + y89)) (fun F92 => some F92))))))))) (fun F73 => lp_X8_goTick_149 n F73 (x62 + 1)))
theorem lp_X8_goTick_149_s {n : Nat} {F63 : St} {x62 : Int32} : lp_X8_goTick_149 (n + 1) F63 x62 = if (16 : Int32) ≤ x62 then some (F63, x62) else ob (fn_X8_isCell F63 x62) (fun r69 => ob (if r69 = 0 then some F63 else og (vpb x62 138) (og (vpb ((16 : Int32) + x62) 138) (ob (fn_X8_looseOf F63 x62 (F63 40 0 0 ((16 : Int32) + x62).toNatClampNeg)) (fun r77 => pl (((F63 40 0 0 x62.toNatClampNeg) * r77) / (100 : Int32)) (fun x79 => ob (if (x62 / (4 : Int32)) = ((F63 30 1 0 0) - (1 : Int32)) then some (-1 : Int32) else some (x62 + (4 : Int32))) (fun y83 => ob (fn_X8_goes F63 x62 y83 x79) (fun F85 => ob (if (F85 30 9 0 0) ≤ 0 then some (0 : Int32) else if x79 ≤ (F85 30 9 0 0) then some (0 : Int32) else some (1 : Int32)) (fun y89 => pl (fu F85 40 0 0 ((16 : Int32) + x62).toNatClampNeg ((F85 40 0 0 ((16 : Int32) + x62).toNatClampNeg) + y89)) (fun F92 => some F92))))))))) (fun F73 => lp_X8_goTick_149 n F73 (x62 + 1))) := rfl
def fn_X8_goTick (F : St) : Option (St) :=
  ob2 (lp_X8_goTick_2 300 F (0 : Int32)) (fun F3 x4 => ob2 (lp_X8_goTick_59 300 F3 (0 : Int32)) (fun F19 x20 => ob (fn_X8_clearGoings F19) (fun F33 => ob2 (lp_X8_goTick_90 300 F33 (0 : Int32)) (fun F37 x38 => ob (fn_X8_doGoings F37) (fun F58 => ob (fn_X8_clearGoings F58) (fun F60 => ob2 (lp_X8_goTick_149 300 F60 (0 : Int32)) (fun F64 x65 => ob (fn_X8_doGoings F64) (fun F95 => pl (fu F95 40 0 0 132 ((F95 40 0 0 132) + (1 : Int32))) (fun F97 => some F97)))))))))
theorem yd_X8_goTick : yX8_goTick.cls = RX8 ∧ yX8_goTick.cls ≠ "java/lang/invoke/MethodHandle" ∧ yX8_goTick.cls ≠ "java/lang/invoke/VarHandle" ∧ (parseMethodDescriptor yX8_goTick.desc).map (fun d => d.parameters.length) = some 0 := by decide +kernel
set_option maxHeartbeats 4000000 in
theorem met_X8_goTick (l : Launch) {D : va_G} {dA : WK} {a : Ix → Nat} (hD : wD D dA a) {F : St} {Fz : St} (hv0 : wVd dA (30, 0, 0)) (h : fn_X8_goTick F = some Fz) : Mv l yX8_goTick cX8_goTick 3 2 47 D dA a F [.ref (a (30, 0, 0))] Fz := by
  refine fun sz => mst (Qc := fun sz => wQv D dA a sz Fz) (by decide) (Nat.le_of_ble_eq_true rfl) ?_ sz
  intro p e s m below meth c S hr hlk hK hW ls hl
  have hl : lv_has ls 3 [(0, .ref (a (30, 0, 0)))] := hl
  have hx := S.1
  have hb := S.2.1
  generalize ([.ref (a (30, 0, 0))] : List Value).toArray = av at S ⊢
  unfold fn_X8_goTick at h
  obtain ⟨H, eH⟩ : ∃ z, z = s.heap := ⟨_, rfl⟩
  obtain ⟨locs, eL⟩ : ∃ z : List Loc, z = [] := ⟨_, rfl⟩
  show WX p l e (rmL 2 47) s m av below meth c (wQv D dA a s.heap.size Fz) dA a s.heap [] (F0 m 0 ls [])
  have hW : wS D dA a s F H locs := by rw [eH, eL]; exact wS_in hW
  refine wx_in eH eL ?_
  clear eH eL
  refine lv_iconst (v := (0 : Int32)) hx hb dX8_goTick_0 (by decide) ?_
  refine lv_istore_n (lv' := [(1, .int (0 : Int32)), (0, .ref (a (30, 0, 0)))]) hx hb dX8_goTick_1 rfl hl (by decide) rfl (fun ls hl => ?_)
  have L6 : ∀ (n : Nat) (F2 : St) (x1 : Int32) (F3 : St) (x4 : Int32), lp_X8_goTick_2 n F2 x1 = some (F3, x4) → (∀ (H : Heap) (locs : List Loc) (ls : Array Slot), wS D dA a s F3 H locs → lv_has ls 3 [(0, .ref (a (30, 0, 0)))] → WX p l e (rmL 2 47) s m av below meth c (wQv D dA a s.heap.size Fz) dA a H locs (F0 m 57 ls [])) → ∀ (H : Heap) (locs : List Loc) (ls : Array Slot), wS D dA a s F2 H locs → lv_has ls 3 [(0, .ref (a (30, 0, 0))), (1, .int x1)] → WX p l e (rmL 2 47) s m av below meth c (wQv D dA a s.heap.size Fz) dA a H locs (F0 m 2 ls []) := by
    intro n
    induction n with
    | zero =>
      intro F2 x1 F3 x4 h
      exact absurd (show (none : Option (St × Int32)) = some (F3, x4) from h) (by simp)
    | succ n ih =>
      intro F2 x1 F3 x4 h K5 H locs ls hW hl
      have h := lp_X8_goTick_2_s.symm.trans h
      refine lv_iload_n hx hb dX8_goTick_2 rfl (lv_at hl 1 rfl) ?_
      refine lv_aload_n hx hb dX8_goTick_3 rfl (lv_at hl 0 rfl) ?_
      refine gf_30_12 S hK hW hv0 q997 dX8_goTick_4 ?_
      refine lv_icmp_ge (tgt := 57) hx hb dX8_goTick_7 (by decide) (fun c7 => ?_) (fun c7 => ?_)
      · have h := if_t h c7
        cases h
        exact K5 H locs ls hW (lv_sub hl [0] rfl)
      · have h := if_f h c7
        refine lv_aload_n hx hb dX8_goTick_10 rfl (lv_at hl 0 rfl) ?_
        refine gf_30_30 S hK hW hv0 q1015 dX8_goTick_11 ?_
        refine lv_aload_n hx hb dX8_goTick_14 rfl (lv_at hl 0 rfl) ?_
        refine gf_30_14 S hK hW hv0 q999 dX8_goTick_15 ?_
        refine lv_iload_n hx hb dX8_goTick_18 rfl (lv_at hl 1 rfl) ?_
        obtain ⟨g8, h⟩ := og_e h
        refine ald_35 S hK hW (vq_30_14 hv0) g8 rfl dX8_goTick_19 ?_
        refine lv_dup2_11 hx hb dX8_goTick_20 rfl rfl ?_
        obtain ⟨g9, h⟩ := og_e h
        refine ald_40 S hK hW (vq_30_30 hv0) g9 rfl dX8_goTick_21 ?_
        refine lv_aload_n hx hb dX8_goTick_22 rfl (lv_at hl 0 rfl) ?_
        refine gf_30_13 S hK hW hv0 q998 dX8_goTick_23 ?_
        refine lv_iload_n hx hb dX8_goTick_26 rfl (lv_at hl 1 rfl) ?_
        refine ald_34 S hK hW (vq_30_13 hv0) g8 rfl dX8_goTick_27 ?_
        refine lv_aload_n hx hb dX8_goTick_28 rfl (lv_at hl 0 rfl) ?_
        refine gf_30_30 S hK hW hv0 q1015 dX8_goTick_29 ?_
        refine lv_sipush (v := (132 : Int32)) hx hb dX8_goTick_32 (by decide) ?_
        refine ald_40 (z := 132) S hK hW (vq_30_30 hv0) (by decide) (by decide) dX8_goTick_35 ?_
        obtain ⟨y12, hz11, h⟩ := ob_e h
        have K13 : ∀ (H : Heap) (locs : List Loc) (ls : Array Slot), wS D dA a s F2 H locs → lv_has ls 3 [(0, .ref (a (30, 0, 0))), (1, .int x1)] → WX p l e (rmL 2 47) s m av below meth c (wQv D dA a s.heap.size Fz) dA a H locs (F0 m 49 ls [.int y12, .int (F2 40 0 0 (F2 35 0 0 x1.toNatClampNeg).toNatClampNeg), .int (F2 35 0 0 x1.toNatClampNeg), .ref (a (40, 0, 0))]) := by
          intro H locs ls hW hl
          refine lv_iadd hx hb dX8_goTick_49 ?_
          obtain ⟨F14, e15, h⟩ := pl_e h
          refine ast_40 S hK hD hW (vq_30_30 hv0) g9 rfl e15 dX8_goTick_50 (fun H locs hW => ?_)
          refine lv_iinc (v := (x1 + 1)) (lv' := [(1, .int (x1 + 1)), (0, .ref (a (30, 0, 0)))]) hx hb dX8_goTick_51 hl (k := 1) rfl rfl (by decide) rfl (fun ls hl => ?_)
          refine lv_goto (tgt := 2) hx hb dX8_goTick_54 (by decide) ?_
          exact ih _ _ _ _ h K5 H locs ls hW (lv_sub hl [1, 0] rfl)
        clear h
        refine lv_icmp_ne (tgt := 48) hx hb dX8_goTick_36 (by decide) (fun c10 => ?_) (fun c10 => ?_)
        · have h := if_f hz11 c10
          refine lv_iconst (v := (0 : Int32)) hx hb dX8_goTick_48 (by decide) ?_
          cases h
          exact K13 H locs ls hW (lv_sub hl [0, 1] rfl)
        · have h := if_t hz11 c10
          refine lv_aload_n hx hb dX8_goTick_39 rfl (lv_at hl 0 rfl) ?_
          refine gf_30_15 S hK hW hv0 q1000 dX8_goTick_40 ?_
          refine lv_iload_n hx hb dX8_goTick_43 rfl (lv_at hl 1 rfl) ?_
          refine ald_36 S hK hW (vq_30_15 hv0) g8 rfl dX8_goTick_44 ?_
          refine lv_goto (tgt := 49) hx hb dX8_goTick_45 (by decide) ?_
          cases h
          exact K13 H locs ls hW (lv_sub hl [0, 1] rfl)
  obtain ⟨F3, x4, hz16, h⟩ := ob2_e h
  refine L6 300 F (0 : Int32) F3 x4 hz16 (fun H locs ls hW hl => ?_) H locs ls hW (lv_sub hl [1, 0] rfl)
  refine lv_iconst (v := (0 : Int32)) hx hb dX8_goTick_57 (by decide) ?_
  refine lv_istore_n (lv' := [(1, .int (0 : Int32)), (0, .ref (a (30, 0, 0)))]) hx hb dX8_goTick_58 rfl hl (by decide) rfl (fun ls hl => ?_)
  have L22 : ∀ (n : Nat) (F18 : St) (x17 : Int32) (F19 : St) (x20 : Int32), lp_X8_goTick_59 n F18 x17 = some (F19, x20) → (∀ (H : Heap) (locs : List Loc) (ls : Array Slot), wS D dA a s F19 H locs → lv_has ls 3 [(0, .ref (a (30, 0, 0)))] → WX p l e (rmL 2 47) s m av below meth c (wQv D dA a s.heap.size Fz) dA a H locs (F0 m 84 ls [])) → ∀ (H : Heap) (locs : List Loc) (ls : Array Slot), wS D dA a s F18 H locs → lv_has ls 3 [(0, .ref (a (30, 0, 0))), (1, .int x17)] → WX p l e (rmL 2 47) s m av below meth c (wQv D dA a s.heap.size Fz) dA a H locs (F0 m 59 ls []) := by
    intro n
    induction n with
    | zero =>
      intro F18 x17 F19 x20 h
      exact absurd (show (none : Option (St × Int32)) = some (F19, x20) from h) (by simp)
    | succ n ih =>
      intro F18 x17 F19 x20 h K21 H locs ls hW hl
      have h := lp_X8_goTick_59_s.symm.trans h
      refine lv_iload_n hx hb dX8_goTick_59 rfl (lv_at hl 1 rfl) ?_
      refine lv_bipush (v := (16 : Int32)) hx hb dX8_goTick_60 (by decide) ?_
      refine lv_icmp_ge (tgt := 84) hx hb dX8_goTick_62 (by decide) (fun c23 => ?_) (fun c23 => ?_)
      · have h := if_t h c23
        cases h
        exact K21 H locs ls hW (lv_sub hl [0] rfl)
      · have h := if_f h c23
        refine lv_aload_n hx hb dX8_goTick_65 rfl (lv_at hl 0 rfl) ?_
        refine lv_iload_n hx hb dX8_goTick_66 rfl (lv_at hl 1 rfl) ?_
        obtain ⟨r24, hc25, h⟩ := ob_e h
        refine wk_i (va_runV (As := [.int x17]) (rest := []) S (met_X8_isCell l hD hv0 hc25 H.size) (cwV 1 S.2.2.2.2 (lw_V q981 q983 qs23 q63 q984) rfl rfl rfl yd_X8_isCell ⟨Nat.le_of_ble_eq_true rfl, Nat.le_of_ble_eq_true rfl⟩) (wpreV hK hW hv0 rfl rfl _) rfl rfl hl.1 rfl (lv_room (Nat.le_of_ble_eq_true rfl)) dX8_goTick_67 ⟨Nat.le_refl 0, Nat.le_refl 0⟩) hW (fun H locs hW => ?_)
        obtain ⟨F28, hz27, h⟩ := ob_e h
        have K29 : ∀ (H : Heap) (locs : List Loc) (ls : Array Slot), wS D dA a s F28 H locs → lv_has ls 3 [(0, .ref (a (30, 0, 0))), (1, .int x17)] → WX p l e (rmL 2 47) s m av below meth c (wQv D dA a s.heap.size Fz) dA a H locs (F0 m 78 ls []) := by
          intro H locs ls hW hl
          refine lv_iinc (v := (x17 + 1)) (lv' := [(1, .int (x17 + 1)), (0, .ref (a (30, 0, 0)))]) hx hb dX8_goTick_78 hl (k := 1) rfl rfl (by decide) rfl (fun ls hl => ?_)
          refine lv_goto (tgt := 59) hx hb dX8_goTick_81 (by decide) ?_
          exact ih _ _ _ _ h K21 H locs ls hW (lv_sub hl [1, 0] rfl)
        clear h
        refine lv_if_eq (tgt := 78) hx hb dX8_goTick_70 (by decide) (fun c26 => ?_) (fun c26 => ?_)
        · have h := if_t hz27 c26
          cases h
          exact K29 H locs ls hW (lv_sub hl [0, 1] rfl)
        · have h := if_f hz27 c26
          refine lv_aload_n hx hb dX8_goTick_73 rfl (lv_at hl 0 rfl) ?_
          refine lv_iload_n hx hb dX8_goTick_74 rfl (lv_at hl 1 rfl) ?_
          obtain ⟨F30, hc31, h⟩ := ob_e h
          refine wk_v (va_runV (As := [.int x17]) (rest := []) S (met_X8_give l hD hv0 hc31 H.size) (cwV 1 S.2.2.2.2 (lw_V q1218 q1220 qs37 q63 q1221) rfl rfl rfl yd_X8_give ⟨Nat.le_of_ble_eq_true rfl, Nat.le_of_ble_eq_true rfl⟩) (wpreV hK hW hv0 rfl rfl _) rfl rfl hl.1 rfl (lv_room (Nat.le_of_ble_eq_true rfl)) dX8_goTick_75 ⟨Nat.le_refl 0, Nat.le_refl 0⟩) hW (fun H locs hW => ?_)
          cases h
          exact K29 H locs ls hW (lv_sub hl [0, 1] rfl)
  obtain ⟨F19, x20, hz32, h⟩ := ob2_e h
  refine L22 300 F3 (0 : Int32) F19 x20 hz32 (fun H locs ls hW hl => ?_) H locs ls hW (lv_sub hl [1, 0] rfl)
  refine lv_aload_n hx hb dX8_goTick_84 rfl (lv_at hl 0 rfl) ?_
  obtain ⟨F33, hc34, h⟩ := ob_e h
  refine wk_v (va_runV (As := []) (rest := []) S (met_X8_clearGoings l hD hv0 hc34 H.size) (cwV 0 S.2.2.2.2 (lw_V q1223 q1225 qs38 q63 q1226) rfl rfl rfl yd_X8_clearGoings ⟨Nat.le_of_ble_eq_true rfl, Nat.le_of_ble_eq_true rfl⟩) (wpreV hK hW hv0 rfl rfl _) rfl rfl hl.1 rfl (lv_room (Nat.le_of_ble_eq_true rfl)) dX8_goTick_85 ⟨Nat.le_refl 0, Nat.le_refl 0⟩) hW (fun H locs hW => ?_)
  refine lv_iconst (v := (0 : Int32)) hx hb dX8_goTick_88 (by decide) ?_
  refine lv_istore_n (lv' := [(1, .int (0 : Int32)), (0, .ref (a (30, 0, 0)))]) hx hb dX8_goTick_89 rfl hl (by decide) rfl (fun ls hl => ?_)
  have L40 : ∀ (n : Nat) (F36 : St) (x35 : Int32) (F37 : St) (x38 : Int32), lp_X8_goTick_90 n F36 x35 = some (F37, x38) → (∀ (H : Heap) (locs : List Loc) (ls : Array Slot), wS D dA a s F37 H locs → lv_has ls 3 [(0, .ref (a (30, 0, 0)))] → WX p l e (rmL 2 47) s m av below meth c (wQv D dA a s.heap.size Fz) dA a H locs (F0 m 139 ls [])) → ∀ (H : Heap) (locs : List Loc) (ls : Array Slot), wS D dA a s F36 H locs → lv_has ls 3 [(0, .ref (a (30, 0, 0))), (1, .int x35)] → WX p l e (rmL 2 47) s m av below meth c (wQv D dA a s.heap.size Fz) dA a H locs (F0 m 90 ls []) := by
    intro n
    induction n with
    | zero =>
      intro F36 x35 F37 x38 h
      exact absurd (show (none : Option (St × Int32)) = some (F37, x38) from h) (by simp)
    | succ n ih =>
      intro F36 x35 F37 x38 h K39 H locs ls hW hl
      have h := lp_X8_goTick_90_s.symm.trans h
      refine lv_iload_n hx hb dX8_goTick_90 rfl (lv_at hl 1 rfl) ?_
      refine lv_bipush (v := (16 : Int32)) hx hb dX8_goTick_91 (by decide) ?_
      refine lv_icmp_ge (tgt := 139) hx hb dX8_goTick_93 (by decide) (fun c41 => ?_) (fun c41 => ?_)
      · have h := if_t h c41
        cases h
        exact K39 H locs ls hW (lv_sub hl [0] rfl)
      · have h := if_f h c41
        refine lv_aload_n hx hb dX8_goTick_96 rfl (lv_at hl 0 rfl) ?_
        refine lv_iload_n hx hb dX8_goTick_97 rfl (lv_at hl 1 rfl) ?_
        obtain ⟨r42, hc43, h⟩ := ob_e h
        refine wk_i (va_runV (As := [.int x35]) (rest := []) S (met_X8_isCell l hD hv0 hc43 H.size) (cwV 1 S.2.2.2.2 (lw_V q981 q983 qs23 q63 q984) rfl rfl rfl yd_X8_isCell ⟨Nat.le_of_ble_eq_true rfl, Nat.le_of_ble_eq_true rfl⟩) (wpreV hK hW hv0 rfl rfl _) rfl rfl hl.1 rfl (lv_room (Nat.le_of_ble_eq_true rfl)) dX8_goTick_98 ⟨Nat.le_refl 0, Nat.le_refl 0⟩) hW (fun H locs hW => ?_)
        obtain ⟨F46, hz45, h⟩ := ob_e h
        have K47 : ∀ (H : Heap) (locs : List Loc) (ls : Array Slot), wS D dA a s F46 H locs → lv_has ls 3 [(0, .ref (a (30, 0, 0))), (1, .int x35)] → WX p l e (rmL 2 47) s m av below meth c (wQv D dA a s.heap.size Fz) dA a H locs (F0 m 133 ls []) := by
          intro H locs ls hW hl
          refine lv_iinc (v := (x35 + 1)) (lv' := [(1, .int (x35 + 1)), (0, .ref (a (30, 0, 0)))]) hx hb dX8_goTick_133 hl (k := 1) rfl rfl (by decide) rfl (fun ls hl => ?_)
          refine lv_goto (tgt := 90) hx hb dX8_goTick_136 (by decide) ?_
          exact ih _ _ _ _ h K39 H locs ls hW (lv_sub hl [1, 0] rfl)
        clear h
        refine lv_if_eq (tgt := 133) hx hb dX8_goTick_101 (by decide) (fun c44 => ?_) (fun c44 => ?_)
        · have h := if_t hz45 c44
          cases h
          exact K47 H locs ls hW (lv_sub hl [0, 1] rfl)
        · have h := if_f hz45 c44
          refine lv_iload_n hx hb dX8_goTick_104 rfl (lv_at hl 1 rfl) ?_
          refine lv_iconst (v := (4 : Int32)) hx hb dX8_goTick_105 (by decide) ?_
          refine lv_irem hx hb dX8_goTick_106 (by decide) ?_
          obtain ⟨F50, hz49, h⟩ := ob_e h
          have K51 : ∀ (H : Heap) (locs : List Loc) (ls : Array Slot), wS D dA a s F50 H locs → lv_has ls 3 [(0, .ref (a (30, 0, 0))), (1, .int x35)] → WX p l e (rmL 2 47) s m av below meth c (wQv D dA a s.heap.size Fz) dA a H locs (F0 m 118 ls []) := by
            intro H locs ls hW hl
            refine lv_iload_n hx hb dX8_goTick_118 rfl (lv_at hl 1 rfl) ?_
            refine lv_iconst (v := (4 : Int32)) hx hb dX8_goTick_119 (by decide) ?_
            refine lv_irem hx hb dX8_goTick_120 (by decide) ?_
            refine lv_iconst (v := (3 : Int32)) hx hb dX8_goTick_121 (by decide) ?_
            refine lv_icmp_ge (tgt := 133) hx hb dX8_goTick_122 (by decide) (fun c54 => ?_) (fun c54 => ?_)
            · have h := if_t h c54
              cases h
              exact K47 H locs ls hW (lv_sub hl [0, 1] rfl)
            · have h := if_f h c54
              refine lv_aload_n hx hb dX8_goTick_125 rfl (lv_at hl 0 rfl) ?_
              refine lv_iload_n hx hb dX8_goTick_126 rfl (lv_at hl 1 rfl) ?_
              refine lv_iload_n hx hb dX8_goTick_127 rfl (lv_at hl 1 rfl) ?_
              refine lv_iconst (v := (1 : Int32)) hx hb dX8_goTick_128 (by decide) ?_
              refine lv_iadd hx hb dX8_goTick_129 ?_
              obtain ⟨F55, hc56, h⟩ := ob_e h
              refine wk_v (va_runV (As := [.int x35, .int (x35 + (1 : Int32))]) (rest := []) S (met_X8_goSide l hD hv0 hc56 H.size) (cwV 2 S.2.2.2.2 (lw_V q1227 q1229 qs39 q63 q1230) rfl rfl rfl yd_X8_goSide ⟨Nat.le_of_ble_eq_true rfl, Nat.le_of_ble_eq_true rfl⟩) (wpreV hK hW hv0 rfl rfl _) rfl rfl hl.1 rfl (lv_room (Nat.le_of_ble_eq_true rfl)) dX8_goTick_130 ⟨Nat.le_refl 0, Nat.le_refl 0⟩) hW (fun H locs hW => ?_)
              cases h
              exact K47 H locs ls hW (lv_sub hl [0, 1] rfl)
          clear h
          refine lv_if_le (tgt := 118) hx hb dX8_goTick_107 (by decide) (fun c48 => ?_) (fun c48 => ?_)
          · have h := if_t hz49 c48
            cases h
            exact K51 H locs ls hW (lv_sub hl [0, 1] rfl)
          · have h := if_f hz49 c48
            refine lv_aload_n hx hb dX8_goTick_110 rfl (lv_at hl 0 rfl) ?_
            refine lv_iload_n hx hb dX8_goTick_111 rfl (lv_at hl 1 rfl) ?_
            refine lv_iload_n hx hb dX8_goTick_112 rfl (lv_at hl 1 rfl) ?_
            refine lv_iconst (v := (1 : Int32)) hx hb dX8_goTick_113 (by decide) ?_
            refine lv_isub hx hb dX8_goTick_114 ?_
            obtain ⟨F52, hc53, h⟩ := ob_e h
            refine wk_v (va_runV (As := [.int x35, .int (x35 - (1 : Int32))]) (rest := []) S (met_X8_goSide l hD hv0 hc53 H.size) (cwV 2 S.2.2.2.2 (lw_V q1227 q1229 qs39 q63 q1230) rfl rfl rfl yd_X8_goSide ⟨Nat.le_of_ble_eq_true rfl, Nat.le_of_ble_eq_true rfl⟩) (wpreV hK hW hv0 rfl rfl _) rfl rfl hl.1 rfl (lv_room (Nat.le_of_ble_eq_true rfl)) dX8_goTick_115 ⟨Nat.le_refl 0, Nat.le_refl 0⟩) hW (fun H locs hW => ?_)
            cases h
            exact K51 H locs ls hW (lv_sub hl [0, 1] rfl)
  obtain ⟨F37, x38, hz57, h⟩ := ob2_e h
  refine L40 300 F33 (0 : Int32) F37 x38 hz57 (fun H locs ls hW hl => ?_) H locs ls hW (lv_sub hl [1, 0] rfl)
  refine lv_aload_n hx hb dX8_goTick_139 rfl (lv_at hl 0 rfl) ?_
  obtain ⟨F58, hc59, h⟩ := ob_e h
  refine wk_v (va_runV (As := []) (rest := []) S (met_X8_doGoings l hD hv0 hc59 H.size) (cwV 0 S.2.2.2.2 (lw_V q1235 q1237 qs41 q63 q1238) rfl rfl rfl yd_X8_doGoings ⟨Nat.le_of_ble_eq_true rfl, Nat.le_of_ble_eq_true rfl⟩) (wpreV hK hW hv0 rfl rfl _) rfl rfl hl.1 rfl (lv_room (Nat.le_of_ble_eq_true rfl)) dX8_goTick_140 ⟨Nat.le_refl 0, Nat.le_refl 0⟩) hW (fun H locs hW => ?_)
  refine lv_aload_n hx hb dX8_goTick_143 rfl (lv_at hl 0 rfl) ?_
  obtain ⟨F60, hc61, h⟩ := ob_e h
  refine wk_v (va_runV (As := []) (rest := []) S (met_X8_clearGoings l hD hv0 hc61 H.size) (cwV 0 S.2.2.2.2 (lw_V q1223 q1225 qs38 q63 q1226) rfl rfl rfl yd_X8_clearGoings ⟨Nat.le_of_ble_eq_true rfl, Nat.le_of_ble_eq_true rfl⟩) (wpreV hK hW hv0 rfl rfl _) rfl rfl hl.1 rfl (lv_room (Nat.le_of_ble_eq_true rfl)) dX8_goTick_144 ⟨Nat.le_refl 0, Nat.le_refl 0⟩) hW (fun H locs hW => ?_)
  refine lv_iconst (v := (0 : Int32)) hx hb dX8_goTick_147 (by decide) ?_
  refine lv_istore_n (lv' := [(1, .int (0 : Int32)), (0, .ref (a (30, 0, 0)))]) hx hb dX8_goTick_148 rfl hl (by decide) rfl (fun ls hl => ?_)
  have L67 : ∀ (n : Nat) (F63 : St) (x62 : Int32) (F64 : St) (x65 : Int32), lp_X8_goTick_149 n F63 x62 = some (F64, x65) → (∀ (H : Heap) (locs : List Loc) (ls : Array Slot), wS D dA a s F64 H locs → lv_has ls 3 [(0, .ref (a (30, 0, 0)))] → WX p l e (rmL 2 47) s m av below meth c (wQv D dA a s.heap.size Fz) dA a H locs (F0 m 251 ls [])) → ∀ (H : Heap) (locs : List Loc) (ls : Array Slot), wS D dA a s F63 H locs → lv_has ls 3 [(0, .ref (a (30, 0, 0))), (1, .int x62)] → WX p l e (rmL 2 47) s m av below meth c (wQv D dA a s.heap.size Fz) dA a H locs (F0 m 149 ls []) := by
    intro n
    induction n with
    | zero =>
      intro F63 x62 F64 x65 h
      exact absurd (show (none : Option (St × Int32)) = some (F64, x65) from h) (by simp)
    | succ n ih =>
      intro F63 x62 F64 x65 h K66 H locs ls hW hl
      have h := lp_X8_goTick_149_s.symm.trans h
      refine lv_iload_n hx hb dX8_goTick_149 rfl (lv_at hl 1 rfl) ?_
      refine lv_bipush (v := (16 : Int32)) hx hb dX8_goTick_150 (by decide) ?_
      refine lv_icmp_ge (tgt := 251) hx hb dX8_goTick_152 (by decide) (fun c68 => ?_) (fun c68 => ?_)
      · have h := if_t h c68
        cases h
        exact K66 H locs ls hW (lv_sub hl [0] rfl)
      · have h := if_f h c68
        refine lv_aload_n hx hb dX8_goTick_155 rfl (lv_at hl 0 rfl) ?_
        refine lv_iload_n hx hb dX8_goTick_156 rfl (lv_at hl 1 rfl) ?_
        obtain ⟨r69, hc70, h⟩ := ob_e h
        refine wk_i (va_runV (As := [.int x62]) (rest := []) S (met_X8_isCell l hD hv0 hc70 H.size) (cwV 1 S.2.2.2.2 (lw_V q981 q983 qs23 q63 q984) rfl rfl rfl yd_X8_isCell ⟨Nat.le_of_ble_eq_true rfl, Nat.le_of_ble_eq_true rfl⟩) (wpreV hK hW hv0 rfl rfl _) rfl rfl hl.1 rfl (lv_room (Nat.le_of_ble_eq_true rfl)) dX8_goTick_157 ⟨Nat.le_refl 0, Nat.le_refl 0⟩) hW (fun H locs hW => ?_)
        obtain ⟨F73, hz72, h⟩ := ob_e h
        have K74 : ∀ (H : Heap) (locs : List Loc) (ls : Array Slot), wS D dA a s F73 H locs → lv_has ls 3 [(0, .ref (a (30, 0, 0))), (1, .int x62)] → WX p l e (rmL 2 47) s m av below meth c (wQv D dA a s.heap.size Fz) dA a H locs (F0 m 245 ls []) := by
          intro H locs ls hW hl
          refine lv_iinc (v := (x62 + 1)) (lv' := [(1, .int (x62 + 1)), (0, .ref (a (30, 0, 0)))]) hx hb dX8_goTick_245 hl (k := 1) rfl rfl (by decide) rfl (fun ls hl => ?_)
          refine lv_goto (tgt := 149) hx hb dX8_goTick_248 (by decide) ?_
          exact ih _ _ _ _ h K66 H locs ls hW (lv_sub hl [1, 0] rfl)
        clear h
        refine lv_if_eq (tgt := 245) hx hb dX8_goTick_160 (by decide) (fun c71 => ?_) (fun c71 => ?_)
        · have h := if_t hz72 c71
          cases h
          exact K74 H locs ls hW (lv_sub hl [0, 1] rfl)
        · have h := if_f hz72 c71
          refine lv_aload_n hx hb dX8_goTick_163 rfl (lv_at hl 0 rfl) ?_
          refine gf_30_30 S hK hW hv0 q1015 dX8_goTick_164 ?_
          refine lv_iload_n hx hb dX8_goTick_167 rfl (lv_at hl 1 rfl) ?_
          obtain ⟨g75, h⟩ := og_e h
          refine ald_40 S hK hW (vq_30_30 hv0) g75 rfl dX8_goTick_168 ?_
          refine lv_aload_n hx hb dX8_goTick_169 rfl (lv_at hl 0 rfl) ?_
          refine lv_iload_n hx hb dX8_goTick_170 rfl (lv_at hl 1 rfl) ?_
          refine lv_aload_n hx hb dX8_goTick_171 rfl (lv_at hl 0 rfl) ?_
          refine gf_30_30 S hK hW hv0 q1015 dX8_goTick_172 ?_
          refine lv_bipush (v := (16 : Int32)) hx hb dX8_goTick_175 (by decide) ?_
          refine lv_iload_n hx hb dX8_goTick_177 rfl (lv_at hl 1 rfl) ?_
          refine lv_iadd hx hb dX8_goTick_178 ?_
          obtain ⟨g76, h⟩ := og_e h
          refine ald_40 S hK hW (vq_30_30 hv0) g76 rfl dX8_goTick_179 ?_
          obtain ⟨r77, hc78, h⟩ := ob_e h
          refine wk_i (va_runV (As := [.int x62, .int (F63 40 0 0 ((16 : Int32) + x62).toNatClampNeg)]) (rest := [.int (F63 40 0 0 x62.toNatClampNeg)]) S (met_X8_looseOf l hD hv0 hc78 H.size) (cwV 2 S.2.2.2.2 (lw_V q1239 q1241 qs42 q63 q1242) rfl rfl rfl yd_X8_looseOf ⟨Nat.le_of_ble_eq_true rfl, Nat.le_of_ble_eq_true rfl⟩) (wpreV hK hW hv0 rfl rfl _) rfl rfl hl.1 rfl (lv_room (Nat.le_of_ble_eq_true rfl)) dX8_goTick_180 ⟨Nat.le_refl 0, Nat.le_refl 0⟩) hW (fun H locs hW => ?_)
          refine lv_imul hx hb dX8_goTick_183 ?_
          refine lv_bipush (v := (100 : Int32)) hx hb dX8_goTick_184 (by decide) ?_
          refine lv_idiv hx hb dX8_goTick_186 (by decide) ?_
          obtain ⟨x79, e80, h⟩ := pl_e h
          refine lv_nm e80 ?_
          refine lv_istore_n (lv' := [(2, .int x79), (0, .ref (a (30, 0, 0))), (1, .int x62)]) hx hb dX8_goTick_187 rfl hl (by decide) rfl (fun ls hl => ?_)
          refine lv_aload_n hx hb dX8_goTick_188 rfl (lv_at hl 1 rfl) ?_
          refine lv_iload_n hx hb dX8_goTick_189 rfl (lv_at hl 2 rfl) ?_
          refine lv_iload_n hx hb dX8_goTick_190 rfl (lv_at hl 2 rfl) ?_
          refine lv_iconst (v := (4 : Int32)) hx hb dX8_goTick_191 (by decide) ?_
          refine lv_idiv hx hb dX8_goTick_192 (by decide) ?_
          refine lv_aload_n hx hb dX8_goTick_193 rfl (lv_at hl 1 rfl) ?_
          refine gf_30_1 S hK hW hv0 q986 dX8_goTick_194 ?_
          refine lv_iconst (v := (1 : Int32)) hx hb dX8_goTick_197 (by decide) ?_
          refine lv_isub hx hb dX8_goTick_198 ?_
          obtain ⟨y83, hz82, h⟩ := ob_e h
          have K84 : ∀ (H : Heap) (locs : List Loc) (ls : Array Slot), wS D dA a s F63 H locs → lv_has ls 3 [(0, .ref (a (30, 0, 0))), (1, .int x62), (2, .int x79)] → WX p l e (rmL 2 47) s m av below meth c (wQv D dA a s.heap.size Fz) dA a H locs (F0 m 209 ls [.int y83, .int x62, .ref (a (30, 0, 0))]) := by
            intro H locs ls hW hl
            refine lv_iload_n hx hb dX8_goTick_209 rfl (lv_at hl 2 rfl) ?_
            obtain ⟨F85, hc86, h⟩ := ob_e h
            refine wk_v (va_runV (As := [.int x62, .int y83, .int x79]) (rest := []) S (met_X8_goes l hD hv0 hc86 H.size) (cwV 3 S.2.2.2.2 (lw_V q1231 q1233 qs40 q63 q1234) rfl rfl rfl yd_X8_goes ⟨Nat.le_of_ble_eq_true rfl, Nat.le_of_ble_eq_true rfl⟩) (wpreV hK hW hv0 rfl rfl _) rfl rfl hl.1 rfl (lv_room (Nat.le_of_ble_eq_true rfl)) dX8_goTick_210 ⟨Nat.le_refl 0, Nat.le_refl 0⟩) hW (fun H locs hW => ?_)
            refine lv_aload_n hx hb dX8_goTick_213 rfl (lv_at hl 0 rfl) ?_
            refine gf_30_30 S hK hW hv0 q1015 dX8_goTick_214 ?_
            refine lv_bipush (v := (16 : Int32)) hx hb dX8_goTick_217 (by decide) ?_
            refine lv_iload_n hx hb dX8_goTick_219 rfl (lv_at hl 1 rfl) ?_
            refine lv_iadd hx hb dX8_goTick_220 ?_
            refine lv_dup2_11 hx hb dX8_goTick_221 rfl rfl ?_
            refine ald_40 S hK hW (vq_30_30 hv0) g76 rfl dX8_goTick_222 ?_
            refine lv_aload_n hx hb dX8_goTick_223 rfl (lv_at hl 0 rfl) ?_
            refine gf_30_9 S hK hW hv0 q994 dX8_goTick_224 ?_
            obtain ⟨y89, hz88, h⟩ := ob_e h
            have K90 : ∀ (H : Heap) (locs : List Loc) (ls : Array Slot), wS D dA a s F85 H locs → lv_has ls 3 [(0, .ref (a (30, 0, 0))), (1, .int x62)] → WX p l e (rmL 2 47) s m av below meth c (wQv D dA a s.heap.size Fz) dA a H locs (F0 m 243 ls [.int y89, .int (F85 40 0 0 ((16 : Int32) + x62).toNatClampNeg), .int ((16 : Int32) + x62), .ref (a (40, 0, 0))]) := by
              intro H locs ls hW hl
              refine lv_iadd hx hb dX8_goTick_243 ?_
              obtain ⟨F92, e93, h⟩ := pl_e h
              refine ast_40 S hK hD hW (vq_30_30 hv0) g76 rfl e93 dX8_goTick_244 (fun H locs hW => ?_)
              cases h
              exact K74 H locs ls hW (lv_sub hl [0, 1] rfl)
            clear h
            refine lv_if_le (tgt := 242) hx hb dX8_goTick_227 (by decide) (fun c87 => ?_) (fun c87 => ?_)
            · have h := if_t hz88 c87
              refine lv_iconst (v := (0 : Int32)) hx hb dX8_goTick_242 (by decide) ?_
              cases h
              exact K90 H locs ls hW (lv_sub hl [0, 1] rfl)
            · have h := if_f hz88 c87
              refine lv_iload_n hx hb dX8_goTick_230 rfl (lv_at hl 2 rfl) ?_
              refine lv_aload_n hx hb dX8_goTick_231 rfl (lv_at hl 0 rfl) ?_
              refine gf_30_9 S hK hW hv0 q994 dX8_goTick_232 ?_
              refine lv_icmp_le (tgt := 242) hx hb dX8_goTick_235 (by decide) (fun c91 => ?_) (fun c91 => ?_)
              · have h := if_t h c91
                refine lv_iconst (v := (0 : Int32)) hx hb dX8_goTick_242 (by decide) ?_
                cases h
                exact K90 H locs ls hW (lv_sub hl [0, 1] rfl)
              · have h := if_f h c91
                refine lv_iconst (v := (1 : Int32)) hx hb dX8_goTick_238 (by decide) ?_
                refine lv_goto (tgt := 243) hx hb dX8_goTick_239 (by decide) ?_
                cases h
                exact K90 H locs ls hW (lv_sub hl [0, 1] rfl)
          clear h
          refine lv_icmp_ne (tgt := 206) hx hb dX8_goTick_199 (by decide) (fun c81 => ?_) (fun c81 => ?_)
          · have h := if_f hz82 c81
            refine lv_iload_n hx hb dX8_goTick_206 rfl (lv_at hl 2 rfl) ?_
            refine lv_iconst (v := (4 : Int32)) hx hb dX8_goTick_207 (by decide) ?_
            refine lv_iadd hx hb dX8_goTick_208 ?_
            cases h
            exact K84 H locs ls hW (lv_sub hl [1, 2, 0] rfl)
          · have h := if_t hz82 c81
            refine lv_iconst (v := (-1 : Int32)) hx hb dX8_goTick_202 (by decide) ?_
            refine lv_goto (tgt := 209) hx hb dX8_goTick_203 (by decide) ?_
            cases h
            exact K84 H locs ls hW (lv_sub hl [1, 2, 0] rfl)
  obtain ⟨F64, x65, hz94, h⟩ := ob2_e h
  refine L67 300 F60 (0 : Int32) F64 x65 hz94 (fun H locs ls hW hl => ?_) H locs ls hW (lv_sub hl [1, 0] rfl)
  refine lv_aload_n hx hb dX8_goTick_251 rfl (lv_at hl 0 rfl) ?_
  obtain ⟨F95, hc96, h⟩ := ob_e h
  refine wk_v (va_runV (As := []) (rest := []) S (met_X8_doGoings l hD hv0 hc96 H.size) (cwV 0 S.2.2.2.2 (lw_V q1235 q1237 qs41 q63 q1238) rfl rfl rfl yd_X8_doGoings ⟨Nat.le_of_ble_eq_true rfl, Nat.le_of_ble_eq_true rfl⟩) (wpreV hK hW hv0 rfl rfl _) rfl rfl hl.1 rfl (lv_room (Nat.le_of_ble_eq_true rfl)) dX8_goTick_252 ⟨Nat.le_refl 0, Nat.le_refl 0⟩) hW (fun H locs hW => ?_)
  refine lv_aload_n hx hb dX8_goTick_255 rfl (lv_at hl 0 rfl) ?_
  refine gf_30_30 S hK hW hv0 q1015 dX8_goTick_256 ?_
  refine lv_sipush (v := (132 : Int32)) hx hb dX8_goTick_259 (by decide) ?_
  refine lv_dup2_11 hx hb dX8_goTick_262 rfl rfl ?_
  refine ald_40 (z := 132) S hK hW (vq_30_30 hv0) (by decide) (by decide) dX8_goTick_263 ?_
  refine lv_iconst (v := (1 : Int32)) hx hb dX8_goTick_264 (by decide) ?_
  refine lv_iadd hx hb dX8_goTick_265 ?_
  obtain ⟨F97, e98, h⟩ := pl_e h
  refine ast_40 (z := 132) S hK hD hW (vq_30_30 hv0) (by decide) (by decide) e98 dX8_goTick_266 (fun H locs hW => ?_)
  cases h
  exact we_v S hr hlk hW dX8_goTick_267
/-loop lp_X8_goOn_2-/
def lp_X8_goOn_2 (p1 : Int32) : Nat → St → Int32 → Option (St × Int32)
  | 0, _, _ => none
  | n + 1, F2, x1 => if p1 ≤ x1 then some (F2, x1) else if (F2 30 16 0 0) ≤ (F2 40 0 0 132) then some (F2, x1) else ob (fn_X8_goTick F2) (fun F9 => lp_X8_goOn_2 p1 n F9 (x1 + 1))
theorem lp_X8_goOn_2_s {p1 : Int32} {n : Nat} {F2 : St} {x1 : Int32} : lp_X8_goOn_2 p1 (n + 1) F2 x1 = if p1 ≤ x1 then some (F2, x1) else if (F2 30 16 0 0) ≤ (F2 40 0 0 132) then some (F2, x1) else ob (fn_X8_goTick F2) (fun F9 => lp_X8_goOn_2 p1 n F9 (x1 + 1)) := rfl
def fn_X8_goOn (F : St) (p1 : Int32) : Option (St × Int32) :=
  ob2 (lp_X8_goOn_2 p1 300 F (0 : Int32)) (fun F3 x4 => some (F3, x4))
theorem yd_X8_goOn : yX8_goOn.cls = RX8 ∧ yX8_goOn.cls ≠ "java/lang/invoke/MethodHandle" ∧ yX8_goOn.cls ≠ "java/lang/invoke/VarHandle" ∧ (parseMethodDescriptor yX8_goOn.desc).map (fun d => d.parameters.length) = some 1 := by decide +kernel
set_option maxHeartbeats 4000000 in
theorem met_X8_goOn (l : Launch) {D : va_G} {dA : WK} {a : Ix → Nat} (hD : wD D dA a) {F : St} {p1 : Int32} {Fz : St} {rz : Int32} (hv0 : wVd dA (30, 0, 0)) (h : fn_X8_goOn F p1 = some (Fz, rz)) : Mi l yX8_goOn cX8_goOn 3 .int 3 69 D dA a F [.ref (a (30, 0, 0)), .int p1] Fz rz := by
  refine fun sz => mst (Qc := fun sz => wQi D dA a sz Fz rz) (by decide) (Nat.le_of_ble_eq_true rfl) ?_ sz
  intro p e s m below meth c S hr hlk hK hW ls hl
  have hl : lv_has ls 3 [(0, .ref (a (30, 0, 0))), (1, .int p1)] := hl
  have hx := S.1
  have hb := S.2.1
  generalize ([.ref (a (30, 0, 0)), .int p1] : List Value).toArray = av at S ⊢
  unfold fn_X8_goOn at h
  obtain ⟨H, eH⟩ : ∃ z, z = s.heap := ⟨_, rfl⟩
  obtain ⟨locs, eL⟩ : ∃ z : List Loc, z = [] := ⟨_, rfl⟩
  show WX p l e (rmL 3 69) s m av below meth c (wQi D dA a s.heap.size Fz rz) dA a s.heap [] (F0 m 0 ls [])
  have hW : wS D dA a s F H locs := by rw [eH, eL]; exact wS_in hW
  refine wx_in eH eL ?_
  clear eH eL
  refine lv_iconst (v := (0 : Int32)) hx hb dX8_goOn_0 (by decide) ?_
  refine lv_istore_n (lv' := [(2, .int (0 : Int32)), (0, .ref (a (30, 0, 0))), (1, .int p1)]) hx hb dX8_goOn_1 rfl hl (by decide) rfl (fun ls hl => ?_)
  have L6 : ∀ (n : Nat) (F2 : St) (x1 : Int32) (F3 : St) (x4 : Int32), lp_X8_goOn_2 p1 n F2 x1 = some (F3, x4) → (∀ (H : Heap) (locs : List Loc) (ls : Array Slot), wS D dA a s F3 H locs → lv_has ls 3 [(2, .int x4)] → WX p l e (rmL 3 69) s m av below meth c (wQi D dA a s.heap.size Fz rz) dA a H locs (F0 m 32 ls [])) → ∀ (H : Heap) (locs : List Loc) (ls : Array Slot), wS D dA a s F2 H locs → lv_has ls 3 [(0, .ref (a (30, 0, 0))), (1, .int p1), (2, .int x1)] → WX p l e (rmL 3 69) s m av below meth c (wQi D dA a s.heap.size Fz rz) dA a H locs (F0 m 2 ls []) := by
    intro n
    induction n with
    | zero =>
      intro F2 x1 F3 x4 h
      exact absurd (show (none : Option (St × Int32)) = some (F3, x4) from h) (by simp)
    | succ n ih =>
      intro F2 x1 F3 x4 h K5 H locs ls hW hl
      have h := lp_X8_goOn_2_s.symm.trans h
      refine lv_iload_n hx hb dX8_goOn_2 rfl (lv_at hl 2 rfl) ?_
      refine lv_iload_n hx hb dX8_goOn_3 rfl (lv_at hl 1 rfl) ?_
      refine lv_icmp_ge (tgt := 32) hx hb dX8_goOn_4 (by decide) (fun c7 => ?_) (fun c7 => ?_)
      · have h := if_t h c7
        cases h
        exact K5 H locs ls hW (lv_sub hl [2] rfl)
      · have h := if_f h c7
        refine lv_aload_n hx hb dX8_goOn_7 rfl (lv_at hl 0 rfl) ?_
        refine gf_30_30 S hK hW hv0 q1015 dX8_goOn_8 ?_
        refine lv_sipush (v := (132 : Int32)) hx hb dX8_goOn_11 (by decide) ?_
        refine ald_40 (z := 132) S hK hW (vq_30_30 hv0) (by decide) (by decide) dX8_goOn_14 ?_
        refine lv_aload_n hx hb dX8_goOn_15 rfl (lv_at hl 0 rfl) ?_
        refine gf_30_16 S hK hW hv0 q1001 dX8_goOn_16 ?_
        refine lv_icmp_ge (tgt := 32) hx hb dX8_goOn_19 (by decide) (fun c8 => ?_) (fun c8 => ?_)
        · have h := if_t h c8
          cases h
          exact K5 H locs ls hW (lv_sub hl [2] rfl)
        · have h := if_f h c8
          refine lv_aload_n hx hb dX8_goOn_22 rfl (lv_at hl 0 rfl) ?_
          obtain ⟨F9, hc10, h⟩ := ob_e h
          refine wk_v (va_runV (As := []) (rest := []) S (met_X8_goTick l hD hv0 hc10 H.size) (cwV 0 S.2.2.2.2 (lw_V q1214 q1216 qs36 q63 q1217) rfl rfl rfl yd_X8_goTick ⟨Nat.le_of_ble_eq_true rfl, Nat.le_of_ble_eq_true rfl⟩) (wpreV hK hW hv0 rfl rfl _) rfl rfl hl.1 rfl (lv_room (Nat.le_of_ble_eq_true rfl)) dX8_goOn_23 ⟨Nat.le_refl 0, Nat.le_refl 0⟩) hW (fun H locs hW => ?_)
          refine lv_iinc (v := (x1 + 1)) (lv' := [(2, .int (x1 + 1)), (0, .ref (a (30, 0, 0))), (1, .int p1)]) hx hb dX8_goOn_26 hl (k := 2) rfl rfl (by decide) rfl (fun ls hl => ?_)
          refine lv_goto (tgt := 2) hx hb dX8_goOn_29 (by decide) ?_
          exact ih _ _ _ _ h K5 H locs ls hW (lv_sub hl [1, 2, 0] rfl)
  obtain ⟨F3, x4, hz11, h⟩ := ob2_e h
  refine L6 300 F (0 : Int32) F3 x4 hz11 (fun H locs ls hW hl => ?_) H locs ls hW (lv_sub hl [1, 2, 0] rfl)
  refine lv_iload_n hx hb dX8_goOn_32 rfl (lv_at hl 0 rfl) ?_
  cases h
  exact we_i S hr hlk hW dX8_goOn_33
def fn_X8_brew (F : St) (p1 : Int32) : Option (St × Int32) :=
  ob (fn_X8_in F p1 (1 : Int32) (60 : Int32)) (fun r1 => if r1 = 0 then some (F, (-3 : Int32)) else ob2 (fn_X8_goOn F p1) (fun F4 r5 => some (F4, r5)))
theorem yd_X8_brew : yX8_brew.cls = RX8 ∧ yX8_brew.cls ≠ "java/lang/invoke/MethodHandle" ∧ yX8_brew.cls ≠ "java/lang/invoke/VarHandle" ∧ (parseMethodDescriptor yX8_brew.desc).map (fun d => d.parameters.length) = some 1 := by decide +kernel
set_option maxHeartbeats 4000000 in
theorem met_X8_brew (l : Launch) {D : va_G} {dA : WK} {a : Ix → Nat} (hD : wD D dA a) {F : St} {p1 : Int32} {Fz : St} {rz : Int32} (hv0 : wVd dA (30, 0, 0)) (h : fn_X8_brew F p1 = some (Fz, rz)) : Mi l yX8_brew cX8_brew 2 .int 4 91 D dA a F [.ref (a (30, 0, 0)), .int p1] Fz rz := by
  refine fun sz => mst (Qc := fun sz => wQi D dA a sz Fz rz) (by decide) (Nat.le_of_ble_eq_true rfl) ?_ sz
  intro p e s m below meth c S hr hlk hK hW ls hl
  have hl : lv_has ls 2 [(0, .ref (a (30, 0, 0))), (1, .int p1)] := hl
  have hx := S.1
  have hb := S.2.1
  generalize ([.ref (a (30, 0, 0)), .int p1] : List Value).toArray = av at S ⊢
  unfold fn_X8_brew at h
  obtain ⟨H, eH⟩ : ∃ z, z = s.heap := ⟨_, rfl⟩
  obtain ⟨locs, eL⟩ : ∃ z : List Loc, z = [] := ⟨_, rfl⟩
  show WX p l e (rmL 4 91) s m av below meth c (wQi D dA a s.heap.size Fz rz) dA a s.heap [] (F0 m 0 ls [])
  have hW : wS D dA a s F H locs := by rw [eH, eL]; exact wS_in hW
  refine wx_in eH eL ?_
  clear eH eL
  refine lv_iload_n hx hb dX8_brew_0 rfl (lv_at hl 1 rfl) ?_
  refine lv_iconst (v := (1 : Int32)) hx hb dX8_brew_1 (by decide) ?_
  refine lv_bipush (v := (60 : Int32)) hx hb dX8_brew_2 (by decide) ?_
  obtain ⟨r1, hc2, h⟩ := ob_e h
  refine wk_i (va_runS (As := [.int p1, .int (1 : Int32), .int (60 : Int32)]) (rest := []) S (met_X8_in l hD hc2 H.size) (va_cwS 3 S.2.2.2.2 (lw_S q1117 q1118 q63 q1119) rfl rfl rfl yd_X8_in.2 ⟨Nat.le_of_ble_eq_true rfl, Nat.le_of_ble_eq_true rfl⟩) (wpreS hK hW _) rfl rfl hl.1 rfl (lv_room (Nat.le_of_ble_eq_true rfl)) dX8_brew_4 ⟨Nat.le_refl 0, Nat.le_refl 0⟩) hW (fun H locs hW => ?_)
  refine lv_if_eq (tgt := 18) hx hb dX8_brew_7 (by decide) (fun c3 => ?_) (fun c3 => ?_)
  · have h := if_t h c3
    refine lv_bipush (v := (-3 : Int32)) hx hb dX8_brew_18 (by decide) ?_
    cases h
    exact we_i S hr hlk hW dX8_brew_20
  · have h := if_f h c3
    refine lv_aload_n hx hb dX8_brew_10 rfl (lv_at hl 0 rfl) ?_
    refine lv_iload_n hx hb dX8_brew_11 rfl (lv_at hl 1 rfl) ?_
    obtain ⟨F4, r5, hc6, h⟩ := ob2_e h
    refine wk_i (va_runV (As := [.int p1]) (rest := []) S (met_X8_goOn l hD hv0 hc6 H.size) (cwV 1 S.2.2.2.2 (lw_V q1210 q1212 qs35 q63 q1213) rfl rfl rfl yd_X8_goOn ⟨Nat.le_of_ble_eq_true rfl, Nat.le_of_ble_eq_true rfl⟩) (wpreV hK hW hv0 rfl rfl _) rfl rfl hl.1 rfl (lv_room (Nat.le_of_ble_eq_true rfl)) dX8_brew_12 ⟨Nat.le_refl 0, Nat.le_refl 0⟩) hW (fun H locs hW => ?_)
    refine lv_goto (tgt := 20) hx hb dX8_brew_15 (by decide) ?_
    cases h
    exact we_i S hr hlk hW dX8_brew_20
/-loop lp_X8_copy_40_41_3-/
def lp_X8_copy_40_41_3 (p1 : Int32) (p3 : Int32) : Nat → St → Int32 → Option (St × Int32)
  | 0, _, _ => none
  | n + 1, F2, x1 => if (138 : Int32) ≤ x1 then some (F2, x1) else og (vpb (p1 + x1) 138) (og (vpb (p3 + x1) 138) (pl (fu F2 41 0 0 (p3 + x1).toNatClampNeg (F2 40 0 0 (p1 + x1).toNatClampNeg)) (fun F10 => lp_X8_copy_40_41_3 p1 p3 n F10 (x1 + 1))))
theorem lp_X8_copy_40_41_3_s {p1 : Int32} {p3 : Int32} {n : Nat} {F2 : St} {x1 : Int32} : lp_X8_copy_40_41_3 p1 p3 (n + 1) F2 x1 = if (138 : Int32) ≤ x1 then some (F2, x1) else og (vpb (p1 + x1) 138) (og (vpb (p3 + x1) 138) (pl (fu F2 41 0 0 (p3 + x1).toNatClampNeg (F2 40 0 0 (p1 + x1).toNatClampNeg)) (fun F10 => lp_X8_copy_40_41_3 p1 p3 n F10 (x1 + 1)))) := rfl
def fn_X8_copy_40_41 (F : St) (p1 : Int32) (p3 : Int32) : Option (St) :=
  ob2 (lp_X8_copy_40_41_3 p1 p3 300 F (0 : Int32)) (fun F3 x4 => some F3)
set_option maxHeartbeats 4000000 in
theorem met_X8_copy_40_41 (l : Launch) {D : va_G} {dA : WK} {a : Ix → Nat} (hD : wD D dA a) {F : St} {p1 : Int32} {p3 : Int32} {Fz : St} (hv0 : wVd dA (40, 0, 0)) (hv2 : wVd dA (41, 0, 0)) (h : fn_X8_copy_40_41 F p1 p3 = some Fz) : Mv l yX8_copy cX8_copy 5 0 0 D dA a F [.ref (a (40, 0, 0)), .int p1, .ref (a (41, 0, 0)), .int p3] Fz := by
  refine fun sz => mst (Qc := fun sz => wQv D dA a sz Fz) (by decide) (Nat.le_of_ble_eq_true rfl) ?_ sz
  intro p e s m below meth c S hr hlk hK hW ls hl
  have hl : lv_has ls 5 [(0, .ref (a (40, 0, 0))), (1, .int p1), (2, .ref (a (41, 0, 0))), (3, .int p3)] := hl
  have hx := S.1
  have hb := S.2.1
  generalize ([.ref (a (40, 0, 0)), .int p1, .ref (a (41, 0, 0)), .int p3] : List Value).toArray = av at S ⊢
  unfold fn_X8_copy_40_41 at h
  obtain ⟨H, eH⟩ : ∃ z, z = s.heap := ⟨_, rfl⟩
  obtain ⟨locs, eL⟩ : ∃ z : List Loc, z = [] := ⟨_, rfl⟩
  show WX p l e (rmL 0 0) s m av below meth c (wQv D dA a s.heap.size Fz) dA a s.heap [] (F0 m 0 ls [])
  have hW : wS D dA a s F H locs := by rw [eH, eL]; exact wS_in hW
  refine wx_in eH eL ?_
  clear eH eL
  refine lv_iconst (v := (0 : Int32)) hx hb dX8_copy_0 (by decide) ?_
  refine lv_istore (lv' := [(4, .int (0 : Int32)), (0, .ref (a (40, 0, 0))), (1, .int p1), (2, .ref (a (41, 0, 0))), (3, .int p3)]) hx hb dX8_copy_1 hl (by decide) rfl (fun ls hl => ?_)
  have L6 : ∀ (n : Nat) (F2 : St) (x1 : Int32) (F3 : St) (x4 : Int32), lp_X8_copy_40_41_3 p1 p3 n F2 x1 = some (F3, x4) → (∀ (H : Heap) (locs : List Loc) (ls : Array Slot), wS D dA a s F3 H locs → lv_has ls 5 [] → WX p l e (rmL 0 0) s m av below meth c (wQv D dA a s.heap.size Fz) dA a H locs (F0 m 29 ls [])) → ∀ (H : Heap) (locs : List Loc) (ls : Array Slot), wS D dA a s F2 H locs → lv_has ls 5 [(0, .ref (a (40, 0, 0))), (1, .int p1), (2, .ref (a (41, 0, 0))), (3, .int p3), (4, .int x1)] → WX p l e (rmL 0 0) s m av below meth c (wQv D dA a s.heap.size Fz) dA a H locs (F0 m 3 ls []) := by
    intro n
    induction n with
    | zero =>
      intro F2 x1 F3 x4 h
      exact absurd (show (none : Option (St × Int32)) = some (F3, x4) from h) (by simp)
    | succ n ih =>
      intro F2 x1 F3 x4 h K5 H locs ls hW hl
      have h := lp_X8_copy_40_41_3_s.symm.trans h
      refine lv_iload hx hb dX8_copy_3 (lv_at hl 4 rfl) ?_
      refine lv_sipush (v := (138 : Int32)) hx hb dX8_copy_5 (by decide) ?_
      refine lv_icmp_ge (tgt := 29) hx hb dX8_copy_8 (by decide) (fun c7 => ?_) (fun c7 => ?_)
      · have h := if_t h c7
        cases h
        exact K5 H locs ls hW (lv_sub hl [] rfl)
      · have h := if_f h c7
        refine lv_aload_n hx hb dX8_copy_11 rfl (lv_at hl 2 rfl) ?_
        refine lv_iload_n hx hb dX8_copy_12 rfl (lv_at hl 3 rfl) ?_
        refine lv_iload hx hb dX8_copy_13 (lv_at hl 4 rfl) ?_
        refine lv_iadd hx hb dX8_copy_15 ?_
        refine lv_aload_n hx hb dX8_copy_16 rfl (lv_at hl 0 rfl) ?_
        refine lv_iload_n hx hb dX8_copy_17 rfl (lv_at hl 1 rfl) ?_
        refine lv_iload hx hb dX8_copy_18 (lv_at hl 4 rfl) ?_
        refine lv_iadd hx hb dX8_copy_20 ?_
        obtain ⟨g8, h⟩ := og_e h
        refine ald_40 S hK hW hv0 g8 rfl dX8_copy_21 ?_
        obtain ⟨g9, h⟩ := og_e h
        obtain ⟨F10, e11, h⟩ := pl_e h
        refine ast_41 S hK hD hW hv2 g9 rfl e11 dX8_copy_22 (fun H locs hW => ?_)
        refine lv_iinc (v := (x1 + 1)) (lv' := [(4, .int (x1 + 1)), (0, .ref (a (40, 0, 0))), (1, .int p1), (2, .ref (a (41, 0, 0))), (3, .int p3)]) hx hb dX8_copy_23 hl (k := 4) rfl rfl (by decide) rfl (fun ls hl => ?_)
        refine lv_goto (tgt := 3) hx hb dX8_copy_26 (by decide) ?_
        exact ih _ _ _ _ h K5 H locs ls hW (lv_sub hl [1, 2, 3, 4, 0] rfl)
  obtain ⟨F3, x4, hz12, h⟩ := ob2_e h
  refine L6 300 F (0 : Int32) F3 x4 hz12 (fun H locs ls hW hl => ?_) H locs ls hW (lv_sub hl [1, 2, 3, 4, 0] rfl)
  cases h
  exact we_v S hr hlk hW dX8_copy_29
def fn_X8_cupStuffs (F : St) : Option (Int32) :=
  some (((F 40 0 0 129) + (F 40 0 0 130)) + (F 40 0 0 131))
theorem yd_X8_cupStuffs : yX8_cupStuffs.cls = RX8 ∧ yX8_cupStuffs.cls ≠ "java/lang/invoke/MethodHandle" ∧ yX8_cupStuffs.cls ≠ "java/lang/invoke/VarHandle" ∧ (parseMethodDescriptor yX8_cupStuffs.desc).map (fun d => d.parameters.length) = some 0 := by decide +kernel
set_option maxHeartbeats 4000000 in
theorem met_X8_cupStuffs (l : Launch) {D : va_G} {dA : WK} {a : Ix → Nat} (hD : wD D dA a) {F : St} {rz : Int32} (hv0 : wVd dA (30, 0, 0)) (h : fn_X8_cupStuffs F = some rz) : Mi l yX8_cupStuffs cX8_cupStuffs 1 .int 0 0 D dA a F [.ref (a (30, 0, 0))] F rz := by
  refine fun sz => mst (Qc := fun sz => wQi D dA a sz F rz) (by decide) (Nat.le_of_ble_eq_true rfl) ?_ sz
  intro p e s m below meth c S hr hlk hK hW ls hl
  have hl : lv_has ls 1 [(0, .ref (a (30, 0, 0)))] := hl
  have hx := S.1
  have hb := S.2.1
  generalize ([.ref (a (30, 0, 0))] : List Value).toArray = av at S ⊢
  unfold fn_X8_cupStuffs at h
  obtain ⟨H, eH⟩ : ∃ z, z = s.heap := ⟨_, rfl⟩
  obtain ⟨locs, eL⟩ : ∃ z : List Loc, z = [] := ⟨_, rfl⟩
  show WX p l e (rmL 0 0) s m av below meth c (wQi D dA a s.heap.size F rz) dA a s.heap [] (F0 m 0 ls [])
  have hW : wS D dA a s F H locs := by rw [eH, eL]; exact wS_in hW
  refine wx_in eH eL ?_
  clear eH eL
  refine lv_aload_n hx hb dX8_cupStuffs_0 rfl (lv_at hl 0 rfl) ?_
  refine gf_30_30 S hK hW hv0 q1015 dX8_cupStuffs_1 ?_
  refine lv_sipush (v := (129 : Int32)) hx hb dX8_cupStuffs_4 (by decide) ?_
  refine ald_40 (z := 129) S hK hW (vq_30_30 hv0) (by decide) (by decide) dX8_cupStuffs_7 ?_
  refine lv_aload_n hx hb dX8_cupStuffs_8 rfl (lv_at hl 0 rfl) ?_
  refine gf_30_30 S hK hW hv0 q1015 dX8_cupStuffs_9 ?_
  refine lv_sipush (v := (130 : Int32)) hx hb dX8_cupStuffs_12 (by decide) ?_
  refine ald_40 (z := 130) S hK hW (vq_30_30 hv0) (by decide) (by decide) dX8_cupStuffs_15 ?_
  refine lv_iadd hx hb dX8_cupStuffs_16 ?_
  refine lv_aload_n hx hb dX8_cupStuffs_17 rfl (lv_at hl 0 rfl) ?_
  refine gf_30_30 S hK hW hv0 q1015 dX8_cupStuffs_18 ?_
  refine lv_sipush (v := (131 : Int32)) hx hb dX8_cupStuffs_21 (by decide) ?_
  refine ald_40 (z := 131) S hK hW (vq_30_30 hv0) (by decide) (by decide) dX8_cupStuffs_24 ?_
  refine lv_iadd hx hb dX8_cupStuffs_25 ?_
  cases h
  exact we_i S hr hlk hW dX8_cupStuffs_26
def fn_X8_strong (F : St) : Option (Int32) :=
  ob (fn_X8_cupStuffs F) (fun r1 => pl ((F 40 0 0 128) + r1) (fun x3 => if x3 = 0 then some (0 : Int32) else ob (fn_X8_cupStuffs F) (fun r6 => og (nzl x3.toInt64) (some ((((1000 : Int64) * r6.toInt64) / x3.toInt64).toInt32)))))
theorem yd_X8_strong : yX8_strong.cls = RX8 ∧ yX8_strong.cls ≠ "java/lang/invoke/MethodHandle" ∧ yX8_strong.cls ≠ "java/lang/invoke/VarHandle" ∧ (parseMethodDescriptor yX8_strong.desc).map (fun d => d.parameters.length) = some 0 := by decide +kernel
set_option maxHeartbeats 4000000 in
theorem met_X8_strong (l : Launch) {D : va_G} {dA : WK} {a : Ix → Nat} (hD : wD D dA a) {F : St} {rz : Int32} (hv0 : wVd dA (30, 0, 0)) (h : fn_X8_strong F = some rz) : Mi l yX8_strong cX8_strong 2 .int 1 20 D dA a F [.ref (a (30, 0, 0))] F rz := by
  refine fun sz => mst (Qc := fun sz => wQi D dA a sz F rz) (by decide) (Nat.le_of_ble_eq_true rfl) ?_ sz
  intro p e s m below meth c S hr hlk hK hW ls hl
  have hl : lv_has ls 2 [(0, .ref (a (30, 0, 0)))] := hl
  have hx := S.1
  have hb := S.2.1
  generalize ([.ref (a (30, 0, 0))] : List Value).toArray = av at S ⊢
  unfold fn_X8_strong at h
  obtain ⟨H, eH⟩ : ∃ z, z = s.heap := ⟨_, rfl⟩
  obtain ⟨locs, eL⟩ : ∃ z : List Loc, z = [] := ⟨_, rfl⟩
  show WX p l e (rmL 1 20) s m av below meth c (wQi D dA a s.heap.size F rz) dA a s.heap [] (F0 m 0 ls [])
  have hW : wS D dA a s F H locs := by rw [eH, eL]; exact wS_in hW
  refine wx_in eH eL ?_
  clear eH eL
  refine lv_aload_n hx hb dX8_strong_0 rfl (lv_at hl 0 rfl) ?_
  refine gf_30_30 S hK hW hv0 q1015 dX8_strong_1 ?_
  refine lv_sipush (v := (128 : Int32)) hx hb dX8_strong_4 (by decide) ?_
  refine ald_40 (z := 128) S hK hW (vq_30_30 hv0) (by decide) (by decide) dX8_strong_7 ?_
  refine lv_aload_n hx hb dX8_strong_8 rfl (lv_at hl 0 rfl) ?_
  obtain ⟨r1, hc2, h⟩ := ob_e h
  refine wk_i (va_runV (As := []) (rest := [.int (F 40 0 0 128)]) S (met_X8_cupStuffs l hD hv0 hc2 H.size) (cwV 0 S.2.2.2.2 (lw_V q1259 q1261 qs44 q63 q1262) rfl rfl rfl yd_X8_cupStuffs ⟨Nat.le_of_ble_eq_true rfl, Nat.le_of_ble_eq_true rfl⟩) (wpreV hK hW hv0 rfl rfl _) rfl rfl hl.1 rfl (lv_room (Nat.le_of_ble_eq_true rfl)) dX8_strong_9 ⟨Nat.le_refl 0, Nat.le_refl 0⟩) hW (fun H locs hW => ?_)
  refine lv_iadd hx hb dX8_strong_12 ?_
  obtain ⟨x3, e4, h⟩ := pl_e h
  refine lv_nm e4 ?_
  refine lv_istore_n (lv' := [(1, .int x3), (0, .ref (a (30, 0, 0)))]) hx hb dX8_strong_13 rfl hl (by decide) rfl (fun ls hl => ?_)
  refine lv_iload_n hx hb dX8_strong_14 rfl (lv_at hl 0 rfl) ?_
  refine lv_if_ne (tgt := 22) hx hb dX8_strong_15 (by decide) (fun c5 => ?_) (fun c5 => ?_)
  · have h := if_f h c5
    refine lv_ldc2 (v := (1000 : Int64)) hx hb S.2.2.2.1 (S.2.2.2.2 _ q1263) dX8_strong_22 ?_
    refine lv_aload_n hx hb dX8_strong_25 rfl (lv_at hl 1 rfl) ?_
    obtain ⟨r6, hc7, h⟩ := ob_e h
    refine wk_i (va_runV (As := []) (rest := [.long (1000 : Int64)]) S (met_X8_cupStuffs l hD hv0 hc7 H.size) (cwV 0 S.2.2.2.2 (lw_V q1259 q1261 qs44 q63 q1262) rfl rfl rfl yd_X8_cupStuffs ⟨Nat.le_of_ble_eq_true rfl, Nat.le_of_ble_eq_true rfl⟩) (wpreV hK hW hv0 rfl rfl _) rfl rfl hl.1 rfl (lv_room (Nat.le_of_ble_eq_true rfl)) dX8_strong_26 ⟨Nat.le_refl 0, Nat.le_refl 0⟩) hW (fun H locs hW => ?_)
    refine lv_i2l hx hb dX8_strong_29 rfl ?_
    refine lv_lmul hx hb dX8_strong_30 ?_
    refine lv_iload_n hx hb dX8_strong_31 rfl (lv_at hl 0 rfl) ?_
    refine lv_i2l hx hb dX8_strong_32 rfl ?_
    obtain ⟨g8, h⟩ := og_e h
    refine lv_ldiv hx hb dX8_strong_33 (nzl_e g8) ?_
    refine lv_l2i hx hb dX8_strong_34 rfl ?_
    cases h
    exact we_i S hr hlk hW dX8_strong_35
  · have h := if_t h c5
    refine lv_iconst (v := (0 : Int32)) hx hb dX8_strong_18 (by decide) ?_
    refine lv_goto (tgt := 35) hx hb dX8_strong_19 (by decide) ?_
    cases h
    exact we_i S hr hlk hW dX8_strong_35
def fn_X8_out (F : St) : Option (Int32) :=
  if (F 40 0 0 133) = 0 then some (0 : Int32) else ob (fn_X8_cupStuffs F) (fun r2 => og (nzl ((F 40 0 0 133).toInt64)) (some ((((1000 : Int64) * r2.toInt64) / (F 40 0 0 133).toInt64).toInt32)))
theorem yd_X8_out : yX8_out.cls = RX8 ∧ yX8_out.cls ≠ "java/lang/invoke/MethodHandle" ∧ yX8_out.cls ≠ "java/lang/invoke/VarHandle" ∧ (parseMethodDescriptor yX8_out.desc).map (fun d => d.parameters.length) = some 0 := by decide +kernel
set_option maxHeartbeats 4000000 in
theorem met_X8_out (l : Launch) {D : va_G} {dA : WK} {a : Ix → Nat} (hD : wD D dA a) {F : St} {rz : Int32} (hv0 : wVd dA (30, 0, 0)) (h : fn_X8_out F = some rz) : Mi l yX8_out cX8_out 1 .int 1 20 D dA a F [.ref (a (30, 0, 0))] F rz := by
  refine fun sz => mst (Qc := fun sz => wQi D dA a sz F rz) (by decide) (Nat.le_of_ble_eq_true rfl) ?_ sz
  intro p e s m below meth c S hr hlk hK hW ls hl
  have hl : lv_has ls 1 [(0, .ref (a (30, 0, 0)))] := hl
  have hx := S.1
  have hb := S.2.1
  generalize ([.ref (a (30, 0, 0))] : List Value).toArray = av at S ⊢
  unfold fn_X8_out at h
  obtain ⟨H, eH⟩ : ∃ z, z = s.heap := ⟨_, rfl⟩
  obtain ⟨locs, eL⟩ : ∃ z : List Loc, z = [] := ⟨_, rfl⟩
  show WX p l e (rmL 1 20) s m av below meth c (wQi D dA a s.heap.size F rz) dA a s.heap [] (F0 m 0 ls [])
  have hW : wS D dA a s F H locs := by rw [eH, eL]; exact wS_in hW
  refine wx_in eH eL ?_
  clear eH eL
  refine lv_aload_n hx hb dX8_out_0 rfl (lv_at hl 0 rfl) ?_
  refine gf_30_30 S hK hW hv0 q1015 dX8_out_1 ?_
  refine lv_sipush (v := (133 : Int32)) hx hb dX8_out_4 (by decide) ?_
  refine ald_40 (z := 133) S hK hW (vq_30_30 hv0) (by decide) (by decide) dX8_out_7 ?_
  refine lv_if_ne (tgt := 15) hx hb dX8_out_8 (by decide) (fun c1 => ?_) (fun c1 => ?_)
  · have h := if_f h c1
    refine lv_ldc2 (v := (1000 : Int64)) hx hb S.2.2.2.1 (S.2.2.2.2 _ q1263) dX8_out_15 ?_
    refine lv_aload_n hx hb dX8_out_18 rfl (lv_at hl 0 rfl) ?_
    obtain ⟨r2, hc3, h⟩ := ob_e h
    refine wk_i (va_runV (As := []) (rest := [.long (1000 : Int64)]) S (met_X8_cupStuffs l hD hv0 hc3 H.size) (cwV 0 S.2.2.2.2 (lw_V q1259 q1261 qs44 q63 q1262) rfl rfl rfl yd_X8_cupStuffs ⟨Nat.le_of_ble_eq_true rfl, Nat.le_of_ble_eq_true rfl⟩) (wpreV hK hW hv0 rfl rfl _) rfl rfl hl.1 rfl (lv_room (Nat.le_of_ble_eq_true rfl)) dX8_out_19 ⟨Nat.le_refl 0, Nat.le_refl 0⟩) hW (fun H locs hW => ?_)
    refine lv_i2l hx hb dX8_out_22 rfl ?_
    refine lv_lmul hx hb dX8_out_23 ?_
    refine lv_aload_n hx hb dX8_out_24 rfl (lv_at hl 0 rfl) ?_
    refine gf_30_30 S hK hW hv0 q1015 dX8_out_25 ?_
    refine lv_sipush (v := (133 : Int32)) hx hb dX8_out_28 (by decide) ?_
    refine ald_40 (z := 133) S hK hW (vq_30_30 hv0) (by decide) (by decide) dX8_out_31 ?_
    refine lv_i2l hx hb dX8_out_32 rfl ?_
    obtain ⟨g4, h⟩ := og_e h
    refine lv_ldiv hx hb dX8_out_33 (nzl_e g4) ?_
    refine lv_l2i hx hb dX8_out_34 rfl ?_
    cases h
    exact we_i S hr hlk hW dX8_out_35
  · have h := if_t h c1
    refine lv_iconst (v := (0 : Int32)) hx hb dX8_out_11 (by decide) ?_
    refine lv_goto (tgt := 35) hx hb dX8_out_12 (by decide) ?_
    cases h
    exact we_i S hr hlk hW dX8_out_35
/-loop lp_X8_leftIn_4-/
def lp_X8_leftIn_4 (F : St) : Nat → Int32 → Int32 → Option (Int32 × Int32)
  | 0, _, _ => none
  | n + 1, x1, x2 => if (16 : Int32) ≤ x2 then some (x1, x2) else og (vpb ((32 : Int32) + x2) 138) (og (vpb ((48 : Int32) + x2) 138) (og (vpb ((64 : Int32) + x2) 138) (pl (x1 + (((F 40 0 0 ((32 : Int32) + x2).toNatClampNeg) + (F 40 0 0 ((48 : Int32) + x2).toNatClampNeg)) + (F 40 0 0 ((64 : Int32) + x2).toNatClampNeg))) (fun x11 => lp_X8_leftIn_4 F n x11 (x2 + 4)))))
theorem lp_X8_leftIn_4_s {F : St} {n : Nat} {x1 : Int32} {x2 : Int32} : lp_X8_leftIn_4 F (n + 1) x1 x2 = if (16 : Int32) ≤ x2 then some (x1, x2) else og (vpb ((32 : Int32) + x2) 138) (og (vpb ((48 : Int32) + x2) 138) (og (vpb ((64 : Int32) + x2) 138) (pl (x1 + (((F 40 0 0 ((32 : Int32) + x2).toNatClampNeg) + (F 40 0 0 ((48 : Int32) + x2).toNatClampNeg)) + (F 40 0 0 ((64 : Int32) + x2).toNatClampNeg))) (fun x11 => lp_X8_leftIn_4 F n x11 (x2 + 4))))) := rfl
def fn_X8_leftIn (F : St) (p1 : Int32) : Option (Int32) :=
  ob2 (lp_X8_leftIn_4 F 300 (0 : Int32) p1) (fun x3 x4 => some x3)
theorem yd_X8_leftIn : yX8_leftIn.cls = RX8 ∧ yX8_leftIn.cls ≠ "java/lang/invoke/MethodHandle" ∧ yX8_leftIn.cls ≠ "java/lang/invoke/VarHandle" ∧ (parseMethodDescriptor yX8_leftIn.desc).map (fun d => d.parameters.length) = some 1 := by decide +kernel
set_option maxHeartbeats 4000000 in
theorem met_X8_leftIn (l : Launch) {D : va_G} {dA : WK} {a : Ix → Nat} (hD : wD D dA a) {F : St} {p1 : Int32} {rz : Int32} (hv0 : wVd dA (30, 0, 0)) (h : fn_X8_leftIn F p1 = some rz) : Mi l yX8_leftIn cX8_leftIn 4 .int 0 0 D dA a F [.ref (a (30, 0, 0)), .int p1] F rz := by
  refine fun sz => mst (Qc := fun sz => wQi D dA a sz F rz) (by decide) (Nat.le_of_ble_eq_true rfl) ?_ sz
  intro p e s m below meth c S hr hlk hK hW ls hl
  have hl : lv_has ls 4 [(0, .ref (a (30, 0, 0))), (1, .int p1)] := hl
  have hx := S.1
  have hb := S.2.1
  generalize ([.ref (a (30, 0, 0)), .int p1] : List Value).toArray = av at S ⊢
  unfold fn_X8_leftIn at h
  obtain ⟨H, eH⟩ : ∃ z, z = s.heap := ⟨_, rfl⟩
  obtain ⟨locs, eL⟩ : ∃ z : List Loc, z = [] := ⟨_, rfl⟩
  show WX p l e (rmL 0 0) s m av below meth c (wQi D dA a s.heap.size F rz) dA a s.heap [] (F0 m 0 ls [])
  have hW : wS D dA a s F H locs := by rw [eH, eL]; exact wS_in hW
  refine wx_in eH eL ?_
  clear eH eL
  refine lv_iconst (v := (0 : Int32)) hx hb dX8_leftIn_0 (by decide) ?_
  refine lv_istore_n (lv' := [(2, .int (0 : Int32)), (0, .ref (a (30, 0, 0))), (1, .int p1)]) hx hb dX8_leftIn_1 rfl hl (by decide) rfl (fun ls hl => ?_)
  refine lv_iload_n hx hb dX8_leftIn_2 rfl (lv_at hl 2 rfl) ?_
  refine lv_istore_n (lv' := [(3, .int p1), (2, .int (0 : Int32)), (0, .ref (a (30, 0, 0))), (1, .int p1)]) hx hb dX8_leftIn_3 rfl hl (by decide) rfl (fun ls hl => ?_)
  have L6 : ∀ (n : Nat) (x1 : Int32) (x2 : Int32) (x3 : Int32) (x4 : Int32), lp_X8_leftIn_4 F n x1 x2 = some (x3, x4) → (∀ (H : Heap) (locs : List Loc) (ls : Array Slot), wS D dA a s F H locs → lv_has ls 4 [(2, .int x3)] → WX p l e (rmL 0 0) s m av below meth c (wQi D dA a s.heap.size F rz) dA a H locs (F0 m 48 ls [])) → ∀ (H : Heap) (locs : List Loc) (ls : Array Slot), wS D dA a s F H locs → lv_has ls 4 [(0, .ref (a (30, 0, 0))), (2, .int x1), (3, .int x2)] → WX p l e (rmL 0 0) s m av below meth c (wQi D dA a s.heap.size F rz) dA a H locs (F0 m 4 ls []) := by
    intro n
    induction n with
    | zero =>
      intro x1 x2 x3 x4 h
      exact absurd (show (none : Option (Int32 × Int32)) = some (x3, x4) from h) (by simp)
    | succ n ih =>
      intro x1 x2 x3 x4 h K5 H locs ls hW hl
      have h := lp_X8_leftIn_4_s.symm.trans h
      refine lv_iload_n hx hb dX8_leftIn_4 rfl (lv_at hl 2 rfl) ?_
      refine lv_bipush (v := (16 : Int32)) hx hb dX8_leftIn_5 (by decide) ?_
      refine lv_icmp_ge (tgt := 48) hx hb dX8_leftIn_7 (by decide) (fun c7 => ?_) (fun c7 => ?_)
      · have h := if_t h c7
        cases h
        exact K5 H locs ls hW (lv_sub hl [1] rfl)
      · have h := if_f h c7
        refine lv_iload_n hx hb dX8_leftIn_10 rfl (lv_at hl 1 rfl) ?_
        refine lv_aload_n hx hb dX8_leftIn_11 rfl (lv_at hl 0 rfl) ?_
        refine gf_30_30 S hK hW hv0 q1015 dX8_leftIn_12 ?_
        refine lv_bipush (v := (32 : Int32)) hx hb dX8_leftIn_15 (by decide) ?_
        refine lv_iload_n hx hb dX8_leftIn_17 rfl (lv_at hl 2 rfl) ?_
        refine lv_iadd hx hb dX8_leftIn_18 ?_
        obtain ⟨g8, h⟩ := og_e h
        refine ald_40 S hK hW (vq_30_30 hv0) g8 rfl dX8_leftIn_19 ?_
        refine lv_aload_n hx hb dX8_leftIn_20 rfl (lv_at hl 0 rfl) ?_
        refine gf_30_30 S hK hW hv0 q1015 dX8_leftIn_21 ?_
        refine lv_bipush (v := (48 : Int32)) hx hb dX8_leftIn_24 (by decide) ?_
        refine lv_iload_n hx hb dX8_leftIn_26 rfl (lv_at hl 2 rfl) ?_
        refine lv_iadd hx hb dX8_leftIn_27 ?_
        obtain ⟨g9, h⟩ := og_e h
        refine ald_40 S hK hW (vq_30_30 hv0) g9 rfl dX8_leftIn_28 ?_
        refine lv_iadd hx hb dX8_leftIn_29 ?_
        refine lv_aload_n hx hb dX8_leftIn_30 rfl (lv_at hl 0 rfl) ?_
        refine gf_30_30 S hK hW hv0 q1015 dX8_leftIn_31 ?_
        refine lv_bipush (v := (64 : Int32)) hx hb dX8_leftIn_34 (by decide) ?_
        refine lv_iload_n hx hb dX8_leftIn_36 rfl (lv_at hl 2 rfl) ?_
        refine lv_iadd hx hb dX8_leftIn_37 ?_
        obtain ⟨g10, h⟩ := og_e h
        refine ald_40 S hK hW (vq_30_30 hv0) g10 rfl dX8_leftIn_38 ?_
        refine lv_iadd hx hb dX8_leftIn_39 ?_
        refine lv_iadd hx hb dX8_leftIn_40 ?_
        obtain ⟨x11, e12, h⟩ := pl_e h
        refine lv_nm e12 ?_
        refine lv_istore_n (lv' := [(2, .int x11), (0, .ref (a (30, 0, 0))), (3, .int x2)]) hx hb dX8_leftIn_41 rfl hl (by decide) rfl (fun ls hl => ?_)
        refine lv_iinc (v := (x2 + 4)) (lv' := [(3, .int (x2 + 4)), (2, .int x11), (0, .ref (a (30, 0, 0)))]) hx hb dX8_leftIn_42 hl (k := 2) rfl rfl (by decide) rfl (fun ls hl => ?_)
        refine lv_goto (tgt := 4) hx hb dX8_leftIn_45 (by decide) ?_
        exact ih _ _ _ _ h K5 H locs ls hW (lv_sub hl [2, 1, 0] rfl)
  obtain ⟨x3, x4, hz13, h⟩ := ob2_e h
  refine L6 300 (0 : Int32) p1 x3 x4 hz13 (fun H locs ls hW hl => ?_) H locs ls hW (lv_sub hl [2, 1, 0] rfl)
  refine lv_iload_n hx hb dX8_leftIn_48 rfl (lv_at hl 0 rfl) ?_
  cases h
  exact we_i S hr hlk hW dX8_leftIn_49
/-loop lp_X8_uneven_8-/
def lp_X8_uneven_8 (F : St) : Nat → Int32 → Int32 → Int32 → Option (Int32 × Int32 × Int32)
  | 0, _, _, _ => none
  | n + 1, x1, x2, x3 => if (F 30 0 0 0) ≤ x3 then some (x1, x2, x3) else og (vpb ((134 : Int32) + x3) 138) (pl (F 40 0 0 ((134 : Int32) + x3).toNatClampNeg) (fun x11 => ob (if x11 = 0 then some (0 : Int32) else ob (fn_X8_leftIn F x3) (fun r17 => og (nzl x11.toInt64) (some ((((1000 : Int64) * (x11 - r17).toInt64) / x11.toInt64).toInt32)))) (fun y15 => ob (if x1 ≤ y15 then some x1 else some y15) (fun y22 => ob (if y15 ≤ x2 then some x2 else some y15) (fun y26 => lp_X8_uneven_8 F n y22 y26 (x3 + 1))))))
theorem lp_X8_uneven_8_s {F : St} {n : Nat} {x1 : Int32} {x2 : Int32} {x3 : Int32} : lp_X8_uneven_8 F (n + 1) x1 x2 x3 = if (F 30 0 0 0) ≤ x3 then some (x1, x2, x3) else og (vpb ((134 : Int32) + x3) 138) (pl (F 40 0 0 ((134 : Int32) + x3).toNatClampNeg) (fun x11 => ob (if x11 = 0 then some (0 : Int32) else ob (fn_X8_leftIn F x3) (fun r17 => og (nzl x11.toInt64) (some ((((1000 : Int64) * (x11 - r17).toInt64) / x11.toInt64).toInt32)))) (fun y15 => ob (if x1 ≤ y15 then some x1 else some y15) (fun y22 => ob (if y15 ≤ x2 then some x2 else some y15) (fun y26 => lp_X8_uneven_8 F n y22 y26 (x3 + 1)))))) := rfl
def fn_X8_uneven (F : St) : Option (Int32) :=
  ob3 (lp_X8_uneven_8 F 300 (1001 : Int32) (-1 : Int32) (0 : Int32)) (fun x4 x5 x6 => some (x5 - x4))
theorem yd_X8_uneven : yX8_uneven.cls = RX8 ∧ yX8_uneven.cls ≠ "java/lang/invoke/MethodHandle" ∧ yX8_uneven.cls ≠ "java/lang/invoke/VarHandle" ∧ (parseMethodDescriptor yX8_uneven.desc).map (fun d => d.parameters.length) = some 0 := by decide +kernel
set_option maxHeartbeats 4000000 in
theorem met_X8_uneven (l : Launch) {D : va_G} {dA : WK} {a : Ix → Nat} (hD : wD D dA a) {F : St} {rz : Int32} (hv0 : wVd dA (30, 0, 0)) (h : fn_X8_uneven F = some rz) : Mi l yX8_uneven cX8_uneven 6 .int 1 23 D dA a F [.ref (a (30, 0, 0))] F rz := by
  refine fun sz => mst (Qc := fun sz => wQi D dA a sz F rz) (by decide) (Nat.le_of_ble_eq_true rfl) ?_ sz
  intro p e s m below meth c S hr hlk hK hW ls hl
  have hl : lv_has ls 6 [(0, .ref (a (30, 0, 0)))] := hl
  have hx := S.1
  have hb := S.2.1
  generalize ([.ref (a (30, 0, 0))] : List Value).toArray = av at S ⊢
  unfold fn_X8_uneven at h
  obtain ⟨H, eH⟩ : ∃ z, z = s.heap := ⟨_, rfl⟩
  obtain ⟨locs, eL⟩ : ∃ z : List Loc, z = [] := ⟨_, rfl⟩
  show WX p l e (rmL 1 23) s m av below meth c (wQi D dA a s.heap.size F rz) dA a s.heap [] (F0 m 0 ls [])
  have hW : wS D dA a s F H locs := by rw [eH, eL]; exact wS_in hW
  refine wx_in eH eL ?_
  clear eH eL
  refine lv_sipush (v := (1001 : Int32)) hx hb dX8_uneven_0 (by decide) ?_
  refine lv_istore_n (lv' := [(1, .int (1001 : Int32)), (0, .ref (a (30, 0, 0)))]) hx hb dX8_uneven_3 rfl hl (by decide) rfl (fun ls hl => ?_)
  refine lv_iconst (v := (-1 : Int32)) hx hb dX8_uneven_4 (by decide) ?_
  refine lv_istore_n (lv' := [(2, .int (-1 : Int32)), (1, .int (1001 : Int32)), (0, .ref (a (30, 0, 0)))]) hx hb dX8_uneven_5 rfl hl (by decide) rfl (fun ls hl => ?_)
  refine lv_iconst (v := (0 : Int32)) hx hb dX8_uneven_6 (by decide) ?_
  refine lv_istore_n (lv' := [(3, .int (0 : Int32)), (2, .int (-1 : Int32)), (1, .int (1001 : Int32)), (0, .ref (a (30, 0, 0)))]) hx hb dX8_uneven_7 rfl hl (by decide) rfl (fun ls hl => ?_)
  have L8 : ∀ (n : Nat) (x1 : Int32) (x2 : Int32) (x3 : Int32) (x4 : Int32) (x5 : Int32) (x6 : Int32), lp_X8_uneven_8 F n x1 x2 x3 = some (x4, x5, x6) → (∀ (H : Heap) (locs : List Loc) (ls : Array Slot), wS D dA a s F H locs → lv_has ls 6 [(1, .int x4), (2, .int x5)] → WX p l e (rmL 1 23) s m av below meth c (wQi D dA a s.heap.size F rz) dA a H locs (F0 m 89 ls [])) → ∀ (H : Heap) (locs : List Loc) (ls : Array Slot), wS D dA a s F H locs → lv_has ls 6 [(0, .ref (a (30, 0, 0))), (1, .int x1), (2, .int x2), (3, .int x3)] → WX p l e (rmL 1 23) s m av below meth c (wQi D dA a s.heap.size F rz) dA a H locs (F0 m 8 ls []) := by
    intro n
    induction n with
    | zero =>
      intro x1 x2 x3 x4 x5 x6 h
      exact absurd (show (none : Option (Int32 × Int32 × Int32)) = some (x4, x5, x6) from h) (by simp)
    | succ n ih =>
      intro x1 x2 x3 x4 x5 x6 h K7 H locs ls hW hl
      have h := lp_X8_uneven_8_s.symm.trans h
      refine lv_iload_n hx hb dX8_uneven_8 rfl (lv_at hl 3 rfl) ?_
      refine lv_aload_n hx hb dX8_uneven_9 rfl (lv_at hl 0 rfl) ?_
      refine gf_30_0 S hK hW hv0 q985 dX8_uneven_10 ?_
      refine lv_icmp_ge (tgt := 89) hx hb dX8_uneven_13 (by decide) (fun c9 => ?_) (fun c9 => ?_)
      · have h := if_t h c9
        cases h
        exact K7 H locs ls hW (lv_sub hl [1, 2] rfl)
      · have h := if_f h c9
        refine lv_aload_n hx hb dX8_uneven_16 rfl (lv_at hl 0 rfl) ?_
        refine gf_30_30 S hK hW hv0 q1015 dX8_uneven_17 ?_
        refine lv_sipush (v := (134 : Int32)) hx hb dX8_uneven_20 (by decide) ?_
        refine lv_iload_n hx hb dX8_uneven_23 rfl (lv_at hl 3 rfl) ?_
        refine lv_iadd hx hb dX8_uneven_24 ?_
        obtain ⟨g10, h⟩ := og_e h
        refine ald_40 S hK hW (vq_30_30 hv0) g10 rfl dX8_uneven_25 ?_
        obtain ⟨x11, e12, h⟩ := pl_e h
        refine lv_nm e12 ?_
        refine lv_istore (lv' := [(4, .int x11), (0, .ref (a (30, 0, 0))), (1, .int x1), (2, .int x2), (3, .int x3)]) hx hb dX8_uneven_26 hl (by decide) rfl (fun ls hl => ?_)
        refine lv_iload hx hb dX8_uneven_28 (lv_at hl 0 rfl) ?_
        obtain ⟨y15, hz14, h⟩ := ob_e h
        have K16 : ∀ (H : Heap) (locs : List Loc) (ls : Array Slot), wS D dA a s F H locs → lv_has ls 6 [(0, .ref (a (30, 0, 0))), (1, .int x1), (2, .int x2), (3, .int x3)] → WX p l e (rmL 1 23) s m av below meth c (wQi D dA a s.heap.size F rz) dA a H locs (F0 m 55 ls [.int y15]) := by
          intro H locs ls hW hl
          refine lv_istore (lv' := [(5, .int y15), (0, .ref (a (30, 0, 0))), (1, .int x1), (2, .int x2), (3, .int x3)]) hx hb dX8_uneven_55 hl (by decide) rfl (fun ls hl => ?_)
          refine lv_iload hx hb dX8_uneven_57 (lv_at hl 0 rfl) ?_
          refine lv_iload_n hx hb dX8_uneven_59 rfl (lv_at hl 2 rfl) ?_
          obtain ⟨y22, hz21, h⟩ := ob_e h
          have K23 : ∀ (H : Heap) (locs : List Loc) (ls : Array Slot), wS D dA a s F H locs → lv_has ls 6 [(0, .ref (a (30, 0, 0))), (2, .int x2), (3, .int x3), (5, .int y15)] → WX p l e (rmL 1 23) s m av below meth c (wQi D dA a s.heap.size F rz) dA a H locs (F0 m 69 ls [.int y22]) := by
            intro H locs ls hW hl
            refine lv_istore_n (lv' := [(1, .int y22), (0, .ref (a (30, 0, 0))), (2, .int x2), (3, .int x3), (5, .int y15)]) hx hb dX8_uneven_69 rfl hl (by decide) rfl (fun ls hl => ?_)
            refine lv_iload hx hb dX8_uneven_70 (lv_at hl 4 rfl) ?_
            refine lv_iload_n hx hb dX8_uneven_72 rfl (lv_at hl 2 rfl) ?_
            obtain ⟨y26, hz25, h⟩ := ob_e h
            have K27 : ∀ (H : Heap) (locs : List Loc) (ls : Array Slot), wS D dA a s F H locs → lv_has ls 6 [(0, .ref (a (30, 0, 0))), (1, .int y22), (3, .int x3)] → WX p l e (rmL 1 23) s m av below meth c (wQi D dA a s.heap.size F rz) dA a H locs (F0 m 82 ls [.int y26]) := by
              intro H locs ls hW hl
              refine lv_istore_n (lv' := [(2, .int y26), (0, .ref (a (30, 0, 0))), (1, .int y22), (3, .int x3)]) hx hb dX8_uneven_82 rfl hl (by decide) rfl (fun ls hl => ?_)
              refine lv_iinc (v := (x3 + 1)) (lv' := [(3, .int (x3 + 1)), (2, .int y26), (0, .ref (a (30, 0, 0))), (1, .int y22)]) hx hb dX8_uneven_83 hl (k := 3) rfl rfl (by decide) rfl (fun ls hl => ?_)
              refine lv_goto (tgt := 8) hx hb dX8_uneven_86 (by decide) ?_
              exact ih _ _ _ _ _ _ h K7 H locs ls hW (lv_sub hl [2, 3, 1, 0] rfl)
            clear h
            refine lv_icmp_le (tgt := 81) hx hb dX8_uneven_73 (by decide) (fun c24 => ?_) (fun c24 => ?_)
            · have h := if_t hz25 c24
              refine lv_iload_n hx hb dX8_uneven_81 rfl (lv_at hl 2 rfl) ?_
              cases h
              exact K27 H locs ls hW (lv_sub hl [1, 0, 3] rfl)
            · have h := if_f hz25 c24
              refine lv_iload hx hb dX8_uneven_76 (lv_at hl 4 rfl) ?_
              refine lv_goto (tgt := 82) hx hb dX8_uneven_78 (by decide) ?_
              cases h
              exact K27 H locs ls hW (lv_sub hl [1, 0, 3] rfl)
          clear h
          refine lv_icmp_ge (tgt := 68) hx hb dX8_uneven_60 (by decide) (fun c20 => ?_) (fun c20 => ?_)
          · have h := if_t hz21 c20
            refine lv_iload_n hx hb dX8_uneven_68 rfl (lv_at hl 2 rfl) ?_
            cases h
            exact K23 H locs ls hW (lv_sub hl [1, 3, 4, 0] rfl)
          · have h := if_f hz21 c20
            refine lv_iload hx hb dX8_uneven_63 (lv_at hl 0 rfl) ?_
            refine lv_goto (tgt := 69) hx hb dX8_uneven_65 (by decide) ?_
            cases h
            exact K23 H locs ls hW (lv_sub hl [1, 3, 4, 0] rfl)
        clear h
        refine lv_if_ne (tgt := 37) hx hb dX8_uneven_30 (by decide) (fun c13 => ?_) (fun c13 => ?_)
        · have h := if_f hz14 c13
          refine lv_ldc2 (v := (1000 : Int64)) hx hb S.2.2.2.1 (S.2.2.2.2 _ q1263) dX8_uneven_37 ?_
          refine lv_iload hx hb dX8_uneven_40 (lv_at hl 0 rfl) ?_
          refine lv_aload_n hx hb dX8_uneven_42 rfl (lv_at hl 1 rfl) ?_
          refine lv_iload_n hx hb dX8_uneven_43 rfl (lv_at hl 4 rfl) ?_
          obtain ⟨r17, hc18, h⟩ := ob_e h
          refine wk_i (va_runV (As := [.int x3]) (rest := [.int x11, .long (1000 : Int64)]) S (met_X8_leftIn l hD hv0 hc18 H.size) (cwV 1 S.2.2.2.2 (lw_V q1272 q1274 qs47 q63 q1275) rfl rfl rfl yd_X8_leftIn ⟨Nat.le_of_ble_eq_true rfl, Nat.le_of_ble_eq_true rfl⟩) (wpreV hK hW hv0 rfl rfl _) rfl rfl hl.1 rfl (lv_room (Nat.le_of_ble_eq_true rfl)) dX8_uneven_44 ⟨Nat.le_refl 0, Nat.le_refl 0⟩) hW (fun H locs hW => ?_)
          refine lv_isub hx hb dX8_uneven_47 ?_
          refine lv_i2l hx hb dX8_uneven_48 rfl ?_
          refine lv_lmul hx hb dX8_uneven_49 ?_
          refine lv_iload hx hb dX8_uneven_50 (lv_at hl 0 rfl) ?_
          refine lv_i2l hx hb dX8_uneven_52 rfl ?_
          obtain ⟨g19, h⟩ := og_e h
          refine lv_ldiv hx hb dX8_uneven_53 (nzl_e g19) ?_
          refine lv_l2i hx hb dX8_uneven_54 rfl ?_
          cases h
          exact K16 H locs ls hW (lv_sub hl [1, 2, 3, 4] rfl)
        · have h := if_t hz14 c13
          refine lv_iconst (v := (0 : Int32)) hx hb dX8_uneven_33 (by decide) ?_
          refine lv_goto (tgt := 55) hx hb dX8_uneven_34 (by decide) ?_
          cases h
          exact K16 H locs ls hW (lv_sub hl [1, 2, 3, 4] rfl)
  obtain ⟨x4, x5, x6, hz28, h⟩ := ob3_e h
  refine L8 300 (1001 : Int32) (-1 : Int32) (0 : Int32) x4 x5 x6 hz28 (fun H locs ls hW hl => ?_) H locs ls hW (lv_sub hl [3, 2, 1, 0] rfl)
  refine lv_iload_n hx hb dX8_uneven_89 rfl (lv_at hl 1 rfl) ?_
  refine lv_iload_n hx hb dX8_uneven_90 rfl (lv_at hl 0 rfl) ?_
  refine lv_isub hx hb dX8_uneven_91 ?_
  cases h
  exact we_i S hr hlk hW dX8_uneven_92
def fn_X8_partLeft (F : St) (p1 : Int32) : Option (Int64) :=
  og (vpb ((134 : Int32) + p1) 138) (if (F 40 0 0 ((134 : Int32) + p1).toNatClampNeg) = 0 then some (1 : Int64) else ob (fn_X8_leftIn F p1) (fun r3 => some r3.toInt64))
theorem yd_X8_partLeft : yX8_partLeft.cls = RX8 ∧ yX8_partLeft.cls ≠ "java/lang/invoke/MethodHandle" ∧ yX8_partLeft.cls ≠ "java/lang/invoke/VarHandle" ∧ (parseMethodDescriptor yX8_partLeft.desc).map (fun d => d.parameters.length) = some 1 := by decide +kernel
set_option maxHeartbeats 4000000 in
theorem met_X8_partLeft (l : Launch) {D : va_G} {dA : WK} {a : Ix → Nat} (hD : wD D dA a) {F : St} {p1 : Int32} {rz : Int64} (hv0 : wVd dA (30, 0, 0)) (h : fn_X8_partLeft F p1 = some rz) : Ml l yX8_partLeft cX8_partLeft 2 1 23 D dA a F [.ref (a (30, 0, 0)), .int p1] F rz := by
  refine fun sz => mst (Qc := fun sz => wQl D dA a sz F rz) (by decide) (Nat.le_of_ble_eq_true rfl) ?_ sz
  intro p e s m below meth c S hr hlk hK hW ls hl
  have hl : lv_has ls 2 [(0, .ref (a (30, 0, 0))), (1, .int p1)] := hl
  have hx := S.1
  have hb := S.2.1
  generalize ([.ref (a (30, 0, 0)), .int p1] : List Value).toArray = av at S ⊢
  unfold fn_X8_partLeft at h
  obtain ⟨H, eH⟩ : ∃ z, z = s.heap := ⟨_, rfl⟩
  obtain ⟨locs, eL⟩ : ∃ z : List Loc, z = [] := ⟨_, rfl⟩
  show WX p l e (rmL 1 23) s m av below meth c (wQl D dA a s.heap.size F rz) dA a s.heap [] (F0 m 0 ls [])
  have hW : wS D dA a s F H locs := by rw [eH, eL]; exact wS_in hW
  refine wx_in eH eL ?_
  clear eH eL
  refine lv_aload_n hx hb dX8_partLeft_0 rfl (lv_at hl 0 rfl) ?_
  refine gf_30_30 S hK hW hv0 q1015 dX8_partLeft_1 ?_
  refine lv_sipush (v := (134 : Int32)) hx hb dX8_partLeft_4 (by decide) ?_
  refine lv_iload_n hx hb dX8_partLeft_7 rfl (lv_at hl 1 rfl) ?_
  refine lv_iadd hx hb dX8_partLeft_8 ?_
  obtain ⟨g1, h⟩ := og_e h
  refine ald_40 S hK hW (vq_30_30 hv0) g1 rfl dX8_partLeft_9 ?_
  refine lv_if_ne (tgt := 17) hx hb dX8_partLeft_10 (by decide) (fun c2 => ?_) (fun c2 => ?_)
  · have h := if_f h c2
    refine lv_aload_n hx hb dX8_partLeft_17 rfl (lv_at hl 0 rfl) ?_
    refine lv_iload_n hx hb dX8_partLeft_18 rfl (lv_at hl 1 rfl) ?_
    obtain ⟨r3, hc4, h⟩ := ob_e h
    refine wk_i (va_runV (As := [.int p1]) (rest := []) S (met_X8_leftIn l hD hv0 hc4 H.size) (cwV 1 S.2.2.2.2 (lw_V q1272 q1274 qs47 q63 q1275) rfl rfl rfl yd_X8_leftIn ⟨Nat.le_of_ble_eq_true rfl, Nat.le_of_ble_eq_true rfl⟩) (wpreV hK hW hv0 rfl rfl _) rfl rfl hl.1 rfl (lv_room (Nat.le_of_ble_eq_true rfl)) dX8_partLeft_19 ⟨Nat.le_refl 0, Nat.le_refl 0⟩) hW (fun H locs hW => ?_)
    refine lv_i2l hx hb dX8_partLeft_22 rfl ?_
    cases h
    exact we_l S hr hlk hW dX8_partLeft_23
  · have h := if_t h c2
    refine lv_lconst (v := (1 : Int64)) hx hb dX8_partLeft_13 (by decide) ?_
    refine lv_goto (tgt := 23) hx hb dX8_partLeft_14 (by decide) ?_
    cases h
    exact we_l S hr hlk hW dX8_partLeft_23
/-loop lp_X8_copy_41_40_3-/
def lp_X8_copy_41_40_3 (p1 : Int32) (p3 : Int32) : Nat → St → Int32 → Option (St × Int32)
  | 0, _, _ => none
  | n + 1, F2, x1 => if (138 : Int32) ≤ x1 then some (F2, x1) else og (vpb (p1 + x1) 138) (og (vpb (p3 + x1) 138) (pl (fu F2 40 0 0 (p3 + x1).toNatClampNeg (F2 41 0 0 (p1 + x1).toNatClampNeg)) (fun F10 => lp_X8_copy_41_40_3 p1 p3 n F10 (x1 + 1))))
theorem lp_X8_copy_41_40_3_s {p1 : Int32} {p3 : Int32} {n : Nat} {F2 : St} {x1 : Int32} : lp_X8_copy_41_40_3 p1 p3 (n + 1) F2 x1 = if (138 : Int32) ≤ x1 then some (F2, x1) else og (vpb (p1 + x1) 138) (og (vpb (p3 + x1) 138) (pl (fu F2 40 0 0 (p3 + x1).toNatClampNeg (F2 41 0 0 (p1 + x1).toNatClampNeg)) (fun F10 => lp_X8_copy_41_40_3 p1 p3 n F10 (x1 + 1)))) := rfl
def fn_X8_copy_41_40 (F : St) (p1 : Int32) (p3 : Int32) : Option (St) :=
  ob2 (lp_X8_copy_41_40_3 p1 p3 300 F (0 : Int32)) (fun F3 x4 => some F3)
set_option maxHeartbeats 4000000 in
theorem met_X8_copy_41_40 (l : Launch) {D : va_G} {dA : WK} {a : Ix → Nat} (hD : wD D dA a) {F : St} {p1 : Int32} {p3 : Int32} {Fz : St} (hv0 : wVd dA (41, 0, 0)) (hv2 : wVd dA (40, 0, 0)) (h : fn_X8_copy_41_40 F p1 p3 = some Fz) : Mv l yX8_copy cX8_copy 5 0 0 D dA a F [.ref (a (41, 0, 0)), .int p1, .ref (a (40, 0, 0)), .int p3] Fz := by
  refine fun sz => mst (Qc := fun sz => wQv D dA a sz Fz) (by decide) (Nat.le_of_ble_eq_true rfl) ?_ sz
  intro p e s m below meth c S hr hlk hK hW ls hl
  have hl : lv_has ls 5 [(0, .ref (a (41, 0, 0))), (1, .int p1), (2, .ref (a (40, 0, 0))), (3, .int p3)] := hl
  have hx := S.1
  have hb := S.2.1
  generalize ([.ref (a (41, 0, 0)), .int p1, .ref (a (40, 0, 0)), .int p3] : List Value).toArray = av at S ⊢
  unfold fn_X8_copy_41_40 at h
  obtain ⟨H, eH⟩ : ∃ z, z = s.heap := ⟨_, rfl⟩
  obtain ⟨locs, eL⟩ : ∃ z : List Loc, z = [] := ⟨_, rfl⟩
  show WX p l e (rmL 0 0) s m av below meth c (wQv D dA a s.heap.size Fz) dA a s.heap [] (F0 m 0 ls [])
  have hW : wS D dA a s F H locs := by rw [eH, eL]; exact wS_in hW
  refine wx_in eH eL ?_
  clear eH eL
  refine lv_iconst (v := (0 : Int32)) hx hb dX8_copy_0 (by decide) ?_
  refine lv_istore (lv' := [(4, .int (0 : Int32)), (0, .ref (a (41, 0, 0))), (1, .int p1), (2, .ref (a (40, 0, 0))), (3, .int p3)]) hx hb dX8_copy_1 hl (by decide) rfl (fun ls hl => ?_)
  have L6 : ∀ (n : Nat) (F2 : St) (x1 : Int32) (F3 : St) (x4 : Int32), lp_X8_copy_41_40_3 p1 p3 n F2 x1 = some (F3, x4) → (∀ (H : Heap) (locs : List Loc) (ls : Array Slot), wS D dA a s F3 H locs → lv_has ls 5 [] → WX p l e (rmL 0 0) s m av below meth c (wQv D dA a s.heap.size Fz) dA a H locs (F0 m 29 ls [])) → ∀ (H : Heap) (locs : List Loc) (ls : Array Slot), wS D dA a s F2 H locs → lv_has ls 5 [(0, .ref (a (41, 0, 0))), (1, .int p1), (2, .ref (a (40, 0, 0))), (3, .int p3), (4, .int x1)] → WX p l e (rmL 0 0) s m av below meth c (wQv D dA a s.heap.size Fz) dA a H locs (F0 m 3 ls []) := by
    intro n
    induction n with
    | zero =>
      intro F2 x1 F3 x4 h
      exact absurd (show (none : Option (St × Int32)) = some (F3, x4) from h) (by simp)
    | succ n ih =>
      intro F2 x1 F3 x4 h K5 H locs ls hW hl
      have h := lp_X8_copy_41_40_3_s.symm.trans h
      refine lv_iload hx hb dX8_copy_3 (lv_at hl 4 rfl) ?_
      refine lv_sipush (v := (138 : Int32)) hx hb dX8_copy_5 (by decide) ?_
      refine lv_icmp_ge (tgt := 29) hx hb dX8_copy_8 (by decide) (fun c7 => ?_) (fun c7 => ?_)
      · have h := if_t h c7
        cases h
        exact K5 H locs ls hW (lv_sub hl [] rfl)
      · have h := if_f h c7
        refine lv_aload_n hx hb dX8_copy_11 rfl (lv_at hl 2 rfl) ?_
        refine lv_iload_n hx hb dX8_copy_12 rfl (lv_at hl 3 rfl) ?_
        refine lv_iload hx hb dX8_copy_13 (lv_at hl 4 rfl) ?_
        refine lv_iadd hx hb dX8_copy_15 ?_
        refine lv_aload_n hx hb dX8_copy_16 rfl (lv_at hl 0 rfl) ?_
        refine lv_iload_n hx hb dX8_copy_17 rfl (lv_at hl 1 rfl) ?_
        refine lv_iload hx hb dX8_copy_18 (lv_at hl 4 rfl) ?_
        refine lv_iadd hx hb dX8_copy_20 ?_
        obtain ⟨g8, h⟩ := og_e h
        refine ald_41 S hK hW hv0 g8 rfl dX8_copy_21 ?_
        obtain ⟨g9, h⟩ := og_e h
        obtain ⟨F10, e11, h⟩ := pl_e h
        refine ast_40 S hK hD hW hv2 g9 rfl e11 dX8_copy_22 (fun H locs hW => ?_)
        refine lv_iinc (v := (x1 + 1)) (lv' := [(4, .int (x1 + 1)), (0, .ref (a (41, 0, 0))), (1, .int p1), (2, .ref (a (40, 0, 0))), (3, .int p3)]) hx hb dX8_copy_23 hl (k := 4) rfl rfl (by decide) rfl (fun ls hl => ?_)
        refine lv_goto (tgt := 3) hx hb dX8_copy_26 (by decide) ?_
        exact ih _ _ _ _ h K5 H locs ls hW (lv_sub hl [1, 2, 3, 4, 0] rfl)
  obtain ⟨F3, x4, hz12, h⟩ := ob2_e h
  refine L6 300 F (0 : Int32) F3 x4 hz12 (fun H locs ls hW hl => ?_) H locs ls hW (lv_sub hl [1, 2, 3, 4, 0] rfl)
  cases h
  exact we_v S hr hlk hW dX8_copy_29
/-loop lp_X8_tasteNow_60-/
def lp_X8_tasteNow_60 : Nat → St → Int32 → Option (St × Int32)
  | 0, _, _ => none
  | n + 1, F25, x24 => if (F25 30 0 0 0) ≤ x24 then some (F25, x24) else ob (fn_X8_partLeft F25 x24) (fun r31 => ob (fn_X8_allIn F25 (F25 30 40 0 0)) (fun r33 => ob (fn_X8_partLeft F25 (F25 30 40 0 0)) (fun r35 => ob (fn_X8_allIn F25 x24) (fun r37 => ob (if 0 ≤ (lg_cmp (r31 * r33) (r35 * r37)) then some (F25 30 40 0 0) else some x24) (fun y41 => pl (fu F25 30 40 0 0 y41) (fun F43 => lp_X8_tasteNow_60 n F43 (x24 + 1)))))))
theorem lp_X8_tasteNow_60_s {n : Nat} {F25 : St} {x24 : Int32} : lp_X8_tasteNow_60 (n + 1) F25 x24 = if (F25 30 0 0 0) ≤ x24 then some (F25, x24) else ob (fn_X8_partLeft F25 x24) (fun r31 => ob (fn_X8_allIn F25 (F25 30 40 0 0)) (fun r33 => ob (fn_X8_partLeft F25 (F25 30 40 0 0)) (fun r35 => ob (fn_X8_allIn F25 x24) (fun r37 => ob (if 0 ≤ (lg_cmp (r31 * r33) (r35 * r37)) then some (F25 30 40 0 0) else some x24) (fun y41 => pl (fu F25 30 40 0 0 y41) (fun F43 => lp_X8_tasteNow_60 n F43 (x24 + 1))))))) := rfl
/-loop lp_X8_tasteNow_120-/
def lp_X8_tasteNow_120 : Nat → St → Int32 → Option (St × Int32)
  | 0, _, _ => none
  | n + 1, F47, x46 => if (16 : Int32) ≤ x46 then some (F47, x46) else ob (fn_X8_isCell F47 x46) (fun r53 => ob (if r53 = 0 then some (0 : Int32) else og (vpb ((16 : Int32) + x46) 138) (ob (fn_X8_looseOf F47 x46 (F47 40 0 0 ((16 : Int32) + x46).toNatClampNeg)) (fun r60 => if r60 = (95 : Int32) then ob (fn_X8_looseOf F47 x46 (0 : Int32)) (fun r63 => if (95 : Int32) ≤ r63 then some (0 : Int32) else some (1 : Int32)) else some (0 : Int32)))) (fun y57 => ob (if y57 = 0 then some (0 : Int32) else some ((1 : Int32) <<< (x46 &&& 31))) (fun y68 => pl (fu F47 30 41 0 0 ((F47 30 41 0 0) ||| y68)) (fun F70 => lp_X8_tasteNow_120 n F70 (x46 + 1)))))
theorem lp_X8_tasteNow_120_s {n : Nat} {F47 : St} {x46 : Int32} : lp_X8_tasteNow_120 (n + 1) F47 x46 = if (16 : Int32) ≤ x46 then some (F47, x46) else ob (fn_X8_isCell F47 x46) (fun r53 => ob (if r53 = 0 then some (0 : Int32) else og (vpb ((16 : Int32) + x46) 138) (ob (fn_X8_looseOf F47 x46 (F47 40 0 0 ((16 : Int32) + x46).toNatClampNeg)) (fun r60 => if r60 = (95 : Int32) then ob (fn_X8_looseOf F47 x46 (0 : Int32)) (fun r63 => if (95 : Int32) ≤ r63 then some (0 : Int32) else some (1 : Int32)) else some (0 : Int32)))) (fun y57 => ob (if y57 = 0 then some (0 : Int32) else some ((1 : Int32) <<< (x46 &&& 31))) (fun y68 => pl (fu F47 30 41 0 0 ((F47 30 41 0 0) ||| y68)) (fun F70 => lp_X8_tasteNow_120 n F70 (x46 + 1))))) := rfl
def fn_X8_tasteNow (F : St) : Option (St × Int32) :=
  ob (fn_X8_copy_40_41 F (0 : Int32) (0 : Int32)) (fun F1 => ob (fn_X8_begin F1) (fun F3 => ob2 (fn_X8_goOn F3 (60 : Int32)) (fun F5 r6 => ob (fn_X8_strong F5) (fun r8 => pl (fu F5 30 37 0 0 r8) (fun F10 => ob (fn_X8_out F10) (fun r12 => pl (fu F10 30 38 0 0 r12) (fun F14 => ob (fn_X8_uneven F14) (fun r16 => pl (fu F14 30 39 0 0 r16) (fun F18 => pl (fu F18 30 40 0 0 (0 : Int32)) (fun F20 => pl (fu F20 30 41 0 0 (0 : Int32)) (fun F22 => ob2 (lp_X8_tasteNow_60 300 F22 (1 : Int32)) (fun F26 x27 => ob2 (lp_X8_tasteNow_120 300 F26 (0 : Int32)) (fun F48 x49 => ob (fn_X8_copy_41_40 F48 (0 : Int32) (0 : Int32)) (fun F73 => if (F73 30 39 0 0) ≤ (F73 37 0 0 4) then if (F73 37 0 0 2) ≤ (F73 30 38 0 0) then if (F73 30 38 0 0) ≤ (F73 37 0 0 3) then if (F73 37 0 0 0) ≤ (F73 30 37 0 0) then if (F73 30 37 0 0) ≤ (F73 37 0 0 1) then some (F73, (0 : Int32)) else some (F73, (4 : Int32)) else some (F73, (3 : Int32)) else some (F73, (2 : Int32)) else some (F73, (1 : Int32)) else some (F73, (5 : Int32))))))))))))))))
theorem yd_X8_tasteNow : yX8_tasteNow.cls = RX8 ∧ yX8_tasteNow.cls ≠ "java/lang/invoke/MethodHandle" ∧ yX8_tasteNow.cls ≠ "java/lang/invoke/VarHandle" ∧ (parseMethodDescriptor yX8_tasteNow.desc).map (fun d => d.parameters.length) = some 0 := by decide +kernel
set_option maxHeartbeats 4000000 in
theorem met_X8_tasteNow (l : Launch) {D : va_G} {dA : WK} {a : Ix → Nat} (hD : wD D dA a) {F : St} {Fz : St} {rz : Int32} (hv0 : wVd dA (30, 0, 0)) (h : fn_X8_tasteNow F = some (Fz, rz)) : Mi l yX8_tasteNow cX8_tasteNow 3 .int 4 91 D dA a F [.ref (a (30, 0, 0))] Fz rz := by
  refine fun sz => mst (Qc := fun sz => wQi D dA a sz Fz rz) (by decide) (Nat.le_of_ble_eq_true rfl) ?_ sz
  intro p e s m below meth c S hr hlk hK hW ls hl
  have hl : lv_has ls 3 [(0, .ref (a (30, 0, 0)))] := hl
  have hx := S.1
  have hb := S.2.1
  generalize ([.ref (a (30, 0, 0))] : List Value).toArray = av at S ⊢
  unfold fn_X8_tasteNow at h
  obtain ⟨H, eH⟩ : ∃ z, z = s.heap := ⟨_, rfl⟩
  obtain ⟨locs, eL⟩ : ∃ z : List Loc, z = [] := ⟨_, rfl⟩
  show WX p l e (rmL 4 91) s m av below meth c (wQi D dA a s.heap.size Fz rz) dA a s.heap [] (F0 m 0 ls [])
  have hW : wS D dA a s F H locs := by rw [eH, eL]; exact wS_in hW
  refine wx_in eH eL ?_
  clear eH eL
  refine lv_aload_n hx hb dX8_tasteNow_0 rfl (lv_at hl 0 rfl) ?_
  refine gf_30_30 S hK hW hv0 q1015 dX8_tasteNow_1 ?_
  refine lv_iconst (v := (0 : Int32)) hx hb dX8_tasteNow_4 (by decide) ?_
  refine lv_aload_n hx hb dX8_tasteNow_5 rfl (lv_at hl 0 rfl) ?_
  refine gf_30_31 S hK hW hv0 q1016 dX8_tasteNow_6 ?_
  refine lv_iconst (v := (0 : Int32)) hx hb dX8_tasteNow_9 (by decide) ?_
  obtain ⟨F1, hc2, h⟩ := ob_e h
  refine wk_v (va_runS (As := [.ref (a (40, 0, 0)), .int (0 : Int32), .ref (a (41, 0, 0)), .int (0 : Int32)]) (rest := []) S (met_X8_copy_40_41 l hD (vq_30_30 hv0) (vq_30_31 hv0) hc2 H.size) (va_cwS 4 S.2.2.2.2 (lw_S q1280 q1281 q63 q1282) rfl rfl rfl yd_X8_copy.2 ⟨Nat.le_of_ble_eq_true rfl, Nat.le_of_ble_eq_true rfl⟩) (wpreS hK hW _) rfl rfl hl.1 rfl (lv_room (Nat.le_of_ble_eq_true rfl)) dX8_tasteNow_10 ⟨Nat.le_refl 0, Nat.le_refl 0⟩) hW (fun H locs hW => ?_)
  refine lv_aload_n hx hb dX8_tasteNow_13 rfl (lv_at hl 0 rfl) ?_
  obtain ⟨F3, hc4, h⟩ := ob_e h
  refine wk_v (va_runV (As := []) (rest := []) S (met_X8_begin l hD hv0 hc4 H.size) (cwV 0 S.2.2.2.2 (lw_V q977 q979 qs22 q63 q980) rfl rfl rfl yd_X8_begin ⟨Nat.le_of_ble_eq_true rfl, Nat.le_of_ble_eq_true rfl⟩) (wpreV hK hW hv0 rfl rfl _) rfl rfl hl.1 rfl (lv_room (Nat.le_of_ble_eq_true rfl)) dX8_tasteNow_14 ⟨Nat.le_refl 0, Nat.le_refl 0⟩) hW (fun H locs hW => ?_)
  refine lv_aload_n hx hb dX8_tasteNow_17 rfl (lv_at hl 0 rfl) ?_
  refine lv_bipush (v := (60 : Int32)) hx hb dX8_tasteNow_18 (by decide) ?_
  obtain ⟨F5, r6, hc7, h⟩ := ob2_e h
  refine wk_i (va_runV (As := [.int (60 : Int32)]) (rest := []) S (met_X8_goOn l hD hv0 hc7 H.size) (cwV 1 S.2.2.2.2 (lw_V q1210 q1212 qs35 q63 q1213) rfl rfl rfl yd_X8_goOn ⟨Nat.le_of_ble_eq_true rfl, Nat.le_of_ble_eq_true rfl⟩) (wpreV hK hW hv0 rfl rfl _) rfl rfl hl.1 rfl (lv_room (Nat.le_of_ble_eq_true rfl)) dX8_tasteNow_20 ⟨Nat.le_refl 0, Nat.le_refl 0⟩) hW (fun H locs hW => ?_)
  refine lv_pop hx hb dX8_tasteNow_23 rfl ?_
  refine lv_aload_n hx hb dX8_tasteNow_24 rfl (lv_at hl 0 rfl) ?_
  refine lv_aload_n hx hb dX8_tasteNow_25 rfl (lv_at hl 0 rfl) ?_
  obtain ⟨r8, hc9, h⟩ := ob_e h
  refine wk_i (va_runV (As := []) (rest := [.ref (a (30, 0, 0))]) S (met_X8_strong l hD hv0 hc9 H.size) (cwV 0 S.2.2.2.2 (lw_V q1255 q1257 qs43 q63 q1258) rfl rfl rfl yd_X8_strong ⟨Nat.le_of_ble_eq_true rfl, Nat.le_of_ble_eq_true rfl⟩) (wpreV hK hW hv0 rfl rfl _) rfl rfl hl.1 rfl (lv_room (Nat.le_of_ble_eq_true rfl)) dX8_tasteNow_26 ⟨Nat.le_refl 0, Nat.le_refl 0⟩) hW (fun H locs hW => ?_)
  obtain ⟨F10, e11, h⟩ := pl_e h
  refine pf_30_37 S hK hD hW hv0 e11 q1022 dX8_tasteNow_29 (fun H locs hW => ?_)
  refine lv_aload_n hx hb dX8_tasteNow_32 rfl (lv_at hl 0 rfl) ?_
  refine lv_aload_n hx hb dX8_tasteNow_33 rfl (lv_at hl 0 rfl) ?_
  obtain ⟨r12, hc13, h⟩ := ob_e h
  refine wk_i (va_runV (As := []) (rest := [.ref (a (30, 0, 0))]) S (met_X8_out l hD hv0 hc13 H.size) (cwV 0 S.2.2.2.2 (lw_V q1264 q1266 qs45 q63 q1267) rfl rfl rfl yd_X8_out ⟨Nat.le_of_ble_eq_true rfl, Nat.le_of_ble_eq_true rfl⟩) (wpreV hK hW hv0 rfl rfl _) rfl rfl hl.1 rfl (lv_room (Nat.le_of_ble_eq_true rfl)) dX8_tasteNow_34 ⟨Nat.le_refl 0, Nat.le_refl 0⟩) hW (fun H locs hW => ?_)
  obtain ⟨F14, e15, h⟩ := pl_e h
  refine pf_30_38 S hK hD hW hv0 e15 q1023 dX8_tasteNow_37 (fun H locs hW => ?_)
  refine lv_aload_n hx hb dX8_tasteNow_40 rfl (lv_at hl 0 rfl) ?_
  refine lv_aload_n hx hb dX8_tasteNow_41 rfl (lv_at hl 0 rfl) ?_
  obtain ⟨r16, hc17, h⟩ := ob_e h
  refine wk_i (va_runV (As := []) (rest := [.ref (a (30, 0, 0))]) S (met_X8_uneven l hD hv0 hc17 H.size) (cwV 0 S.2.2.2.2 (lw_V q1268 q1270 qs46 q63 q1271) rfl rfl rfl yd_X8_uneven ⟨Nat.le_of_ble_eq_true rfl, Nat.le_of_ble_eq_true rfl⟩) (wpreV hK hW hv0 rfl rfl _) rfl rfl hl.1 rfl (lv_room (Nat.le_of_ble_eq_true rfl)) dX8_tasteNow_42 ⟨Nat.le_refl 0, Nat.le_refl 0⟩) hW (fun H locs hW => ?_)
  obtain ⟨F18, e19, h⟩ := pl_e h
  refine pf_30_39 S hK hD hW hv0 e19 q1024 dX8_tasteNow_45 (fun H locs hW => ?_)
  refine lv_aload_n hx hb dX8_tasteNow_48 rfl (lv_at hl 0 rfl) ?_
  refine lv_iconst (v := (0 : Int32)) hx hb dX8_tasteNow_49 (by decide) ?_
  obtain ⟨F20, e21, h⟩ := pl_e h
  refine pf_30_40 S hK hD hW hv0 e21 q1025 dX8_tasteNow_50 (fun H locs hW => ?_)
  refine lv_aload_n hx hb dX8_tasteNow_53 rfl (lv_at hl 0 rfl) ?_
  refine lv_iconst (v := (0 : Int32)) hx hb dX8_tasteNow_54 (by decide) ?_
  obtain ⟨F22, e23, h⟩ := pl_e h
  refine pf_30_41 S hK hD hW hv0 e23 q1026 dX8_tasteNow_55 (fun H locs hW => ?_)
  refine lv_iconst (v := (1 : Int32)) hx hb dX8_tasteNow_58 (by decide) ?_
  refine lv_istore_n (lv' := [(1, .int (1 : Int32)), (0, .ref (a (30, 0, 0)))]) hx hb dX8_tasteNow_59 rfl hl (by decide) rfl (fun ls hl => ?_)
  have L29 : ∀ (n : Nat) (F25 : St) (x24 : Int32) (F26 : St) (x27 : Int32), lp_X8_tasteNow_60 n F25 x24 = some (F26, x27) → (∀ (H : Heap) (locs : List Loc) (ls : Array Slot), wS D dA a s F26 H locs → lv_has ls 3 [(0, .ref (a (30, 0, 0)))] → WX p l e (rmL 4 91) s m av below meth c (wQi D dA a s.heap.size Fz rz) dA a H locs (F0 m 118 ls [])) → ∀ (H : Heap) (locs : List Loc) (ls : Array Slot), wS D dA a s F25 H locs → lv_has ls 3 [(0, .ref (a (30, 0, 0))), (1, .int x24)] → WX p l e (rmL 4 91) s m av below meth c (wQi D dA a s.heap.size Fz rz) dA a H locs (F0 m 60 ls []) := by
    intro n
    induction n with
    | zero =>
      intro F25 x24 F26 x27 h
      exact absurd (show (none : Option (St × Int32)) = some (F26, x27) from h) (by simp)
    | succ n ih =>
      intro F25 x24 F26 x27 h K28 H locs ls hW hl
      have h := lp_X8_tasteNow_60_s.symm.trans h
      refine lv_iload_n hx hb dX8_tasteNow_60 rfl (lv_at hl 1 rfl) ?_
      refine lv_aload_n hx hb dX8_tasteNow_61 rfl (lv_at hl 0 rfl) ?_
      refine gf_30_0 S hK hW hv0 q985 dX8_tasteNow_62 ?_
      refine lv_icmp_ge (tgt := 118) hx hb dX8_tasteNow_65 (by decide) (fun c30 => ?_) (fun c30 => ?_)
      · have h := if_t h c30
        cases h
        exact K28 H locs ls hW (lv_sub hl [0] rfl)
      · have h := if_f h c30
        refine lv_aload_n hx hb dX8_tasteNow_68 rfl (lv_at hl 0 rfl) ?_
        refine lv_aload_n hx hb dX8_tasteNow_69 rfl (lv_at hl 0 rfl) ?_
        refine lv_iload_n hx hb dX8_tasteNow_70 rfl (lv_at hl 1 rfl) ?_
        obtain ⟨r31, hc32, h⟩ := ob_e h
        refine wk_l (va_runV (As := [.int x24]) (rest := [.ref (a (30, 0, 0))]) S (met_X8_partLeft l hD hv0 hc32 H.size) (cwV 1 S.2.2.2.2 (lw_V q1295 q1297 qs49 q63 q1298) rfl rfl rfl yd_X8_partLeft ⟨Nat.le_of_ble_eq_true rfl, Nat.le_of_ble_eq_true rfl⟩) (wpreV hK hW hv0 rfl rfl _) rfl rfl hl.1 rfl (lv_room (Nat.le_of_ble_eq_true rfl)) dX8_tasteNow_71 ⟨Nat.le_refl 0, Nat.le_refl 0⟩) hW (fun H locs hW => ?_)
        refine lv_aload_n hx hb dX8_tasteNow_74 rfl (lv_at hl 0 rfl) ?_
        refine lv_aload_n hx hb dX8_tasteNow_75 rfl (lv_at hl 0 rfl) ?_
        refine gf_30_40 S hK hW hv0 q1025 dX8_tasteNow_76 ?_
        obtain ⟨r33, hc34, h⟩ := ob_e h
        refine wk_l (va_runV (As := [.int (F25 30 40 0 0)]) (rest := [.long r31, .ref (a (30, 0, 0))]) S (met_X8_allIn l hD hv0 hc34 H.size) (cwV 1 S.2.2.2.2 (lw_V q1299 q1301 qs50 q63 q1302) rfl rfl rfl yd_X8_allIn ⟨Nat.le_of_ble_eq_true rfl, Nat.le_of_ble_eq_true rfl⟩) (wpreV hK hW hv0 rfl rfl _) rfl rfl hl.1 rfl (lv_room (Nat.le_of_ble_eq_true rfl)) dX8_tasteNow_79 ⟨Nat.le_refl 0, Nat.le_refl 0⟩) hW (fun H locs hW => ?_)
        refine lv_lmul hx hb dX8_tasteNow_82 ?_
        refine lv_aload_n hx hb dX8_tasteNow_83 rfl (lv_at hl 0 rfl) ?_
        refine lv_aload_n hx hb dX8_tasteNow_84 rfl (lv_at hl 0 rfl) ?_
        refine gf_30_40 S hK hW hv0 q1025 dX8_tasteNow_85 ?_
        obtain ⟨r35, hc36, h⟩ := ob_e h
        refine wk_l (va_runV (As := [.int (F25 30 40 0 0)]) (rest := [.long (r31 * r33), .ref (a (30, 0, 0))]) S (met_X8_partLeft l hD hv0 hc36 H.size) (cwV 1 S.2.2.2.2 (lw_V q1295 q1297 qs49 q63 q1298) rfl rfl rfl yd_X8_partLeft ⟨Nat.le_of_ble_eq_true rfl, Nat.le_of_ble_eq_true rfl⟩) (wpreV hK hW hv0 rfl rfl _) rfl rfl hl.1 rfl (lv_room (Nat.le_of_ble_eq_true rfl)) dX8_tasteNow_88 ⟨Nat.le_refl 0, Nat.le_refl 0⟩) hW (fun H locs hW => ?_)
        refine lv_aload_n hx hb dX8_tasteNow_91 rfl (lv_at hl 0 rfl) ?_
        refine lv_iload_n hx hb dX8_tasteNow_92 rfl (lv_at hl 1 rfl) ?_
        obtain ⟨r37, hc38, h⟩ := ob_e h
        refine wk_l (va_runV (As := [.int x24]) (rest := [.long r35, .long (r31 * r33), .ref (a (30, 0, 0))]) S (met_X8_allIn l hD hv0 hc38 H.size) (cwV 1 S.2.2.2.2 (lw_V q1299 q1301 qs50 q63 q1302) rfl rfl rfl yd_X8_allIn ⟨Nat.le_of_ble_eq_true rfl, Nat.le_of_ble_eq_true rfl⟩) (wpreV hK hW hv0 rfl rfl _) rfl rfl hl.1 rfl (lv_room (Nat.le_of_ble_eq_true rfl)) dX8_tasteNow_93 ⟨Nat.le_refl 0, Nat.le_refl 0⟩) hW (fun H locs hW => ?_)
        refine lv_lmul hx hb dX8_tasteNow_96 ?_
        refine W.lcmp hx hb dX8_tasteNow_97 ?_
        obtain ⟨y41, hz40, h⟩ := ob_e h
        have K42 : ∀ (H : Heap) (locs : List Loc) (ls : Array Slot), wS D dA a s F25 H locs → lv_has ls 3 [(0, .ref (a (30, 0, 0))), (1, .int x24)] → WX p l e (rmL 4 91) s m av below meth c (wQi D dA a s.heap.size Fz rz) dA a H locs (F0 m 109 ls [.int y41, .ref (a (30, 0, 0))]) := by
          intro H locs ls hW hl
          obtain ⟨F43, e44, h⟩ := pl_e h
          refine pf_30_40 S hK hD hW hv0 e44 q1025 dX8_tasteNow_109 (fun H locs hW => ?_)
          refine lv_iinc (v := (x24 + 1)) (lv' := [(1, .int (x24 + 1)), (0, .ref (a (30, 0, 0)))]) hx hb dX8_tasteNow_112 hl (k := 1) rfl rfl (by decide) rfl (fun ls hl => ?_)
          refine lv_goto (tgt := 60) hx hb dX8_tasteNow_115 (by decide) ?_
          exact ih _ _ _ _ h K28 H locs ls hW (lv_sub hl [1, 0] rfl)
        clear h
        refine lv_if_ge (tgt := 105) hx hb dX8_tasteNow_98 (by decide) (fun c39 => ?_) (fun c39 => ?_)
        · have h := if_t hz40 c39
          refine lv_aload_n hx hb dX8_tasteNow_105 rfl (lv_at hl 0 rfl) ?_
          refine gf_30_40 S hK hW hv0 q1025 dX8_tasteNow_106 ?_
          cases h
          exact K42 H locs ls hW (lv_sub hl [0, 1] rfl)
        · have h := if_f hz40 c39
          refine lv_iload_n hx hb dX8_tasteNow_101 rfl (lv_at hl 1 rfl) ?_
          refine lv_goto (tgt := 109) hx hb dX8_tasteNow_102 (by decide) ?_
          cases h
          exact K42 H locs ls hW (lv_sub hl [0, 1] rfl)
  obtain ⟨F26, x27, hz45, h⟩ := ob2_e h
  refine L29 300 F22 (1 : Int32) F26 x27 hz45 (fun H locs ls hW hl => ?_) H locs ls hW (lv_sub hl [1, 0] rfl)
  refine lv_iconst (v := (0 : Int32)) hx hb dX8_tasteNow_118 (by decide) ?_
  refine lv_istore_n (lv' := [(1, .int (0 : Int32)), (0, .ref (a (30, 0, 0)))]) hx hb dX8_tasteNow_119 rfl hl (by decide) rfl (fun ls hl => ?_)
  have L51 : ∀ (n : Nat) (F47 : St) (x46 : Int32) (F48 : St) (x49 : Int32), lp_X8_tasteNow_120 n F47 x46 = some (F48, x49) → (∀ (H : Heap) (locs : List Loc) (ls : Array Slot), wS D dA a s F48 H locs → lv_has ls 3 [(0, .ref (a (30, 0, 0)))] → WX p l e (rmL 4 91) s m av below meth c (wQi D dA a s.heap.size Fz rz) dA a H locs (F0 m 196 ls [])) → ∀ (H : Heap) (locs : List Loc) (ls : Array Slot), wS D dA a s F47 H locs → lv_has ls 3 [(0, .ref (a (30, 0, 0))), (1, .int x46)] → WX p l e (rmL 4 91) s m av below meth c (wQi D dA a s.heap.size Fz rz) dA a H locs (F0 m 120 ls []) := by
    intro n
    induction n with
    | zero =>
      intro F47 x46 F48 x49 h
      exact absurd (show (none : Option (St × Int32)) = some (F48, x49) from h) (by simp)
    | succ n ih =>
      intro F47 x46 F48 x49 h K50 H locs ls hW hl
      have h := lp_X8_tasteNow_120_s.symm.trans h
      refine lv_iload_n hx hb dX8_tasteNow_120 rfl (lv_at hl 1 rfl) ?_
      refine lv_bipush (v := (16 : Int32)) hx hb dX8_tasteNow_121 (by decide) ?_
      refine lv_icmp_ge (tgt := 196) hx hb dX8_tasteNow_123 (by decide) (fun c52 => ?_) (fun c52 => ?_)
      · have h := if_t h c52
        cases h
        exact K50 H locs ls hW (lv_sub hl [0] rfl)
      · have h := if_f h c52
        refine lv_aload_n hx hb dX8_tasteNow_126 rfl (lv_at hl 0 rfl) ?_
        refine lv_iload_n hx hb dX8_tasteNow_127 rfl (lv_at hl 1 rfl) ?_
        obtain ⟨r53, hc54, h⟩ := ob_e h
        refine wk_i (va_runV (As := [.int x46]) (rest := []) S (met_X8_isCell l hD hv0 hc54 H.size) (cwV 1 S.2.2.2.2 (lw_V q981 q983 qs23 q63 q984) rfl rfl rfl yd_X8_isCell ⟨Nat.le_of_ble_eq_true rfl, Nat.le_of_ble_eq_true rfl⟩) (wpreV hK hW hv0 rfl rfl _) rfl rfl hl.1 rfl (lv_room (Nat.le_of_ble_eq_true rfl)) dX8_tasteNow_128 ⟨Nat.le_refl 0, Nat.le_refl 0⟩) hW (fun H locs hW => ?_)
        obtain ⟨y57, hz56, h⟩ := ob_e h
        have K58 : ∀ (H : Heap) (locs : List Loc) (ls : Array Slot), wS D dA a s F47 H locs → lv_has ls 3 [(0, .ref (a (30, 0, 0))), (1, .int x46)] → WX p l e (rmL 4 91) s m av below meth c (wQi D dA a s.heap.size Fz rz) dA a H locs (F0 m 169 ls [.int y57]) := by
          intro H locs ls hW hl
          refine lv_istore_n (lv' := [(2, .int y57), (0, .ref (a (30, 0, 0))), (1, .int x46)]) hx hb dX8_tasteNow_169 rfl hl (by decide) rfl (fun ls hl => ?_)
          refine lv_aload_n hx hb dX8_tasteNow_170 rfl (lv_at hl 1 rfl) ?_
          refine lv_aload_n hx hb dX8_tasteNow_171 rfl (lv_at hl 1 rfl) ?_
          refine gf_30_41 S hK hW hv0 q1026 dX8_tasteNow_172 ?_
          refine lv_iload_n hx hb dX8_tasteNow_175 rfl (lv_at hl 0 rfl) ?_
          obtain ⟨y68, hz67, h⟩ := ob_e h
          have K69 : ∀ (H : Heap) (locs : List Loc) (ls : Array Slot), wS D dA a s F47 H locs → lv_has ls 3 [(0, .ref (a (30, 0, 0))), (1, .int x46)] → WX p l e (rmL 4 91) s m av below meth c (wQi D dA a s.heap.size Fz rz) dA a H locs (F0 m 186 ls [.int y68, .int (F47 30 41 0 0), .ref (a (30, 0, 0))]) := by
            intro H locs ls hW hl
            refine lv_ior hx hb dX8_tasteNow_186 ?_
            obtain ⟨F70, e71, h⟩ := pl_e h
            refine pf_30_41 S hK hD hW hv0 e71 q1026 dX8_tasteNow_187 (fun H locs hW => ?_)
            refine lv_iinc (v := (x46 + 1)) (lv' := [(1, .int (x46 + 1)), (0, .ref (a (30, 0, 0)))]) hx hb dX8_tasteNow_190 hl (k := 1) rfl rfl (by decide) rfl (fun ls hl => ?_)
            refine lv_goto (tgt := 120) hx hb dX8_tasteNow_193 (by decide) ?_
            exact ih _ _ _ _ h K50 H locs ls hW (lv_sub hl [1, 0] rfl)
          clear h
          refine lv_if_eq (tgt := 185) hx hb dX8_tasteNow_176 (by decide) (fun c66 => ?_) (fun c66 => ?_)
          · have h := if_t hz67 c66
            refine lv_iconst (v := (0 : Int32)) hx hb dX8_tasteNow_185 (by decide) ?_
            cases h
            exact K69 H locs ls hW (lv_sub hl [1, 2] rfl)
          · have h := if_f hz67 c66
            refine lv_iconst (v := (1 : Int32)) hx hb dX8_tasteNow_179 (by decide) ?_
            refine lv_iload_n hx hb dX8_tasteNow_180 rfl (lv_at hl 2 rfl) ?_
            refine lv_ishl hx hb dX8_tasteNow_181 ?_
            refine lv_goto (tgt := 186) hx hb dX8_tasteNow_182 (by decide) ?_
            cases h
            exact K69 H locs ls hW (lv_sub hl [1, 2] rfl)
        clear h
        refine lv_if_eq (tgt := 168) hx hb dX8_tasteNow_131 (by decide) (fun c55 => ?_) (fun c55 => ?_)
        · have h := if_t hz56 c55
          refine lv_iconst (v := (0 : Int32)) hx hb dX8_tasteNow_168 (by decide) ?_
          cases h
          exact K58 H locs ls hW (lv_sub hl [0, 1] rfl)
        · have h := if_f hz56 c55
          refine lv_aload_n hx hb dX8_tasteNow_134 rfl (lv_at hl 0 rfl) ?_
          refine lv_iload_n hx hb dX8_tasteNow_135 rfl (lv_at hl 1 rfl) ?_
          refine lv_aload_n hx hb dX8_tasteNow_136 rfl (lv_at hl 0 rfl) ?_
          refine gf_30_30 S hK hW hv0 q1015 dX8_tasteNow_137 ?_
          refine lv_bipush (v := (16 : Int32)) hx hb dX8_tasteNow_140 (by decide) ?_
          refine lv_iload_n hx hb dX8_tasteNow_142 rfl (lv_at hl 1 rfl) ?_
          refine lv_iadd hx hb dX8_tasteNow_143 ?_
          obtain ⟨g59, h⟩ := og_e h
          refine ald_40 S hK hW (vq_30_30 hv0) g59 rfl dX8_tasteNow_144 ?_
          obtain ⟨r60, hc61, h⟩ := ob_e h
          refine wk_i (va_runV (As := [.int x46, .int (F47 40 0 0 ((16 : Int32) + x46).toNatClampNeg)]) (rest := []) S (met_X8_looseOf l hD hv0 hc61 H.size) (cwV 2 S.2.2.2.2 (lw_V q1239 q1241 qs42 q63 q1242) rfl rfl rfl yd_X8_looseOf ⟨Nat.le_of_ble_eq_true rfl, Nat.le_of_ble_eq_true rfl⟩) (wpreV hK hW hv0 rfl rfl _) rfl rfl hl.1 rfl (lv_room (Nat.le_of_ble_eq_true rfl)) dX8_tasteNow_145 ⟨Nat.le_refl 0, Nat.le_refl 0⟩) hW (fun H locs hW => ?_)
          refine lv_bipush (v := (95 : Int32)) hx hb dX8_tasteNow_148 (by decide) ?_
          refine lv_icmp_ne (tgt := 168) hx hb dX8_tasteNow_150 (by decide) (fun c62 => ?_) (fun c62 => ?_)
          · have h := if_f h c62
            refine lv_iconst (v := (0 : Int32)) hx hb dX8_tasteNow_168 (by decide) ?_
            cases h
            exact K58 H locs ls hW (lv_sub hl [0, 1] rfl)
          · have h := if_t h c62
            refine lv_aload_n hx hb dX8_tasteNow_153 rfl (lv_at hl 0 rfl) ?_
            refine lv_iload_n hx hb dX8_tasteNow_154 rfl (lv_at hl 1 rfl) ?_
            refine lv_iconst (v := (0 : Int32)) hx hb dX8_tasteNow_155 (by decide) ?_
            obtain ⟨r63, hc64, h⟩ := ob_e h
            refine wk_i (va_runV (As := [.int x46, .int (0 : Int32)]) (rest := []) S (met_X8_looseOf l hD hv0 hc64 H.size) (cwV 2 S.2.2.2.2 (lw_V q1239 q1241 qs42 q63 q1242) rfl rfl rfl yd_X8_looseOf ⟨Nat.le_of_ble_eq_true rfl, Nat.le_of_ble_eq_true rfl⟩) (wpreV hK hW hv0 rfl rfl _) rfl rfl hl.1 rfl (lv_room (Nat.le_of_ble_eq_true rfl)) dX8_tasteNow_156 ⟨Nat.le_refl 0, Nat.le_refl 0⟩) hW (fun H locs hW => ?_)
            refine lv_bipush (v := (95 : Int32)) hx hb dX8_tasteNow_159 (by decide) ?_
            refine lv_icmp_ge (tgt := 168) hx hb dX8_tasteNow_161 (by decide) (fun c65 => ?_) (fun c65 => ?_)
            · have h := if_t h c65
              refine lv_iconst (v := (0 : Int32)) hx hb dX8_tasteNow_168 (by decide) ?_
              cases h
              exact K58 H locs ls hW (lv_sub hl [0, 1] rfl)
            · have h := if_f h c65
              refine lv_iconst (v := (1 : Int32)) hx hb dX8_tasteNow_164 (by decide) ?_
              refine lv_goto (tgt := 169) hx hb dX8_tasteNow_165 (by decide) ?_
              cases h
              exact K58 H locs ls hW (lv_sub hl [0, 1] rfl)
  obtain ⟨F48, x49, hz72, h⟩ := ob2_e h
  refine L51 300 F26 (0 : Int32) F48 x49 hz72 (fun H locs ls hW hl => ?_) H locs ls hW (lv_sub hl [1, 0] rfl)
  refine lv_aload_n hx hb dX8_tasteNow_196 rfl (lv_at hl 0 rfl) ?_
  refine gf_30_31 S hK hW hv0 q1016 dX8_tasteNow_197 ?_
  refine lv_iconst (v := (0 : Int32)) hx hb dX8_tasteNow_200 (by decide) ?_
  refine lv_aload_n hx hb dX8_tasteNow_201 rfl (lv_at hl 0 rfl) ?_
  refine gf_30_30 S hK hW hv0 q1015 dX8_tasteNow_202 ?_
  refine lv_iconst (v := (0 : Int32)) hx hb dX8_tasteNow_205 (by decide) ?_
  obtain ⟨F73, hc74, h⟩ := ob_e h
  refine wk_v (va_runS (As := [.ref (a (41, 0, 0)), .int (0 : Int32), .ref (a (40, 0, 0)), .int (0 : Int32)]) (rest := []) S (met_X8_copy_41_40 l hD (vq_30_31 hv0) (vq_30_30 hv0) hc74 H.size) (va_cwS 4 S.2.2.2.2 (lw_S q1280 q1281 q63 q1282) rfl rfl rfl yd_X8_copy.2 ⟨Nat.le_of_ble_eq_true rfl, Nat.le_of_ble_eq_true rfl⟩) (wpreS hK hW _) rfl rfl hl.1 rfl (lv_room (Nat.le_of_ble_eq_true rfl)) dX8_tasteNow_206 ⟨Nat.le_refl 0, Nat.le_refl 0⟩) hW (fun H locs hW => ?_)
  refine lv_aload_n hx hb dX8_tasteNow_209 rfl (lv_at hl 0 rfl) ?_
  refine gf_30_39 S hK hW hv0 q1024 dX8_tasteNow_210 ?_
  refine lv_aload_n hx hb dX8_tasteNow_213 rfl (lv_at hl 0 rfl) ?_
  refine gf_30_17 S hK hW hv0 q1002 dX8_tasteNow_214 ?_
  refine lv_iconst (v := (4 : Int32)) hx hb dX8_tasteNow_217 (by decide) ?_
  refine ald_37 (z := 4) S hK hW (vq_30_17 hv0) (by decide) (by decide) dX8_tasteNow_218 ?_
  refine lv_icmp_le (tgt := 226) hx hb dX8_tasteNow_219 (by decide) (fun c75 => ?_) (fun c75 => ?_)
  · have h := if_t h c75
    refine lv_aload_n hx hb dX8_tasteNow_226 rfl (lv_at hl 0 rfl) ?_
    refine gf_30_38 S hK hW hv0 q1023 dX8_tasteNow_227 ?_
    refine lv_aload_n hx hb dX8_tasteNow_230 rfl (lv_at hl 0 rfl) ?_
    refine gf_30_17 S hK hW hv0 q1002 dX8_tasteNow_231 ?_
    refine lv_iconst (v := (2 : Int32)) hx hb dX8_tasteNow_234 (by decide) ?_
    refine ald_37 (z := 2) S hK hW (vq_30_17 hv0) (by decide) (by decide) dX8_tasteNow_235 ?_
    refine lv_icmp_ge (tgt := 243) hx hb dX8_tasteNow_236 (by decide) (fun c76 => ?_) (fun c76 => ?_)
    · have h := if_t h c76
      refine lv_aload_n hx hb dX8_tasteNow_243 rfl (lv_at hl 0 rfl) ?_
      refine gf_30_38 S hK hW hv0 q1023 dX8_tasteNow_244 ?_
      refine lv_aload_n hx hb dX8_tasteNow_247 rfl (lv_at hl 0 rfl) ?_
      refine gf_30_17 S hK hW hv0 q1002 dX8_tasteNow_248 ?_
      refine lv_iconst (v := (3 : Int32)) hx hb dX8_tasteNow_251 (by decide) ?_
      refine ald_37 (z := 3) S hK hW (vq_30_17 hv0) (by decide) (by decide) dX8_tasteNow_252 ?_
      refine lv_icmp_le (tgt := 260) hx hb dX8_tasteNow_253 (by decide) (fun c77 => ?_) (fun c77 => ?_)
      · have h := if_t h c77
        refine lv_aload_n hx hb dX8_tasteNow_260 rfl (lv_at hl 0 rfl) ?_
        refine gf_30_37 S hK hW hv0 q1022 dX8_tasteNow_261 ?_
        refine lv_aload_n hx hb dX8_tasteNow_264 rfl (lv_at hl 0 rfl) ?_
        refine gf_30_17 S hK hW hv0 q1002 dX8_tasteNow_265 ?_
        refine lv_iconst (v := (0 : Int32)) hx hb dX8_tasteNow_268 (by decide) ?_
        refine ald_37 (z := 0) S hK hW (vq_30_17 hv0) (by decide) (by decide) dX8_tasteNow_269 ?_
        refine lv_icmp_ge (tgt := 277) hx hb dX8_tasteNow_270 (by decide) (fun c78 => ?_) (fun c78 => ?_)
        · have h := if_t h c78
          refine lv_aload_n hx hb dX8_tasteNow_277 rfl (lv_at hl 0 rfl) ?_
          refine gf_30_37 S hK hW hv0 q1022 dX8_tasteNow_278 ?_
          refine lv_aload_n hx hb dX8_tasteNow_281 rfl (lv_at hl 0 rfl) ?_
          refine gf_30_17 S hK hW hv0 q1002 dX8_tasteNow_282 ?_
          refine lv_iconst (v := (1 : Int32)) hx hb dX8_tasteNow_285 (by decide) ?_
          refine ald_37 (z := 1) S hK hW (vq_30_17 hv0) (by decide) (by decide) dX8_tasteNow_286 ?_
          refine lv_icmp_le (tgt := 294) hx hb dX8_tasteNow_287 (by decide) (fun c79 => ?_) (fun c79 => ?_)
          · have h := if_t h c79
            refine lv_iconst (v := (0 : Int32)) hx hb dX8_tasteNow_294 (by decide) ?_
            cases h
            exact we_i S hr hlk hW dX8_tasteNow_295
          · have h := if_f h c79
            refine lv_iconst (v := (4 : Int32)) hx hb dX8_tasteNow_290 (by decide) ?_
            refine lv_goto (tgt := 295) hx hb dX8_tasteNow_291 (by decide) ?_
            cases h
            exact we_i S hr hlk hW dX8_tasteNow_295
        · have h := if_f h c78
          refine lv_iconst (v := (3 : Int32)) hx hb dX8_tasteNow_273 (by decide) ?_
          refine lv_goto (tgt := 295) hx hb dX8_tasteNow_274 (by decide) ?_
          cases h
          exact we_i S hr hlk hW dX8_tasteNow_295
      · have h := if_f h c77
        refine lv_iconst (v := (2 : Int32)) hx hb dX8_tasteNow_256 (by decide) ?_
        refine lv_goto (tgt := 295) hx hb dX8_tasteNow_257 (by decide) ?_
        cases h
        exact we_i S hr hlk hW dX8_tasteNow_295
    · have h := if_f h c76
      refine lv_iconst (v := (1 : Int32)) hx hb dX8_tasteNow_239 (by decide) ?_
      refine lv_goto (tgt := 295) hx hb dX8_tasteNow_240 (by decide) ?_
      cases h
      exact we_i S hr hlk hW dX8_tasteNow_295
  · have h := if_f h c75
    refine lv_iconst (v := (5 : Int32)) hx hb dX8_tasteNow_222 (by decide) ?_
    refine lv_goto (tgt := 295) hx hb dX8_tasteNow_223 (by decide) ?_
    cases h
    exact we_i S hr hlk hW dX8_tasteNow_295
/-loop lp_X8_layRights_12-/
def lp_X8_layRights_12 : Nat → St → Int32 → Option (St × Int32)
  | 0, _, _ => none
  | n + 1, F6, x5 => if (121 : Int32) ≤ x5 then some (F6, x5) else pl (fu F6 30 4 0 0 (x5 / (11 : Int32))) (fun F12 => pl (fu F12 30 10 0 0 ((10 : Int32) * (x5 - x5 / (11 : Int32) * (11 : Int32)))) (fun F14 => ob2 (fn_X8_tasteNow F14) (fun F16 r17 => ob (if r17 = 0 then some (1 : Int32) else some (0 : Int32)) (fun y21 => og (vpb x5 121) (pl (fu F16 46 0 0 x5.toNatClampNeg y21) (fun F24 => lp_X8_layRights_12 n F24 (x5 + 1)))))))
theorem lp_X8_layRights_12_s {n : Nat} {F6 : St} {x5 : Int32} : lp_X8_layRights_12 (n + 1) F6 x5 = if (121 : Int32) ≤ x5 then some (F6, x5) else pl (fu F6 30 4 0 0 (x5 / (11 : Int32))) (fun F12 => pl (fu F12 30 10 0 0 ((10 : Int32) * (x5 - x5 / (11 : Int32) * (11 : Int32)))) (fun F14 => ob2 (fn_X8_tasteNow F14) (fun F16 r17 => ob (if r17 = 0 then some (1 : Int32) else some (0 : Int32)) (fun y21 => og (vpb x5 121) (pl (fu F16 46 0 0 x5.toNatClampNeg y21) (fun F24 => lp_X8_layRights_12 n F24 (x5 + 1))))))) := rfl
def fn_X8_layRights (F : St) : Option (St) :=
  pl (F 30 4 0 0) (fun x1 => pl (F 30 10 0 0) (fun x3 => ob2 (lp_X8_layRights_12 300 F (0 : Int32)) (fun F7 x8 => pl (fu F7 30 4 0 0 x1) (fun F27 => pl (fu F27 30 10 0 0 x3) (fun F29 => some F29)))))
theorem yd_X8_layRights : yX8_layRights.cls = RX8 ∧ yX8_layRights.cls ≠ "java/lang/invoke/MethodHandle" ∧ yX8_layRights.cls ≠ "java/lang/invoke/VarHandle" ∧ (parseMethodDescriptor yX8_layRights.desc).map (fun d => d.parameters.length) = some 0 := by decide +kernel
set_option maxHeartbeats 4000000 in
theorem met_X8_layRights (l : Launch) {D : va_G} {dA : WK} {a : Ix → Nat} (hD : wD D dA a) {F : St} {Fz : St} (hv0 : wVd dA (30, 0, 0)) (h : fn_X8_layRights F = some Fz) : Mv l yX8_layRights cX8_layRights 4 5 113 D dA a F [.ref (a (30, 0, 0))] Fz := by
  refine fun sz => mst (Qc := fun sz => wQv D dA a sz Fz) (by decide) (Nat.le_of_ble_eq_true rfl) ?_ sz
  intro p e s m below meth c S hr hlk hK hW ls hl
  have hl : lv_has ls 4 [(0, .ref (a (30, 0, 0)))] := hl
  have hx := S.1
  have hb := S.2.1
  generalize ([.ref (a (30, 0, 0))] : List Value).toArray = av at S ⊢
  unfold fn_X8_layRights at h
  obtain ⟨H, eH⟩ : ∃ z, z = s.heap := ⟨_, rfl⟩
  obtain ⟨locs, eL⟩ : ∃ z : List Loc, z = [] := ⟨_, rfl⟩
  show WX p l e (rmL 5 113) s m av below meth c (wQv D dA a s.heap.size Fz) dA a s.heap [] (F0 m 0 ls [])
  have hW : wS D dA a s F H locs := by rw [eH, eL]; exact wS_in hW
  refine wx_in eH eL ?_
  clear eH eL
  refine lv_aload_n hx hb dX8_layRights_0 rfl (lv_at hl 0 rfl) ?_
  refine gf_30_4 S hK hW hv0 q989 dX8_layRights_1 ?_
  obtain ⟨x1, e2, h⟩ := pl_e h
  refine lv_nm e2 ?_
  refine lv_istore_n (lv' := [(1, .int x1), (0, .ref (a (30, 0, 0)))]) hx hb dX8_layRights_4 rfl hl (by decide) rfl (fun ls hl => ?_)
  refine lv_aload_n hx hb dX8_layRights_5 rfl (lv_at hl 1 rfl) ?_
  refine gf_30_10 S hK hW hv0 q995 dX8_layRights_6 ?_
  obtain ⟨x3, e4, h⟩ := pl_e h
  refine lv_nm e4 ?_
  refine lv_istore_n (lv' := [(2, .int x3), (1, .int x1), (0, .ref (a (30, 0, 0)))]) hx hb dX8_layRights_9 rfl hl (by decide) rfl (fun ls hl => ?_)
  refine lv_iconst (v := (0 : Int32)) hx hb dX8_layRights_10 (by decide) ?_
  refine lv_istore_n (lv' := [(3, .int (0 : Int32)), (2, .int x3), (1, .int x1), (0, .ref (a (30, 0, 0)))]) hx hb dX8_layRights_11 rfl hl (by decide) rfl (fun ls hl => ?_)
  have L10 : ∀ (n : Nat) (F6 : St) (x5 : Int32) (F7 : St) (x8 : Int32), lp_X8_layRights_12 n F6 x5 = some (F7, x8) → (∀ (H : Heap) (locs : List Loc) (ls : Array Slot), wS D dA a s F7 H locs → lv_has ls 4 [(0, .ref (a (30, 0, 0))), (1, .int x1), (2, .int x3)] → WX p l e (rmL 5 113) s m av below meth c (wQv D dA a s.heap.size Fz) dA a H locs (F0 m 61 ls [])) → ∀ (H : Heap) (locs : List Loc) (ls : Array Slot), wS D dA a s F6 H locs → lv_has ls 4 [(0, .ref (a (30, 0, 0))), (1, .int x1), (2, .int x3), (3, .int x5)] → WX p l e (rmL 5 113) s m av below meth c (wQv D dA a s.heap.size Fz) dA a H locs (F0 m 12 ls []) := by
    intro n
    induction n with
    | zero =>
      intro F6 x5 F7 x8 h
      exact absurd (show (none : Option (St × Int32)) = some (F7, x8) from h) (by simp)
    | succ n ih =>
      intro F6 x5 F7 x8 h K9 H locs ls hW hl
      have h := lp_X8_layRights_12_s.symm.trans h
      refine lv_iload_n hx hb dX8_layRights_12 rfl (lv_at hl 3 rfl) ?_
      refine lv_bipush (v := (121 : Int32)) hx hb dX8_layRights_13 (by decide) ?_
      refine lv_icmp_ge (tgt := 61) hx hb dX8_layRights_15 (by decide) (fun c11 => ?_) (fun c11 => ?_)
      · have h := if_t h c11
        cases h
        exact K9 H locs ls hW (lv_sub hl [0, 1, 2] rfl)
      · have h := if_f h c11
        refine lv_aload_n hx hb dX8_layRights_18 rfl (lv_at hl 0 rfl) ?_
        refine lv_iload_n hx hb dX8_layRights_19 rfl (lv_at hl 3 rfl) ?_
        refine lv_bipush (v := (11 : Int32)) hx hb dX8_layRights_20 (by decide) ?_
        refine lv_idiv hx hb dX8_layRights_22 (by decide) ?_
        obtain ⟨F12, e13, h⟩ := pl_e h
        refine pf_30_4 S hK hD hW hv0 e13 q989 dX8_layRights_23 (fun H locs hW => ?_)
        refine lv_aload_n hx hb dX8_layRights_26 rfl (lv_at hl 0 rfl) ?_
        refine lv_bipush (v := (10 : Int32)) hx hb dX8_layRights_27 (by decide) ?_
        refine lv_iload_n hx hb dX8_layRights_29 rfl (lv_at hl 3 rfl) ?_
        refine lv_bipush (v := (11 : Int32)) hx hb dX8_layRights_30 (by decide) ?_
        refine lv_irem hx hb dX8_layRights_32 (by decide) ?_
        refine lv_imul hx hb dX8_layRights_33 ?_
        obtain ⟨F14, e15, h⟩ := pl_e h
        refine pf_30_10 S hK hD hW hv0 e15 q995 dX8_layRights_34 (fun H locs hW => ?_)
        refine lv_aload_n hx hb dX8_layRights_37 rfl (lv_at hl 0 rfl) ?_
        refine gf_30_36 S hK hW hv0 q1021 dX8_layRights_38 ?_
        refine lv_iload_n hx hb dX8_layRights_41 rfl (lv_at hl 3 rfl) ?_
        refine lv_aload_n hx hb dX8_layRights_42 rfl (lv_at hl 0 rfl) ?_
        obtain ⟨F16, r17, hc18, h⟩ := ob2_e h
        refine wk_i (va_runV (As := []) (rest := [.int x5, .ref (a (46, 0, 0))]) S (met_X8_tasteNow l hD hv0 hc18 H.size) (cwV 0 S.2.2.2.2 (lw_V q1291 q1293 qs48 q63 q1294) rfl rfl rfl yd_X8_tasteNow ⟨Nat.le_of_ble_eq_true rfl, Nat.le_of_ble_eq_true rfl⟩) (wpreV hK hW hv0 rfl rfl _) rfl rfl hl.1 rfl (lv_room (Nat.le_of_ble_eq_true rfl)) dX8_layRights_43 ⟨Nat.le_refl 0, Nat.le_refl 0⟩) hW (fun H locs hW => ?_)
        obtain ⟨y21, hz20, h⟩ := ob_e h
        have K22 : ∀ (H : Heap) (locs : List Loc) (ls : Array Slot), wS D dA a s F16 H locs → lv_has ls 4 [(0, .ref (a (30, 0, 0))), (1, .int x1), (2, .int x3), (3, .int x5)] → WX p l e (rmL 5 113) s m av below meth c (wQv D dA a s.heap.size Fz) dA a H locs (F0 m 54 ls [.int y21, .int x5, .ref (a (46, 0, 0))]) := by
          intro H locs ls hW hl
          obtain ⟨g23, h⟩ := og_e h
          obtain ⟨F24, e25, h⟩ := pl_e h
          refine ast_46 S hK hD hW (vq_30_36 hv0) g23 rfl e25 dX8_layRights_54 (fun H locs hW => ?_)
          refine lv_iinc (v := (x5 + 1)) (lv' := [(3, .int (x5 + 1)), (0, .ref (a (30, 0, 0))), (1, .int x1), (2, .int x3)]) hx hb dX8_layRights_55 hl (k := 3) rfl rfl (by decide) rfl (fun ls hl => ?_)
          refine lv_goto (tgt := 12) hx hb dX8_layRights_58 (by decide) ?_
          exact ih _ _ _ _ h K9 H locs ls hW (lv_sub hl [1, 2, 3, 0] rfl)
        clear h
        refine lv_if_ne (tgt := 53) hx hb dX8_layRights_46 (by decide) (fun c19 => ?_) (fun c19 => ?_)
        · have h := if_f hz20 c19
          refine lv_iconst (v := (0 : Int32)) hx hb dX8_layRights_53 (by decide) ?_
          cases h
          exact K22 H locs ls hW (lv_sub hl [0, 1, 2, 3] rfl)
        · have h := if_t hz20 c19
          refine lv_iconst (v := (1 : Int32)) hx hb dX8_layRights_49 (by decide) ?_
          refine lv_goto (tgt := 54) hx hb dX8_layRights_50 (by decide) ?_
          cases h
          exact K22 H locs ls hW (lv_sub hl [0, 1, 2, 3] rfl)
  obtain ⟨F7, x8, hz26, h⟩ := ob2_e h
  refine L10 300 F (0 : Int32) F7 x8 hz26 (fun H locs ls hW hl => ?_) H locs ls hW (lv_sub hl [3, 2, 1, 0] rfl)
  refine lv_aload_n hx hb dX8_layRights_61 rfl (lv_at hl 0 rfl) ?_
  refine lv_iload_n hx hb dX8_layRights_62 rfl (lv_at hl 1 rfl) ?_
  obtain ⟨F27, e28, h⟩ := pl_e h
  refine pf_30_4 S hK hD hW hv0 e28 q989 dX8_layRights_63 (fun H locs hW => ?_)
  refine lv_aload_n hx hb dX8_layRights_66 rfl (lv_at hl 0 rfl) ?_
  refine lv_iload_n hx hb dX8_layRights_67 rfl (lv_at hl 2 rfl) ?_
  obtain ⟨F29, e30, h⟩ := pl_e h
  refine pf_30_10 S hK hD hW hv0 e30 q995 dX8_layRights_68 (fun H locs hW => ?_)
  cases h
  exact we_v S hr hlk hW dX8_layRights_71
/-loop lp_X8_broad_36-/
def lp_X8_broad_36 (F4 : St) (x8 : Int32) : Nat → Int32 → Int32 → Option (Int32 × Int32)
  | 0, _, _ => none
  | n + 1, x15, x16 => if (9 : Int32) ≤ x16 then some (x15, x16) else pl (((x8 / (11 : Int32)) + (x16 / (3 : Int32))) - (1 : Int32)) (fun x22 => pl (((x8 - x8 / (11 : Int32) * (11 : Int32)) + (x16 - x16 / (3 : Int32) * (3 : Int32))) - (1 : Int32)) (fun x24 => ob (fn_X8_in F4 x22 (0 : Int32) (10 : Int32)) (fun r26 => ob (if r26 = 0 then some (0 : Int32) else ob (fn_X8_in F4 x24 (0 : Int32) (10 : Int32)) (fun r32 => if r32 = 0 then some (0 : Int32) else og (vpb (((11 : Int32) * x22) + x24) 121) (some (F4 46 0 0 (((11 : Int32) * x22) + x24).toNatClampNeg)))) (fun y30 => pl (x15 + y30) (fun x36 => lp_X8_broad_36 F4 x8 n x36 (x16 + 1))))))
theorem lp_X8_broad_36_s {F4 : St} {x8 : Int32} {n : Nat} {x15 : Int32} {x16 : Int32} : lp_X8_broad_36 F4 x8 (n + 1) x15 x16 = if (9 : Int32) ≤ x16 then some (x15, x16) else pl (((x8 / (11 : Int32)) + (x16 / (3 : Int32))) - (1 : Int32)) (fun x22 => pl (((x8 - x8 / (11 : Int32) * (11 : Int32)) + (x16 - x16 / (3 : Int32) * (3 : Int32))) - (1 : Int32)) (fun x24 => ob (fn_X8_in F4 x22 (0 : Int32) (10 : Int32)) (fun r26 => ob (if r26 = 0 then some (0 : Int32) else ob (fn_X8_in F4 x24 (0 : Int32) (10 : Int32)) (fun r32 => if r32 = 0 then some (0 : Int32) else og (vpb (((11 : Int32) * x22) + x24) 121) (some (F4 46 0 0 (((11 : Int32) * x22) + x24).toNatClampNeg)))) (fun y30 => pl (x15 + y30) (fun x36 => lp_X8_broad_36 F4 x8 n x36 (x16 + 1)))))) := rfl
/-loop lp_X8_broad_23-/
def lp_X8_broad_23 (F4 : St) : Nat → Int32 → Int32 → Int32 → Option (Int32 × Int32 × Int32)
  | 0, _, _, _ => none
  | n + 1, x6, x7, x8 => if (121 : Int32) ≤ x8 then some (x6, x7, x8) else ob2 (lp_X8_broad_36 F4 x8 300 (0 : Int32) (0 : Int32)) (fun x17 x18 => ob (if x17 ≤ x7 then some x6 else some x8) (fun y41 => ob (if x17 ≤ x7 then some x7 else some x17) (fun y45 => lp_X8_broad_23 F4 n y41 y45 (x8 + 1))))
theorem lp_X8_broad_23_s {F4 : St} {n : Nat} {x6 : Int32} {x7 : Int32} {x8 : Int32} : lp_X8_broad_23 F4 (n + 1) x6 x7 x8 = if (121 : Int32) ≤ x8 then some (x6, x7, x8) else ob2 (lp_X8_broad_36 F4 x8 300 (0 : Int32) (0 : Int32)) (fun x17 x18 => ob (if x17 ≤ x7 then some x6 else some x8) (fun y41 => ob (if x17 ≤ x7 then some x7 else some x17) (fun y45 => lp_X8_broad_23 F4 n y41 y45 (x8 + 1)))) := rfl
def fn_X8_broad (F : St) (p1 : Int32) : Option (St × Int32) :=
  ob (fn_X8_in F p1 (0 : Int32) (2 : Int32)) (fun r1 => if r1 = 0 then some (F, (-3 : Int32)) else ob (fn_X8_layRights F) (fun F4 => ob3 (lp_X8_broad_23 F4 300 (0 : Int32) (-1 : Int32) (0 : Int32)) (fun x9 x10 x11 => if p1 = 0 then some (F4, x10) else if p1 = (1 : Int32) then some (F4, (x9 / (11 : Int32))) else some (F4, ((10 : Int32) * (x9 - x9 / (11 : Int32) * (11 : Int32)))))))
theorem yd_X8_broad : yX8_broad.cls = RX8 ∧ yX8_broad.cls ≠ "java/lang/invoke/MethodHandle" ∧ yX8_broad.cls ≠ "java/lang/invoke/VarHandle" ∧ (parseMethodDescriptor yX8_broad.desc).map (fun d => d.parameters.length) = some 1 := by decide +kernel
set_option maxHeartbeats 4000000 in
theorem met_X8_broad (l : Launch) {D : va_G} {dA : WK} {a : Ix → Nat} (hD : wD D dA a) {F : St} {p1 : Int32} {Fz : St} {rz : Int32} (hv0 : wVd dA (30, 0, 0)) (h : fn_X8_broad F p1 = some (Fz, rz)) : Mi l yX8_broad cX8_broad 9 .int 6 136 D dA a F [.ref (a (30, 0, 0)), .int p1] Fz rz := by
  refine fun sz => mst (Qc := fun sz => wQi D dA a sz Fz rz) (by decide) (Nat.le_of_ble_eq_true rfl) ?_ sz
  intro p e s m below meth c S hr hlk hK hW ls hl
  have hl : lv_has ls 9 [(0, .ref (a (30, 0, 0))), (1, .int p1)] := hl
  have hx := S.1
  have hb := S.2.1
  generalize ([.ref (a (30, 0, 0)), .int p1] : List Value).toArray = av at S ⊢
  unfold fn_X8_broad at h
  obtain ⟨H, eH⟩ : ∃ z, z = s.heap := ⟨_, rfl⟩
  obtain ⟨locs, eL⟩ : ∃ z : List Loc, z = [] := ⟨_, rfl⟩
  show WX p l e (rmL 6 136) s m av below meth c (wQi D dA a s.heap.size Fz rz) dA a s.heap [] (F0 m 0 ls [])
  have hW : wS D dA a s F H locs := by rw [eH, eL]; exact wS_in hW
  refine wx_in eH eL ?_
  clear eH eL
  refine lv_iload_n hx hb dX8_broad_0 rfl (lv_at hl 1 rfl) ?_
  refine lv_iconst (v := (0 : Int32)) hx hb dX8_broad_1 (by decide) ?_
  refine lv_iconst (v := (2 : Int32)) hx hb dX8_broad_2 (by decide) ?_
  obtain ⟨r1, hc2, h⟩ := ob_e h
  refine wk_i (va_runS (As := [.int p1, .int (0 : Int32), .int (2 : Int32)]) (rest := []) S (met_X8_in l hD hc2 H.size) (va_cwS 3 S.2.2.2.2 (lw_S q1117 q1118 q63 q1119) rfl rfl rfl yd_X8_in.2 ⟨Nat.le_of_ble_eq_true rfl, Nat.le_of_ble_eq_true rfl⟩) (wpreS hK hW _) rfl rfl hl.1 rfl (lv_room (Nat.le_of_ble_eq_true rfl)) dX8_broad_3 ⟨Nat.le_refl 0, Nat.le_refl 0⟩) hW (fun H locs hW => ?_)
  refine lv_if_ne (tgt := 12) hx hb dX8_broad_6 (by decide) (fun c3 => ?_) (fun c3 => ?_)
  · have h := if_f h c3
    refine lv_aload_n hx hb dX8_broad_12 rfl (lv_at hl 0 rfl) ?_
    obtain ⟨F4, hc5, h⟩ := ob_e h
    refine wk_v (va_runV (As := []) (rest := []) S (met_X8_layRights l hD hv0 hc5 H.size) (cwV 0 S.2.2.2.2 (lw_V q1323 q1325 qs53 q63 q1326) rfl rfl rfl yd_X8_layRights ⟨Nat.le_of_ble_eq_true rfl, Nat.le_of_ble_eq_true rfl⟩) (wpreV hK hW hv0 rfl rfl _) rfl rfl hl.1 rfl (lv_room (Nat.le_of_ble_eq_true rfl)) dX8_broad_13 ⟨Nat.le_refl 0, Nat.le_refl 0⟩) hW (fun H locs hW => ?_)
    refine lv_iconst (v := (0 : Int32)) hx hb dX8_broad_16 (by decide) ?_
    refine lv_istore_n (lv' := [(2, .int (0 : Int32)), (0, .ref (a (30, 0, 0))), (1, .int p1)]) hx hb dX8_broad_17 rfl hl (by decide) rfl (fun ls hl => ?_)
    refine lv_iconst (v := (-1 : Int32)) hx hb dX8_broad_18 (by decide) ?_
    refine lv_istore_n (lv' := [(3, .int (-1 : Int32)), (2, .int (0 : Int32)), (0, .ref (a (30, 0, 0))), (1, .int p1)]) hx hb dX8_broad_19 rfl hl (by decide) rfl (fun ls hl => ?_)
    refine lv_iconst (v := (0 : Int32)) hx hb dX8_broad_20 (by decide) ?_
    refine lv_istore (lv' := [(4, .int (0 : Int32)), (3, .int (-1 : Int32)), (2, .int (0 : Int32)), (0, .ref (a (30, 0, 0))), (1, .int p1)]) hx hb dX8_broad_21 hl (by decide) rfl (fun ls hl => ?_)
    have L13 : ∀ (n : Nat) (x6 : Int32) (x7 : Int32) (x8 : Int32) (x9 : Int32) (x10 : Int32) (x11 : Int32), lp_X8_broad_23 F4 n x6 x7 x8 = some (x9, x10, x11) → (∀ (H : Heap) (locs : List Loc) (ls : Array Slot), wS D dA a s F4 H locs → lv_has ls 9 [(1, .int p1), (2, .int x9), (3, .int x10)] → WX p l e (rmL 6 136) s m av below meth c (wQi D dA a s.heap.size Fz rz) dA a H locs (F0 m 153 ls [])) → ∀ (H : Heap) (locs : List Loc) (ls : Array Slot), wS D dA a s F4 H locs → lv_has ls 9 [(0, .ref (a (30, 0, 0))), (1, .int p1), (2, .int x6), (3, .int x7), (4, .int x8)] → WX p l e (rmL 6 136) s m av below meth c (wQi D dA a s.heap.size Fz rz) dA a H locs (F0 m 23 ls []) := by
      intro n
      induction n with
      | zero =>
        intro x6 x7 x8 x9 x10 x11 h
        exact absurd (show (none : Option (Int32 × Int32 × Int32)) = some (x9, x10, x11) from h) (by simp)
      | succ n ih =>
        intro x6 x7 x8 x9 x10 x11 h K12 H locs ls hW hl
        have h := lp_X8_broad_23_s.symm.trans h
        refine lv_iload hx hb dX8_broad_23 (lv_at hl 4 rfl) ?_
        refine lv_bipush (v := (121 : Int32)) hx hb dX8_broad_25 (by decide) ?_
        refine lv_icmp_ge (tgt := 153) hx hb dX8_broad_27 (by decide) (fun c14 => ?_) (fun c14 => ?_)
        · have h := if_t h c14
          cases h
          exact K12 H locs ls hW (lv_sub hl [1, 2, 3] rfl)
        · have h := if_f h c14
          refine lv_iconst (v := (0 : Int32)) hx hb dX8_broad_30 (by decide) ?_
          refine lv_istore (lv' := [(5, .int (0 : Int32)), (0, .ref (a (30, 0, 0))), (1, .int p1), (2, .int x6), (3, .int x7), (4, .int x8)]) hx hb dX8_broad_31 hl (by decide) rfl (fun ls hl => ?_)
          refine lv_iconst (v := (0 : Int32)) hx hb dX8_broad_33 (by decide) ?_
          refine lv_istore (lv' := [(6, .int (0 : Int32)), (5, .int (0 : Int32)), (0, .ref (a (30, 0, 0))), (1, .int p1), (2, .int x6), (3, .int x7), (4, .int x8)]) hx hb dX8_broad_34 hl (by decide) rfl (fun ls hl => ?_)
          have L20 : ∀ (n : Nat) (x15 : Int32) (x16 : Int32) (x17 : Int32) (x18 : Int32), lp_X8_broad_36 F4 x8 n x15 x16 = some (x17, x18) → (∀ (H : Heap) (locs : List Loc) (ls : Array Slot), wS D dA a s F4 H locs → lv_has ls 9 [(0, .ref (a (30, 0, 0))), (1, .int p1), (2, .int x6), (3, .int x7), (4, .int x8), (5, .int x17)] → WX p l e (rmL 6 136) s m av below meth c (wQi D dA a s.heap.size Fz rz) dA a H locs (F0 m 121 ls [])) → ∀ (H : Heap) (locs : List Loc) (ls : Array Slot), wS D dA a s F4 H locs → lv_has ls 9 [(0, .ref (a (30, 0, 0))), (1, .int p1), (2, .int x6), (3, .int x7), (4, .int x8), (5, .int x15), (6, .int x16)] → WX p l e (rmL 6 136) s m av below meth c (wQi D dA a s.heap.size Fz rz) dA a H locs (F0 m 36 ls []) := by
            intro n
            induction n with
            | zero =>
              intro x15 x16 x17 x18 h
              exact absurd (show (none : Option (Int32 × Int32)) = some (x17, x18) from h) (by simp)
            | succ n ih =>
              intro x15 x16 x17 x18 h K19 H locs ls hW hl
              have h := lp_X8_broad_36_s.symm.trans h
              refine lv_iload hx hb dX8_broad_36 (lv_at hl 6 rfl) ?_
              refine lv_bipush (v := (9 : Int32)) hx hb dX8_broad_38 (by decide) ?_
              refine lv_icmp_ge (tgt := 121) hx hb dX8_broad_40 (by decide) (fun c21 => ?_) (fun c21 => ?_)
              · have h := if_t h c21
                cases h
                exact K19 H locs ls hW (lv_sub hl [0, 1, 2, 3, 4, 5] rfl)
              · have h := if_f h c21
                refine lv_iload hx hb dX8_broad_43 (lv_at hl 4 rfl) ?_
                refine lv_bipush (v := (11 : Int32)) hx hb dX8_broad_45 (by decide) ?_
                refine lv_idiv hx hb dX8_broad_47 (by decide) ?_
                refine lv_iload hx hb dX8_broad_48 (lv_at hl 6 rfl) ?_
                refine lv_iconst (v := (3 : Int32)) hx hb dX8_broad_50 (by decide) ?_
                refine lv_idiv hx hb dX8_broad_51 (by decide) ?_
                refine lv_iadd hx hb dX8_broad_52 ?_
                refine lv_iconst (v := (1 : Int32)) hx hb dX8_broad_53 (by decide) ?_
                refine lv_isub hx hb dX8_broad_54 ?_
                obtain ⟨x22, e23, h⟩ := pl_e h
                refine lv_nm e23 ?_
                refine lv_istore (lv' := [(7, .int x22), (0, .ref (a (30, 0, 0))), (1, .int p1), (2, .int x6), (3, .int x7), (4, .int x8), (5, .int x15), (6, .int x16)]) hx hb dX8_broad_55 hl (by decide) rfl (fun ls hl => ?_)
                refine lv_iload hx hb dX8_broad_57 (lv_at hl 5 rfl) ?_
                refine lv_bipush (v := (11 : Int32)) hx hb dX8_broad_59 (by decide) ?_
                refine lv_irem hx hb dX8_broad_61 (by decide) ?_
                refine lv_iload hx hb dX8_broad_62 (lv_at hl 7 rfl) ?_
                refine lv_iconst (v := (3 : Int32)) hx hb dX8_broad_64 (by decide) ?_
                refine lv_irem hx hb dX8_broad_65 (by decide) ?_
                refine lv_iadd hx hb dX8_broad_66 ?_
                refine lv_iconst (v := (1 : Int32)) hx hb dX8_broad_67 (by decide) ?_
                refine lv_isub hx hb dX8_broad_68 ?_
                obtain ⟨x24, e25, h⟩ := pl_e h
                refine lv_nm e25 ?_
                refine lv_istore (lv' := [(8, .int x24), (7, .int x22), (0, .ref (a (30, 0, 0))), (1, .int p1), (2, .int x6), (3, .int x7), (4, .int x8), (5, .int x15), (6, .int x16)]) hx hb dX8_broad_69 hl (by decide) rfl (fun ls hl => ?_)
                refine lv_iload hx hb dX8_broad_71 (lv_at hl 7 rfl) ?_
                refine lv_iload hx hb dX8_broad_73 (lv_at hl 1 rfl) ?_
                refine lv_iconst (v := (0 : Int32)) hx hb dX8_broad_75 (by decide) ?_
                refine lv_bipush (v := (10 : Int32)) hx hb dX8_broad_76 (by decide) ?_
                obtain ⟨r26, hc27, h⟩ := ob_e h
                refine wk_i (va_runS (As := [.int x22, .int (0 : Int32), .int (10 : Int32)]) (rest := [.int x15]) S (met_X8_in l hD hc27 H.size) (va_cwS 3 S.2.2.2.2 (lw_S q1117 q1118 q63 q1119) rfl rfl rfl yd_X8_in.2 ⟨Nat.le_of_ble_eq_true rfl, Nat.le_of_ble_eq_true rfl⟩) (wpreS hK hW _) rfl rfl hl.1 rfl (lv_room (Nat.le_of_ble_eq_true rfl)) dX8_broad_78 ⟨Nat.le_refl 0, Nat.le_refl 0⟩) hW (fun H locs hW => ?_)
                obtain ⟨y30, hz29, h⟩ := ob_e h
                have K31 : ∀ (H : Heap) (locs : List Loc) (ls : Array Slot), wS D dA a s F4 H locs → lv_has ls 9 [(0, .ref (a (30, 0, 0))), (1, .int p1), (2, .int x6), (3, .int x7), (4, .int x8), (6, .int x16)] → WX p l e (rmL 6 136) s m av below meth c (wQi D dA a s.heap.size Fz rz) dA a H locs (F0 m 112 ls [.int y30, .int x15]) := by
                  intro H locs ls hW hl
                  refine lv_iadd hx hb dX8_broad_112 ?_
                  obtain ⟨x36, e37, h⟩ := pl_e h
                  refine lv_nm e37 ?_
                  refine lv_istore (lv' := [(5, .int x36), (0, .ref (a (30, 0, 0))), (1, .int p1), (2, .int x6), (3, .int x7), (4, .int x8), (6, .int x16)]) hx hb dX8_broad_113 hl (by decide) rfl (fun ls hl => ?_)
                  refine lv_iinc (v := (x16 + 1)) (lv' := [(6, .int (x16 + 1)), (5, .int x36), (0, .ref (a (30, 0, 0))), (1, .int p1), (2, .int x6), (3, .int x7), (4, .int x8)]) hx hb dX8_broad_115 hl (k := 6) rfl rfl (by decide) rfl (fun ls hl => ?_)
                  refine lv_goto (tgt := 36) hx hb dX8_broad_118 (by decide) ?_
                  exact ih _ _ _ _ h K19 H locs ls hW (lv_sub hl [2, 3, 4, 5, 6, 1, 0] rfl)
                clear h
                refine lv_if_eq (tgt := 111) hx hb dX8_broad_81 (by decide) (fun c28 => ?_) (fun c28 => ?_)
                · have h := if_t hz29 c28
                  refine lv_iconst (v := (0 : Int32)) hx hb dX8_broad_111 (by decide) ?_
                  cases h
                  exact K31 H locs ls hW (lv_sub hl [2, 3, 4, 5, 6, 8] rfl)
                · have h := if_f hz29 c28
                  refine lv_iload hx hb dX8_broad_84 (lv_at hl 0 rfl) ?_
                  refine lv_iconst (v := (0 : Int32)) hx hb dX8_broad_86 (by decide) ?_
                  refine lv_bipush (v := (10 : Int32)) hx hb dX8_broad_87 (by decide) ?_
                  obtain ⟨r32, hc33, h⟩ := ob_e h
                  refine wk_i (va_runS (As := [.int x24, .int (0 : Int32), .int (10 : Int32)]) (rest := [.int x15]) S (met_X8_in l hD hc33 H.size) (va_cwS 3 S.2.2.2.2 (lw_S q1117 q1118 q63 q1119) rfl rfl rfl yd_X8_in.2 ⟨Nat.le_of_ble_eq_true rfl, Nat.le_of_ble_eq_true rfl⟩) (wpreS hK hW _) rfl rfl hl.1 rfl (lv_room (Nat.le_of_ble_eq_true rfl)) dX8_broad_89 ⟨Nat.le_refl 0, Nat.le_refl 0⟩) hW (fun H locs hW => ?_)
                  refine lv_if_eq (tgt := 111) hx hb dX8_broad_92 (by decide) (fun c34 => ?_) (fun c34 => ?_)
                  · have h := if_t h c34
                    refine lv_iconst (v := (0 : Int32)) hx hb dX8_broad_111 (by decide) ?_
                    cases h
                    exact K31 H locs ls hW (lv_sub hl [2, 3, 4, 5, 6, 8] rfl)
                  · have h := if_f h c34
                    refine lv_aload_n hx hb dX8_broad_95 rfl (lv_at hl 2 rfl) ?_
                    refine gf_30_36 S hK hW hv0 q1021 dX8_broad_96 ?_
                    refine lv_bipush (v := (11 : Int32)) hx hb dX8_broad_99 (by decide) ?_
                    refine lv_iload hx hb dX8_broad_101 (lv_at hl 1 rfl) ?_
                    refine lv_imul hx hb dX8_broad_103 ?_
                    refine lv_iload hx hb dX8_broad_104 (lv_at hl 0 rfl) ?_
                    refine lv_iadd hx hb dX8_broad_106 ?_
                    obtain ⟨g35, h⟩ := og_e h
                    refine ald_46 S hK hW (vq_30_36 hv0) g35 rfl dX8_broad_107 ?_
                    refine lv_goto (tgt := 112) hx hb dX8_broad_108 (by decide) ?_
                    cases h
                    exact K31 H locs ls hW (lv_sub hl [2, 3, 4, 5, 6, 8] rfl)
          obtain ⟨x17, x18, hz38, h⟩ := ob2_e h
          refine L20 300 (0 : Int32) (0 : Int32) x17 x18 hz38 (fun H locs ls hW hl => ?_) H locs ls hW (lv_sub hl [2, 3, 4, 5, 6, 1, 0] rfl)
          refine lv_iload hx hb dX8_broad_121 (lv_at hl 5 rfl) ?_
          refine lv_iload_n hx hb dX8_broad_123 rfl (lv_at hl 3 rfl) ?_
          obtain ⟨y41, hz40, h⟩ := ob_e h
          have K42 : ∀ (H : Heap) (locs : List Loc) (ls : Array Slot), wS D dA a s F4 H locs → lv_has ls 9 [(0, .ref (a (30, 0, 0))), (1, .int p1), (3, .int x7), (4, .int x8), (5, .int x17)] → WX p l e (rmL 6 136) s m av below meth c (wQi D dA a s.heap.size Fz rz) dA a H locs (F0 m 133 ls [.int y41]) := by
            intro H locs ls hW hl
            refine lv_istore_n (lv' := [(2, .int y41), (0, .ref (a (30, 0, 0))), (1, .int p1), (3, .int x7), (4, .int x8), (5, .int x17)]) hx hb dX8_broad_133 rfl hl (by decide) rfl (fun ls hl => ?_)
            refine lv_iload hx hb dX8_broad_134 (lv_at hl 5 rfl) ?_
            refine lv_iload_n hx hb dX8_broad_136 rfl (lv_at hl 3 rfl) ?_
            obtain ⟨y45, hz44, h⟩ := ob_e h
            have K46 : ∀ (H : Heap) (locs : List Loc) (ls : Array Slot), wS D dA a s F4 H locs → lv_has ls 9 [(0, .ref (a (30, 0, 0))), (1, .int p1), (2, .int y41), (4, .int x8)] → WX p l e (rmL 6 136) s m av below meth c (wQi D dA a s.heap.size Fz rz) dA a H locs (F0 m 146 ls [.int y45]) := by
              intro H locs ls hW hl
              refine lv_istore_n (lv' := [(3, .int y45), (0, .ref (a (30, 0, 0))), (1, .int p1), (2, .int y41), (4, .int x8)]) hx hb dX8_broad_146 rfl hl (by decide) rfl (fun ls hl => ?_)
              refine lv_iinc (v := (x8 + 1)) (lv' := [(4, .int (x8 + 1)), (3, .int y45), (0, .ref (a (30, 0, 0))), (1, .int p1), (2, .int y41)]) hx hb dX8_broad_147 hl (k := 4) rfl rfl (by decide) rfl (fun ls hl => ?_)
              refine lv_goto (tgt := 23) hx hb dX8_broad_150 (by decide) ?_
              exact ih _ _ _ _ _ _ h K12 H locs ls hW (lv_sub hl [2, 3, 4, 1, 0] rfl)
            clear h
            refine lv_icmp_le (tgt := 145) hx hb dX8_broad_137 (by decide) (fun c43 => ?_) (fun c43 => ?_)
            · have h := if_t hz44 c43
              refine lv_iload_n hx hb dX8_broad_145 rfl (lv_at hl 3 rfl) ?_
              cases h
              exact K46 H locs ls hW (lv_sub hl [1, 2, 0, 4] rfl)
            · have h := if_f hz44 c43
              refine lv_iload hx hb dX8_broad_140 (lv_at hl 5 rfl) ?_
              refine lv_goto (tgt := 146) hx hb dX8_broad_142 (by decide) ?_
              cases h
              exact K46 H locs ls hW (lv_sub hl [1, 2, 0, 4] rfl)
          clear h
          refine lv_icmp_le (tgt := 132) hx hb dX8_broad_124 (by decide) (fun c39 => ?_) (fun c39 => ?_)
          · have h := if_t hz40 c39
            refine lv_iload_n hx hb dX8_broad_132 rfl (lv_at hl 2 rfl) ?_
            cases h
            exact K42 H locs ls hW (lv_sub hl [0, 1, 3, 4, 5] rfl)
          · have h := if_f hz40 c39
            refine lv_iload hx hb dX8_broad_127 (lv_at hl 4 rfl) ?_
            refine lv_goto (tgt := 133) hx hb dX8_broad_129 (by decide) ?_
            cases h
            exact K42 H locs ls hW (lv_sub hl [0, 1, 3, 4, 5] rfl)
    obtain ⟨x9, x10, x11, hz47, h⟩ := ob3_e h
    refine L13 300 (0 : Int32) (-1 : Int32) (0 : Int32) x9 x10 x11 hz47 (fun H locs ls hW hl => ?_) H locs ls hW (lv_sub hl [3, 4, 2, 1, 0] rfl)
    refine lv_iload_n hx hb dX8_broad_153 rfl (lv_at hl 0 rfl) ?_
    refine lv_if_ne (tgt := 161) hx hb dX8_broad_154 (by decide) (fun c48 => ?_) (fun c48 => ?_)
    · have h := if_f h c48
      refine lv_iload_n hx hb dX8_broad_161 rfl (lv_at hl 0 rfl) ?_
      refine lv_iconst (v := (1 : Int32)) hx hb dX8_broad_162 (by decide) ?_
      refine lv_icmp_ne (tgt := 173) hx hb dX8_broad_163 (by decide) (fun c49 => ?_) (fun c49 => ?_)
      · have h := if_f h c49
        refine lv_bipush (v := (10 : Int32)) hx hb dX8_broad_173 (by decide) ?_
        refine lv_iload_n hx hb dX8_broad_175 rfl (lv_at hl 1 rfl) ?_
        refine lv_bipush (v := (11 : Int32)) hx hb dX8_broad_176 (by decide) ?_
        refine lv_irem hx hb dX8_broad_178 (by decide) ?_
        refine lv_imul hx hb dX8_broad_179 ?_
        cases h
        exact we_i S hr hlk hW dX8_broad_180
      · have h := if_t h c49
        refine lv_iload_n hx hb dX8_broad_166 rfl (lv_at hl 1 rfl) ?_
        refine lv_bipush (v := (11 : Int32)) hx hb dX8_broad_167 (by decide) ?_
        refine lv_idiv hx hb dX8_broad_169 (by decide) ?_
        refine lv_goto (tgt := 180) hx hb dX8_broad_170 (by decide) ?_
        cases h
        exact we_i S hr hlk hW dX8_broad_180
    · have h := if_t h c48
      refine lv_iload_n hx hb dX8_broad_157 rfl (lv_at hl 2 rfl) ?_
      refine lv_goto (tgt := 180) hx hb dX8_broad_158 (by decide) ?_
      cases h
      exact we_i S hr hlk hW dX8_broad_180
  · have h := if_t h c3
    refine lv_bipush (v := (-3 : Int32)) hx hb dX8_broad_9 (by decide) ?_
    cases h
    exact we_i S hr hlk hW dX8_broad_11
