set_option maxRecDepth 100000
def dvr : Nat → Int64 → Int64 → Option Int64
  | 0, _, _ => none
  | d + 1, p0, p1 => if (lg_cmp p1 (0 : Int64)) = 0 then some p0 else og (nzl p1) (ob (dvr d p1 (p0 - p0 / p1 * p1)) (fun r3 => some r3))
theorem dvr_s {d : Nat} {p0 p1 : Int64} : dvr (d + 1) p0 p1 = if (lg_cmp p1 (0 : Int64)) = 0 then some p0 else og (nzl p1) (ob (dvr d p1 (p0 - p0 / p1 * p1)) (fun r3 => some r3)) := rfl
def fn_X0_divisor (F : St) (p0 : Int64) (p1 : Int64) : Option (Int64) := dvr 64 p0 p1
theorem yd_X0_divisor : yX0_divisor.cls = RX0 ∧ yX0_divisor.cls ≠ "java/lang/invoke/MethodHandle" ∧ yX0_divisor.cls ≠ "java/lang/invoke/VarHandle" ∧ (parseMethodDescriptor yX0_divisor.desc).map (fun d => d.parameters.length) = some 2 := by decide +kernel
set_option maxHeartbeats 4000000 in
theorem met_dvr (l : Launch) {D : va_G} {dA : WK} {a : Ix → Nat} (hD : wD D dA a) {F : St} (d : Nat) : ∀ (p0 p1 rz : Int64), dvr d p0 p1 = some rz → Ml l yX0_divisor cX0_divisor 4 d (23 * d) D dA a F [.long p0, .long p1] F rz := by
  induction d with
  | zero => intro p0 p1 rz h; exact absurd (show (none : Option Int64) = some rz from h) (by simp)
  | succ d ih =>
  intro p0 p1 rz h
  refine fun sz => mst (Qc := fun sz => wQl D dA a sz F rz) (by decide) (Nat.le_of_ble_eq_true rfl) ?_ sz
  intro p e s m below meth c S hr hlk hK hW ls hl
  have hl : lv_has ls 4 [(0, .long p0), (2, .long p1)] := hl
  have hx := S.1
  have hb := S.2.1
  generalize ([.long p0, .long p1] : List Value).toArray = av at S ⊢
  have h := dvr_s.symm.trans h
  obtain ⟨H, eH⟩ : ∃ z, z = s.heap := ⟨_, rfl⟩
  obtain ⟨locs, eL⟩ : ∃ z : List Loc, z = [] := ⟨_, rfl⟩
  show WX p l e (rmL (d + 1) (23 * (d + 1))) s m av below meth c (wQl D dA a s.heap.size F rz) dA a s.heap [] (F0 m 0 ls [])
  have hW : wS D dA a s F H locs := by rw [eH, eL]; exact wS_in hW
  refine wx_in eH eL ?_
  clear eH eL
  refine lv_lload_n hx hb dX0_divisor_0 rfl (lv_at hl 1 rfl) ?_
  refine lv_lconst (v := (0 : Int64)) hx hb dX0_divisor_1 (by decide) ?_
  refine W.lcmp hx hb dX0_divisor_2 ?_
  refine lv_if_ne (tgt := 10) hx hb dX0_divisor_3 (by decide) (fun c1 => ?_) (fun c1 => ?_)
  · have h := if_f h c1
    refine lv_lload_n hx hb dX0_divisor_10 rfl (lv_at hl 1 rfl) ?_
    refine lv_lload_n hx hb dX0_divisor_11 rfl (lv_at hl 0 rfl) ?_
    refine lv_lload_n hx hb dX0_divisor_12 rfl (lv_at hl 1 rfl) ?_
    obtain ⟨g2, h⟩ := og_e h
    refine lv_lrem hx hb dX0_divisor_13 (nzl_e g2) ?_
    obtain ⟨r3, hc4, h⟩ := ob_e h
    refine wk_l (va_runS (As := [.long p1, .long (p0 - p0 / p1 * p1)]) (rest := []) S (ih _ _ _ hc4 H.size) (va_cwS 2 S.2.2.2.2 (lw_S q964 q965 q55 q966) rfl rfl rfl yd_X0_divisor.2 ⟨Nat.le_refl _, by show 8 + (4 + 11) + 23 * d ≤ 23 * (d + 1); omega⟩) (wpreS hK hW _) rfl rfl hl.1 rfl (lv_room (Nat.le_of_ble_eq_true rfl)) dX0_divisor_14 ⟨Nat.le_refl 0, Nat.le_refl 0⟩) hW (fun H locs hW => ?_)
    cases h
    exact we_l S hr hlk hW dX0_divisor_17
  · have h := if_t h c1
    refine lv_lload_n hx hb dX0_divisor_6 rfl (lv_at hl 0 rfl) ?_
    refine lv_goto (tgt := 17) hx hb dX0_divisor_7 (by decide) ?_
    cases h
    exact we_l S hr hlk hW dX0_divisor_17
theorem met_X0_divisor (l : Launch) {D : va_G} {dA : WK} {a : Ix → Nat} (hD : wD D dA a) {F : St} {p0 : Int64} {p1 : Int64} {rz : Int64} (h : fn_X0_divisor F p0 p1 = some rz) : Ml l yX0_divisor cX0_divisor 4 64 (23 * 64) D dA a F [.long p0, .long p1] F rz := met_dvr l hD 64 p0 p1 rz h
/-loop lp_X0_blind_59-/
def lp_X0_blind_59 (F : St) (p1 : Int32) (p2 : Int32) (p3 : Int32) : Nat → Int64 → Int64 → Int32 → Option (Int64 × Int64 × Int32)
  | 0, _, _, _ => none
  | n + 1, x13, x14, x15 => if p1 < x15 then some (x13, x14, x15) else ob (if p2 ≤ x15 then ob (fn_X0_power F p3 x15) (fun r26 => ob (fn_X0_power F ((10 : Int32) - p3) (p1 - x15)) (fun r28 => some ((x14 * r26) * r28))) else some (0 : Int64)) (fun y24 => pl (x13 + y24) (fun x30 => og (nzl ((x15 + (1 : Int32)).toInt64)) (pl ((x14 * (p1 - x15).toInt64) / (x15 + (1 : Int32)).toInt64) (fun x33 => lp_X0_blind_59 F p1 p2 p3 n x30 x33 (x15 + 1)))))
theorem lp_X0_blind_59_s {F : St} {p1 : Int32} {p2 : Int32} {p3 : Int32} {n : Nat} {x13 : Int64} {x14 : Int64} {x15 : Int32} : lp_X0_blind_59 F p1 p2 p3 (n + 1) x13 x14 x15 = if p1 < x15 then some (x13, x14, x15) else ob (if p2 ≤ x15 then ob (fn_X0_power F p3 x15) (fun r26 => ob (fn_X0_power F ((10 : Int32) - p3) (p1 - x15)) (fun r28 => some ((x14 * r26) * r28))) else some (0 : Int64)) (fun y24 => pl (x13 + y24) (fun x30 => og (nzl ((x15 + (1 : Int32)).toInt64)) (pl ((x14 * (p1 - x15).toInt64) / (x15 + (1 : Int32)).toInt64) (fun x33 => lp_X0_blind_59 F p1 p2 p3 n x30 x33 (x15 + 1))))) := rfl
def fn_X0_blind (F : St) (p1 : Int32) (p2 : Int32) (p3 : Int32) (p4 : Int32) : Option (Int64) :=
  ob (fn_X0_isIn F p1.toInt64 (1 : Int64) (10 : Int64)) (fun r1 => if r1 = 0 then some (-3 : Int64) else ob (fn_X0_isIn F p2.toInt64 (0 : Int64) p1.toInt64) (fun r4 => if r4 = 0 then some (-3 : Int64) else ob (fn_X0_isIn F p3.toInt64 (0 : Int64) (10 : Int64)) (fun r7 => if r7 = 0 then some (-3 : Int64) else ob (fn_X0_isIn F p4.toInt64 (0 : Int64) (1 : Int64)) (fun r10 => if r10 = 0 then some (-3 : Int64) else ob3 (lp_X0_blind_59 F p1 p2 p3 300 (0 : Int64) (1 : Int64) (0 : Int32)) (fun x16 x17 x18 => ob (fn_X0_power F (10 : Int32) p1) (fun r36 => ob (fn_X0_divisor F x16 r36) (fun r38 => if p4 = 0 then og (nzl r38) (some (x16 / r38)) else og (nzl r38) (some (r36 / r38)))))))))
theorem yd_X0_blind : yX0_blind.cls = RX0 ∧ yX0_blind.cls ≠ "java/lang/invoke/MethodHandle" ∧ yX0_blind.cls ≠ "java/lang/invoke/VarHandle" ∧ (parseMethodDescriptor yX0_blind.desc).map (fun d => d.parameters.length) = some 4 := by decide +kernel
set_option maxHeartbeats 4000000 in
theorem met_X0_blind (l : Launch) {D : va_G} {dA : WK} {a : Ix → Nat} (hD : wD D dA a) {F : St} {p1 : Int32} {p2 : Int32} {p3 : Int32} {p4 : Int32} {rz : Int64} (hv0 : wVd dA (0, 0, 0)) (h : fn_X0_blind F p1 p2 p3 p4 = some rz) : Ml l yX0_blind cX0_blind 13 65 1495 D dA a F [.ref (a (0, 0, 0)), .int p1, .int p2, .int p3, .int p4] F rz := by
  refine fun sz => mst (Qc := fun sz => wQl D dA a sz F rz) (by decide) (Nat.le_of_ble_eq_true rfl) ?_ sz
  intro p e s m below meth c S hr hlk hK hW ls hl
  have hl : lv_has ls 13 [(0, .ref (a (0, 0, 0))), (1, .int p1), (2, .int p2), (3, .int p3), (4, .int p4)] := hl
  have hx := S.1
  have hb := S.2.1
  generalize ([.ref (a (0, 0, 0)), .int p1, .int p2, .int p3, .int p4] : List Value).toArray = av at S ⊢
  unfold fn_X0_blind at h
  obtain ⟨H, eH⟩ : ∃ z, z = s.heap := ⟨_, rfl⟩
  obtain ⟨locs, eL⟩ : ∃ z : List Loc, z = [] := ⟨_, rfl⟩
  show WX p l e (rmL 65 1495) s m av below meth c (wQl D dA a s.heap.size F rz) dA a s.heap [] (F0 m 0 ls [])
  have hW : wS D dA a s F H locs := by rw [eH, eL]; exact wS_in hW
  refine wx_in eH eL ?_
  clear eH eL
  refine lv_iload_n hx hb dX0_blind_0 rfl (lv_at hl 1 rfl) ?_
  refine lv_i2l hx hb dX0_blind_1 rfl ?_
  refine lv_lconst (v := (1 : Int64)) hx hb dX0_blind_2 (by decide) ?_
  refine lv_ldc2 (v := (10 : Int64)) hx hb S.2.2.2.1 (S.2.2.2.2 _ q941) dX0_blind_3 ?_
  obtain ⟨r1, hc2, h⟩ := ob_e h
  refine wk_i (va_runS (As := [.long p1.toInt64, .long (1 : Int64), .long (10 : Int64)]) (rest := []) S (met_X0_isIn l hD hc2 H.size) (va_cwS 3 S.2.2.2.2 (lw_S q389 q390 q55 q391) rfl rfl rfl yd_X0_isIn.2 ⟨Nat.le_of_ble_eq_true rfl, Nat.le_of_ble_eq_true rfl⟩) (wpreS hK hW _) rfl rfl hl.1 rfl (lv_room (Nat.le_of_ble_eq_true rfl)) dX0_blind_6 ⟨Nat.le_refl 0, Nat.le_refl 0⟩) hW (fun H locs hW => ?_)
  refine lv_if_eq (tgt := 46) hx hb dX0_blind_9 (by decide) (fun c3 => ?_) (fun c3 => ?_)
  · have h := if_t h c3
    refine lv_ldc2 (v := (-3 : Int64)) hx hb S.2.2.2.1 (S.2.2.2.2 _ q960) dX0_blind_46 ?_
    cases h
    exact we_l S hr hlk hW dX0_blind_49
  · have h := if_f h c3
    refine lv_iload_n hx hb dX0_blind_12 rfl (lv_at hl 2 rfl) ?_
    refine lv_i2l hx hb dX0_blind_13 rfl ?_
    refine lv_lconst (v := (0 : Int64)) hx hb dX0_blind_14 (by decide) ?_
    refine lv_iload_n hx hb dX0_blind_15 rfl (lv_at hl 1 rfl) ?_
    refine lv_i2l hx hb dX0_blind_16 rfl ?_
    obtain ⟨r4, hc5, h⟩ := ob_e h
    refine wk_i (va_runS (As := [.long p2.toInt64, .long (0 : Int64), .long p1.toInt64]) (rest := []) S (met_X0_isIn l hD hc5 H.size) (va_cwS 3 S.2.2.2.2 (lw_S q389 q390 q55 q391) rfl rfl rfl yd_X0_isIn.2 ⟨Nat.le_of_ble_eq_true rfl, Nat.le_of_ble_eq_true rfl⟩) (wpreS hK hW _) rfl rfl hl.1 rfl (lv_room (Nat.le_of_ble_eq_true rfl)) dX0_blind_17 ⟨Nat.le_refl 0, Nat.le_refl 0⟩) hW (fun H locs hW => ?_)
    refine lv_if_eq (tgt := 46) hx hb dX0_blind_20 (by decide) (fun c6 => ?_) (fun c6 => ?_)
    · have h := if_t h c6
      refine lv_ldc2 (v := (-3 : Int64)) hx hb S.2.2.2.1 (S.2.2.2.2 _ q960) dX0_blind_46 ?_
      cases h
      exact we_l S hr hlk hW dX0_blind_49
    · have h := if_f h c6
      refine lv_iload_n hx hb dX0_blind_23 rfl (lv_at hl 3 rfl) ?_
      refine lv_i2l hx hb dX0_blind_24 rfl ?_
      refine lv_lconst (v := (0 : Int64)) hx hb dX0_blind_25 (by decide) ?_
      refine lv_ldc2 (v := (10 : Int64)) hx hb S.2.2.2.1 (S.2.2.2.2 _ q941) dX0_blind_26 ?_
      obtain ⟨r7, hc8, h⟩ := ob_e h
      refine wk_i (va_runS (As := [.long p3.toInt64, .long (0 : Int64), .long (10 : Int64)]) (rest := []) S (met_X0_isIn l hD hc8 H.size) (va_cwS 3 S.2.2.2.2 (lw_S q389 q390 q55 q391) rfl rfl rfl yd_X0_isIn.2 ⟨Nat.le_of_ble_eq_true rfl, Nat.le_of_ble_eq_true rfl⟩) (wpreS hK hW _) rfl rfl hl.1 rfl (lv_room (Nat.le_of_ble_eq_true rfl)) dX0_blind_29 ⟨Nat.le_refl 0, Nat.le_refl 0⟩) hW (fun H locs hW => ?_)
      refine lv_if_eq (tgt := 46) hx hb dX0_blind_32 (by decide) (fun c9 => ?_) (fun c9 => ?_)
      · have h := if_t h c9
        refine lv_ldc2 (v := (-3 : Int64)) hx hb S.2.2.2.1 (S.2.2.2.2 _ q960) dX0_blind_46 ?_
        cases h
        exact we_l S hr hlk hW dX0_blind_49
      · have h := if_f h c9
        refine lv_iload hx hb dX0_blind_35 (lv_at hl 4 rfl) ?_
        refine lv_i2l hx hb dX0_blind_37 rfl ?_
        refine lv_lconst (v := (0 : Int64)) hx hb dX0_blind_38 (by decide) ?_
        refine lv_lconst (v := (1 : Int64)) hx hb dX0_blind_39 (by decide) ?_
        obtain ⟨r10, hc11, h⟩ := ob_e h
        refine wk_i (va_runS (As := [.long p4.toInt64, .long (0 : Int64), .long (1 : Int64)]) (rest := []) S (met_X0_isIn l hD hc11 H.size) (va_cwS 3 S.2.2.2.2 (lw_S q389 q390 q55 q391) rfl rfl rfl yd_X0_isIn.2 ⟨Nat.le_of_ble_eq_true rfl, Nat.le_of_ble_eq_true rfl⟩) (wpreS hK hW _) rfl rfl hl.1 rfl (lv_room (Nat.le_of_ble_eq_true rfl)) dX0_blind_40 ⟨Nat.le_refl 0, Nat.le_refl 0⟩) hW (fun H locs hW => ?_)
        refine lv_if_ne (tgt := 50) hx hb dX0_blind_43 (by decide) (fun c12 => ?_) (fun c12 => ?_)
        · have h := if_f h c12
          refine lv_lconst (v := (0 : Int64)) hx hb dX0_blind_50 (by decide) ?_
          refine lv_lstore (lv' := [(5, .long (0 : Int64)), (0, .ref (a (0, 0, 0))), (1, .int p1), (2, .int p2), (3, .int p3), (4, .int p4)]) hx hb dX0_blind_51 hl (by decide) rfl (fun ls hl => ?_)
          refine lv_lconst (v := (1 : Int64)) hx hb dX0_blind_53 (by decide) ?_
          refine lv_lstore (lv' := [(7, .long (1 : Int64)), (5, .long (0 : Int64)), (0, .ref (a (0, 0, 0))), (1, .int p1), (2, .int p2), (3, .int p3), (4, .int p4)]) hx hb dX0_blind_54 hl (by decide) rfl (fun ls hl => ?_)
          refine lv_iconst (v := (0 : Int32)) hx hb dX0_blind_56 (by decide) ?_
          refine lv_istore (lv' := [(9, .int (0 : Int32)), (7, .long (1 : Int64)), (5, .long (0 : Int64)), (0, .ref (a (0, 0, 0))), (1, .int p1), (2, .int p2), (3, .int p3), (4, .int p4)]) hx hb dX0_blind_57 hl (by decide) rfl (fun ls hl => ?_)
          have L20 : ∀ (n : Nat) (x13 : Int64) (x14 : Int64) (x15 : Int32) (x16 : Int64) (x17 : Int64) (x18 : Int32), lp_X0_blind_59 F p1 p2 p3 n x13 x14 x15 = some (x16, x17, x18) → (∀ (H : Heap) (locs : List Loc) (ls : Array Slot), wS D dA a s F H locs → lv_has ls 13 [(1, .int p1), (4, .int p4), (5, .long x16)] → WX p l e (rmL 65 1495) s m av below meth c (wQl D dA a s.heap.size F rz) dA a H locs (F0 m 123 ls [])) → ∀ (H : Heap) (locs : List Loc) (ls : Array Slot), wS D dA a s F H locs → lv_has ls 13 [(1, .int p1), (2, .int p2), (3, .int p3), (4, .int p4), (5, .long x13), (7, .long x14), (9, .int x15)] → WX p l e (rmL 65 1495) s m av below meth c (wQl D dA a s.heap.size F rz) dA a H locs (F0 m 59 ls []) := by
            intro n
            induction n with
            | zero =>
              intro x13 x14 x15 x16 x17 x18 h
              exact absurd (show (none : Option (Int64 × Int64 × Int32)) = some (x16, x17, x18) from h) (by simp)
            | succ n ih =>
              intro x13 x14 x15 x16 x17 x18 h K19 H locs ls hW hl
              have h := lp_X0_blind_59_s.symm.trans h
              refine lv_iload hx hb dX0_blind_59 (lv_at hl 6 rfl) ?_
              refine lv_iload_n hx hb dX0_blind_61 rfl (lv_at hl 0 rfl) ?_
              refine lv_icmp_gt (tgt := 123) hx hb dX0_blind_62 (by decide) (fun c21 => ?_) (fun c21 => ?_)
              · have h := if_t h c21
                cases h
                exact K19 H locs ls hW (lv_sub hl [0, 3, 4] rfl)
              · have h := if_f h c21
                refine lv_lload hx hb dX0_blind_65 (lv_at hl 4 rfl) ?_
                refine lv_iload hx hb dX0_blind_67 (lv_at hl 6 rfl) ?_
                refine lv_iload_n hx hb dX0_blind_69 rfl (lv_at hl 1 rfl) ?_
                obtain ⟨y24, hz23, h⟩ := ob_e h
                have K25 : ∀ (H : Heap) (locs : List Loc) (ls : Array Slot), wS D dA a s F H locs → lv_has ls 13 [(1, .int p1), (2, .int p2), (3, .int p3), (4, .int p4), (7, .long x14), (9, .int x15)] → WX p l e (rmL 65 1495) s m av below meth c (wQl D dA a s.heap.size F rz) dA a H locs (F0 m 98 ls [.long y24, .long x13]) := by
                  intro H locs ls hW hl
                  refine lv_ladd hx hb dX0_blind_98 ?_
                  obtain ⟨x30, e31, h⟩ := pl_e h
                  refine lv_nml e31 ?_
                  refine lv_lstore (lv' := [(5, .long x30), (1, .int p1), (2, .int p2), (3, .int p3), (4, .int p4), (7, .long x14), (9, .int x15)]) hx hb dX0_blind_99 hl (by decide) rfl (fun ls hl => ?_)
                  refine lv_lload hx hb dX0_blind_101 (lv_at hl 5 rfl) ?_
                  refine lv_iload_n hx hb dX0_blind_103 rfl (lv_at hl 1 rfl) ?_
                  refine lv_iload hx hb dX0_blind_104 (lv_at hl 6 rfl) ?_
                  refine lv_isub hx hb dX0_blind_106 ?_
                  refine lv_i2l hx hb dX0_blind_107 rfl ?_
                  refine lv_lmul hx hb dX0_blind_108 ?_
                  refine lv_iload hx hb dX0_blind_109 (lv_at hl 6 rfl) ?_
                  refine lv_iconst (v := (1 : Int32)) hx hb dX0_blind_111 (by decide) ?_
                  refine lv_iadd hx hb dX0_blind_112 ?_
                  refine lv_i2l hx hb dX0_blind_113 rfl ?_
                  obtain ⟨g32, h⟩ := og_e h
                  refine lv_ldiv hx hb dX0_blind_114 (nzl_e g32) ?_
                  obtain ⟨x33, e34, h⟩ := pl_e h
                  refine lv_nml e34 ?_
                  refine lv_lstore (lv' := [(7, .long x33), (5, .long x30), (1, .int p1), (2, .int p2), (3, .int p3), (4, .int p4), (9, .int x15)]) hx hb dX0_blind_115 hl (by decide) rfl (fun ls hl => ?_)
                  refine lv_iinc (v := (x15 + 1)) (lv' := [(9, .int (x15 + 1)), (7, .long x33), (5, .long x30), (1, .int p1), (2, .int p2), (3, .int p3), (4, .int p4)]) hx hb dX0_blind_117 hl (k := 6) rfl rfl (by decide) rfl (fun ls hl => ?_)
                  refine lv_goto (tgt := 59) hx hb dX0_blind_120 (by decide) ?_
                  exact ih _ _ _ _ _ _ h K19 H locs ls hW (lv_sub hl [3, 4, 5, 6, 2, 1, 0] rfl)
                clear h
                refine lv_icmp_ge (tgt := 77) hx hb dX0_blind_70 (by decide) (fun c22 => ?_) (fun c22 => ?_)
                · have h := if_t hz23 c22
                  refine lv_lload hx hb dX0_blind_77 (lv_at hl 5 rfl) ?_
                  refine lv_iload_n hx hb dX0_blind_79 rfl (lv_at hl 2 rfl) ?_
                  refine lv_iload hx hb dX0_blind_80 (lv_at hl 6 rfl) ?_
                  obtain ⟨r26, hc27, h⟩ := ob_e h
                  refine wk_l (va_runS (As := [.int p3, .int x15]) (rest := [.long x14, .long x13]) S (met_X0_power l hD hc27 H.size) (va_cwS 2 S.2.2.2.2 (lw_S q961 q962 q55 q963) rfl rfl rfl yd_X0_power.2 ⟨Nat.le_of_ble_eq_true rfl, Nat.le_of_ble_eq_true rfl⟩) (wpreS hK hW _) rfl rfl hl.1 rfl (lv_room (Nat.le_of_ble_eq_true rfl)) dX0_blind_82 ⟨Nat.le_refl 0, Nat.le_refl 0⟩) hW (fun H locs hW => ?_)
                  refine lv_lmul hx hb dX0_blind_85 ?_
                  refine lv_bipush (v := (10 : Int32)) hx hb dX0_blind_86 (by decide) ?_
                  refine lv_iload_n hx hb dX0_blind_88 rfl (lv_at hl 2 rfl) ?_
                  refine lv_isub hx hb dX0_blind_89 ?_
                  refine lv_iload_n hx hb dX0_blind_90 rfl (lv_at hl 0 rfl) ?_
                  refine lv_iload hx hb dX0_blind_91 (lv_at hl 6 rfl) ?_
                  refine lv_isub hx hb dX0_blind_93 ?_
                  obtain ⟨r28, hc29, h⟩ := ob_e h
                  refine wk_l (va_runS (As := [.int ((10 : Int32) - p3), .int (p1 - x15)]) (rest := [.long (x14 * r26), .long x13]) S (met_X0_power l hD hc29 H.size) (va_cwS 2 S.2.2.2.2 (lw_S q961 q962 q55 q963) rfl rfl rfl yd_X0_power.2 ⟨Nat.le_of_ble_eq_true rfl, Nat.le_of_ble_eq_true rfl⟩) (wpreS hK hW _) rfl rfl hl.1 rfl (lv_room (Nat.le_of_ble_eq_true rfl)) dX0_blind_94 ⟨Nat.le_refl 0, Nat.le_refl 0⟩) hW (fun H locs hW => ?_)
                  refine lv_lmul hx hb dX0_blind_97 ?_
                  cases h
                  exact K25 H locs ls hW (lv_sub hl [0, 1, 2, 3, 5, 6] rfl)
                · have h := if_f hz23 c22
                  refine lv_lconst (v := (0 : Int64)) hx hb dX0_blind_73 (by decide) ?_
                  refine lv_goto (tgt := 98) hx hb dX0_blind_74 (by decide) ?_
                  cases h
                  exact K25 H locs ls hW (lv_sub hl [0, 1, 2, 3, 5, 6] rfl)
          obtain ⟨x16, x17, x18, hz35, h⟩ := ob3_e h
          refine L20 300 (0 : Int64) (1 : Int64) (0 : Int32) x16 x17 x18 hz35 (fun H locs ls hW hl => ?_) H locs ls hW (lv_sub hl [4, 5, 6, 7, 2, 1, 0] rfl)
          refine lv_bipush (v := (10 : Int32)) hx hb dX0_blind_123 (by decide) ?_
          refine lv_iload_n hx hb dX0_blind_125 rfl (lv_at hl 0 rfl) ?_
          obtain ⟨r36, hc37, h⟩ := ob_e h
          refine wk_l (va_runS (As := [.int (10 : Int32), .int p1]) (rest := []) S (met_X0_power l hD hc37 H.size) (va_cwS 2 S.2.2.2.2 (lw_S q961 q962 q55 q963) rfl rfl rfl yd_X0_power.2 ⟨Nat.le_of_ble_eq_true rfl, Nat.le_of_ble_eq_true rfl⟩) (wpreS hK hW _) rfl rfl hl.1 rfl (lv_room (Nat.le_of_ble_eq_true rfl)) dX0_blind_126 ⟨Nat.le_refl 0, Nat.le_refl 0⟩) hW (fun H locs hW => ?_)
          refine lv_lstore (lv' := [(9, .long r36), (1, .int p1), (4, .int p4), (5, .long x16)]) hx hb dX0_blind_129 hl (by decide) rfl (fun ls hl => ?_)
          refine lv_lload hx hb dX0_blind_131 (lv_at hl 3 rfl) ?_
          refine lv_lload hx hb dX0_blind_133 (lv_at hl 0 rfl) ?_
          obtain ⟨r38, hc39, h⟩ := ob_e h
          refine wk_l (va_runS (As := [.long x16, .long r36]) (rest := []) S (met_X0_divisor l hD hc39 H.size) (va_cwS 2 S.2.2.2.2 (lw_S q964 q965 q55 q966) rfl rfl rfl yd_X0_divisor.2 ⟨Nat.le_of_ble_eq_true rfl, Nat.le_of_ble_eq_true rfl⟩) (wpreS hK hW _) rfl rfl hl.1 rfl (lv_room (Nat.le_of_ble_eq_true rfl)) dX0_blind_135 ⟨Nat.le_refl 0, Nat.le_refl 0⟩) hW (fun H locs hW => ?_)
          refine lv_lstore (lv' := [(11, .long r38), (9, .long r36), (1, .int p1), (4, .int p4), (5, .long x16)]) hx hb dX0_blind_138 hl (by decide) rfl (fun ls hl => ?_)
          refine lv_iload hx hb dX0_blind_140 (lv_at hl 3 rfl) ?_
          refine lv_if_ne (tgt := 153) hx hb dX0_blind_142 (by decide) (fun c40 => ?_) (fun c40 => ?_)
          · have h := if_f h c40
            refine lv_lload hx hb dX0_blind_153 (lv_at hl 1 rfl) ?_
            refine lv_lload hx hb dX0_blind_155 (lv_at hl 0 rfl) ?_
            obtain ⟨g41, h⟩ := og_e h
            refine lv_ldiv hx hb dX0_blind_157 (nzl_e g41) ?_
            cases h
            exact we_l S hr hlk hW dX0_blind_158
          · have h := if_t h c40
            refine lv_lload hx hb dX0_blind_145 (lv_at hl 4 rfl) ?_
            refine lv_lload hx hb dX0_blind_147 (lv_at hl 0 rfl) ?_
            obtain ⟨g42, h⟩ := og_e h
            refine lv_ldiv hx hb dX0_blind_149 (nzl_e g42) ?_
            refine lv_goto (tgt := 158) hx hb dX0_blind_150 (by decide) ?_
            cases h
            exact we_l S hr hlk hW dX0_blind_158
        · have h := if_t h c12
          refine lv_ldc2 (v := (-3 : Int64)) hx hb S.2.2.2.1 (S.2.2.2.2 _ q960) dX0_blind_46 ?_
          cases h
          exact we_l S hr hlk hW dX0_blind_49
