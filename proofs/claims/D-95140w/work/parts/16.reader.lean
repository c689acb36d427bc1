set_option maxRecDepth 100000
theorem lt_o {x : Int32} (h : vpb x 6 = true) : 10 + x.toNatClampNeg < 17 := by have := vpb_lt h; omega
def fn_J0_coder (F : St) (n0 : Nat) : Option (Int32) :=
  some (0 : Int32)
theorem yd_J0_coder : yJ0_coder.cls = RJ0 ∧ yJ0_coder.cls ≠ "java/lang/invoke/MethodHandle" ∧ yJ0_coder.cls ≠ "java/lang/invoke/VarHandle" ∧ (parseMethodDescriptor yJ0_coder.desc).map (fun d => d.parameters.length) = some 0 := by decide +kernel
set_option maxHeartbeats 4000000 in
theorem met_J0_coder (l : Launch) {D : va_G} {dA : WK} {a : Ix → Nat} (hD : wD D dA a) {F : St} {n0 : Nat} {rz : Int32} (hv0 : n0 < 17) (h : fn_J0_coder F n0 = some rz) : Mi l yJ0_coder cJ0_coder 1 .byte 0 0 D dA a F [.ref (dA.2.1 n0)] F rz := by
  refine fun sz => mst (Qc := fun sz => wQi D dA a sz F rz) (by decide) (Nat.le_of_ble_eq_true rfl) ?_ sz
  intro p e s m below meth c S hr hlk hK hW ls hl
  have hl : lv_has ls 1 [(0, .ref (dA.2.1 n0))] := hl
  have hx := S.1
  have hb := S.2.1
  generalize ([.ref (dA.2.1 n0)] : List Value).toArray = av at S ⊢
  unfold fn_J0_coder at h
  obtain ⟨H, eH⟩ : ∃ z, z = s.heap := ⟨_, rfl⟩
  obtain ⟨locs, eL⟩ : ∃ z : List Loc, z = [] := ⟨_, rfl⟩
  show WX p l e (rmL 0 0) s m av below meth c (wQi D dA a s.heap.size F rz) dA a s.heap [] (F0 m 0 ls [])
  have hW : wS D dA a s F H locs := by rw [eH, eL]; exact wS_in hW
  refine wx_in eH eL ?_
  clear eH eL
  refine kz_compact S hK hW q435 dJ0_coder_0 ?_
  refine lv_if_eq (tgt := 13) hx hb dJ0_coder_3 (by decide) (fun c => absurd c (by decide)) (fun _ => ?_)
  refine lv_aload_n hx hb dJ0_coder_6 rfl (lv_at hl 0 rfl) ?_
  refine ks_coder S hK hW hv0 q1363 dJ0_coder_7 ?_
  refine lv_goto (tgt := 14) hx hb dJ0_coder_10 (by decide) ?_
  cases h
  exact we_n S hr hlk rfl hW dJ0_coder_14
def fn_J0_length (F : St) (n0 : Nat) : Option (Int32) :=
  ob (fn_J0_coder F n0) (fun r1 => some ((Int32.ofNat (slen.getD n0 0)) >>> (r1 &&& 31)))
theorem yd_J0_length : yJ0_length.cls = RJ0 ∧ yJ0_length.cls ≠ "java/lang/invoke/MethodHandle" ∧ yJ0_length.cls ≠ "java/lang/invoke/VarHandle" ∧ (parseMethodDescriptor yJ0_length.desc).map (fun d => d.parameters.length) = some 0 := by decide +kernel
set_option maxHeartbeats 4000000 in
theorem met_J0_length (l : Launch) {D : va_G} {dA : WK} {a : Ix → Nat} (hD : wD D dA a) {F : St} {n0 : Nat} {rz : Int32} (hv0 : n0 < 17) (h : fn_J0_length F n0 = some rz) : Mi l yJ0_length cJ0_length 1 .int 1 20 D dA a F [.ref (dA.2.1 n0)] F rz := by
  refine fun sz => mst (Qc := fun sz => wQi D dA a sz F rz) (by decide) (Nat.le_of_ble_eq_true rfl) ?_ sz
  intro p e s m below meth c S hr hlk hK hW ls hl
  have hl : lv_has ls 1 [(0, .ref (dA.2.1 n0))] := hl
  have hx := S.1
  have hb := S.2.1
  generalize ([.ref (dA.2.1 n0)] : List Value).toArray = av at S ⊢
  unfold fn_J0_length at h
  obtain ⟨H, eH⟩ : ∃ z, z = s.heap := ⟨_, rfl⟩
  obtain ⟨locs, eL⟩ : ∃ z : List Loc, z = [] := ⟨_, rfl⟩
  show WX p l e (rmL 1 20) s m av below meth c (wQi D dA a s.heap.size F rz) dA a s.heap [] (F0 m 0 ls [])
  have hW : wS D dA a s F H locs := by rw [eH, eL]; exact wS_in hW
  refine wx_in eH eL ?_
  clear eH eL
  refine lv_aload_n hx hb dJ0_length_0 rfl (lv_at hl 0 rfl) ?_
  refine ks_value S hK hW hv0 q1362 dJ0_length_1 ?_
  refine kb_len S hK hW hv0 dJ0_length_4 ?_
  refine lv_aload_n hx hb dJ0_length_5 rfl (lv_at hl 0 rfl) ?_
  obtain ⟨r1, hc2, h⟩ := ob_e h
  refine wk_i (va_runV (As := []) (rest := [.int (Int32.ofNat (slen.getD n0 0))]) S (met_J0_coder l hD hv0 hc2 H.size) (cwV 0 S.2.2.2.2 (lw_V q431 q432 q433 q64 q434) rfl rfl rfl yd_J0_coder ⟨Nat.le_of_ble_eq_true rfl, Nat.le_of_ble_eq_true rfl⟩) (wpreVs hK hW hv0 _) rfl rfl hl.1 rfl (lv_room (Nat.le_of_ble_eq_true rfl)) dJ0_length_6 ⟨Nat.le_refl 0, Nat.le_refl 0⟩) hW (fun H locs hW => ?_)
  refine lv_ishr hx hb dJ0_length_9 ?_
  cases h
  exact we_i S hr hlk hW dJ0_length_10
def fn_J0_isLatin1 (F : St) (n0 : Nat) : Option (Int32) :=
  some (1 : Int32)
theorem yd_J0_isLatin1 : yJ0_isLatin1.cls = RJ0 ∧ yJ0_isLatin1.cls ≠ "java/lang/invoke/MethodHandle" ∧ yJ0_isLatin1.cls ≠ "java/lang/invoke/VarHandle" ∧ (parseMethodDescriptor yJ0_isLatin1.desc).map (fun d => d.parameters.length) = some 0 := by decide +kernel
set_option maxHeartbeats 4000000 in
theorem met_J0_isLatin1 (l : Launch) {D : va_G} {dA : WK} {a : Ix → Nat} (hD : wD D dA a) {F : St} {n0 : Nat} {rz : Int32} (hv0 : n0 < 17) (h : fn_J0_isLatin1 F n0 = some rz) : Mi l yJ0_isLatin1 cJ0_isLatin1 1 .boolean 0 0 D dA a F [.ref (dA.2.1 n0)] F rz := by
  refine fun sz => mst (Qc := fun sz => wQi D dA a sz F rz) (by decide) (Nat.le_of_ble_eq_true rfl) ?_ sz
  intro p e s m below meth c S hr hlk hK hW ls hl
  have hl : lv_has ls 1 [(0, .ref (dA.2.1 n0))] := hl
  have hx := S.1
  have hb := S.2.1
  generalize ([.ref (dA.2.1 n0)] : List Value).toArray = av at S ⊢
  unfold fn_J0_isLatin1 at h
  obtain ⟨H, eH⟩ : ∃ z, z = s.heap := ⟨_, rfl⟩
  obtain ⟨locs, eL⟩ : ∃ z : List Loc, z = [] := ⟨_, rfl⟩
  show WX p l e (rmL 0 0) s m av below meth c (wQi D dA a s.heap.size F rz) dA a s.heap [] (F0 m 0 ls [])
  have hW : wS D dA a s F H locs := by rw [eH, eL]; exact wS_in hW
  refine wx_in eH eL ?_
  clear eH eL
  refine kz_compact S hK hW q435 dJ0_isLatin1_0 ?_
  refine lv_if_eq (tgt := 17) hx hb dJ0_isLatin1_3 (by decide) (fun c => absurd c (by decide)) (fun _ => ?_)
  refine lv_aload_n hx hb dJ0_isLatin1_6 rfl (lv_at hl 0 rfl) ?_
  refine ks_coder S hK hW hv0 q1363 dJ0_isLatin1_7 ?_
  refine lv_if_ne (tgt := 17) hx hb dJ0_isLatin1_10 (by decide) (fun c => absurd c (by decide)) (fun _ => ?_)
  refine lv_iconst (v := (1 : Int32)) hx hb dJ0_isLatin1_13 (by decide) ?_
  refine lv_goto (tgt := 18) hx hb dJ0_isLatin1_14 (by decide) ?_
  cases h
  exact we_z S hr hlk rfl hW dJ0_isLatin1_18
def fn_J2_checkIndex (F : St) (p0 : Int32) (p1 : Int32) : Option (Int32) :=
  if p0 < 0 then none else if p0 < p1 then some p0 else none
theorem yd_J2_checkIndex : yJ2_checkIndex.cls = RJ2 ∧ yJ2_checkIndex.cls ≠ "java/lang/invoke/MethodHandle" ∧ yJ2_checkIndex.cls ≠ "java/lang/invoke/VarHandle" ∧ (parseMethodDescriptor yJ2_checkIndex.desc).map (fun d => d.parameters.length) = some 3 := by decide +kernel
set_option maxHeartbeats 4000000 in
theorem met_J2_checkIndex (l : Launch) {D : va_G} {dA : WK} {a : Ix → Nat} (hD : wD D dA a) {F : St} {p0 : Int32} {p1 : Int32} {q2 : Option Nat} {rz : Int32} (h : fn_J2_checkIndex F p0 p1 = some rz) : Mi l yJ2_checkIndex cJ2_checkIndex 3 .int 0 0 D dA a F [.int p0, .int p1, va_rf q2] F rz := by
  refine fun sz => mst (Qc := fun sz => wQi D dA a sz F rz) (by decide) (by cases q2 <;> exact Nat.le_of_ble_eq_true rfl) ?_ sz
  intro p e s m below meth c S hr hlk hK hW ls hl
  have hl : lv_has ls 3 [(0, .int p0), (1, .int p1), (2, va_rf q2)] := hl
  have hx := S.1
  have hb := S.2.1
  generalize ([.int p0, .int p1, va_rf q2] : List Value).toArray = av at S ⊢
  unfold fn_J2_checkIndex at h
  obtain ⟨H, eH⟩ : ∃ z, z = s.heap := ⟨_, rfl⟩
  obtain ⟨locs, eL⟩ : ∃ z : List Loc, z = [] := ⟨_, rfl⟩
  show WX p l e (rmL 0 0) s m av below meth c (wQi D dA a s.heap.size F rz) dA a s.heap [] (F0 m 0 ls [])
  have hW : wS D dA a s F H locs := by rw [eH, eL]; exact wS_in hW
  refine wx_in eH eL ?_
  clear eH eL
  refine lv_iload_n hx hb dJ2_checkIndex_0 rfl (lv_at hl 0 rfl) ?_
  refine lv_if_lt (tgt := 9) hx hb dJ2_checkIndex_1 (by decide) (fun c1 => ?_) (fun c1 => ?_)
  · have h := if_t h c1
    cases h
  · have h := if_f h c1
    refine lv_iload_n hx hb dJ2_checkIndex_4 rfl (lv_at hl 0 rfl) ?_
    refine lv_iload_n hx hb dJ2_checkIndex_5 rfl (lv_at hl 1 rfl) ?_
    refine lv_icmp_lt (tgt := 16) hx hb dJ2_checkIndex_6 (by decide) (fun c2 => ?_) (fun c2 => ?_)
    · have h := if_t h c2
      refine lv_iload_n hx hb dJ2_checkIndex_16 rfl (lv_at hl 0 rfl) ?_
      cases h
      exact we_i S hr hlk hW dJ2_checkIndex_17
    · have h := if_f h c2
      cases h
def fn_J0_checkIndex (F : St) (p0 : Int32) (p1 : Int32) : Option (Unit) :=
  ob (fn_J2_checkIndex F p0 p1) (fun r2 => some ())
theorem yd_J0_checkIndex : yJ0_checkIndex.cls = RJ0 ∧ yJ0_checkIndex.cls ≠ "java/lang/invoke/MethodHandle" ∧ yJ0_checkIndex.cls ≠ "java/lang/invoke/VarHandle" ∧ (parseMethodDescriptor yJ0_checkIndex.desc).map (fun d => d.parameters.length) = some 2 := by decide +kernel
set_option maxHeartbeats 4000000 in
theorem met_J0_checkIndex (l : Launch) {D : va_G} {dA : WK} {a : Ix → Nat} (hD : wD D dA a) {F : St} {p0 : Int32} {p1 : Int32} (h : fn_J0_checkIndex F p0 p1 = some ()) : Mv l yJ0_checkIndex cJ0_checkIndex 2 1 22 D dA a F [.int p0, .int p1] F := by
  refine fun sz => mst (Qc := fun sz => wQv D dA a sz F) (by decide) (Nat.le_of_ble_eq_true rfl) ?_ sz
  intro p e s m below meth c S hr hlk hK hW ls hl
  have hl : lv_has ls 2 [(0, .int p0), (1, .int p1)] := hl
  have hx := S.1
  have hb := S.2.1
  generalize ([.int p0, .int p1] : List Value).toArray = av at S ⊢
  unfold fn_J0_checkIndex at h
  obtain ⟨H, eH⟩ : ∃ z, z = s.heap := ⟨_, rfl⟩
  obtain ⟨locs, eL⟩ : ∃ z : List Loc, z = [] := ⟨_, rfl⟩
  show WX p l e (rmL 1 22) s m av below meth c (wQv D dA a s.heap.size F) dA a s.heap [] (F0 m 0 ls [])
  have hW : wS D dA a s F H locs := by rw [eH, eL]; exact wS_in hW
  refine wx_in eH eL ?_
  clear eH eL
  refine lv_iload_n hx hb dJ0_checkIndex_0 rfl (lv_at hl 0 rfl) ?_
  refine lv_iload_n hx hb dJ0_checkIndex_1 rfl (lv_at hl 1 rfl) ?_
  obtain ⟨q1, q1_h⟩ := zq_rf hK.2.2.2.2.2.1
  refine va_gets hx hb q1_h hW.2.1 S.2.2.2.1 (S.2.2.2.2 _ q451) (fun _ h => h) dJ0_checkIndex_2 ?_
  obtain ⟨r2, hc3, h⟩ := ob_e h
  refine wk_i (va_runS (As := [.int p0, .int p1, va_rf q1]) (rest := []) S (met_J2_checkIndex l hD hc3 H.size) (va_cwS 3 S.2.2.2.2 (lw_S q453 q454 q66 q455) rfl rfl rfl yd_J2_checkIndex.2 ⟨Nat.le_of_ble_eq_true rfl, Nat.le_of_ble_eq_true rfl⟩) (wpreS hK hW _) rfl rfl hl.1 rfl (lv_room (Nat.le_of_ble_eq_true rfl)) dJ0_checkIndex_5 ⟨Nat.le_refl 0, Nat.le_refl 0⟩) hW (fun H locs hW => ?_)
  refine lv_pop hx hb dJ0_checkIndex_8 rfl ?_
  cases h
  exact we_v S hr hlk hW dJ0_checkIndex_9
def fn_J1_charAt (F : St) (n0 : Nat) (p1 : Int32) : Option (Int32) :=
  ob (fn_J0_checkIndex F p1 (Int32.ofNat (slen.getD n0 0))) (fun u2 => og (vpb p1 (slen.getD n0 0)) (og (chb (((((sbyt.getD n0 []).getD p1.toNatClampNeg 0) &&& (255 : Int32)).toUInt32 % 65536).toInt32)) (some (((((sbyt.getD n0 []).getD p1.toNatClampNeg 0) &&& (255 : Int32)).toUInt32 % 65536).toInt32))))
theorem yd_J1_charAt : yJ1_charAt.cls = RJ1 ∧ yJ1_charAt.cls ≠ "java/lang/invoke/MethodHandle" ∧ yJ1_charAt.cls ≠ "java/lang/invoke/VarHandle" ∧ (parseMethodDescriptor yJ1_charAt.desc).map (fun d => d.parameters.length) = some 2 := by decide +kernel
set_option maxHeartbeats 4000000 in
theorem met_J1_charAt (l : Launch) {D : va_G} {dA : WK} {a : Ix → Nat} (hD : wD D dA a) {F : St} {n0 : Nat} {p1 : Int32} {rz : Int32} (hv0 : n0 < 17) (h : fn_J1_charAt F n0 p1 = some rz) : Mi l yJ1_charAt cJ1_charAt 2 .char 2 43 D dA a F [.ref (dA.2.2.1 n0), .int p1] F rz := by
  refine fun sz => mst (Qc := fun sz => wQi D dA a sz F rz) (by decide) (Nat.le_of_ble_eq_true rfl) ?_ sz
  intro p e s m below meth c S hr hlk hK hW ls hl
  have hl : lv_has ls 2 [(0, .ref (dA.2.2.1 n0)), (1, .int p1)] := hl
  have hx := S.1
  have hb := S.2.1
  generalize ([.ref (dA.2.2.1 n0), .int p1] : List Value).toArray = av at S ⊢
  unfold fn_J1_charAt at h
  obtain ⟨H, eH⟩ : ∃ z, z = s.heap := ⟨_, rfl⟩
  obtain ⟨locs, eL⟩ : ∃ z : List Loc, z = [] := ⟨_, rfl⟩
  show WX p l e (rmL 2 43) s m av below meth c (wQi D dA a s.heap.size F rz) dA a s.heap [] (F0 m 0 ls [])
  have hW : wS D dA a s F H locs := by rw [eH, eL]; exact wS_in hW
  refine wx_in eH eL ?_
  clear eH eL
  refine lv_iload_n hx hb dJ1_charAt_0 rfl (lv_at hl 1 rfl) ?_
  refine lv_aload_n hx hb dJ1_charAt_1 rfl (lv_at hl 0 rfl) ?_
  refine kb_len S hK hW hv0 dJ1_charAt_2 ?_
  obtain ⟨u2, hc1, h⟩ := ob_e h
  refine wk_v (va_runS (As := [.int p1, .int (Int32.ofNat (slen.getD n0 0))]) (rest := []) S (met_J0_checkIndex l hD hc1 H.size) (va_cwS 2 S.2.2.2.2 (lw_S q448 q449 q64 q450) rfl rfl rfl yd_J0_checkIndex.2 ⟨Nat.le_of_ble_eq_true rfl, Nat.le_of_ble_eq_true rfl⟩) (wpreS hK hW _) rfl rfl hl.1 rfl (lv_room (Nat.le_of_ble_eq_true rfl)) dJ1_charAt_3 ⟨Nat.le_refl 0, Nat.le_refl 0⟩) hW (fun H locs hW => ?_)
  refine lv_aload_n hx hb dJ1_charAt_6 rfl (lv_at hl 0 rfl) ?_
  refine lv_iload_n hx hb dJ1_charAt_7 rfl (lv_at hl 1 rfl) ?_
  obtain ⟨g3, h⟩ := og_e h
  refine kb_ald S hK hW hv0 g3 rfl dJ1_charAt_8 ?_
  refine lv_sipush (v := (255 : Int32)) hx hb dJ1_charAt_9 (by decide) ?_
  refine lv_iand hx hb dJ1_charAt_12 ?_
  refine lv_i2c hx hb dJ1_charAt_13 rfl ?_
  obtain ⟨g4, h⟩ := og_e h
  cases h
  exact we_n S hr hlk (chb_e g4) hW dJ1_charAt_14
def fn_J0_charAt (F : St) (n0 : Nat) (p1 : Int32) : Option (Int32) :=
  ob (fn_J0_isLatin1 F n0) (fun r1 => if r1 = 0 then none else ob (fn_J1_charAt F n0 p1) (fun r4 => og (chb r4) (some r4)))
theorem yd_J0_charAt : yJ0_charAt.cls = RJ0 ∧ yJ0_charAt.cls ≠ "java/lang/invoke/MethodHandle" ∧ yJ0_charAt.cls ≠ "java/lang/invoke/VarHandle" ∧ (parseMethodDescriptor yJ0_charAt.desc).map (fun d => d.parameters.length) = some 1 := by decide +kernel
set_option maxHeartbeats 4000000 in
theorem met_J0_charAt (l : Launch) {D : va_G} {dA : WK} {a : Ix → Nat} (hD : wD D dA a) {F : St} {n0 : Nat} {p1 : Int32} {rz : Int32} (hv0 : n0 < 17) (h : fn_J0_charAt F n0 p1 = some rz) : Mi l yJ0_charAt cJ0_charAt 2 .char 3 64 D dA a F [.ref (dA.2.1 n0), .int p1] F rz := by
  refine fun sz => mst (Qc := fun sz => wQi D dA a sz F rz) (by decide) (Nat.le_of_ble_eq_true rfl) ?_ sz
  intro p e s m below meth c S hr hlk hK hW ls hl
  have hl : lv_has ls 2 [(0, .ref (dA.2.1 n0)), (1, .int p1)] := hl
  have hx := S.1
  have hb := S.2.1
  generalize ([.ref (dA.2.1 n0), .int p1] : List Value).toArray = av at S ⊢
  unfold fn_J0_charAt at h
  obtain ⟨H, eH⟩ : ∃ z, z = s.heap := ⟨_, rfl⟩
  obtain ⟨locs, eL⟩ : ∃ z : List Loc, z = [] := ⟨_, rfl⟩
  show WX p l e (rmL 3 64) s m av below meth c (wQi D dA a s.heap.size F rz) dA a s.heap [] (F0 m 0 ls [])
  have hW : wS D dA a s F H locs := by rw [eH, eL]; exact wS_in hW
  refine wx_in eH eL ?_
  clear eH eL
  refine lv_aload_n hx hb dJ0_charAt_0 rfl (lv_at hl 0 rfl) ?_
  obtain ⟨r1, hc2, h⟩ := ob_e h
  refine wk_i (va_runV (As := []) (rest := []) S (met_J0_isLatin1 l hD hv0 hc2 H.size) (cwV 0 S.2.2.2.2 (lw_V q441 q442 q443 q64 q444) rfl rfl rfl yd_J0_isLatin1 ⟨Nat.le_of_ble_eq_true rfl, Nat.le_of_ble_eq_true rfl⟩) (wpreVs hK hW hv0 _) rfl rfl hl.1 rfl (lv_room (Nat.le_of_ble_eq_true rfl)) dJ0_charAt_1 ⟨Nat.le_refl 0, Nat.le_refl 0⟩) hW (fun H locs hW => ?_)
  refine lv_if_eq (tgt := 16) hx hb dJ0_charAt_4 (by decide) (fun c3 => ?_) (fun c3 => ?_)
  · have h := if_t h c3
    cases h
  · have h := if_f h c3
    refine lv_aload_n hx hb dJ0_charAt_7 rfl (lv_at hl 0 rfl) ?_
    refine ks_value S hK hW hv0 q1362 dJ0_charAt_8 ?_
    refine lv_iload_n hx hb dJ0_charAt_11 rfl (lv_at hl 1 rfl) ?_
    obtain ⟨r4, hc5, h⟩ := ob_e h
    refine wk_i (va_runS (As := [.ref (dA.2.2.1 n0), .int p1]) (rest := []) S (met_J1_charAt l hD hv0 hc5 H.size) (va_cwS 2 S.2.2.2.2 (lw_S q445 q446 q65 q447) rfl rfl rfl yd_J1_charAt.2 ⟨Nat.le_of_ble_eq_true rfl, Nat.le_of_ble_eq_true rfl⟩) (wpreS hK hW _) rfl rfl hl.1 rfl (lv_room (Nat.le_of_ble_eq_true rfl)) dJ0_charAt_12 ⟨Nat.le_refl 0, Nat.le_refl 0⟩) hW (fun H locs hW => ?_)
    obtain ⟨g6, h⟩ := og_e h
    cases h
    exact we_n S hr hlk (chb_e g6) hW dJ0_charAt_15
def fn_X4_kindAt (F : St) (p1 : Int32) : Option (Int32) :=
  og (vpb p1 200) (ob (fn_X0_isIn F ((F 15 0 0 p1.toNatClampNeg).toInt64) (97 : Int64) (122 : Int64)) (fun r2 => if r2 = 0 then ob (fn_X0_isIn F ((F 15 0 0 p1.toNatClampNeg).toInt64) (48 : Int64) (57 : Int64)) (fun r5 => if r5 = 0 then some (0 : Int32) else some (2 : Int32)) else some (1 : Int32)))
theorem yd_X4_kindAt : yX4_kindAt.cls = RX4 ∧ yX4_kindAt.cls ≠ "java/lang/invoke/MethodHandle" ∧ yX4_kindAt.cls ≠ "java/lang/invoke/VarHandle" ∧ (parseMethodDescriptor yX4_kindAt.desc).map (fun d => d.parameters.length) = some 1 := by decide +kernel
set_option maxHeartbeats 4000000 in
theorem met_X4_kindAt (l : Launch) {D : va_G} {dA : WK} {a : Ix → Nat} (hD : wD D dA a) {F : St} {p1 : Int32} {rz : Int32} (hv0 : wVd dA (16, 0, 0)) (h : fn_X4_kindAt F p1 = some rz) : Mi l yX4_kindAt cX4_kindAt 2 .int 1 25 D dA a F [.ref (a (16, 0, 0)), .int p1] F rz := by
  refine fun sz => mst (Qc := fun sz => wQi D dA a sz F rz) (by decide) (Nat.le_of_ble_eq_true rfl) ?_ sz
  intro p e s m below meth c S hr hlk hK hW ls hl
  have hl : lv_has ls 2 [(0, .ref (a (16, 0, 0))), (1, .int p1)] := hl
  have hx := S.1
  have hb := S.2.1
  generalize ([.ref (a (16, 0, 0)), .int p1] : List Value).toArray = av at S ⊢
  unfold fn_X4_kindAt at h
  obtain ⟨H, eH⟩ : ∃ z, z = s.heap := ⟨_, rfl⟩
  obtain ⟨locs, eL⟩ : ∃ z : List Loc, z = [] := ⟨_, rfl⟩
  show WX p l e (rmL 1 25) s m av below meth c (wQi D dA a s.heap.size F rz) dA a s.heap [] (F0 m 0 ls [])
  have hW : wS D dA a s F H locs := by rw [eH, eL]; exact wS_in hW
  refine wx_in eH eL ?_
  clear eH eL
  refine lv_aload_n hx hb dX4_kindAt_0 rfl (lv_at hl 0 rfl) ?_
  refine gf_16_7 S hK hW hv0 q185 dX4_kindAt_1 ?_
  refine gn_0_19 S hK hW (vq_16_7 hv0) q322 dX4_kindAt_4 ?_
  refine lv_iload_n hx hb dX4_kindAt_7 rfl (lv_at hl 1 rfl) ?_
  obtain ⟨g1, h⟩ := og_e h
  refine ald_15 S hK hW (vq_0_19 (vq_16_7 hv0)) g1 rfl dX4_kindAt_8 ?_
  refine lv_i2l hx hb dX4_kindAt_9 rfl ?_
  refine lv_ldc2 (v := (97 : Int64)) hx hb S.2.2.2.1 (S.2.2.2.2 _ q413) dX4_kindAt_10 ?_
  refine lv_ldc2 (v := (122 : Int64)) hx hb S.2.2.2.1 (S.2.2.2.2 _ q414) dX4_kindAt_13 ?_
  obtain ⟨r2, hc3, h⟩ := ob_e h
  refine wk_i (va_runSN (As := [.long ((F 15 0 0 p1.toNatClampNeg).toInt64), .long (97 : Int64), .long (122 : Int64)]) (rest := []) S (met_X0_isIn l hD hc3 H.size) ⟨va_cnB 3 S.2.2.2.2 (lw_meth q391) rfl rfl rfl (hK.2.1 _ (List.mem_filter.mpr ⟨q415, rfl⟩)) (S.2.2.2.2 _ q55) yd_X0_isIn.2 ⟨Nat.le_of_ble_eq_true rfl, Nat.le_of_ble_eq_true rfl⟩, S.2.2.2.2 _ q390, trivial⟩ (wpreS hK hW _) rfl rfl hl.1 rfl (lv_room (Nat.le_of_ble_eq_true rfl)) dX4_kindAt_16 ⟨Nat.le_refl 0, Nat.le_refl 0⟩) hW (fun H locs hW => ?_)
  refine lv_if_eq (tgt := 26) hx hb dX4_kindAt_19 (by decide) (fun c4 => ?_) (fun c4 => ?_)
  · have h := if_t h c4
    refine lv_aload_n hx hb dX4_kindAt_26 rfl (lv_at hl 0 rfl) ?_
    refine gf_16_7 S hK hW hv0 q185 dX4_kindAt_27 ?_
    refine gn_0_19 S hK hW (vq_16_7 hv0) q322 dX4_kindAt_30 ?_
    refine lv_iload_n hx hb dX4_kindAt_33 rfl (lv_at hl 1 rfl) ?_
    refine ald_15 S hK hW (vq_0_19 (vq_16_7 hv0)) g1 rfl dX4_kindAt_34 ?_
    refine lv_i2l hx hb dX4_kindAt_35 rfl ?_
    refine lv_ldc2 (v := (48 : Int64)) hx hb S.2.2.2.1 (S.2.2.2.2 _ q416) dX4_kindAt_36 ?_
    refine lv_ldc2 (v := (57 : Int64)) hx hb S.2.2.2.1 (S.2.2.2.2 _ q417) dX4_kindAt_39 ?_
    obtain ⟨r5, hc6, h⟩ := ob_e h
    refine wk_i (va_runSN (As := [.long ((F 15 0 0 p1.toNatClampNeg).toInt64), .long (48 : Int64), .long (57 : Int64)]) (rest := []) S (met_X0_isIn l hD hc6 H.size) ⟨va_cnB 3 S.2.2.2.2 (lw_meth q391) rfl rfl rfl (hK.2.1 _ (List.mem_filter.mpr ⟨q415, rfl⟩)) (S.2.2.2.2 _ q55) yd_X0_isIn.2 ⟨Nat.le_of_ble_eq_true rfl, Nat.le_of_ble_eq_true rfl⟩, S.2.2.2.2 _ q390, trivial⟩ (wpreS hK hW _) rfl rfl hl.1 rfl (lv_room (Nat.le_of_ble_eq_true rfl)) dX4_kindAt_42 ⟨Nat.le_refl 0, Nat.le_refl 0⟩) hW (fun H locs hW => ?_)
    refine lv_if_eq (tgt := 52) hx hb dX4_kindAt_45 (by decide) (fun c7 => ?_) (fun c7 => ?_)
    · have h := if_t h c7
      refine lv_iconst (v := (0 : Int32)) hx hb dX4_kindAt_52 (by decide) ?_
      cases h
      exact we_i S hr hlk hW dX4_kindAt_53
    · have h := if_f h c7
      refine lv_iconst (v := (2 : Int32)) hx hb dX4_kindAt_48 (by decide) ?_
      refine lv_goto (tgt := 53) hx hb dX4_kindAt_49 (by decide) ?_
      cases h
      exact we_i S hr hlk hW dX4_kindAt_53
  · have h := if_f h c4
    refine lv_iconst (v := (1 : Int32)) hx hb dX4_kindAt_22 (by decide) ?_
    refine lv_goto (tgt := 53) hx hb dX4_kindAt_23 (by decide) ?_
    cases h
    exact we_i S hr hlk hW dX4_kindAt_53
/-loop lp_X4_token_0-/
def lp_X4_token_0 : Nat → St → Option (St)
  | 0, _ => none
  | n + 1, F1 => if (F1 0 20 0 0) ≤ (F1 16 2 0 0) then some F1 else og (vpb (F1 16 2 0 0) 200) (if (F1 15 0 0 (F1 16 2 0 0).toNatClampNeg) = (32 : Int32) then pl (fu F1 16 2 0 0 ((F1 16 2 0 0) + (1 : Int32))) (fun F8 => lp_X4_token_0 n F8) else some F1)
theorem lp_X4_token_0_s {n : Nat} {F1 : St} : lp_X4_token_0 (n + 1) F1 = if (F1 0 20 0 0) ≤ (F1 16 2 0 0) then some F1 else og (vpb (F1 16 2 0 0) 200) (if (F1 15 0 0 (F1 16 2 0 0).toNatClampNeg) = (32 : Int32) then pl (fu F1 16 2 0 0 ((F1 16 2 0 0) + (1 : Int32))) (fun F8 => lp_X4_token_0 n F8) else some F1) := rfl
/-loop lp_X4_token_80-/
def lp_X4_token_80 : Nat → St → Option (St)
  | 0, _ => none
  | n + 1, F19 => if (F19 0 20 0 0) ≤ (F19 16 2 0 0) then some F19 else ob (fn_X4_kindAt F19 (F19 16 3 0 0)) (fun r24 => if r24 ≤ 0 then some F19 else ob (fn_X4_kindAt F19 (F19 16 2 0 0)) (fun r27 => ob (fn_X4_kindAt F19 (F19 16 3 0 0)) (fun r29 => if r27 = r29 then pl (fu F19 16 2 0 0 ((F19 16 2 0 0) + (1 : Int32))) (fun F32 => lp_X4_token_80 n F32) else some F19)))
theorem lp_X4_token_80_s {n : Nat} {F19 : St} : lp_X4_token_80 (n + 1) F19 = if (F19 0 20 0 0) ≤ (F19 16 2 0 0) then some F19 else ob (fn_X4_kindAt F19 (F19 16 3 0 0)) (fun r24 => if r24 ≤ 0 then some F19 else ob (fn_X4_kindAt F19 (F19 16 2 0 0)) (fun r27 => ob (fn_X4_kindAt F19 (F19 16 3 0 0)) (fun r29 => if r27 = r29 then pl (fu F19 16 2 0 0 ((F19 16 2 0 0) + (1 : Int32))) (fun F32 => lp_X4_token_80 n F32) else some F19))) := rfl
def fn_X4_token (F : St) : Option (St) :=
  ob (lp_X4_token_0 300 F) (fun F2 => pl (fu F2 16 3 0 0 (F2 16 2 0 0)) (fun F11 => ob (if (F11 0 20 0 0) ≤ (F11 16 2 0 0) then some (0 : Int32) else some (1 : Int32)) (fun y15 => pl (fu F11 16 2 0 0 ((F11 16 2 0 0) + y15)) (fun F17 => ob (lp_X4_token_80 300 F17) (fun F20 => pl (fu F20 16 4 0 0 (F20 16 2 0 0)) (fun F35 => some F35))))))
theorem yd_X4_token : yX4_token.cls = RX4 ∧ yX4_token.cls ≠ "java/lang/invoke/MethodHandle" ∧ yX4_token.cls ≠ "java/lang/invoke/VarHandle" ∧ (parseMethodDescriptor yX4_token.desc).map (fun d => d.parameters.length) = some 0 := by decide +kernel
set_option maxHeartbeats 4000000 in
theorem met_X4_token (l : Launch) {D : va_G} {dA : WK} {a : Ix → Nat} (hD : wD D dA a) {F : St} {Fz : St} (hv0 : wVd dA (16, 0, 0)) (h : fn_X4_token F = some Fz) : Mv l yX4_token cX4_token 1 2 46 D dA a F [.ref (a (16, 0, 0))] Fz := by
  refine fun sz => mst (Qc := fun sz => wQv D dA a sz Fz) (by decide) (Nat.le_of_ble_eq_true rfl) ?_ sz
  intro p e s m below meth c S hr hlk hK hW ls hl
  have hl : lv_has ls 1 [(0, .ref (a (16, 0, 0)))] := hl
  have hx := S.1
  have hb := S.2.1
  generalize ([.ref (a (16, 0, 0))] : List Value).toArray = av at S ⊢
  unfold fn_X4_token at h
  obtain ⟨H, eH⟩ : ∃ z, z = s.heap := ⟨_, rfl⟩
  obtain ⟨locs, eL⟩ : ∃ z : List Loc, z = [] := ⟨_, rfl⟩
  show WX p l e (rmL 2 46) s m av below meth c (wQv D dA a s.heap.size Fz) dA a s.heap [] (F0 m 0 ls [])
  have hW : wS D dA a s F H locs := by rw [eH, eL]; exact wS_in hW
  refine wx_in eH eL ?_
  clear eH eL
  have L4 : ∀ (n : Nat) (F1 : St) (F2 : St), lp_X4_token_0 n F1 = some F2 → (∀ (H : Heap) (locs : List Loc) (ls : Array Slot), wS D dA a s F2 H locs → lv_has ls 1 [(0, .ref (a (16, 0, 0)))] → WX p l e (rmL 2 46) s m av below meth c (wQv D dA a s.heap.size Fz) dA a H locs (F0 m 44 ls [])) → ∀ (H : Heap) (locs : List Loc) (ls : Array Slot), wS D dA a s F1 H locs → lv_has ls 1 [(0, .ref (a (16, 0, 0)))] → WX p l e (rmL 2 46) s m av below meth c (wQv D dA a s.heap.size Fz) dA a H locs (F0 m 0 ls []) := by
    intro n
    induction n with
    | zero =>
      intro F1 F2 h
      exact absurd (show (none : Option (St)) = some F2 from h) (by simp)
    | succ n ih =>
      intro F1 F2 h K3 H locs ls hW hl
      have h := lp_X4_token_0_s.symm.trans h
      refine lv_aload_n hx hb dX4_token_0 rfl (lv_at hl 0 rfl) ?_
      refine gf_16_2 S hK hW hv0 q180 dX4_token_1 ?_
      refine lv_aload_n hx hb dX4_token_4 rfl (lv_at hl 0 rfl) ?_
      refine gf_16_7 S hK hW hv0 q185 dX4_token_5 ?_
      refine gn_0_20 S hK hW (vq_16_7 hv0) q324 dX4_token_8 ?_
      refine lv_icmp_ge (tgt := 44) hx hb dX4_token_11 (by decide) (fun c5 => ?_) (fun c5 => ?_)
      · have h := if_t h c5
        cases h
        exact K3 H locs ls hW (lv_sub hl [0] rfl)
      · have h := if_f h c5
        refine lv_aload_n hx hb dX4_token_14 rfl (lv_at hl 0 rfl) ?_
        refine gf_16_7 S hK hW hv0 q185 dX4_token_15 ?_
        refine gn_0_19 S hK hW (vq_16_7 hv0) q322 dX4_token_18 ?_
        refine lv_aload_n hx hb dX4_token_21 rfl (lv_at hl 0 rfl) ?_
        refine gf_16_2 S hK hW hv0 q180 dX4_token_22 ?_
        obtain ⟨g6, h⟩ := og_e h
        refine ald_15 S hK hW (vq_0_19 (vq_16_7 hv0)) g6 rfl dX4_token_25 ?_
        refine lv_bipush (v := (32 : Int32)) hx hb dX4_token_26 (by decide) ?_
        refine lv_icmp_ne (tgt := 44) hx hb dX4_token_28 (by decide) (fun c7 => ?_) (fun c7 => ?_)
        · have h := if_f h c7
          cases h
          exact K3 H locs ls hW (lv_sub hl [0] rfl)
        · have h := if_t h c7
          refine lv_aload_n hx hb dX4_token_31 rfl (lv_at hl 0 rfl) ?_
          refine lv_dup hx hb dX4_token_32 rfl ?_
          refine gf_16_2 S hK hW hv0 q180 dX4_token_33 ?_
          refine lv_iconst (v := (1 : Int32)) hx hb dX4_token_36 (by decide) ?_
          refine lv_iadd hx hb dX4_token_37 ?_
          obtain ⟨F8, e9, h⟩ := pl_e h
          refine pf_16_2 S hK hD hW hv0 e9 q180 dX4_token_38 (fun H locs hW => ?_)
          refine lv_goto (tgt := 0) hx hb dX4_token_41 (by decide) ?_
          exact ih _ _ h K3 H locs ls hW (lv_sub hl [0] rfl)
  obtain ⟨F2, hz10, h⟩ := ob_e h
  refine L4 300 F F2 hz10 (fun H locs ls hW hl => ?_) H locs ls hW (lv_sub hl [0] rfl)
  refine lv_aload_n hx hb dX4_token_44 rfl (lv_at hl 0 rfl) ?_
  refine lv_aload_n hx hb dX4_token_45 rfl (lv_at hl 0 rfl) ?_
  refine gf_16_2 S hK hW hv0 q180 dX4_token_46 ?_
  obtain ⟨F11, e12, h⟩ := pl_e h
  refine pf_16_3 S hK hD hW hv0 e12 q181 dX4_token_49 (fun H locs hW => ?_)
  refine lv_aload_n hx hb dX4_token_52 rfl (lv_at hl 0 rfl) ?_
  refine lv_dup hx hb dX4_token_53 rfl ?_
  refine gf_16_2 S hK hW hv0 q180 dX4_token_54 ?_
  refine lv_aload_n hx hb dX4_token_57 rfl (lv_at hl 0 rfl) ?_
  refine gf_16_2 S hK hW hv0 q180 dX4_token_58 ?_
  refine lv_aload_n hx hb dX4_token_61 rfl (lv_at hl 0 rfl) ?_
  refine gf_16_7 S hK hW hv0 q185 dX4_token_62 ?_
  refine gn_0_20 S hK hW (vq_16_7 hv0) q324 dX4_token_65 ?_
  obtain ⟨y15, hz14, h⟩ := ob_e h
  have K16 : ∀ (H : Heap) (locs : List Loc) (ls : Array Slot), wS D dA a s F11 H locs → lv_has ls 1 [(0, .ref (a (16, 0, 0)))] → WX p l e (rmL 2 46) s m av below meth c (wQv D dA a s.heap.size Fz) dA a H locs (F0 m 76 ls [.int y15, .int (F11 16 2 0 0), .ref (a (16, 0, 0))]) := by
    intro H locs ls hW hl
    refine lv_iadd hx hb dX4_token_76 ?_
    obtain ⟨F17, e18, h⟩ := pl_e h
    refine pf_16_2 S hK hD hW hv0 e18 q180 dX4_token_77 (fun H locs hW => ?_)
    have L22 : ∀ (n : Nat) (F19 : St) (F20 : St), lp_X4_token_80 n F19 = some F20 → (∀ (H : Heap) (locs : List Loc) (ls : Array Slot), wS D dA a s F20 H locs → lv_has ls 1 [(0, .ref (a (16, 0, 0)))] → WX p l e (rmL 2 46) s m av below meth c (wQv D dA a s.heap.size Fz) dA a H locs (F0 m 137 ls [])) → ∀ (H : Heap) (locs : List Loc) (ls : Array Slot), wS D dA a s F19 H locs → lv_has ls 1 [(0, .ref (a (16, 0, 0)))] → WX p l e (rmL 2 46) s m av below meth c (wQv D dA a s.heap.size Fz) dA a H locs (F0 m 80 ls []) := by
      intro n
      induction n with
      | zero =>
        intro F19 F20 h
        exact absurd (show (none : Option (St)) = some F20 from h) (by simp)
      | succ n ih =>
        intro F19 F20 h K21 H locs ls hW hl
        have h := lp_X4_token_80_s.symm.trans h
        refine lv_aload_n hx hb dX4_token_80 rfl (lv_at hl 0 rfl) ?_
        refine gf_16_2 S hK hW hv0 q180 dX4_token_81 ?_
        refine lv_aload_n hx hb dX4_token_84 rfl (lv_at hl 0 rfl) ?_
        refine gf_16_7 S hK hW hv0 q185 dX4_token_85 ?_
        refine gn_0_20 S hK hW (vq_16_7 hv0) q324 dX4_token_88 ?_
        refine lv_icmp_ge (tgt := 137) hx hb dX4_token_91 (by decide) (fun c23 => ?_) (fun c23 => ?_)
        · have h := if_t h c23
          cases h
          exact K21 H locs ls hW (lv_sub hl [0] rfl)
        · have h := if_f h c23
          refine lv_aload_n hx hb dX4_token_94 rfl (lv_at hl 0 rfl) ?_
          refine lv_aload_n hx hb dX4_token_95 rfl (lv_at hl 0 rfl) ?_
          refine gf_16_3 S hK hW hv0 q181 dX4_token_96 ?_
          obtain ⟨r24, hc25, h⟩ := ob_e h
          refine wk_i (va_runV (As := [.int (F19 16 3 0 0)]) (rest := []) S (met_X4_kindAt l hD hv0 hc25 H.size) (cwV 1 S.2.2.2.2 (lw_V q409 q411 qs2 q59 q412) rfl rfl rfl yd_X4_kindAt ⟨Nat.le_of_ble_eq_true rfl, Nat.le_of_ble_eq_true rfl⟩) (wpreV hK hW hv0 rfl rfl _) rfl rfl hl.1 rfl (lv_room (Nat.le_of_ble_eq_true rfl)) dX4_token_99 ⟨Nat.le_refl 0, Nat.le_refl 0⟩) hW (fun H locs hW => ?_)
          refine lv_if_le (tgt := 137) hx hb dX4_token_102 (by decide) (fun c26 => ?_) (fun c26 => ?_)
          · have h := if_t h c26
            cases h
            exact K21 H locs ls hW (lv_sub hl [0] rfl)
          · have h := if_f h c26
            refine lv_aload_n hx hb dX4_token_105 rfl (lv_at hl 0 rfl) ?_
            refine lv_aload_n hx hb dX4_token_106 rfl (lv_at hl 0 rfl) ?_
            refine gf_16_2 S hK hW hv0 q180 dX4_token_107 ?_
            obtain ⟨r27, hc28, h⟩ := ob_e h
            refine wk_i (va_runV (As := [.int (F19 16 2 0 0)]) (rest := []) S (met_X4_kindAt l hD hv0 hc28 H.size) (cwV 1 S.2.2.2.2 (lw_V q409 q411 qs2 q59 q412) rfl rfl rfl yd_X4_kindAt ⟨Nat.le_of_ble_eq_true rfl, Nat.le_of_ble_eq_true rfl⟩) (wpreV hK hW hv0 rfl rfl _) rfl rfl hl.1 rfl (lv_room (Nat.le_of_ble_eq_true rfl)) dX4_token_110 ⟨Nat.le_refl 0, Nat.le_refl 0⟩) hW (fun H locs hW => ?_)
            refine lv_aload_n hx hb dX4_token_113 rfl (lv_at hl 0 rfl) ?_
            refine lv_aload_n hx hb dX4_token_114 rfl (lv_at hl 0 rfl) ?_
            refine gf_16_3 S hK hW hv0 q181 dX4_token_115 ?_
            obtain ⟨r29, hc30, h⟩ := ob_e h
            refine wk_i (va_runV (As := [.int (F19 16 3 0 0)]) (rest := [.int r27]) S (met_X4_kindAt l hD hv0 hc30 H.size) (cwV 1 S.2.2.2.2 (lw_V q409 q411 qs2 q59 q412) rfl rfl rfl yd_X4_kindAt ⟨Nat.le_of_ble_eq_true rfl, Nat.le_of_ble_eq_true rfl⟩) (wpreV hK hW hv0 rfl rfl _) rfl rfl hl.1 rfl (lv_room (Nat.le_of_ble_eq_true rfl)) dX4_token_118 ⟨Nat.le_refl 0, Nat.le_refl 0⟩) hW (fun H locs hW => ?_)
            refine lv_icmp_ne (tgt := 137) hx hb dX4_token_121 (by decide) (fun c31 => ?_) (fun c31 => ?_)
            · have h := if_f h c31
              cases h
              exact K21 H locs ls hW (lv_sub hl [0] rfl)
            · have h := if_t h c31
              refine lv_aload_n hx hb dX4_token_124 rfl (lv_at hl 0 rfl) ?_
              refine lv_dup hx hb dX4_token_125 rfl ?_
              refine gf_16_2 S hK hW hv0 q180 dX4_token_126 ?_
              refine lv_iconst (v := (1 : Int32)) hx hb dX4_token_129 (by decide) ?_
              refine lv_iadd hx hb dX4_token_130 ?_
              obtain ⟨F32, e33, h⟩ := pl_e h
              refine pf_16_2 S hK hD hW hv0 e33 q180 dX4_token_131 (fun H locs hW => ?_)
              refine lv_goto (tgt := 80) hx hb dX4_token_134 (by decide) ?_
              exact ih _ _ h K21 H locs ls hW (lv_sub hl [0] rfl)
    obtain ⟨F20, hz34, h⟩ := ob_e h
    refine L22 300 F17 F20 hz34 (fun H locs ls hW hl => ?_) H locs ls hW (lv_sub hl [0] rfl)
    refine lv_aload_n hx hb dX4_token_137 rfl (lv_at hl 0 rfl) ?_
    refine lv_aload_n hx hb dX4_token_138 rfl (lv_at hl 0 rfl) ?_
    refine gf_16_2 S hK hW hv0 q180 dX4_token_139 ?_
    obtain ⟨F35, e36, h⟩ := pl_e h
    refine pf_16_4 S hK hD hW hv0 e36 q182 dX4_token_142 (fun H locs hW => ?_)
    cases h
    exact we_v S hr hlk hW dX4_token_145
  clear h
  refine lv_icmp_ge (tgt := 75) hx hb dX4_token_68 (by decide) (fun c13 => ?_) (fun c13 => ?_)
  · have h := if_t hz14 c13
    refine lv_iconst (v := (0 : Int32)) hx hb dX4_token_75 (by decide) ?_
    cases h
    exact K16 H locs ls hW (lv_sub hl [0] rfl)
  · have h := if_f hz14 c13
    refine lv_iconst (v := (1 : Int32)) hx hb dX4_token_71 (by decide) ?_
    refine lv_goto (tgt := 76) hx hb dX4_token_72 (by decide) ?_
    cases h
    exact K16 H locs ls hW (lv_sub hl [0] rfl)
/-loop lp_X4_skips_24-/
def lp_X4_skips_24 (F : St) (n1 : Nat) : Nat → Int32 → Int32 → Option (Int32 × Int32)
  | 0, _, _ => none
  | n + 1, x7, x8 => if x7 = 0 then some (x7, x8) else ob (fn_J0_length F n1) (fun r14 => if r14 ≤ x8 then some (x7, x8) else og (vpb ((F 16 3 0 0) + x8) 200) (ob (fn_J0_charAt F n1 x8) (fun r18 => ob (if (F 15 0 0 ((F 16 3 0 0) + x8).toNatClampNeg) = r18 then some (1 : Int32) else some (0 : Int32)) (fun y22 => lp_X4_skips_24 F n1 n y22 (x8 + 1)))))
theorem lp_X4_skips_24_s {F : St} {n1 : Nat} {n : Nat} {x7 : Int32} {x8 : Int32} : lp_X4_skips_24 F n1 (n + 1) x7 x8 = if x7 = 0 then some (x7, x8) else ob (fn_J0_length F n1) (fun r14 => if r14 ≤ x8 then some (x7, x8) else og (vpb ((F 16 3 0 0) + x8) 200) (ob (fn_J0_charAt F n1 x8) (fun r18 => ob (if (F 15 0 0 ((F 16 3 0 0) + x8).toNatClampNeg) = r18 then some (1 : Int32) else some (0 : Int32)) (fun y22 => lp_X4_skips_24 F n1 n y22 (x8 + 1))))) := rfl
def fn_X4_skips (F : St) (n1 : Nat) : Option (St × Int32) :=
  ob (fn_J0_length F n1) (fun r1 => ob (if ((F 16 4 0 0) - (F 16 3 0 0)) = r1 then some (1 : Int32) else some (0 : Int32)) (fun y5 => ob2 (lp_X4_skips_24 F n1 300 y5 (0 : Int32)) (fun x9 x10 => ob (if x9 = 0 then some F else ob (fn_X4_token F) (fun F29 => some F29)) (fun F27 => og (bzb x9) (some (F27, x9))))))
theorem yd_X4_skips : yX4_skips.cls = RX4 ∧ yX4_skips.cls ≠ "java/lang/invoke/MethodHandle" ∧ yX4_skips.cls ≠ "java/lang/invoke/VarHandle" ∧ (parseMethodDescriptor yX4_skips.desc).map (fun d => d.parameters.length) = some 1 := by decide +kernel
set_option maxHeartbeats 4000000 in
theorem met_X4_skips (l : Launch) {D : va_G} {dA : WK} {a : Ix → Nat} (hD : wD D dA a) {F : St} {n1 : Nat} {Fz : St} {rz : Int32} (hv0 : wVd dA (16, 0, 0)) (hv1 : n1 < 17) (h : fn_X4_skips F n1 = some (Fz, rz)) : Mi l yX4_skips cX4_skips 4 .boolean 4 85 D dA a F [.ref (a (16, 0, 0)), .ref (dA.2.1 n1)] Fz rz := by
  refine fun sz => mst (Qc := fun sz => wQi D dA a sz Fz rz) (by decide) (Nat.le_of_ble_eq_true rfl) ?_ sz
  intro p e s m below meth c S hr hlk hK hW ls hl
  have hl : lv_has ls 4 [(0, .ref (a (16, 0, 0))), (1, .ref (dA.2.1 n1))] := hl
  have hx := S.1
  have hb := S.2.1
  generalize ([.ref (a (16, 0, 0)), .ref (dA.2.1 n1)] : List Value).toArray = av at S ⊢
  unfold fn_X4_skips at h
  obtain ⟨H, eH⟩ : ∃ z, z = s.heap := ⟨_, rfl⟩
  obtain ⟨locs, eL⟩ : ∃ z : List Loc, z = [] := ⟨_, rfl⟩
  show WX p l e (rmL 4 85) s m av below meth c (wQi D dA a s.heap.size Fz rz) dA a s.heap [] (F0 m 0 ls [])
  have hW : wS D dA a s F H locs := by rw [eH, eL]; exact wS_in hW
  refine wx_in eH eL ?_
  clear eH eL
  refine lv_aload_n hx hb dX4_skips_0 rfl (lv_at hl 0 rfl) ?_
  refine gf_16_4 S hK hW hv0 q182 dX4_skips_1 ?_
  refine lv_aload_n hx hb dX4_skips_4 rfl (lv_at hl 0 rfl) ?_
  refine gf_16_3 S hK hW hv0 q181 dX4_skips_5 ?_
  refine lv_isub hx hb dX4_skips_8 ?_
  refine lv_aload_n hx hb dX4_skips_9 rfl (lv_at hl 1 rfl) ?_
  obtain ⟨r1, hc2, h⟩ := ob_e h
  refine wk_i (va_runV (As := []) (rest := [.int ((F 16 4 0 0) - (F 16 3 0 0))]) S (met_J0_length l hD hv1 hc2 H.size) (cwV 0 S.2.2.2.2 (lw_V q427 q428 q429 q64 q430) rfl rfl rfl yd_J0_length ⟨Nat.le_of_ble_eq_true rfl, Nat.le_of_ble_eq_true rfl⟩) (wpreVs hK hW hv1 _) rfl rfl hl.1 rfl (lv_room (Nat.le_of_ble_eq_true rfl)) dX4_skips_10 ⟨Nat.le_refl 0, Nat.le_refl 0⟩) hW (fun H locs hW => ?_)
  obtain ⟨y5, hz4, h⟩ := ob_e h
  have K6 : ∀ (H : Heap) (locs : List Loc) (ls : Array Slot), wS D dA a s F H locs → lv_has ls 4 [(0, .ref (a (16, 0, 0))), (1, .ref (dA.2.1 n1))] → WX p l e (rmL 4 85) s m av below meth c (wQi D dA a s.heap.size Fz rz) dA a H locs (F0 m 21 ls [.int y5]) := by
    intro H locs ls hW hl
    refine lv_istore_n (lv' := [(2, .int y5), (0, .ref (a (16, 0, 0))), (1, .ref (dA.2.1 n1))]) hx hb dX4_skips_21 rfl hl (by decide) rfl (fun ls hl => ?_)
    refine lv_iconst (v := (0 : Int32)) hx hb dX4_skips_22 (by decide) ?_
    refine lv_istore_n (lv' := [(3, .int (0 : Int32)), (2, .int y5), (0, .ref (a (16, 0, 0))), (1, .ref (dA.2.1 n1))]) hx hb dX4_skips_23 rfl hl (by decide) rfl (fun ls hl => ?_)
    have L12 : ∀ (n : Nat) (x7 : Int32) (x8 : Int32) (x9 : Int32) (x10 : Int32), lp_X4_skips_24 F n1 n x7 x8 = some (x9, x10) → (∀ (H : Heap) (locs : List Loc) (ls : Array Slot), wS D dA a s F H locs → lv_has ls 4 [(0, .ref (a (16, 0, 0))), (2, .int x9)] → WX p l e (rmL 4 85) s m av below meth c (wQi D dA a s.heap.size Fz rz) dA a H locs (F0 m 70 ls [])) → ∀ (H : Heap) (locs : List Loc) (ls : Array Slot), wS D dA a s F H locs → lv_has ls 4 [(0, .ref (a (16, 0, 0))), (1, .ref (dA.2.1 n1)), (2, .int x7), (3, .int x8)] → WX p l e (rmL 4 85) s m av below meth c (wQi D dA a s.heap.size Fz rz) dA a H locs (F0 m 24 ls []) := by
      intro n
      induction n with
      | zero =>
        intro x7 x8 x9 x10 h
        exact absurd (show (none : Option (Int32 × Int32)) = some (x9, x10) from h) (by simp)
      | succ n ih =>
        intro x7 x8 x9 x10 h K11 H locs ls hW hl
        have h := lp_X4_skips_24_s.symm.trans h
        refine lv_iload_n hx hb dX4_skips_24 rfl (lv_at hl 2 rfl) ?_
        refine lv_if_eq (tgt := 70) hx hb dX4_skips_25 (by decide) (fun c13 => ?_) (fun c13 => ?_)
        · have h := if_t h c13
          cases h
          exact K11 H locs ls hW (lv_sub hl [0, 2] rfl)
        · have h := if_f h c13
          refine lv_iload_n hx hb dX4_skips_28 rfl (lv_at hl 3 rfl) ?_
          refine lv_aload_n hx hb dX4_skips_29 rfl (lv_at hl 1 rfl) ?_
          obtain ⟨r14, hc15, h⟩ := ob_e h
          refine wk_i (va_runV (As := []) (rest := [.int x8]) S (met_J0_length l hD hv1 hc15 H.size) (cwV 0 S.2.2.2.2 (lw_V q427 q428 q429 q64 q430) rfl rfl rfl yd_J0_length ⟨Nat.le_of_ble_eq_true rfl, Nat.le_of_ble_eq_true rfl⟩) (wpreVs hK hW hv1 _) rfl rfl hl.1 rfl (lv_room (Nat.le_of_ble_eq_true rfl)) dX4_skips_30 ⟨Nat.le_refl 0, Nat.le_refl 0⟩) hW (fun H locs hW => ?_)
          refine lv_icmp_ge (tgt := 70) hx hb dX4_skips_33 (by decide) (fun c16 => ?_) (fun c16 => ?_)
          · have h := if_t h c16
            cases h
            exact K11 H locs ls hW (lv_sub hl [0, 2] rfl)
          · have h := if_f h c16
            refine lv_aload_n hx hb dX4_skips_36 rfl (lv_at hl 0 rfl) ?_
            refine gf_16_7 S hK hW hv0 q185 dX4_skips_37 ?_
            refine gn_0_19 S hK hW (vq_16_7 hv0) q322 dX4_skips_40 ?_
            refine lv_aload_n hx hb dX4_skips_43 rfl (lv_at hl 0 rfl) ?_
            refine gf_16_3 S hK hW hv0 q181 dX4_skips_44 ?_
            refine lv_iload_n hx hb dX4_skips_47 rfl (lv_at hl 3 rfl) ?_
            refine lv_iadd hx hb dX4_skips_48 ?_
            obtain ⟨g17, h⟩ := og_e h
            refine ald_15 S hK hW (vq_0_19 (vq_16_7 hv0)) g17 rfl dX4_skips_49 ?_
            refine lv_aload_n hx hb dX4_skips_50 rfl (lv_at hl 1 rfl) ?_
            refine lv_iload_n hx hb dX4_skips_51 rfl (lv_at hl 3 rfl) ?_
            obtain ⟨r18, hc19, h⟩ := ob_e h
            refine wk_i (va_runV (As := [.int x8]) (rest := [.int (F 15 0 0 ((F 16 3 0 0) + x8).toNatClampNeg)]) S (met_J0_charAt l hD hv1 hc19 H.size) (cwV 1 S.2.2.2.2 (lw_V q437 q438 q439 q64 q440) rfl rfl rfl yd_J0_charAt ⟨Nat.le_of_ble_eq_true rfl, Nat.le_of_ble_eq_true rfl⟩) (wpreVs hK hW hv1 _) rfl rfl hl.1 rfl (lv_room (Nat.le_of_ble_eq_true rfl)) dX4_skips_52 ⟨Nat.le_refl 0, Nat.le_refl 0⟩) hW (fun H locs hW => ?_)
            obtain ⟨y22, hz21, h⟩ := ob_e h
            have K23 : ∀ (H : Heap) (locs : List Loc) (ls : Array Slot), wS D dA a s F H locs → lv_has ls 4 [(0, .ref (a (16, 0, 0))), (1, .ref (dA.2.1 n1)), (3, .int x8)] → WX p l e (rmL 4 85) s m av below meth c (wQi D dA a s.heap.size Fz rz) dA a H locs (F0 m 63 ls [.int y22]) := by
              intro H locs ls hW hl
              refine lv_istore_n (lv' := [(2, .int y22), (0, .ref (a (16, 0, 0))), (1, .ref (dA.2.1 n1)), (3, .int x8)]) hx hb dX4_skips_63 rfl hl (by decide) rfl (fun ls hl => ?_)
              refine lv_iinc (v := (x8 + 1)) (lv' := [(3, .int (x8 + 1)), (2, .int y22), (0, .ref (a (16, 0, 0))), (1, .ref (dA.2.1 n1))]) hx hb dX4_skips_64 hl (k := 3) rfl rfl (by decide) rfl (fun ls hl => ?_)
              refine lv_goto (tgt := 24) hx hb dX4_skips_67 (by decide) ?_
              exact ih _ _ _ _ h K11 H locs ls hW (lv_sub hl [2, 3, 1, 0] rfl)
            clear h
            refine lv_icmp_ne (tgt := 62) hx hb dX4_skips_55 (by decide) (fun c20 => ?_) (fun c20 => ?_)
            · have h := if_f hz21 c20
              refine lv_iconst (v := (0 : Int32)) hx hb dX4_skips_62 (by decide) ?_
              cases h
              exact K23 H locs ls hW (lv_sub hl [0, 1, 3] rfl)
            · have h := if_t hz21 c20
              refine lv_iconst (v := (1 : Int32)) hx hb dX4_skips_58 (by decide) ?_
              refine lv_goto (tgt := 63) hx hb dX4_skips_59 (by decide) ?_
              cases h
              exact K23 H locs ls hW (lv_sub hl [0, 1, 3] rfl)
    obtain ⟨x9, x10, hz24, h⟩ := ob2_e h
    refine L12 300 y5 (0 : Int32) x9 x10 hz24 (fun H locs ls hW hl => ?_) H locs ls hW (lv_sub hl [2, 3, 1, 0] rfl)
    refine lv_iload_n hx hb dX4_skips_70 rfl (lv_at hl 1 rfl) ?_
    obtain ⟨F27, hz26, h⟩ := ob_e h
    have K28 : ∀ (H : Heap) (locs : List Loc) (ls : Array Slot), wS D dA a s F27 H locs → lv_has ls 4 [(2, .int x9)] → WX p l e (rmL 4 85) s m av below meth c (wQi D dA a s.heap.size Fz rz) dA a H locs (F0 m 78 ls []) := by
      intro H locs ls hW hl
      refine lv_iload_n hx hb dX4_skips_78 rfl (lv_at hl 0 rfl) ?_
      obtain ⟨g31, h⟩ := og_e h
      cases h
      exact we_z S hr hlk (bzb_e g31) hW dX4_skips_79
    clear h
    refine lv_if_eq (tgt := 78) hx hb dX4_skips_71 (by decide) (fun c25 => ?_) (fun c25 => ?_)
    · have h := if_t hz26 c25
      cases h
      exact K28 H locs ls hW (lv_sub hl [1] rfl)
    · have h := if_f hz26 c25
      refine lv_aload_n hx hb dX4_skips_74 rfl (lv_at hl 0 rfl) ?_
      obtain ⟨F29, hc30, h⟩ := ob_e h
      refine wk_v (va_runV (As := []) (rest := []) S (met_X4_token l hD hv0 hc30 H.size) (cwV 0 S.2.2.2.2 (lw_V q405 q407 qs1 q59 q408) rfl rfl rfl yd_X4_token ⟨Nat.le_of_ble_eq_true rfl, Nat.le_of_ble_eq_true rfl⟩) (wpreV hK hW hv0 rfl rfl _) rfl rfl hl.1 rfl (lv_room (Nat.le_of_ble_eq_true rfl)) dX4_skips_75 ⟨Nat.le_refl 0, Nat.le_refl 0⟩) hW (fun H locs hW => ?_)
      cases h
      exact K28 H locs ls hW (lv_sub hl [1] rfl)
  clear h
  refine lv_icmp_ne (tgt := 20) hx hb dX4_skips_13 (by decide) (fun c3 => ?_) (fun c3 => ?_)
  · have h := if_f hz4 c3
    refine lv_iconst (v := (0 : Int32)) hx hb dX4_skips_20 (by decide) ?_
    cases h
    exact K6 H locs ls hW (lv_sub hl [0, 1] rfl)
  · have h := if_t hz4 c3
    refine lv_iconst (v := (1 : Int32)) hx hb dX4_skips_16 (by decide) ?_
    refine lv_goto (tgt := 21) hx hb dX4_skips_17 (by decide) ?_
    cases h
    exact K6 H locs ls hW (lv_sub hl [0, 1] rfl)
/-loop lp_X4_one_16_t6_4-/
def lp_X4_one_16_t6_4 : Nat → St → Int32 → Int32 → Option (St × Int32 × Int32)
  | 0, _, _, _ => none
  | n + 1, F3, x1, x2 => if (6 : Int32) ≤ x2 then some (F3, x1, x2) else if x1 = (-1 : Int32) then og (vpb x2 6) (ob2 (fn_X4_skips F3 (10 + x2.toNatClampNeg)) (fun F12 r13 => ob (if r13 = 0 then some (-1 : Int32) else some x2) (fun y17 => lp_X4_one_16_t6_4 n F12 y17 (x2 + 1)))) else some (F3, x1, x2)
theorem lp_X4_one_16_t6_4_s {n : Nat} {F3 : St} {x1 : Int32} {x2 : Int32} : lp_X4_one_16_t6_4 (n + 1) F3 x1 x2 = if (6 : Int32) ≤ x2 then some (F3, x1, x2) else if x1 = (-1 : Int32) then og (vpb x2 6) (ob2 (fn_X4_skips F3 (10 + x2.toNatClampNeg)) (fun F12 r13 => ob (if r13 = 0 then some (-1 : Int32) else some x2) (fun y17 => lp_X4_one_16_t6_4 n F12 y17 (x2 + 1)))) else some (F3, x1, x2) := rfl
def fn_X4_one_16_t6 (F : St) : Option (St × Int32) :=
  ob3 (lp_X4_one_16_t6_4 300 F (-1 : Int32) (0 : Int32)) (fun F4 x5 x6 => some (F4, x5))
theorem yd_X4_one : yX4_one.cls = RX4 ∧ yX4_one.cls ≠ "java/lang/invoke/MethodHandle" ∧ yX4_one.cls ≠ "java/lang/invoke/VarHandle" ∧ (parseMethodDescriptor yX4_one.desc).map (fun d => d.parameters.length) = some 1 := by decide +kernel
set_option maxHeartbeats 4000000 in
theorem met_X4_one_16_t6 (l : Launch) {D : va_G} {dA : WK} {a : Ix → Nat} (hD : wD D dA a) {F : St} {Fz : St} {rz : Int32} (hv0 : wVd dA (16, 0, 0)) (h : fn_X4_one_16_t6 F = some (Fz, rz)) : Mi l yX4_one cX4_one 4 .int 5 108 D dA a F [.ref (a (16, 0, 0)), .ref (dA.2.2.2.1 6)] Fz rz := by
  refine fun sz => mst (Qc := fun sz => wQi D dA a sz Fz rz) (by decide) (Nat.le_of_ble_eq_true rfl) ?_ sz
  intro p e s m below meth c S hr hlk hK hW ls hl
  have hl : lv_has ls 4 [(0, .ref (a (16, 0, 0))), (1, .ref (dA.2.2.2.1 6))] := hl
  have hx := S.1
  have hb := S.2.1
  generalize ([.ref (a (16, 0, 0)), .ref (dA.2.2.2.1 6)] : List Value).toArray = av at S ⊢
  unfold fn_X4_one_16_t6 at h
  obtain ⟨H, eH⟩ : ∃ z, z = s.heap := ⟨_, rfl⟩
  obtain ⟨locs, eL⟩ : ∃ z : List Loc, z = [] := ⟨_, rfl⟩
  show WX p l e (rmL 5 108) s m av below meth c (wQi D dA a s.heap.size Fz rz) dA a s.heap [] (F0 m 0 ls [])
  have hW : wS D dA a s F H locs := by rw [eH, eL]; exact wS_in hW
  refine wx_in eH eL ?_
  clear eH eL
  refine lv_iconst (v := (-1 : Int32)) hx hb dX4_one_0 (by decide) ?_
  refine lv_istore_n (lv' := [(2, .int (-1 : Int32)), (0, .ref (a (16, 0, 0))), (1, .ref (dA.2.2.2.1 6))]) hx hb dX4_one_1 rfl hl (by decide) rfl (fun ls hl => ?_)
  refine lv_iconst (v := (0 : Int32)) hx hb dX4_one_2 (by decide) ?_
  refine lv_istore_n (lv' := [(3, .int (0 : Int32)), (2, .int (-1 : Int32)), (0, .ref (a (16, 0, 0))), (1, .ref (dA.2.2.2.1 6))]) hx hb dX4_one_3 rfl hl (by decide) rfl (fun ls hl => ?_)
  have L8 : ∀ (n : Nat) (F3 : St) (x1 : Int32) (x2 : Int32) (F4 : St) (x5 : Int32) (x6 : Int32), lp_X4_one_16_t6_4 n F3 x1 x2 = some (F4, x5, x6) → (∀ (H : Heap) (locs : List Loc) (ls : Array Slot), wS D dA a s F4 H locs → lv_has ls 4 [(2, .int x5)] → WX p l e (rmL 5 108) s m av below meth c (wQi D dA a s.heap.size Fz rz) dA a H locs (F0 m 37 ls [])) → ∀ (H : Heap) (locs : List Loc) (ls : Array Slot), wS D dA a s F3 H locs → lv_has ls 4 [(0, .ref (a (16, 0, 0))), (1, .ref (dA.2.2.2.1 6)), (2, .int x1), (3, .int x2)] → WX p l e (rmL 5 108) s m av below meth c (wQi D dA a s.heap.size Fz rz) dA a H locs (F0 m 4 ls []) := by
    intro n
    induction n with
    | zero =>
      intro F3 x1 x2 F4 x5 x6 h
      exact absurd (show (none : Option (St × Int32 × Int32)) = some (F4, x5, x6) from h) (by simp)
    | succ n ih =>
      intro F3 x1 x2 F4 x5 x6 h K7 H locs ls hW hl
      have h := lp_X4_one_16_t6_4_s.symm.trans h
      refine lv_iload_n hx hb dX4_one_4 rfl (lv_at hl 3 rfl) ?_
      refine lv_aload_n hx hb dX4_one_5 rfl (lv_at hl 1 rfl) ?_
      refine ko_len S hK hW dX4_one_6 ?_
      refine lv_icmp_ge (tgt := 37) hx hb dX4_one_7 (by decide) (fun c9 => ?_) (fun c9 => ?_)
      · have h := if_t h c9
        cases h
        exact K7 H locs ls hW (lv_sub hl [2] rfl)
      · have h := if_f h c9
        refine lv_iload_n hx hb dX4_one_10 rfl (lv_at hl 2 rfl) ?_
        refine lv_iconst (v := (-1 : Int32)) hx hb dX4_one_11 (by decide) ?_
        refine lv_icmp_ne (tgt := 37) hx hb dX4_one_12 (by decide) (fun c10 => ?_) (fun c10 => ?_)
        · have h := if_f h c10
          cases h
          exact K7 H locs ls hW (lv_sub hl [2] rfl)
        · have h := if_t h c10
          refine lv_aload_n hx hb dX4_one_15 rfl (lv_at hl 0 rfl) ?_
          refine lv_aload_n hx hb dX4_one_16 rfl (lv_at hl 1 rfl) ?_
          refine lv_iload_n hx hb dX4_one_17 rfl (lv_at hl 3 rfl) ?_
          obtain ⟨g11, h⟩ := og_e h
          refine ko_ald S hK hW g11 rfl dX4_one_18 ?_
          obtain ⟨F12, r13, hc14, h⟩ := ob2_e h
          refine wk_i (va_runV (As := [.ref (dA.2.1 (10 + x2.toNatClampNeg))]) (rest := []) S (met_X4_skips l hD hv0 (lt_o g11) hc14 H.size) (cwV 1 S.2.2.2.2 (lw_V q423 q425 qs4 q59 q426) rfl rfl rfl yd_X4_skips ⟨Nat.le_of_ble_eq_true rfl, Nat.le_of_ble_eq_true rfl⟩) (wpreV hK hW hv0 rfl rfl _) rfl rfl hl.1 rfl (lv_room (Nat.le_of_ble_eq_true rfl)) dX4_one_19 ⟨Nat.le_refl 0, Nat.le_refl 0⟩) hW (fun H locs hW => ?_)
          obtain ⟨y17, hz16, h⟩ := ob_e h
          have K18 : ∀ (H : Heap) (locs : List Loc) (ls : Array Slot), wS D dA a s F12 H locs → lv_has ls 4 [(0, .ref (a (16, 0, 0))), (1, .ref (dA.2.2.2.1 6)), (3, .int x2)] → WX p l e (rmL 5 108) s m av below meth c (wQi D dA a s.heap.size Fz rz) dA a H locs (F0 m 30 ls [.int y17]) := by
            intro H locs ls hW hl
            refine lv_istore_n (lv' := [(2, .int y17), (0, .ref (a (16, 0, 0))), (1, .ref (dA.2.2.2.1 6)), (3, .int x2)]) hx hb dX4_one_30 rfl hl (by decide) rfl (fun ls hl => ?_)
            refine lv_iinc (v := (x2 + 1)) (lv' := [(3, .int (x2 + 1)), (2, .int y17), (0, .ref (a (16, 0, 0))), (1, .ref (dA.2.2.2.1 6))]) hx hb dX4_one_31 hl (k := 3) rfl rfl (by decide) rfl (fun ls hl => ?_)
            refine lv_goto (tgt := 4) hx hb dX4_one_34 (by decide) ?_
            exact ih _ _ _ _ _ _ h K7 H locs ls hW (lv_sub hl [2, 3, 1, 0] rfl)
          clear h
          refine lv_if_eq (tgt := 29) hx hb dX4_one_22 (by decide) (fun c15 => ?_) (fun c15 => ?_)
          · have h := if_t hz16 c15
            refine lv_iconst (v := (-1 : Int32)) hx hb dX4_one_29 (by decide) ?_
            cases h
            exact K18 H locs ls hW (lv_sub hl [0, 1, 3] rfl)
          · have h := if_f hz16 c15
            refine lv_iload_n hx hb dX4_one_25 rfl (lv_at hl 3 rfl) ?_
            refine lv_goto (tgt := 30) hx hb dX4_one_26 (by decide) ?_
            cases h
            exact K18 H locs ls hW (lv_sub hl [0, 1, 3] rfl)
  obtain ⟨F4, x5, x6, hz19, h⟩ := ob3_e h
  refine L8 300 F (-1 : Int32) (0 : Int32) F4 x5 x6 hz19 (fun H locs ls hW hl => ?_) H locs ls hW (lv_sub hl [2, 3, 1, 0] rfl)
  refine lv_iload_n hx hb dX4_one_37 rfl (lv_at hl 0 rfl) ?_
  cases h
  exact we_i S hr hlk hW dX4_one_38
