set_option maxRecDepth 100000
def fn_X5_much (F : St) : Option (Int32) :=
  some (F 0 10 0 0)
theorem yd_X5_much : yX5_much.cls = RX5 ∧ yX5_much.cls ≠ "java/lang/invoke/MethodHandle" ∧ yX5_much.cls ≠ "java/lang/invoke/VarHandle" ∧ (parseMethodDescriptor yX5_much.desc).map (fun d => d.parameters.length) = some 0 := by decide +kernel
set_option maxHeartbeats 4000000 in
theorem met_X5_much (l : Launch) {D : va_G} {dA : WK} {a : Ix → Nat} (hD : wD D dA a) {F : St} {rz : Int32} (hv0 : wVd dA (18, 0, 0)) (h : fn_X5_much F = some rz) : Mi l yX5_much cX5_much 1 .int 0 0 D dA a F [.ref (a (18, 0, 0))] F rz := by
  refine fun sz => mst (Qc := fun sz => wQi D dA a sz F rz) (by decide) (Nat.le_of_ble_eq_true rfl) ?_ sz
  intro p e s m below meth c S hr hlk hK hW ls hl
  have hl : lv_has ls 1 [(0, .ref (a (18, 0, 0)))] := hl
  have hx := S.1
  have hb := S.2.1
  generalize ([.ref (a (18, 0, 0))] : List Value).toArray = av at S ⊢
  unfold fn_X5_much at h
  obtain ⟨H, eH⟩ : ∃ z, z = s.heap := ⟨_, rfl⟩
  obtain ⟨locs, eL⟩ : ∃ z : List Loc, z = [] := ⟨_, rfl⟩
  show WX p l e (rmL 0 0) s m av below meth c (wQi D dA a s.heap.size F rz) dA a s.heap [] (F0 m 0 ls [])
  have hW : wS D dA a s F H locs := by rw [eH, eL]; exact wS_in hW
  refine wx_in eH eL ?_
  clear eH eL
  refine lv_aload_n hx hb dX5_much_0 rfl (lv_at hl 0 rfl) ?_
  refine gf_18_0 S hK hW hv0 q210 dX5_much_1 ?_
  refine gn_0_10 S hK hW (vq_18_0 hv0) q303 dX5_much_4 ?_
  cases h
  exact we_i S hr hlk hW dX5_much_7
def fn_X5_step (F : St) : Option (Int32) :=
  some (F 0 8 0 0)
theorem yd_X5_step : yX5_step.cls = RX5 ∧ yX5_step.cls ≠ "java/lang/invoke/MethodHandle" ∧ yX5_step.cls ≠ "java/lang/invoke/VarHandle" ∧ (parseMethodDescriptor yX5_step.desc).map (fun d => d.parameters.length) = some 0 := by decide +kernel
set_option maxHeartbeats 4000000 in
theorem met_X5_step (l : Launch) {D : va_G} {dA : WK} {a : Ix → Nat} (hD : wD D dA a) {F : St} {rz : Int32} (hv0 : wVd dA (18, 0, 0)) (h : fn_X5_step F = some rz) : Mi l yX5_step cX5_step 1 .int 0 0 D dA a F [.ref (a (18, 0, 0))] F rz := by
  refine fun sz => mst (Qc := fun sz => wQi D dA a sz F rz) (by decide) (Nat.le_of_ble_eq_true rfl) ?_ sz
  intro p e s m below meth c S hr hlk hK hW ls hl
  have hl : lv_has ls 1 [(0, .ref (a (18, 0, 0)))] := hl
  have hx := S.1
  have hb := S.2.1
  generalize ([.ref (a (18, 0, 0))] : List Value).toArray = av at S ⊢
  unfold fn_X5_step at h
  obtain ⟨H, eH⟩ : ∃ z, z = s.heap := ⟨_, rfl⟩
  obtain ⟨locs, eL⟩ : ∃ z : List Loc, z = [] := ⟨_, rfl⟩
  show WX p l e (rmL 0 0) s m av below meth c (wQi D dA a s.heap.size F rz) dA a s.heap [] (F0 m 0 ls [])
  have hW : wS D dA a s F H locs := by rw [eH, eL]; exact wS_in hW
  refine wx_in eH eL ?_
  clear eH eL
  refine lv_aload_n hx hb dX5_step_0 rfl (lv_at hl 0 rfl) ?_
  refine gf_18_0 S hK hW hv0 q210 dX5_step_1 ?_
  refine gn_0_8 S hK hW (vq_18_0 hv0) q292 dX5_step_4 ?_
  cases h
  exact we_i S hr hlk hW dX5_step_7
def fn_X5_warmth (F : St) : Option (Int32) :=
  some (F 0 9 0 0)
theorem yd_X5_warmth : yX5_warmth.cls = RX5 ∧ yX5_warmth.cls ≠ "java/lang/invoke/MethodHandle" ∧ yX5_warmth.cls ≠ "java/lang/invoke/VarHandle" ∧ (parseMethodDescriptor yX5_warmth.desc).map (fun d => d.parameters.length) = some 0 := by decide +kernel
set_option maxHeartbeats 4000000 in
theorem met_X5_warmth (l : Launch) {D : va_G} {dA : WK} {a : Ix → Nat} (hD : wD D dA a) {F : St} {rz : Int32} (hv0 : wVd dA (18, 0, 0)) (h : fn_X5_warmth F = some rz) : Mi l yX5_warmth cX5_warmth 1 .int 0 0 D dA a F [.ref (a (18, 0, 0))] F rz := by
  refine fun sz => mst (Qc := fun sz => wQi D dA a sz F rz) (by decide) (Nat.le_of_ble_eq_true rfl) ?_ sz
  intro p e s m below meth c S hr hlk hK hW ls hl
  have hl : lv_has ls 1 [(0, .ref (a (18, 0, 0)))] := hl
  have hx := S.1
  have hb := S.2.1
  generalize ([.ref (a (18, 0, 0))] : List Value).toArray = av at S ⊢
  unfold fn_X5_warmth at h
  obtain ⟨H, eH⟩ : ∃ z, z = s.heap := ⟨_, rfl⟩
  obtain ⟨locs, eL⟩ : ∃ z : List Loc, z = [] := ⟨_, rfl⟩
  show WX p l e (rmL 0 0) s m av below meth c (wQi D dA a s.heap.size F rz) dA a s.heap [] (F0 m 0 ls [])
  have hW : wS D dA a s F H locs := by rw [eH, eL]; exact wS_in hW
  refine wx_in eH eL ?_
  clear eH eL
  refine lv_aload_n hx hb dX5_warmth_0 rfl (lv_at hl 0 rfl) ?_
  refine gf_18_0 S hK hW hv0 q210 dX5_warmth_1 ?_
  refine gn_0_9 S hK hW (vq_18_0 hv0) q299 dX5_warmth_4 ?_
  cases h
  exact we_i S hr hlk hW dX5_warmth_7
/-loop lp_X5_run_14-/
def lp_X5_run_14 : Nat → St → Option (St)
  | 0, _ => none
  | n + 1, F5 => if (F5 0 11 0 0) ≤ (F5 1 2 3 0) then some F5 else ob (fn_X5_step F5) (fun r10 => ob (fn_X5_warmth F5) (fun r12 => ob (fn_X1_go F5 3 r10 r12) (fun F14 => lp_X5_run_14 n F14)))
theorem lp_X5_run_14_s {n : Nat} {F5 : St} : lp_X5_run_14 (n + 1) F5 = if (F5 0 11 0 0) ≤ (F5 1 2 3 0) then some F5 else ob (fn_X5_step F5) (fun r10 => ob (fn_X5_warmth F5) (fun r12 => ob (fn_X1_go F5 3 r10 r12) (fun F14 => lp_X5_run_14 n F14))) := rfl
def fn_X5_run (F : St) : Option (St) :=
  ob (fn_X5_much F) (fun r1 => ob (fn_X1_begin F 3 r1) (fun F3 => ob (lp_X5_run_14 300 F3) (fun F6 => some F6)))
theorem yd_X5_run : yX5_run.cls = RX5 ∧ yX5_run.cls ≠ "java/lang/invoke/MethodHandle" ∧ yX5_run.cls ≠ "java/lang/invoke/VarHandle" ∧ (parseMethodDescriptor yX5_run.desc).map (fun d => d.parameters.length) = some 0 := by decide +kernel
set_option maxHeartbeats 4000000 in
theorem met_X5_run (l : Launch) {D : va_G} {dA : WK} {a : Ix → Nat} (hD : wD D dA a) {F : St} {Fz : St} (hv0 : wVd dA (18, 0, 0)) (h : fn_X5_run F = some Fz) : Mv l yX5_run cX5_run 1 4 96 D dA a F [.ref (a (18, 0, 0))] Fz := by
  refine fun sz => mst (Qc := fun sz => wQv D dA a sz Fz) (by decide) (Nat.le_of_ble_eq_true rfl) ?_ sz
  intro p e s m below meth c S hr hlk hK hW ls hl
  have hl : lv_has ls 1 [(0, .ref (a (18, 0, 0)))] := hl
  have hx := S.1
  have hb := S.2.1
  generalize ([.ref (a (18, 0, 0))] : List Value).toArray = av at S ⊢
  unfold fn_X5_run at h
  obtain ⟨H, eH⟩ : ∃ z, z = s.heap := ⟨_, rfl⟩
  obtain ⟨locs, eL⟩ : ∃ z : List Loc, z = [] := ⟨_, rfl⟩
  show WX p l e (rmL 4 96) s m av below meth c (wQv D dA a s.heap.size Fz) dA a s.heap [] (F0 m 0 ls [])
  have hW : wS D dA a s F H locs := by rw [eH, eL]; exact wS_in hW
  refine wx_in eH eL ?_
  clear eH eL
  refine lv_aload_n hx hb dX5_run_0 rfl (lv_at hl 0 rfl) ?_
  refine gf_18_0 S hK hW hv0 q210 dX5_run_1 ?_
  refine gn_0_18 S hK hW (vq_18_0 hv0) q321 dX5_run_4 ?_
  refine lv_aload_n hx hb dX5_run_7 rfl (lv_at hl 0 rfl) ?_
  obtain ⟨r1, hc2, h⟩ := ob_e h
  refine wk_i (va_runV (As := []) (rest := [.ref (a (1, 3, 0))]) S (met_X5_much l hD hv0 hc2 H.size) (cwV 0 S.2.2.2.2 (lw_V q843 q844 q845 q60 q854) rfl rfl rfl yd_X5_much ⟨Nat.le_of_ble_eq_true rfl, Nat.le_of_ble_eq_true rfl⟩) (wpreV hK hW hv0 rfl rfl _) rfl rfl hl.1 rfl (lv_room (Nat.le_of_ble_eq_true rfl)) dX5_run_8 ⟨Nat.le_refl 0, Nat.le_refl 0⟩) hW (fun H locs hW => ?_)
  obtain ⟨F3, hc4, h⟩ := ob_e h
  refine wk_v (va_runV (As := [.int r1]) (rest := []) S (met_X1_begin l hD (vq_0_18 (vq_18_0 hv0)) hc4 H.size) (cwV 1 S.2.2.2.2 (lw_V q855 q258 q259 q56 q260) rfl rfl rfl yd_X1_begin ⟨Nat.le_of_ble_eq_true rfl, Nat.le_of_ble_eq_true rfl⟩) (wpreV hK hW (vq_0_18 (vq_18_0 hv0)) rfl rfl _) rfl rfl hl.1 rfl (lv_room (Nat.le_of_ble_eq_true rfl)) dX5_run_11 ⟨Nat.le_refl 0, Nat.le_refl 0⟩) hW (fun H locs hW => ?_)
  have L8 : ∀ (n : Nat) (F5 : St) (F6 : St), lp_X5_run_14 n F5 = some F6 → (∀ (H : Heap) (locs : List Loc) (ls : Array Slot), wS D dA a s F6 H locs → lv_has ls 1 [] → WX p l e (rmL 4 96) s m av below meth c (wQv D dA a s.heap.size Fz) dA a H locs (F0 m 55 ls [])) → ∀ (H : Heap) (locs : List Loc) (ls : Array Slot), wS D dA a s F5 H locs → lv_has ls 1 [(0, .ref (a (18, 0, 0)))] → WX p l e (rmL 4 96) s m av below meth c (wQv D dA a s.heap.size Fz) dA a H locs (F0 m 14 ls []) := by
    intro n
    induction n with
    | zero =>
      intro F5 F6 h
      exact absurd (show (none : Option (St)) = some F6 from h) (by simp)
    | succ n ih =>
      intro F5 F6 h K7 H locs ls hW hl
      have h := lp_X5_run_14_s.symm.trans h
      refine lv_aload_n hx hb dX5_run_14 rfl (lv_at hl 0 rfl) ?_
      refine gf_18_0 S hK hW hv0 q210 dX5_run_15 ?_
      refine gn_0_18 S hK hW (vq_18_0 hv0) q321 dX5_run_18 ?_
      refine gn_1_2 S hK hW (vq_0_18 (vq_18_0 hv0)) q152 dX5_run_21 ?_
      refine lv_aload_n hx hb dX5_run_24 rfl (lv_at hl 0 rfl) ?_
      refine gf_18_0 S hK hW hv0 q210 dX5_run_25 ?_
      refine gn_0_11 S hK hW (vq_18_0 hv0) q306 dX5_run_28 ?_
      refine lv_icmp_ge (tgt := 55) hx hb dX5_run_31 (by decide) (fun c9 => ?_) (fun c9 => ?_)
      · have h := if_t h c9
        cases h
        exact K7 H locs ls hW (lv_sub hl [] rfl)
      · have h := if_f h c9
        refine lv_aload_n hx hb dX5_run_34 rfl (lv_at hl 0 rfl) ?_
        refine gf_18_0 S hK hW hv0 q210 dX5_run_35 ?_
        refine gn_0_18 S hK hW (vq_18_0 hv0) q321 dX5_run_38 ?_
        refine lv_aload_n hx hb dX5_run_41 rfl (lv_at hl 0 rfl) ?_
        obtain ⟨r10, hc11, h⟩ := ob_e h
        refine wk_i (va_runV (As := []) (rest := [.ref (a (1, 3, 0))]) S (met_X5_step l hD hv0 hc11 H.size) (cwV 0 S.2.2.2.2 (lw_V q856 q857 q858 q60 q867) rfl rfl rfl yd_X5_step ⟨Nat.le_of_ble_eq_true rfl, Nat.le_of_ble_eq_true rfl⟩) (wpreV hK hW hv0 rfl rfl _) rfl rfl hl.1 rfl (lv_room (Nat.le_of_ble_eq_true rfl)) dX5_run_42 ⟨Nat.le_refl 0, Nat.le_refl 0⟩) hW (fun H locs hW => ?_)
        refine lv_aload_n hx hb dX5_run_45 rfl (lv_at hl 0 rfl) ?_
        obtain ⟨r12, hc13, h⟩ := ob_e h
        refine wk_i (va_runV (As := []) (rest := [.int r10, .ref (a (1, 3, 0))]) S (met_X5_warmth l hD hv0 hc13 H.size) (cwV 0 S.2.2.2.2 (lw_V q868 q869 q870 q60 q879) rfl rfl rfl yd_X5_warmth ⟨Nat.le_of_ble_eq_true rfl, Nat.le_of_ble_eq_true rfl⟩) (wpreV hK hW hv0 rfl rfl _) rfl rfl hl.1 rfl (lv_room (Nat.le_of_ble_eq_true rfl)) dX5_run_46 ⟨Nat.le_refl 0, Nat.le_refl 0⟩) hW (fun H locs hW => ?_)
        obtain ⟨F14, hc15, h⟩ := ob_e h
        refine wk_v (va_runV (As := [.int r10, .int r12]) (rest := []) S (met_X1_go l hD (vq_0_18 (vq_18_0 hv0)) hc15 H.size) (cwV 2 S.2.2.2.2 (lw_V q880 q724 q725 q56 q726) rfl rfl rfl yd_X1_go ⟨Nat.le_of_ble_eq_true rfl, Nat.le_of_ble_eq_true rfl⟩) (wpreV hK hW (vq_0_18 (vq_18_0 hv0)) rfl rfl _) rfl rfl hl.1 rfl (lv_room (Nat.le_of_ble_eq_true rfl)) dX5_run_49 ⟨Nat.le_refl 0, Nat.le_refl 0⟩) hW (fun H locs hW => ?_)
        refine lv_goto (tgt := 14) hx hb dX5_run_52 (by decide) ?_
        exact ih _ _ h K7 H locs ls hW (lv_sub hl [0] rfl)
  obtain ⟨F6, hz16, h⟩ := ob_e h
  refine L8 300 F3 F6 hz16 (fun H locs ls hW hl => ?_) H locs ls hW (lv_sub hl [0] rfl)
  cases h
  exact we_v S hr hlk hW dX5_run_55
def fn_X5_taste (F : St) : Option (St × Int32) :=
  ob (fn_X5_run F) (fun F1 => ob (fn_X5_much F1) (fun r3 => ob (fn_X1_out F1 3 r3) (fun r5 => ob (fn_X1_strong F1 3) (fun r7 => ob (fn_X5_much F1) (fun r9 => ob (fn_X1_uneven F1 3 r9) (fun r11 => if r11 ≤ (F1 26 0 0 4) then if r5 < (F1 26 0 0 2) then if (F1 26 0 0 2) ≤ r5 then some (F1, (2 : Int32)) else some (F1, (1 : Int32)) else if r5 ≤ (F1 26 0 0 3) then if (F1 26 0 0 0) ≤ r7 then if r7 ≤ (F1 26 0 0 1) then some (F1, (0 : Int32)) else some (F1, (4 : Int32)) else some (F1, (3 : Int32)) else if (F1 26 0 0 2) ≤ r5 then some (F1, (2 : Int32)) else some (F1, (1 : Int32)) else some (F1, (5 : Int32))))))))
theorem yd_X5_taste : yX5_taste.cls = RX5 ∧ yX5_taste.cls ≠ "java/lang/invoke/MethodHandle" ∧ yX5_taste.cls ≠ "java/lang/invoke/VarHandle" ∧ (parseMethodDescriptor yX5_taste.desc).map (fun d => d.parameters.length) = some 0 := by decide +kernel
set_option maxHeartbeats 4000000 in
theorem met_X5_taste (l : Launch) {D : va_G} {dA : WK} {a : Ix → Nat} (hD : wD D dA a) {F : St} {Fz : St} {rz : Int32} (hv0 : wVd dA (18, 0, 0)) (h : fn_X5_taste F = some (Fz, rz)) : Mi l yX5_taste cX5_taste 3 .int 5 116 D dA a F [.ref (a (18, 0, 0))] Fz rz := by
  refine fun sz => mst (Qc := fun sz => wQi D dA a sz Fz rz) (by decide) (Nat.le_of_ble_eq_true rfl) ?_ sz
  intro p e s m below meth c S hr hlk hK hW ls hl
  have hl : lv_has ls 3 [(0, .ref (a (18, 0, 0)))] := hl
  have hx := S.1
  have hb := S.2.1
  generalize ([.ref (a (18, 0, 0))] : List Value).toArray = av at S ⊢
  unfold fn_X5_taste at h
  obtain ⟨H, eH⟩ : ∃ z, z = s.heap := ⟨_, rfl⟩
  obtain ⟨locs, eL⟩ : ∃ z : List Loc, z = [] := ⟨_, rfl⟩
  show WX p l e (rmL 5 116) s m av below meth c (wQi D dA a s.heap.size Fz rz) dA a s.heap [] (F0 m 0 ls [])
  have hW : wS D dA a s F H locs := by rw [eH, eL]; exact wS_in hW
  refine wx_in eH eL ?_
  clear eH eL
  refine lv_aload_n hx hb dX5_taste_0 rfl (lv_at hl 0 rfl) ?_
  obtain ⟨F1, hc2, h⟩ := ob_e h
  refine wk_v (va_runV (As := []) (rest := []) S (met_X5_run l hD hv0 hc2 H.size) (cwV 0 S.2.2.2.2 (lw_V q836 q837 q838 q60 q842) rfl rfl rfl yd_X5_run ⟨Nat.le_of_ble_eq_true rfl, Nat.le_of_ble_eq_true rfl⟩) (wpreV hK hW hv0 rfl rfl _) rfl rfl hl.1 rfl (lv_room (Nat.le_of_ble_eq_true rfl)) dX5_taste_1 ⟨Nat.le_refl 0, Nat.le_refl 0⟩) hW (fun H locs hW => ?_)
  refine lv_aload_n hx hb dX5_taste_4 rfl (lv_at hl 0 rfl) ?_
  refine gf_18_0 S hK hW hv0 q210 dX5_taste_5 ?_
  refine gn_0_18 S hK hW (vq_18_0 hv0) q321 dX5_taste_8 ?_
  refine lv_aload_n hx hb dX5_taste_11 rfl (lv_at hl 0 rfl) ?_
  obtain ⟨r3, hc4, h⟩ := ob_e h
  refine wk_i (va_runV (As := []) (rest := [.ref (a (1, 3, 0))]) S (met_X5_much l hD hv0 hc4 H.size) (cwV 0 S.2.2.2.2 (lw_V q843 q844 q845 q60 q854) rfl rfl rfl yd_X5_much ⟨Nat.le_of_ble_eq_true rfl, Nat.le_of_ble_eq_true rfl⟩) (wpreV hK hW hv0 rfl rfl _) rfl rfl hl.1 rfl (lv_room (Nat.le_of_ble_eq_true rfl)) dX5_taste_12 ⟨Nat.le_refl 0, Nat.le_refl 0⟩) hW (fun H locs hW => ?_)
  obtain ⟨r5, hc6, h⟩ := ob_e h
  refine wk_i (va_runV (As := [.int r3]) (rest := []) S (met_X1_out l hD (vq_0_18 (vq_18_0 hv0)) hc6 H.size) (cwV 1 S.2.2.2.2 (lw_V q881 q794 q795 q56 q796) rfl rfl rfl yd_X1_out ⟨Nat.le_of_ble_eq_true rfl, Nat.le_of_ble_eq_true rfl⟩) (wpreV hK hW (vq_0_18 (vq_18_0 hv0)) rfl rfl _) rfl rfl hl.1 rfl (lv_room (Nat.le_of_ble_eq_true rfl)) dX5_taste_15 ⟨Nat.le_refl 0, Nat.le_refl 0⟩) hW (fun H locs hW => ?_)
  refine lv_istore_n (lv' := [(1, .int r5), (0, .ref (a (18, 0, 0)))]) hx hb dX5_taste_18 rfl hl (by decide) rfl (fun ls hl => ?_)
  refine lv_aload_n hx hb dX5_taste_19 rfl (lv_at hl 1 rfl) ?_
  refine gf_18_0 S hK hW hv0 q210 dX5_taste_20 ?_
  refine gn_0_18 S hK hW (vq_18_0 hv0) q321 dX5_taste_23 ?_
  obtain ⟨r7, hc8, h⟩ := ob_e h
  refine wk_i (va_runV (As := []) (rest := []) S (met_X1_strong l hD (vq_0_18 (vq_18_0 hv0)) hc8 H.size) (cwV 0 S.2.2.2.2 (lw_V q882 q786 q787 q56 q788) rfl rfl rfl yd_X1_strong ⟨Nat.le_of_ble_eq_true rfl, Nat.le_of_ble_eq_true rfl⟩) (wpreV hK hW (vq_0_18 (vq_18_0 hv0)) rfl rfl _) rfl rfl hl.1 rfl (lv_room (Nat.le_of_ble_eq_true rfl)) dX5_taste_26 ⟨Nat.le_refl 0, Nat.le_refl 0⟩) hW (fun H locs hW => ?_)
  refine lv_istore_n (lv' := [(2, .int r7), (1, .int r5), (0, .ref (a (18, 0, 0)))]) hx hb dX5_taste_29 rfl hl (by decide) rfl (fun ls hl => ?_)
  refine lv_aload_n hx hb dX5_taste_30 rfl (lv_at hl 2 rfl) ?_
  refine gf_18_0 S hK hW hv0 q210 dX5_taste_31 ?_
  refine gn_0_18 S hK hW (vq_18_0 hv0) q321 dX5_taste_34 ?_
  refine lv_aload_n hx hb dX5_taste_37 rfl (lv_at hl 2 rfl) ?_
  obtain ⟨r9, hc10, h⟩ := ob_e h
  refine wk_i (va_runV (As := []) (rest := [.ref (a (1, 3, 0))]) S (met_X5_much l hD hv0 hc10 H.size) (cwV 0 S.2.2.2.2 (lw_V q843 q844 q845 q60 q854) rfl rfl rfl yd_X5_much ⟨Nat.le_of_ble_eq_true rfl, Nat.le_of_ble_eq_true rfl⟩) (wpreV hK hW hv0 rfl rfl _) rfl rfl hl.1 rfl (lv_room (Nat.le_of_ble_eq_true rfl)) dX5_taste_38 ⟨Nat.le_refl 0, Nat.le_refl 0⟩) hW (fun H locs hW => ?_)
  obtain ⟨r11, hc12, h⟩ := ob_e h
  refine wk_i (va_runV (As := [.int r9]) (rest := []) S (met_X1_uneven l hD (vq_0_18 (vq_18_0 hv0)) hc12 H.size) (cwV 1 S.2.2.2.2 (lw_V q883 q802 q803 q56 q804) rfl rfl rfl yd_X1_uneven ⟨Nat.le_of_ble_eq_true rfl, Nat.le_of_ble_eq_true rfl⟩) (wpreV hK hW (vq_0_18 (vq_18_0 hv0)) rfl rfl _) rfl rfl hl.1 rfl (lv_room (Nat.le_of_ble_eq_true rfl)) dX5_taste_41 ⟨Nat.le_refl 0, Nat.le_refl 0⟩) hW (fun H locs hW => ?_)
  refine lv_aload_n hx hb dX5_taste_44 rfl (lv_at hl 2 rfl) ?_
  refine gf_18_0 S hK hW hv0 q210 dX5_taste_45 ?_
  refine gn_0_12 S hK hW (vq_18_0 hv0) q309 dX5_taste_48 ?_
  refine lv_iconst (v := (4 : Int32)) hx hb dX5_taste_51 (by decide) ?_
  refine ald_26 (z := 4) S hK hW (vq_0_12 (vq_18_0 hv0)) (by decide) (by decide) dX5_taste_52 ?_
  refine lv_icmp_le (tgt := 58) hx hb dX5_taste_53 (by decide) (fun c13 => ?_) (fun c13 => ?_)
  · have h := if_t h c13
    refine lv_iload_n hx hb dX5_taste_58 rfl (lv_at hl 1 rfl) ?_
    refine lv_aload_n hx hb dX5_taste_59 rfl (lv_at hl 2 rfl) ?_
    refine gf_18_0 S hK hW hv0 q210 dX5_taste_60 ?_
    refine gn_0_12 S hK hW (vq_18_0 hv0) q309 dX5_taste_63 ?_
    refine lv_iconst (v := (2 : Int32)) hx hb dX5_taste_66 (by decide) ?_
    refine ald_26 (z := 2) S hK hW (vq_0_12 (vq_18_0 hv0)) (by decide) (by decide) dX5_taste_67 ?_
    refine lv_icmp_lt (tgt := 84) hx hb dX5_taste_68 (by decide) (fun c14 => ?_) (fun c14 => ?_)
    · have h := if_t h c14
      refine lv_iload_n hx hb dX5_taste_84 rfl (lv_at hl 1 rfl) ?_
      refine lv_aload_n hx hb dX5_taste_85 rfl (lv_at hl 2 rfl) ?_
      refine gf_18_0 S hK hW hv0 q210 dX5_taste_86 ?_
      refine gn_0_12 S hK hW (vq_18_0 hv0) q309 dX5_taste_89 ?_
      refine lv_iconst (v := (2 : Int32)) hx hb dX5_taste_92 (by decide) ?_
      refine ald_26 (z := 2) S hK hW (vq_0_12 (vq_18_0 hv0)) (by decide) (by decide) dX5_taste_93 ?_
      refine lv_icmp_ge (tgt := 101) hx hb dX5_taste_94 (by decide) (fun c15 => ?_) (fun c15 => ?_)
      · have h := if_t h c15
        refine lv_iconst (v := (2 : Int32)) hx hb dX5_taste_101 (by decide) ?_
        cases h
        exact we_i S hr hlk hW dX5_taste_102
      · have h := if_f h c15
        refine lv_iconst (v := (1 : Int32)) hx hb dX5_taste_97 (by decide) ?_
        refine lv_goto (tgt := 102) hx hb dX5_taste_98 (by decide) ?_
        cases h
        exact we_i S hr hlk hW dX5_taste_102
    · have h := if_f h c14
      refine lv_iload_n hx hb dX5_taste_71 rfl (lv_at hl 1 rfl) ?_
      refine lv_aload_n hx hb dX5_taste_72 rfl (lv_at hl 2 rfl) ?_
      refine gf_18_0 S hK hW hv0 q210 dX5_taste_73 ?_
      refine gn_0_12 S hK hW (vq_18_0 hv0) q309 dX5_taste_76 ?_
      refine lv_iconst (v := (3 : Int32)) hx hb dX5_taste_79 (by decide) ?_
      refine ald_26 (z := 3) S hK hW (vq_0_12 (vq_18_0 hv0)) (by decide) (by decide) dX5_taste_80 ?_
      refine lv_icmp_le (tgt := 103) hx hb dX5_taste_81 (by decide) (fun c16 => ?_) (fun c16 => ?_)
      · have h := if_t h c16
        refine lv_iload_n hx hb dX5_taste_103 rfl (lv_at hl 0 rfl) ?_
        refine lv_aload_n hx hb dX5_taste_104 rfl (lv_at hl 2 rfl) ?_
        refine gf_18_0 S hK hW hv0 q210 dX5_taste_105 ?_
        refine gn_0_12 S hK hW (vq_18_0 hv0) q309 dX5_taste_108 ?_
        refine lv_iconst (v := (0 : Int32)) hx hb dX5_taste_111 (by decide) ?_
        refine ald_26 (z := 0) S hK hW (vq_0_12 (vq_18_0 hv0)) (by decide) (by decide) dX5_taste_112 ?_
        refine lv_icmp_ge (tgt := 120) hx hb dX5_taste_113 (by decide) (fun c17 => ?_) (fun c17 => ?_)
        · have h := if_t h c17
          refine lv_iload_n hx hb dX5_taste_120 rfl (lv_at hl 0 rfl) ?_
          refine lv_aload_n hx hb dX5_taste_121 rfl (lv_at hl 2 rfl) ?_
          refine gf_18_0 S hK hW hv0 q210 dX5_taste_122 ?_
          refine gn_0_12 S hK hW (vq_18_0 hv0) q309 dX5_taste_125 ?_
          refine lv_iconst (v := (1 : Int32)) hx hb dX5_taste_128 (by decide) ?_
          refine ald_26 (z := 1) S hK hW (vq_0_12 (vq_18_0 hv0)) (by decide) (by decide) dX5_taste_129 ?_
          refine lv_icmp_le (tgt := 137) hx hb dX5_taste_130 (by decide) (fun c18 => ?_) (fun c18 => ?_)
          · have h := if_t h c18
            refine lv_iconst (v := (0 : Int32)) hx hb dX5_taste_137 (by decide) ?_
            cases h
            exact we_i S hr hlk hW dX5_taste_138
          · have h := if_f h c18
            refine lv_iconst (v := (4 : Int32)) hx hb dX5_taste_133 (by decide) ?_
            refine lv_goto (tgt := 138) hx hb dX5_taste_134 (by decide) ?_
            cases h
            exact we_i S hr hlk hW dX5_taste_138
        · have h := if_f h c17
          refine lv_iconst (v := (3 : Int32)) hx hb dX5_taste_116 (by decide) ?_
          refine lv_goto (tgt := 138) hx hb dX5_taste_117 (by decide) ?_
          cases h
          exact we_i S hr hlk hW dX5_taste_138
      · have h := if_f h c16
        refine lv_iload_n hx hb dX5_taste_84 rfl (lv_at hl 1 rfl) ?_
        refine lv_aload_n hx hb dX5_taste_85 rfl (lv_at hl 2 rfl) ?_
        refine gf_18_0 S hK hW hv0 q210 dX5_taste_86 ?_
        refine gn_0_12 S hK hW (vq_18_0 hv0) q309 dX5_taste_89 ?_
        refine lv_iconst (v := (2 : Int32)) hx hb dX5_taste_92 (by decide) ?_
        refine ald_26 (z := 2) S hK hW (vq_0_12 (vq_18_0 hv0)) (by decide) (by decide) dX5_taste_93 ?_
        refine lv_icmp_ge (tgt := 101) hx hb dX5_taste_94 (by decide) (fun c19 => ?_) (fun c19 => ?_)
        · have h := if_t h c19
          refine lv_iconst (v := (2 : Int32)) hx hb dX5_taste_101 (by decide) ?_
          cases h
          exact we_i S hr hlk hW dX5_taste_102
        · have h := if_f h c19
          refine lv_iconst (v := (1 : Int32)) hx hb dX5_taste_97 (by decide) ?_
          refine lv_goto (tgt := 102) hx hb dX5_taste_98 (by decide) ?_
          cases h
          exact we_i S hr hlk hW dX5_taste_102
  · have h := if_f h c13
    refine lv_iconst (v := (5 : Int32)) hx hb dX5_taste_56 (by decide) ?_
    cases h
    exact we_i S hr hlk hW dX5_taste_57
def fn_X6_lay (F : St) : Option (St) :=
  pl (fu F 19 1 0 0 (0 : Int32)) (fun F1 => pl (fu F1 19 2 0 0 (0 : Int32)) (fun F3 => pl (fu F3 19 3 0 0 (0 : Int32)) (fun F5 => some F5)))
theorem yd_X6_lay : yX6_lay.cls = RX6 ∧ yX6_lay.cls ≠ "java/lang/invoke/MethodHandle" ∧ yX6_lay.cls ≠ "java/lang/invoke/VarHandle" ∧ (parseMethodDescriptor yX6_lay.desc).map (fun d => d.parameters.length) = some 0 := by decide +kernel
set_option maxHeartbeats 4000000 in
theorem met_X6_lay (l : Launch) {D : va_G} {dA : WK} {a : Ix → Nat} (hD : wD D dA a) {F : St} {Fz : St} (hv0 : wVd dA (19, 0, 0)) (h : fn_X6_lay F = some Fz) : Mv l yX6_lay cX6_lay 1 0 0 D dA a F [.ref (a (19, 0, 0))] Fz := by
  refine fun sz => mst (Qc := fun sz => wQv D dA a sz Fz) (by decide) (Nat.le_of_ble_eq_true rfl) ?_ sz
  intro p e s m below meth c S hr hlk hK hW ls hl
  have hl : lv_has ls 1 [(0, .ref (a (19, 0, 0)))] := hl
  have hx := S.1
  have hb := S.2.1
  generalize ([.ref (a (19, 0, 0))] : List Value).toArray = av at S ⊢
  unfold fn_X6_lay at h
  obtain ⟨H, eH⟩ : ∃ z, z = s.heap := ⟨_, rfl⟩
  obtain ⟨locs, eL⟩ : ∃ z : List Loc, z = [] := ⟨_, rfl⟩
  show WX p l e (rmL 0 0) s m av below meth c (wQv D dA a s.heap.size Fz) dA a s.heap [] (F0 m 0 ls [])
  have hW : wS D dA a s F H locs := by rw [eH, eL]; exact wS_in hW
  refine wx_in eH eL ?_
  clear eH eL
  refine lv_aload_n hx hb dX6_lay_0 rfl (lv_at hl 0 rfl) ?_
  refine lv_iconst (v := (0 : Int32)) hx hb dX6_lay_1 (by decide) ?_
  obtain ⟨F1, e2, h⟩ := pl_e h
  refine pf_19_1 S hK hD hW hv0 e2 q220 dX6_lay_2 (fun H locs hW => ?_)
  refine lv_aload_n hx hb dX6_lay_5 rfl (lv_at hl 0 rfl) ?_
  refine lv_iconst (v := (0 : Int32)) hx hb dX6_lay_6 (by decide) ?_
  obtain ⟨F3, e4, h⟩ := pl_e h
  refine pf_19_2 S hK hD hW hv0 e4 q221 dX6_lay_7 (fun H locs hW => ?_)
  refine lv_aload_n hx hb dX6_lay_10 rfl (lv_at hl 0 rfl) ?_
  refine lv_iconst (v := (0 : Int32)) hx hb dX6_lay_11 (by decide) ?_
  obtain ⟨F5, e6, h⟩ := pl_e h
  refine pf_19_3 S hK hD hW hv0 e6 q222 dX6_lay_12 (fun H locs hW => ?_)
  cases h
  exact we_v S hr hlk hW dX6_lay_15
def fn_X5_much_19 (F : St) : Option (Int32) :=
  some (F 0 10 0 0)
set_option maxHeartbeats 4000000 in
theorem met_X5_much_19 (l : Launch) {D : va_G} {dA : WK} {a : Ix → Nat} (hD : wD D dA a) {F : St} {rz : Int32} (hv0 : wVd dA (19, 0, 0)) (h : fn_X5_much_19 F = some rz) : Mi l yX5_much cX5_much 1 .int 0 0 D dA a F [.ref (a (19, 0, 0))] F rz := by
  refine fun sz => mst (Qc := fun sz => wQi D dA a sz F rz) (by decide) (Nat.le_of_ble_eq_true rfl) ?_ sz
  intro p e s m below meth c S hr hlk hK hW ls hl
  have hl : lv_has ls 1 [(0, .ref (a (19, 0, 0)))] := hl
  have hx := S.1
  have hb := S.2.1
  generalize ([.ref (a (19, 0, 0))] : List Value).toArray = av at S ⊢
  unfold fn_X5_much_19 at h
  obtain ⟨H, eH⟩ : ∃ z, z = s.heap := ⟨_, rfl⟩
  obtain ⟨locs, eL⟩ : ∃ z : List Loc, z = [] := ⟨_, rfl⟩
  show WX p l e (rmL 0 0) s m av below meth c (wQi D dA a s.heap.size F rz) dA a s.heap [] (F0 m 0 ls [])
  have hW : wS D dA a s F H locs := by rw [eH, eL]; exact wS_in hW
  refine wx_in eH eL ?_
  clear eH eL
  refine lv_aload_n hx hb dX5_much_0 rfl (lv_at hl 0 rfl) ?_
  refine gf_19_0 S hK hW hv0 q210 dX5_much_1 ?_
  refine gn_0_10 S hK hW (vq_19_0 hv0) q303 dX5_much_4 ?_
  cases h
  exact we_i S hr hlk hW dX5_much_7
def fn_X6_much (F : St) : Option (Int32) :=
  ob (fn_X5_much_19 F) (fun r1 => some (r1 + (F 19 3 0 0)))
theorem yd_X6_much : yX6_much.cls = RX6 ∧ yX6_much.cls ≠ "java/lang/invoke/MethodHandle" ∧ yX6_much.cls ≠ "java/lang/invoke/VarHandle" ∧ (parseMethodDescriptor yX6_much.desc).map (fun d => d.parameters.length) = some 0 := by decide +kernel
set_option maxHeartbeats 4000000 in
theorem met_X6_much (l : Launch) {D : va_G} {dA : WK} {a : Ix → Nat} (hD : wD D dA a) {F : St} {rz : Int32} (hv0 : wVd dA (19, 0, 0)) (h : fn_X6_much F = some rz) : Mi l yX6_much cX6_much 1 .int 1 20 D dA a F [.ref (a (19, 0, 0))] F rz := by
  refine fun sz => mst (Qc := fun sz => wQi D dA a sz F rz) (by decide) (Nat.le_of_ble_eq_true rfl) ?_ sz
  intro p e s m below meth c S hr hlk hK hW ls hl
  have hl : lv_has ls 1 [(0, .ref (a (19, 0, 0)))] := hl
  have hx := S.1
  have hb := S.2.1
  generalize ([.ref (a (19, 0, 0))] : List Value).toArray = av at S ⊢
  unfold fn_X6_much at h
  obtain ⟨H, eH⟩ : ∃ z, z = s.heap := ⟨_, rfl⟩
  obtain ⟨locs, eL⟩ : ∃ z : List Loc, z = [] := ⟨_, rfl⟩
  show WX p l e (rmL 1 20) s m av below meth c (wQi D dA a s.heap.size F rz) dA a s.heap [] (F0 m 0 ls [])
  have hW : wS D dA a s F H locs := by rw [eH, eL]; exact wS_in hW
  refine wx_in eH eL ?_
  clear eH eL
  refine lv_aload_n hx hb dX6_much_0 rfl (lv_at hl 0 rfl) ?_
  obtain ⟨r1, hc2, h⟩ := ob_e h
  refine wk_i (va_runSU (C := "WaterGrounds$Turned") ((hK.1.1 6 _ rfl).2) (As := []) (rest := []) S (met_X5_much_19 l hD hv0 hc2 H.size) (va_cwSU 0 S.2.2.2.2 (lw_SU q853 q846 q233 q844 q60 q854) rfl rfl rfl ⟨by decide, yd_X5_much.2.2.2⟩ ⟨Nat.le_of_ble_eq_true rfl, Nat.le_of_ble_eq_true rfl⟩) (wpreV hK hW hv0 rfl rfl _) rfl rfl hl.1 rfl (lv_room (Nat.le_of_ble_eq_true rfl)) dX6_much_1 ⟨Nat.le_refl 0, Nat.le_refl 0⟩) hW (fun H locs hW => ?_)
  refine lv_aload_n hx hb dX6_much_4 rfl (lv_at hl 0 rfl) ?_
  refine gf_19_3 S hK hW hv0 q222 dX6_much_5 ?_
  refine lv_iadd hx hb dX6_much_8 ?_
  cases h
  exact we_i S hr hlk hW dX6_much_9
def fn_X5_step_19 (F : St) : Option (Int32) :=
  some (F 0 8 0 0)
set_option maxHeartbeats 4000000 in
theorem met_X5_step_19 (l : Launch) {D : va_G} {dA : WK} {a : Ix → Nat} (hD : wD D dA a) {F : St} {rz : Int32} (hv0 : wVd dA (19, 0, 0)) (h : fn_X5_step_19 F = some rz) : Mi l yX5_step cX5_step 1 .int 0 0 D dA a F [.ref (a (19, 0, 0))] F rz := by
  refine fun sz => mst (Qc := fun sz => wQi D dA a sz F rz) (by decide) (Nat.le_of_ble_eq_true rfl) ?_ sz
  intro p e s m below meth c S hr hlk hK hW ls hl
  have hl : lv_has ls 1 [(0, .ref (a (19, 0, 0)))] := hl
  have hx := S.1
  have hb := S.2.1
  generalize ([.ref (a (19, 0, 0))] : List Value).toArray = av at S ⊢
  unfold fn_X5_step_19 at h
  obtain ⟨H, eH⟩ : ∃ z, z = s.heap := ⟨_, rfl⟩
  obtain ⟨locs, eL⟩ : ∃ z : List Loc, z = [] := ⟨_, rfl⟩
  show WX p l e (rmL 0 0) s m av below meth c (wQi D dA a s.heap.size F rz) dA a s.heap [] (F0 m 0 ls [])
  have hW : wS D dA a s F H locs := by rw [eH, eL]; exact wS_in hW
  refine wx_in eH eL ?_
  clear eH eL
  refine lv_aload_n hx hb dX5_step_0 rfl (lv_at hl 0 rfl) ?_
  refine gf_19_0 S hK hW hv0 q210 dX5_step_1 ?_
  refine gn_0_8 S hK hW (vq_19_0 hv0) q292 dX5_step_4 ?_
  cases h
  exact we_i S hr hlk hW dX5_step_7
def fn_X6_step (F : St) : Option (Int32) :=
  ob (fn_X5_step_19 F) (fun r1 => some (r1 + (F 19 1 0 0)))
theorem yd_X6_step : yX6_step.cls = RX6 ∧ yX6_step.cls ≠ "java/lang/invoke/MethodHandle" ∧ yX6_step.cls ≠ "java/lang/invoke/VarHandle" ∧ (parseMethodDescriptor yX6_step.desc).map (fun d => d.parameters.length) = some 0 := by decide +kernel
set_option maxHeartbeats 4000000 in
theorem met_X6_step (l : Launch) {D : va_G} {dA : WK} {a : Ix → Nat} (hD : wD D dA a) {F : St} {rz : Int32} (hv0 : wVd dA (19, 0, 0)) (h : fn_X6_step F = some rz) : Mi l yX6_step cX6_step 1 .int 1 20 D dA a F [.ref (a (19, 0, 0))] F rz := by
  refine fun sz => mst (Qc := fun sz => wQi D dA a sz F rz) (by decide) (Nat.le_of_ble_eq_true rfl) ?_ sz
  intro p e s m below meth c S hr hlk hK hW ls hl
  have hl : lv_has ls 1 [(0, .ref (a (19, 0, 0)))] := hl
  have hx := S.1
  have hb := S.2.1
  generalize ([.ref (a (19, 0, 0))] : List Value).toArray = av at S ⊢
  unfold fn_X6_step at h
  obtain ⟨H, eH⟩ : ∃ z, z = s.heap := ⟨_, rfl⟩
  obtain ⟨locs, eL⟩ : ∃ z : List Loc, z = [] := ⟨_, rfl⟩
  show WX p l e (rmL 1 20) s m av below meth c (wQi D dA a s.heap.size F rz) dA a s.heap [] (F0 m 0 ls [])
  have hW : wS D dA a s F H locs := by rw [eH, eL]; exact wS_in hW
  refine wx_in eH eL ?_
  clear eH eL
  refine lv_aload_n hx hb dX6_step_0 rfl (lv_at hl 0 rfl) ?_
  obtain ⟨r1, hc2, h⟩ := ob_e h
  refine wk_i (va_runSU (C := "WaterGrounds$Turned") ((hK.1.1 6 _ rfl).2) (As := []) (rest := []) S (met_X5_step_19 l hD hv0 hc2 H.size) (va_cwSU 0 S.2.2.2.2 (lw_SU q866 q859 q233 q857 q60 q867) rfl rfl rfl ⟨by decide, yd_X5_step.2.2.2⟩ ⟨Nat.le_of_ble_eq_true rfl, Nat.le_of_ble_eq_true rfl⟩) (wpreV hK hW hv0 rfl rfl _) rfl rfl hl.1 rfl (lv_room (Nat.le_of_ble_eq_true rfl)) dX6_step_1 ⟨Nat.le_refl 0, Nat.le_refl 0⟩) hW (fun H locs hW => ?_)
  refine lv_aload_n hx hb dX6_step_4 rfl (lv_at hl 0 rfl) ?_
  refine gf_19_1 S hK hW hv0 q220 dX6_step_5 ?_
  refine lv_iadd hx hb dX6_step_8 ?_
  cases h
  exact we_i S hr hlk hW dX6_step_9
def fn_X5_warmth_19 (F : St) : Option (Int32) :=
  some (F 0 9 0 0)
set_option maxHeartbeats 4000000 in
theorem met_X5_warmth_19 (l : Launch) {D : va_G} {dA : WK} {a : Ix → Nat} (hD : wD D dA a) {F : St} {rz : Int32} (hv0 : wVd dA (19, 0, 0)) (h : fn_X5_warmth_19 F = some rz) : Mi l yX5_warmth cX5_warmth 1 .int 0 0 D dA a F [.ref (a (19, 0, 0))] F rz := by
  refine fun sz => mst (Qc := fun sz => wQi D dA a sz F rz) (by decide) (Nat.le_of_ble_eq_true rfl) ?_ sz
  intro p e s m below meth c S hr hlk hK hW ls hl
  have hl : lv_has ls 1 [(0, .ref (a (19, 0, 0)))] := hl
  have hx := S.1
  have hb := S.2.1
  generalize ([.ref (a (19, 0, 0))] : List Value).toArray = av at S ⊢
  unfold fn_X5_warmth_19 at h
  obtain ⟨H, eH⟩ : ∃ z, z = s.heap := ⟨_, rfl⟩
  obtain ⟨locs, eL⟩ : ∃ z : List Loc, z = [] := ⟨_, rfl⟩
  show WX p l e (rmL 0 0) s m av below meth c (wQi D dA a s.heap.size F rz) dA a s.heap [] (F0 m 0 ls [])
  have hW : wS D dA a s F H locs := by rw [eH, eL]; exact wS_in hW
  refine wx_in eH eL ?_
  clear eH eL
  refine lv_aload_n hx hb dX5_warmth_0 rfl (lv_at hl 0 rfl) ?_
  refine gf_19_0 S hK hW hv0 q210 dX5_warmth_1 ?_
  refine gn_0_9 S hK hW (vq_19_0 hv0) q299 dX5_warmth_4 ?_
  cases h
  exact we_i S hr hlk hW dX5_warmth_7
def fn_X6_warmth (F : St) : Option (Int32) :=
  ob (fn_X5_warmth_19 F) (fun r1 => some (r1 + (F 19 2 0 0)))
theorem yd_X6_warmth : yX6_warmth.cls = RX6 ∧ yX6_warmth.cls ≠ "java/lang/invoke/MethodHandle" ∧ yX6_warmth.cls ≠ "java/lang/invoke/VarHandle" ∧ (parseMethodDescriptor yX6_warmth.desc).map (fun d => d.parameters.length) = some 0 := by decide +kernel
set_option maxHeartbeats 4000000 in
theorem met_X6_warmth (l : Launch) {D : va_G} {dA : WK} {a : Ix → Nat} (hD : wD D dA a) {F : St} {rz : Int32} (hv0 : wVd dA (19, 0, 0)) (h : fn_X6_warmth F = some rz) : Mi l yX6_warmth cX6_warmth 1 .int 1 20 D dA a F [.ref (a (19, 0, 0))] F rz := by
  refine fun sz => mst (Qc := fun sz => wQi D dA a sz F rz) (by decide) (Nat.le_of_ble_eq_true rfl) ?_ sz
  intro p e s m below meth c S hr hlk hK hW ls hl
  have hl : lv_has ls 1 [(0, .ref (a (19, 0, 0)))] := hl
  have hx := S.1
  have hb := S.2.1
  generalize ([.ref (a (19, 0, 0))] : List Value).toArray = av at S ⊢
  unfold fn_X6_warmth at h
  obtain ⟨H, eH⟩ : ∃ z, z = s.heap := ⟨_, rfl⟩
  obtain ⟨locs, eL⟩ : ∃ z : List Loc, z = [] := ⟨_, rfl⟩
  show WX p l e (rmL 1 20) s m av below meth c (wQi D dA a s.heap.size F rz) dA a s.heap [] (F0 m 0 ls [])
  have hW : wS D dA a s F H locs := by rw [eH, eL]; exact wS_in hW
  refine wx_in eH eL ?_
  clear eH eL
  refine lv_aload_n hx hb dX6_warmth_0 rfl (lv_at hl 0 rfl) ?_
  obtain ⟨r1, hc2, h⟩ := ob_e h
  refine wk_i (va_runSU (C := "WaterGrounds$Turned") ((hK.1.1 6 _ rfl).2) (As := []) (rest := []) S (met_X5_warmth_19 l hD hv0 hc2 H.size) (va_cwSU 0 S.2.2.2.2 (lw_SU q878 q871 q233 q869 q60 q879) rfl rfl rfl ⟨by decide, yd_X5_warmth.2.2.2⟩ ⟨Nat.le_of_ble_eq_true rfl, Nat.le_of_ble_eq_true rfl⟩) (wpreV hK hW hv0 rfl rfl _) rfl rfl hl.1 rfl (lv_room (Nat.le_of_ble_eq_true rfl)) dX6_warmth_1 ⟨Nat.le_refl 0, Nat.le_refl 0⟩) hW (fun H locs hW => ?_)
  refine lv_aload_n hx hb dX6_warmth_4 rfl (lv_at hl 0 rfl) ?_
  refine gf_19_2 S hK hW hv0 q221 dX6_warmth_5 ?_
  refine lv_iadd hx hb dX6_warmth_8 ?_
  cases h
  exact we_i S hr hlk hW dX6_warmth_9
def fn_X6_turn (F : St) (p1 : Int32) : Option (St × Int32) :=
  ob (if (p1 - p1 / (2 : Int32) * (2 : Int32)) = 0 then some (1 : Int32) else some (-1 : Int32)) (fun y3 => ob (if (p1 / (2 : Int32)) = 0 then some y3 else some (0 : Int32)) (fun y7 => pl (fu F 19 1 0 0 ((F 19 1 0 0) + y7)) (fun F9 => ob (if (p1 / (2 : Int32)) = (1 : Int32) then some ((10 : Int32) * y3) else some (0 : Int32)) (fun y13 => pl (fu F9 19 2 0 0 ((F9 19 2 0 0) + y13)) (fun F15 => ob (if (p1 / (2 : Int32)) = (2 : Int32) then some y3 else some (0 : Int32)) (fun y19 => pl (fu F15 19 3 0 0 ((F15 19 3 0 0) + y19)) (fun F21 => ob (fn_X6_step F21) (fun r23 => ob (fn_X0_isIn F21 r23.toInt64 (0 : Int64) (10 : Int64)) (fun r25 => if r25 = 0 then some (F21, (0 : Int32)) else ob (fn_X6_warmth F21) (fun r28 => ob (fn_X0_isIn F21 r28.toInt64 (0 : Int64) (100 : Int64)) (fun r30 => if r30 = 0 then some (F21, (0 : Int32)) else ob (fn_X6_much F21) (fun r33 => ob (fn_X0_isIn F21 r33.toInt64 (1 : Int64) (20 : Int64)) (fun r35 => if r35 = 0 then some (F21, (0 : Int32)) else some (F21, (1 : Int32)))))))))))))))
theorem yd_X6_turn : yX6_turn.cls = RX6 ∧ yX6_turn.cls ≠ "java/lang/invoke/MethodHandle" ∧ yX6_turn.cls ≠ "java/lang/invoke/VarHandle" ∧ (parseMethodDescriptor yX6_turn.desc).map (fun d => d.parameters.length) = some 1 := by decide +kernel
set_option maxHeartbeats 4000000 in
theorem met_X6_turn (l : Launch) {D : va_G} {dA : WK} {a : Ix → Nat} (hD : wD D dA a) {F : St} {p1 : Int32} {Fz : St} {rz : Int32} (hv0 : wVd dA (19, 0, 0)) (h : fn_X6_turn F p1 = some (Fz, rz)) : Mi l yX6_turn cX6_turn 3 .boolean 2 40 D dA a F [.ref (a (19, 0, 0)), .int p1] Fz rz := by
  refine fun sz => mst (Qc := fun sz => wQi D dA a sz Fz rz) (by decide) (Nat.le_of_ble_eq_true rfl) ?_ sz
  intro p e s m below meth c S hr hlk hK hW ls hl
  have hl : lv_has ls 3 [(0, .ref (a (19, 0, 0))), (1, .int p1)] := hl
  have hx := S.1
  have hb := S.2.1
  generalize ([.ref (a (19, 0, 0)), .int p1] : List Value).toArray = av at S ⊢
  unfold fn_X6_turn at h
  obtain ⟨H, eH⟩ : ∃ z, z = s.heap := ⟨_, rfl⟩
  obtain ⟨locs, eL⟩ : ∃ z : List Loc, z = [] := ⟨_, rfl⟩
  show WX p l e (rmL 2 40) s m av below meth c (wQi D dA a s.heap.size Fz rz) dA a s.heap [] (F0 m 0 ls [])
  have hW : wS D dA a s F H locs := by rw [eH, eL]; exact wS_in hW
  refine wx_in eH eL ?_
  clear eH eL
  refine lv_iload_n hx hb dX6_turn_0 rfl (lv_at hl 1 rfl) ?_
  refine lv_iconst (v := (2 : Int32)) hx hb dX6_turn_1 (by decide) ?_
  refine lv_irem hx hb dX6_turn_2 (by decide) ?_
  obtain ⟨y3, hz2, h⟩ := ob_e h
  have K4 : ∀ (H : Heap) (locs : List Loc) (ls : Array Slot), wS D dA a s F H locs → lv_has ls 3 [(0, .ref (a (19, 0, 0))), (1, .int p1)] → WX p l e (rmL 2 40) s m av below meth c (wQi D dA a s.heap.size Fz rz) dA a H locs (F0 m 11 ls [.int y3]) := by
    intro H locs ls hW hl
    refine lv_istore_n (lv' := [(2, .int y3), (0, .ref (a (19, 0, 0))), (1, .int p1)]) hx hb dX6_turn_11 rfl hl (by decide) rfl (fun ls hl => ?_)
    refine lv_aload_n hx hb dX6_turn_12 rfl (lv_at hl 1 rfl) ?_
    refine lv_dup hx hb dX6_turn_13 rfl ?_
    refine gf_19_1 S hK hW hv0 q220 dX6_turn_14 ?_
    refine lv_iload_n hx hb dX6_turn_17 rfl (lv_at hl 2 rfl) ?_
    refine lv_iconst (v := (2 : Int32)) hx hb dX6_turn_18 (by decide) ?_
    refine lv_idiv hx hb dX6_turn_19 (by decide) ?_
    obtain ⟨y7, hz6, h⟩ := ob_e h
    have K8 : ∀ (H : Heap) (locs : List Loc) (ls : Array Slot), wS D dA a s F H locs → lv_has ls 3 [(0, .ref (a (19, 0, 0))), (1, .int p1), (2, .int y3)] → WX p l e (rmL 2 40) s m av below meth c (wQi D dA a s.heap.size Fz rz) dA a H locs (F0 m 28 ls [.int y7, .int (F 19 1 0 0), .ref (a (19, 0, 0))]) := by
      intro H locs ls hW hl
      refine lv_iadd hx hb dX6_turn_28 ?_
      obtain ⟨F9, e10, h⟩ := pl_e h
      refine pf_19_1 S hK hD hW hv0 e10 q220 dX6_turn_29 (fun H locs hW => ?_)
      refine lv_aload_n hx hb dX6_turn_32 rfl (lv_at hl 0 rfl) ?_
      refine lv_dup hx hb dX6_turn_33 rfl ?_
      refine gf_19_2 S hK hW hv0 q221 dX6_turn_34 ?_
      refine lv_iload_n hx hb dX6_turn_37 rfl (lv_at hl 1 rfl) ?_
      refine lv_iconst (v := (2 : Int32)) hx hb dX6_turn_38 (by decide) ?_
      refine lv_idiv hx hb dX6_turn_39 (by decide) ?_
      refine lv_iconst (v := (1 : Int32)) hx hb dX6_turn_40 (by decide) ?_
      obtain ⟨y13, hz12, h⟩ := ob_e h
      have K14 : ∀ (H : Heap) (locs : List Loc) (ls : Array Slot), wS D dA a s F9 H locs → lv_has ls 3 [(0, .ref (a (19, 0, 0))), (1, .int p1), (2, .int y3)] → WX p l e (rmL 2 40) s m av below meth c (wQi D dA a s.heap.size Fz rz) dA a H locs (F0 m 52 ls [.int y13, .int (F9 19 2 0 0), .ref (a (19, 0, 0))]) := by
        intro H locs ls hW hl
        refine lv_iadd hx hb dX6_turn_52 ?_
        obtain ⟨F15, e16, h⟩ := pl_e h
        refine pf_19_2 S hK hD hW hv0 e16 q221 dX6_turn_53 (fun H locs hW => ?_)
        refine lv_aload_n hx hb dX6_turn_56 rfl (lv_at hl 0 rfl) ?_
        refine lv_dup hx hb dX6_turn_57 rfl ?_
        refine gf_19_3 S hK hW hv0 q222 dX6_turn_58 ?_
        refine lv_iload_n hx hb dX6_turn_61 rfl (lv_at hl 1 rfl) ?_
        refine lv_iconst (v := (2 : Int32)) hx hb dX6_turn_62 (by decide) ?_
        refine lv_idiv hx hb dX6_turn_63 (by decide) ?_
        refine lv_iconst (v := (2 : Int32)) hx hb dX6_turn_64 (by decide) ?_
        obtain ⟨y19, hz18, h⟩ := ob_e h
        have K20 : ∀ (H : Heap) (locs : List Loc) (ls : Array Slot), wS D dA a s F15 H locs → lv_has ls 3 [(0, .ref (a (19, 0, 0)))] → WX p l e (rmL 2 40) s m av below meth c (wQi D dA a s.heap.size Fz rz) dA a H locs (F0 m 73 ls [.int y19, .int (F15 19 3 0 0), .ref (a (19, 0, 0))]) := by
          intro H locs ls hW hl
          refine lv_iadd hx hb dX6_turn_73 ?_
          obtain ⟨F21, e22, h⟩ := pl_e h
          refine pf_19_3 S hK hD hW hv0 e22 q222 dX6_turn_74 (fun H locs hW => ?_)
          refine lv_aload_n hx hb dX6_turn_77 rfl (lv_at hl 0 rfl) ?_
          obtain ⟨r23, hc24, h⟩ := ob_e h
          refine wk_i (va_runV (As := []) (rest := []) S (met_X6_step l hD hv0 hc24 H.size) (cwV 0 S.2.2.2.2 (lw_V q897 q864 q1354 q61 q865) rfl rfl rfl yd_X6_step ⟨Nat.le_of_ble_eq_true rfl, Nat.le_of_ble_eq_true rfl⟩) (wpreV hK hW hv0 rfl rfl _) rfl rfl hl.1 rfl (lv_room (Nat.le_of_ble_eq_true rfl)) dX6_turn_78 ⟨Nat.le_refl 0, Nat.le_refl 0⟩) hW (fun H locs hW => ?_)
          refine lv_i2l hx hb dX6_turn_81 rfl ?_
          refine lv_lconst (v := (0 : Int64)) hx hb dX6_turn_82 (by decide) ?_
          refine lv_ldc2 (v := (10 : Int64)) hx hb S.2.2.2.1 (S.2.2.2.2 _ q898) dX6_turn_83 ?_
          obtain ⟨r25, hc26, h⟩ := ob_e h
          refine wk_i (va_runSN (As := [.long r23.toInt64, .long (0 : Int64), .long (10 : Int64)]) (rest := []) S (met_X0_isIn l hD hc26 H.size) ⟨va_cnB 3 S.2.2.2.2 (lw_meth q391) rfl rfl rfl (hK.2.1 _ (List.mem_filter.mpr ⟨q899, rfl⟩)) (S.2.2.2.2 _ q55) yd_X0_isIn.2 ⟨Nat.le_of_ble_eq_true rfl, Nat.le_of_ble_eq_true rfl⟩, S.2.2.2.2 _ q390, trivial⟩ (wpreS hK hW _) rfl rfl hl.1 rfl (lv_room (Nat.le_of_ble_eq_true rfl)) dX6_turn_86 ⟨Nat.le_refl 0, Nat.le_refl 0⟩) hW (fun H locs hW => ?_)
          refine lv_if_eq (tgt := 126) hx hb dX6_turn_89 (by decide) (fun c27 => ?_) (fun c27 => ?_)
          · have h := if_t h c27
            refine lv_iconst (v := (0 : Int32)) hx hb dX6_turn_126 (by decide) ?_
            cases h
            exact we_z S hr hlk rfl hW dX6_turn_127
          · have h := if_f h c27
            refine lv_aload_n hx hb dX6_turn_92 rfl (lv_at hl 0 rfl) ?_
            obtain ⟨r28, hc29, h⟩ := ob_e h
            refine wk_i (va_runV (As := []) (rest := []) S (met_X6_warmth l hD hv0 hc29 H.size) (cwV 0 S.2.2.2.2 (lw_V q900 q876 q1355 q61 q877) rfl rfl rfl yd_X6_warmth ⟨Nat.le_of_ble_eq_true rfl, Nat.le_of_ble_eq_true rfl⟩) (wpreV hK hW hv0 rfl rfl _) rfl rfl hl.1 rfl (lv_room (Nat.le_of_ble_eq_true rfl)) dX6_turn_93 ⟨Nat.le_refl 0, Nat.le_refl 0⟩) hW (fun H locs hW => ?_)
            refine lv_i2l hx hb dX6_turn_96 rfl ?_
            refine lv_lconst (v := (0 : Int64)) hx hb dX6_turn_97 (by decide) ?_
            refine lv_ldc2 (v := (100 : Int64)) hx hb S.2.2.2.1 (S.2.2.2.2 _ q901) dX6_turn_98 ?_
            obtain ⟨r30, hc31, h⟩ := ob_e h
            refine wk_i (va_runSN (As := [.long r28.toInt64, .long (0 : Int64), .long (100 : Int64)]) (rest := []) S (met_X0_isIn l hD hc31 H.size) ⟨va_cnB 3 S.2.2.2.2 (lw_meth q391) rfl rfl rfl (hK.2.1 _ (List.mem_filter.mpr ⟨q899, rfl⟩)) (S.2.2.2.2 _ q55) yd_X0_isIn.2 ⟨Nat.le_of_ble_eq_true rfl, Nat.le_of_ble_eq_true rfl⟩, S.2.2.2.2 _ q390, trivial⟩ (wpreS hK hW _) rfl rfl hl.1 rfl (lv_room (Nat.le_of_ble_eq_true rfl)) dX6_turn_101 ⟨Nat.le_refl 0, Nat.le_refl 0⟩) hW (fun H locs hW => ?_)
            refine lv_if_eq (tgt := 126) hx hb dX6_turn_104 (by decide) (fun c32 => ?_) (fun c32 => ?_)
            · have h := if_t h c32
              refine lv_iconst (v := (0 : Int32)) hx hb dX6_turn_126 (by decide) ?_
              cases h
              exact we_z S hr hlk rfl hW dX6_turn_127
            · have h := if_f h c32
              refine lv_aload_n hx hb dX6_turn_107 rfl (lv_at hl 0 rfl) ?_
              obtain ⟨r33, hc34, h⟩ := ob_e h
              refine wk_i (va_runV (As := []) (rest := []) S (met_X6_much l hD hv0 hc34 H.size) (cwV 0 S.2.2.2.2 (lw_V q902 q851 q1356 q61 q852) rfl rfl rfl yd_X6_much ⟨Nat.le_of_ble_eq_true rfl, Nat.le_of_ble_eq_true rfl⟩) (wpreV hK hW hv0 rfl rfl _) rfl rfl hl.1 rfl (lv_room (Nat.le_of_ble_eq_true rfl)) dX6_turn_108 ⟨Nat.le_refl 0, Nat.le_refl 0⟩) hW (fun H locs hW => ?_)
              refine lv_i2l hx hb dX6_turn_111 rfl ?_
              refine lv_lconst (v := (1 : Int64)) hx hb dX6_turn_112 (by decide) ?_
              refine lv_ldc2 (v := (20 : Int64)) hx hb S.2.2.2.1 (S.2.2.2.2 _ q903) dX6_turn_113 ?_
              obtain ⟨r35, hc36, h⟩ := ob_e h
              refine wk_i (va_runSN (As := [.long r33.toInt64, .long (1 : Int64), .long (20 : Int64)]) (rest := []) S (met_X0_isIn l hD hc36 H.size) ⟨va_cnB 3 S.2.2.2.2 (lw_meth q391) rfl rfl rfl (hK.2.1 _ (List.mem_filter.mpr ⟨q899, rfl⟩)) (S.2.2.2.2 _ q55) yd_X0_isIn.2 ⟨Nat.le_of_ble_eq_true rfl, Nat.le_of_ble_eq_true rfl⟩, S.2.2.2.2 _ q390, trivial⟩ (wpreS hK hW _) rfl rfl hl.1 rfl (lv_room (Nat.le_of_ble_eq_true rfl)) dX6_turn_116 ⟨Nat.le_refl 0, Nat.le_refl 0⟩) hW (fun H locs hW => ?_)
              refine lv_if_eq (tgt := 126) hx hb dX6_turn_119 (by decide) (fun c37 => ?_) (fun c37 => ?_)
              · have h := if_t h c37
                refine lv_iconst (v := (0 : Int32)) hx hb dX6_turn_126 (by decide) ?_
                cases h
                exact we_z S hr hlk rfl hW dX6_turn_127
              · have h := if_f h c37
                refine lv_iconst (v := (1 : Int32)) hx hb dX6_turn_122 (by decide) ?_
                refine lv_goto (tgt := 127) hx hb dX6_turn_123 (by decide) ?_
                cases h
                exact we_z S hr hlk rfl hW dX6_turn_127
        clear h
        refine lv_icmp_ne (tgt := 72) hx hb dX6_turn_65 (by decide) (fun c17 => ?_) (fun c17 => ?_)
        · have h := if_f hz18 c17
          refine lv_iconst (v := (0 : Int32)) hx hb dX6_turn_72 (by decide) ?_
          cases h
          exact K20 H locs ls hW (lv_sub hl [0] rfl)
        · have h := if_t hz18 c17
          refine lv_iload_n hx hb dX6_turn_68 rfl (lv_at hl 2 rfl) ?_
          refine lv_goto (tgt := 73) hx hb dX6_turn_69 (by decide) ?_
          cases h
          exact K20 H locs ls hW (lv_sub hl [0] rfl)
      clear h
      refine lv_icmp_ne (tgt := 51) hx hb dX6_turn_41 (by decide) (fun c11 => ?_) (fun c11 => ?_)
      · have h := if_f hz12 c11
        refine lv_iconst (v := (0 : Int32)) hx hb dX6_turn_51 (by decide) ?_
        cases h
        exact K14 H locs ls hW (lv_sub hl [0, 1, 2] rfl)
      · have h := if_t hz12 c11
        refine lv_bipush (v := (10 : Int32)) hx hb dX6_turn_44 (by decide) ?_
        refine lv_iload_n hx hb dX6_turn_46 rfl (lv_at hl 2 rfl) ?_
        refine lv_imul hx hb dX6_turn_47 ?_
        refine lv_goto (tgt := 52) hx hb dX6_turn_48 (by decide) ?_
        cases h
        exact K14 H locs ls hW (lv_sub hl [0, 1, 2] rfl)
    clear h
    refine lv_if_ne (tgt := 27) hx hb dX6_turn_20 (by decide) (fun c5 => ?_) (fun c5 => ?_)
    · have h := if_f hz6 c5
      refine lv_iconst (v := (0 : Int32)) hx hb dX6_turn_27 (by decide) ?_
      cases h
      exact K8 H locs ls hW (lv_sub hl [1, 2, 0] rfl)
    · have h := if_t hz6 c5
      refine lv_iload_n hx hb dX6_turn_23 rfl (lv_at hl 0 rfl) ?_
      refine lv_goto (tgt := 28) hx hb dX6_turn_24 (by decide) ?_
      cases h
      exact K8 H locs ls hW (lv_sub hl [1, 2, 0] rfl)
  clear h
  refine lv_if_ne (tgt := 10) hx hb dX6_turn_3 (by decide) (fun c1 => ?_) (fun c1 => ?_)
  · have h := if_f hz2 c1
    refine lv_iconst (v := (-1 : Int32)) hx hb dX6_turn_10 (by decide) ?_
    cases h
    exact K4 H locs ls hW (lv_sub hl [0, 1] rfl)
  · have h := if_t hz2 c1
    refine lv_iconst (v := (1 : Int32)) hx hb dX6_turn_6 (by decide) ?_
    refine lv_goto (tgt := 11) hx hb dX6_turn_7 (by decide) ?_
    cases h
    exact K4 H locs ls hW (lv_sub hl [0, 1] rfl)
def fn_X7_lay (F : St) : Option (St) :=
  pl (fu F 20 1 0 0 (F 0 8 0 0)) (fun F1 => pl (fu F1 20 2 0 0 (F1 0 9 0 0)) (fun F3 => pl (fu F3 20 3 0 0 (F3 0 10 0 0)) (fun F5 => some F5)))
theorem yd_X7_lay : yX7_lay.cls = RX7 ∧ yX7_lay.cls ≠ "java/lang/invoke/MethodHandle" ∧ yX7_lay.cls ≠ "java/lang/invoke/VarHandle" ∧ (parseMethodDescriptor yX7_lay.desc).map (fun d => d.parameters.length) = some 0 := by decide +kernel
set_option maxHeartbeats 4000000 in
theorem met_X7_lay (l : Launch) {D : va_G} {dA : WK} {a : Ix → Nat} (hD : wD D dA a) {F : St} {Fz : St} (hv0 : wVd dA (20, 0, 0)) (h : fn_X7_lay F = some Fz) : Mv l yX7_lay cX7_lay 1 0 0 D dA a F [.ref (a (20, 0, 0))] Fz := by
  refine fun sz => mst (Qc := fun sz => wQv D dA a sz Fz) (by decide) (Nat.le_of_ble_eq_true rfl) ?_ sz
  intro p e s m below meth c S hr hlk hK hW ls hl
  have hl : lv_has ls 1 [(0, .ref (a (20, 0, 0)))] := hl
  have hx := S.1
  have hb := S.2.1
  generalize ([.ref (a (20, 0, 0))] : List Value).toArray = av at S ⊢
  unfold fn_X7_lay at h
  obtain ⟨H, eH⟩ : ∃ z, z = s.heap := ⟨_, rfl⟩
  obtain ⟨locs, eL⟩ : ∃ z : List Loc, z = [] := ⟨_, rfl⟩
  show WX p l e (rmL 0 0) s m av below meth c (wQv D dA a s.heap.size Fz) dA a s.heap [] (F0 m 0 ls [])
  have hW : wS D dA a s F H locs := by rw [eH, eL]; exact wS_in hW
  refine wx_in eH eL ?_
  clear eH eL
  refine lv_aload_n hx hb dX7_lay_0 rfl (lv_at hl 0 rfl) ?_
  refine lv_aload_n hx hb dX7_lay_1 rfl (lv_at hl 0 rfl) ?_
  refine gf_20_4 S hK hW hv0 q246 dX7_lay_2 ?_
  refine gn_0_8 S hK hW (vq_20_4 hv0) q293 dX7_lay_5 ?_
  obtain ⟨F1, e2, h⟩ := pl_e h
  refine pf_20_1 S hK hD hW hv0 e2 q240 dX7_lay_8 (fun H locs hW => ?_)
  refine lv_aload_n hx hb dX7_lay_11 rfl (lv_at hl 0 rfl) ?_
  refine lv_aload_n hx hb dX7_lay_12 rfl (lv_at hl 0 rfl) ?_
  refine gf_20_4 S hK hW hv0 q246 dX7_lay_13 ?_
  refine gn_0_9 S hK hW (vq_20_4 hv0) q296 dX7_lay_16 ?_
  obtain ⟨F3, e4, h⟩ := pl_e h
  refine pf_20_2 S hK hD hW hv0 e4 q242 dX7_lay_19 (fun H locs hW => ?_)
  refine lv_aload_n hx hb dX7_lay_22 rfl (lv_at hl 0 rfl) ?_
  refine lv_aload_n hx hb dX7_lay_23 rfl (lv_at hl 0 rfl) ?_
  refine gf_20_4 S hK hW hv0 q246 dX7_lay_24 ?_
  refine gn_0_10 S hK hW (vq_20_4 hv0) q300 dX7_lay_27 ?_
  obtain ⟨F5, e6, h⟩ := pl_e h
  refine pf_20_3 S hK hD hW hv0 e6 q244 dX7_lay_30 (fun H locs hW => ?_)
  cases h
  exact we_v S hr hlk hW dX7_lay_33
def fn_X7_much (F : St) : Option (Int32) :=
  some (F 20 3 0 0)
theorem yd_X7_much : yX7_much.cls = RX7 ∧ yX7_much.cls ≠ "java/lang/invoke/MethodHandle" ∧ yX7_much.cls ≠ "java/lang/invoke/VarHandle" ∧ (parseMethodDescriptor yX7_much.desc).map (fun d => d.parameters.length) = some 0 := by decide +kernel
set_option maxHeartbeats 4000000 in
theorem met_X7_much (l : Launch) {D : va_G} {dA : WK} {a : Ix → Nat} (hD : wD D dA a) {F : St} {rz : Int32} (hv0 : wVd dA (20, 0, 0)) (h : fn_X7_much F = some rz) : Mi l yX7_much cX7_much 1 .int 0 0 D dA a F [.ref (a (20, 0, 0))] F rz := by
  refine fun sz => mst (Qc := fun sz => wQi D dA a sz F rz) (by decide) (Nat.le_of_ble_eq_true rfl) ?_ sz
  intro p e s m below meth c S hr hlk hK hW ls hl
  have hl : lv_has ls 1 [(0, .ref (a (20, 0, 0)))] := hl
  have hx := S.1
  have hb := S.2.1
  generalize ([.ref (a (20, 0, 0))] : List Value).toArray = av at S ⊢
  unfold fn_X7_much at h
  obtain ⟨H, eH⟩ : ∃ z, z = s.heap := ⟨_, rfl⟩
  obtain ⟨locs, eL⟩ : ∃ z : List Loc, z = [] := ⟨_, rfl⟩
  show WX p l e (rmL 0 0) s m av below meth c (wQi D dA a s.heap.size F rz) dA a s.heap [] (F0 m 0 ls [])
  have hW : wS D dA a s F H locs := by rw [eH, eL]; exact wS_in hW
  refine wx_in eH eL ?_
  clear eH eL
  refine lv_aload_n hx hb dX7_much_0 rfl (lv_at hl 0 rfl) ?_
  refine gf_20_3 S hK hW hv0 q244 dX7_much_1 ?_
  cases h
  exact we_i S hr hlk hW dX7_much_4
def fn_X7_step (F : St) : Option (Int32) :=
  some (F 20 1 0 0)
theorem yd_X7_step : yX7_step.cls = RX7 ∧ yX7_step.cls ≠ "java/lang/invoke/MethodHandle" ∧ yX7_step.cls ≠ "java/lang/invoke/VarHandle" ∧ (parseMethodDescriptor yX7_step.desc).map (fun d => d.parameters.length) = some 0 := by decide +kernel
set_option maxHeartbeats 4000000 in
theorem met_X7_step (l : Launch) {D : va_G} {dA : WK} {a : Ix → Nat} (hD : wD D dA a) {F : St} {rz : Int32} (hv0 : wVd dA (20, 0, 0)) (h : fn_X7_step F = some rz) : Mi l yX7_step cX7_step 1 .int 0 0 D dA a F [.ref (a (20, 0, 0))] F rz := by
  refine fun sz => mst (Qc := fun sz => wQi D dA a sz F rz) (by decide) (Nat.le_of_ble_eq_true rfl) ?_ sz
  intro p e s m below meth c S hr hlk hK hW ls hl
  have hl : lv_has ls 1 [(0, .ref (a (20, 0, 0)))] := hl
  have hx := S.1
  have hb := S.2.1
  generalize ([.ref (a (20, 0, 0))] : List Value).toArray = av at S ⊢
  unfold fn_X7_step at h
  obtain ⟨H, eH⟩ : ∃ z, z = s.heap := ⟨_, rfl⟩
  obtain ⟨locs, eL⟩ : ∃ z : List Loc, z = [] := ⟨_, rfl⟩
  show WX p l e (rmL 0 0) s m av below meth c (wQi D dA a s.heap.size F rz) dA a s.heap [] (F0 m 0 ls [])
  have hW : wS D dA a s F H locs := by rw [eH, eL]; exact wS_in hW
  refine wx_in eH eL ?_
  clear eH eL
  refine lv_aload_n hx hb dX7_step_0 rfl (lv_at hl 0 rfl) ?_
  refine gf_20_1 S hK hW hv0 q240 dX7_step_1 ?_
  cases h
  exact we_i S hr hlk hW dX7_step_4
def fn_X7_warmth (F : St) : Option (Int32) :=
  some (F 20 2 0 0)
theorem yd_X7_warmth : yX7_warmth.cls = RX7 ∧ yX7_warmth.cls ≠ "java/lang/invoke/MethodHandle" ∧ yX7_warmth.cls ≠ "java/lang/invoke/VarHandle" ∧ (parseMethodDescriptor yX7_warmth.desc).map (fun d => d.parameters.length) = some 0 := by decide +kernel
set_option maxHeartbeats 4000000 in
theorem met_X7_warmth (l : Launch) {D : va_G} {dA : WK} {a : Ix → Nat} (hD : wD D dA a) {F : St} {rz : Int32} (hv0 : wVd dA (20, 0, 0)) (h : fn_X7_warmth F = some rz) : Mi l yX7_warmth cX7_warmth 1 .int 0 0 D dA a F [.ref (a (20, 0, 0))] F rz := by
  refine fun sz => mst (Qc := fun sz => wQi D dA a sz F rz) (by decide) (Nat.le_of_ble_eq_true rfl) ?_ sz
  intro p e s m below meth c S hr hlk hK hW ls hl
  have hl : lv_has ls 1 [(0, .ref (a (20, 0, 0)))] := hl
  have hx := S.1
  have hb := S.2.1
  generalize ([.ref (a (20, 0, 0))] : List Value).toArray = av at S ⊢
  unfold fn_X7_warmth at h
  obtain ⟨H, eH⟩ : ∃ z, z = s.heap := ⟨_, rfl⟩
  obtain ⟨locs, eL⟩ : ∃ z : List Loc, z = [] := ⟨_, rfl⟩
  show WX p l e (rmL 0 0) s m av below meth c (wQi D dA a s.heap.size F rz) dA a s.heap [] (F0 m 0 ls [])
  have hW : wS D dA a s F H locs := by rw [eH, eL]; exact wS_in hW
  refine wx_in eH eL ?_
  clear eH eL
  refine lv_aload_n hx hb dX7_warmth_0 rfl (lv_at hl 0 rfl) ?_
  refine gf_20_2 S hK hW hv0 q242 dX7_warmth_1 ?_
  cases h
  exact we_i S hr hlk hW dX7_warmth_4
def fn_X0_again (F : St) : Option (St × Int32) :=
  pl (F 1 2 0 0) (fun x1 => ob (fn_X1_begin F 0 (F 0 10 0 0)) (fun F3 => some (F3, x1)))
theorem yd_X0_again : yX0_again.cls = RX0 ∧ yX0_again.cls ≠ "java/lang/invoke/MethodHandle" ∧ yX0_again.cls ≠ "java/lang/invoke/VarHandle" ∧ (parseMethodDescriptor yX0_again.desc).map (fun d => d.parameters.length) = some 0 := by decide +kernel
set_option maxHeartbeats 4000000 in
theorem met_X0_again (l : Launch) {D : va_G} {dA : WK} {a : Ix → Nat} (hD : wD D dA a) {F : St} {Fz : St} {rz : Int32} (hv0 : wVd dA (0, 0, 0)) (h : fn_X0_again F = some (Fz, rz)) : Mi l yX0_again cX0_again 2 .int 2 46 D dA a F [.ref (a (0, 0, 0))] Fz rz := by
  refine fun sz => mst (Qc := fun sz => wQi D dA a sz Fz rz) (by decide) (Nat.le_of_ble_eq_true rfl) ?_ sz
  intro p e s m below meth c S hr hlk hK hW ls hl
  have hl : lv_has ls 2 [(0, .ref (a (0, 0, 0)))] := hl
  have hx := S.1
  have hb := S.2.1
  generalize ([.ref (a (0, 0, 0))] : List Value).toArray = av at S ⊢
  unfold fn_X0_again at h
  obtain ⟨H, eH⟩ : ∃ z, z = s.heap := ⟨_, rfl⟩
  obtain ⟨locs, eL⟩ : ∃ z : List Loc, z = [] := ⟨_, rfl⟩
  show WX p l e (rmL 2 46) s m av below meth c (wQi D dA a s.heap.size Fz rz) dA a s.heap [] (F0 m 0 ls [])
  have hW : wS D dA a s F H locs := by rw [eH, eL]; exact wS_in hW
  refine wx_in eH eL ?_
  clear eH eL
  refine lv_aload_n hx hb dX0_again_0 rfl (lv_at hl 0 rfl) ?_
  refine gf_0_15 S hK hW hv0 q317 dX0_again_1 ?_
  refine gn_1_2 S hK hW (vq_0_15 hv0) q153 dX0_again_4 ?_
  obtain ⟨x1, e2, h⟩ := pl_e h
  refine lv_nm e2 ?_
  refine lv_istore_n (lv' := [(1, .int x1), (0, .ref (a (0, 0, 0)))]) hx hb dX0_again_7 rfl hl (by decide) rfl (fun ls hl => ?_)
  refine lv_aload_n hx hb dX0_again_8 rfl (lv_at hl 1 rfl) ?_
  refine gf_0_15 S hK hW hv0 q317 dX0_again_9 ?_
  refine lv_aload_n hx hb dX0_again_12 rfl (lv_at hl 1 rfl) ?_
  refine gf_0_10 S hK hW hv0 q301 dX0_again_13 ?_
  obtain ⟨F3, hc4, h⟩ := ob_e h
  refine wk_v (va_runV (As := [.int (F 0 10 0 0)]) (rest := []) S (met_X1_begin l hD (vq_0_15 hv0) hc4 H.size) (cwV 1 S.2.2.2.2 (lw_V q257 q258 q259 q56 q260) rfl rfl rfl yd_X1_begin ⟨Nat.le_of_ble_eq_true rfl, Nat.le_of_ble_eq_true rfl⟩) (wpreV hK hW (vq_0_15 hv0) rfl rfl _) rfl rfl hl.1 rfl (lv_room (Nat.le_of_ble_eq_true rfl)) dX0_again_16 ⟨Nat.le_refl 0, Nat.le_refl 0⟩) hW (fun H locs hW => ?_)
  refine lv_iload_n hx hb dX0_again_19 rfl (lv_at hl 0 rfl) ?_
  cases h
  exact we_i S hr hlk hW dX0_again_20
def fn_X0_back (F : St) (p1 : Int32) : Option (St × Int32) :=
  ob (fn_X0_isIn F p1.toInt64 (0 : Int64) (1 : Int64)) (fun r1 => if r1 = 0 then some (F, (-2 : Int32)) else if (((F 0 17 0 0) >>> (p1 &&& 31)) &&& (1 : Int32)) = 0 then some (F, (-4 : Int32)) else og (vpb p1 2) (ob (fn_X1_copy F 0 (1 + p1.toNatClampNeg)) (fun F7 => some (F7, (F7 1 2 0 0)))))
theorem yd_X0_back : yX0_back.cls = RX0 ∧ yX0_back.cls ≠ "java/lang/invoke/MethodHandle" ∧ yX0_back.cls ≠ "java/lang/invoke/VarHandle" ∧ (parseMethodDescriptor yX0_back.desc).map (fun d => d.parameters.length) = some 1 := by decide +kernel
set_option maxHeartbeats 4000000 in
theorem met_X0_back (l : Launch) {D : va_G} {dA : WK} {a : Ix → Nat} (hD : wD D dA a) {F : St} {p1 : Int32} {Fz : St} {rz : Int32} (hv0 : wVd dA (0, 0, 0)) (h : fn_X0_back F p1 = some (Fz, rz)) : Mi l yX0_back cX0_back 2 .int 2 45 D dA a F [.ref (a (0, 0, 0)), .int p1] Fz rz := by
  refine fun sz => mst (Qc := fun sz => wQi D dA a sz Fz rz) (by decide) (Nat.le_of_ble_eq_true rfl) ?_ sz
  intro p e s m below meth c S hr hlk hK hW ls hl
  have hl : lv_has ls 2 [(0, .ref (a (0, 0, 0))), (1, .int p1)] := hl
  have hx := S.1
  have hb := S.2.1
  generalize ([.ref (a (0, 0, 0)), .int p1] : List Value).toArray = av at S ⊢
  unfold fn_X0_back at h
  obtain ⟨H, eH⟩ : ∃ z, z = s.heap := ⟨_, rfl⟩
  obtain ⟨locs, eL⟩ : ∃ z : List Loc, z = [] := ⟨_, rfl⟩
  show WX p l e (rmL 2 45) s m av below meth c (wQi D dA a s.heap.size Fz rz) dA a s.heap [] (F0 m 0 ls [])
  have hW : wS D dA a s F H locs := by rw [eH, eL]; exact wS_in hW
  refine wx_in eH eL ?_
  clear eH eL
  refine lv_iload_n hx hb dX0_back_0 rfl (lv_at hl 1 rfl) ?_
  refine lv_i2l hx hb dX0_back_1 rfl ?_
  refine lv_lconst (v := (0 : Int64)) hx hb dX0_back_2 (by decide) ?_
  refine lv_lconst (v := (1 : Int64)) hx hb dX0_back_3 (by decide) ?_
  obtain ⟨r1, hc2, h⟩ := ob_e h
  refine wk_i (va_runS (As := [.long p1.toInt64, .long (0 : Int64), .long (1 : Int64)]) (rest := []) S (met_X0_isIn l hD hc2 H.size) (va_cwS 3 S.2.2.2.2 (lw_S q389 q390 q55 q391) rfl rfl rfl yd_X0_isIn.2 ⟨Nat.le_of_ble_eq_true rfl, Nat.le_of_ble_eq_true rfl⟩) (wpreS hK hW _) rfl rfl hl.1 rfl (lv_room (Nat.le_of_ble_eq_true rfl)) dX0_back_4 ⟨Nat.le_refl 0, Nat.le_refl 0⟩) hW (fun H locs hW => ?_)
  refine lv_if_ne (tgt := 13) hx hb dX0_back_7 (by decide) (fun c3 => ?_) (fun c3 => ?_)
  · have h := if_f h c3
    refine lv_aload_n hx hb dX0_back_13 rfl (lv_at hl 0 rfl) ?_
    refine gf_0_17 S hK hW hv0 q319 dX0_back_14 ?_
    refine lv_iload_n hx hb dX0_back_17 rfl (lv_at hl 1 rfl) ?_
    refine lv_ishr hx hb dX0_back_18 ?_
    refine lv_iconst (v := (1 : Int32)) hx hb dX0_back_19 (by decide) ?_
    refine lv_iand hx hb dX0_back_20 ?_
    refine lv_if_ne (tgt := 27) hx hb dX0_back_21 (by decide) (fun c4 => ?_) (fun c4 => ?_)
    · have h := if_f h c4
      refine lv_aload_n hx hb dX0_back_27 rfl (lv_at hl 0 rfl) ?_
      refine gf_0_15 S hK hW hv0 q317 dX0_back_28 ?_
      refine lv_aload_n hx hb dX0_back_31 rfl (lv_at hl 0 rfl) ?_
      refine gf_0_16 S hK hW hv0 q318 dX0_back_32 ?_
      refine lv_iload_n hx hb dX0_back_35 rfl (lv_at hl 1 rfl) ?_
      obtain ⟨g5, h⟩ := og_e h
      refine aald_14 S hK hW (vq_0_16 hv0) g5 rfl dX0_back_36 ?_
      have v6 := (ve_14 (vq_0_16 hv0) (vpb_lt g5))
      obtain ⟨F7, hc8, h⟩ := ob_e h
      refine wk_v (va_runV (As := [.ref (a (1, (1 + p1.toNatClampNeg), 0))]) (rest := []) S (met_X1_copy l hD (vq_0_15 hv0) v6 hc8 H.size) (cwV 1 S.2.2.2.2 (lw_V q813 q814 q815 q56 q816) rfl rfl rfl yd_X1_copy ⟨Nat.le_of_ble_eq_true rfl, Nat.le_of_ble_eq_true rfl⟩) (wpreV hK hW (vq_0_15 hv0) rfl rfl _) rfl rfl hl.1 rfl (lv_room (Nat.le_of_ble_eq_true rfl)) dX0_back_37 ⟨Nat.le_refl 0, Nat.le_refl 0⟩) hW (fun H locs hW => ?_)
      refine lv_aload_n hx hb dX0_back_40 rfl (lv_at hl 0 rfl) ?_
      refine gf_0_15 S hK hW hv0 q317 dX0_back_41 ?_
      refine gn_1_2 S hK hW (vq_0_15 hv0) q153 dX0_back_44 ?_
      cases h
      exact we_i S hr hlk hW dX0_back_47
    · have h := if_t h c4
      refine lv_bipush (v := (-4 : Int32)) hx hb dX0_back_24 (by decide) ?_
      cases h
      exact we_i S hr hlk hW dX0_back_26
  · have h := if_t h c3
    refine lv_bipush (v := (-2 : Int32)) hx hb dX0_back_10 (by decide) ?_
    cases h
    exact we_i S hr hlk hW dX0_back_12
/-loop lp_X0_brew_17-/
def lp_X0_brew_17 (p1 : Int32) : Nat → St → Int32 → Option (St × Int32)
  | 0, _, _ => none
  | n + 1, F5, x4 => if p1 ≤ x4 then some (F5, x4) else if (F5 0 11 0 0) ≤ (F5 1 2 0 0) then some (F5, x4) else ob (fn_X1_go F5 0 (F5 0 8 0 0) (F5 0 9 0 0)) (fun F12 => lp_X0_brew_17 p1 n F12 (x4 + 1))
theorem lp_X0_brew_17_s {p1 : Int32} {n : Nat} {F5 : St} {x4 : Int32} : lp_X0_brew_17 p1 (n + 1) F5 x4 = if p1 ≤ x4 then some (F5, x4) else if (F5 0 11 0 0) ≤ (F5 1 2 0 0) then some (F5, x4) else ob (fn_X1_go F5 0 (F5 0 8 0 0) (F5 0 9 0 0)) (fun F12 => lp_X0_brew_17 p1 n F12 (x4 + 1)) := rfl
def fn_X0_brew (F : St) (p1 : Int32) : Option (St × Int32) :=
  ob (fn_X0_isIn F p1.toInt64 (1 : Int64) (60 : Int64)) (fun r1 => if r1 = 0 then some (F, (-3 : Int32)) else ob2 (lp_X0_brew_17 p1 300 F (0 : Int32)) (fun F6 x7 => some (F6, x7)))
theorem yd_X0_brew : yX0_brew.cls = RX0 ∧ yX0_brew.cls ≠ "java/lang/invoke/MethodHandle" ∧ yX0_brew.cls ≠ "java/lang/invoke/VarHandle" ∧ (parseMethodDescriptor yX0_brew.desc).map (fun d => d.parameters.length) = some 1 := by decide +kernel
set_option maxHeartbeats 4000000 in
theorem met_X0_brew (l : Launch) {D : va_G} {dA : WK} {a : Ix → Nat} (hD : wD D dA a) {F : St} {p1 : Int32} {Fz : St} {rz : Int32} (hv0 : wVd dA (0, 0, 0)) (h : fn_X0_brew F p1 = some (Fz, rz)) : Mi l yX0_brew cX0_brew 3 .int 4 96 D dA a F [.ref (a (0, 0, 0)), .int p1] Fz rz := by
  refine fun sz => mst (Qc := fun sz => wQi D dA a sz Fz rz) (by decide) (Nat.le_of_ble_eq_true rfl) ?_ sz
  intro p e s m below meth c S hr hlk hK hW ls hl
  have hl : lv_has ls 3 [(0, .ref (a (0, 0, 0))), (1, .int p1)] := hl
  have hx := S.1
  have hb := S.2.1
  generalize ([.ref (a (0, 0, 0)), .int p1] : List Value).toArray = av at S ⊢
  unfold fn_X0_brew at h
  obtain ⟨H, eH⟩ : ∃ z, z = s.heap := ⟨_, rfl⟩
  obtain ⟨locs, eL⟩ : ∃ z : List Loc, z = [] := ⟨_, rfl⟩
  show WX p l e (rmL 4 96) s m av below meth c (wQi D dA a s.heap.size Fz rz) dA a s.heap [] (F0 m 0 ls [])
  have hW : wS D dA a s F H locs := by rw [eH, eL]; exact wS_in hW
  refine wx_in eH eL ?_
  clear eH eL
  refine lv_iload_n hx hb dX0_brew_0 rfl (lv_at hl 1 rfl) ?_
  refine lv_i2l hx hb dX0_brew_1 rfl ?_
  refine lv_lconst (v := (1 : Int64)) hx hb dX0_brew_2 (by decide) ?_
  refine lv_ldc2 (v := (60 : Int64)) hx hb S.2.2.2.1 (S.2.2.2.2 _ q722) dX0_brew_3 ?_
  obtain ⟨r1, hc2, h⟩ := ob_e h
  refine wk_i (va_runS (As := [.long p1.toInt64, .long (1 : Int64), .long (60 : Int64)]) (rest := []) S (met_X0_isIn l hD hc2 H.size) (va_cwS 3 S.2.2.2.2 (lw_S q389 q390 q55 q391) rfl rfl rfl yd_X0_isIn.2 ⟨Nat.le_of_ble_eq_true rfl, Nat.le_of_ble_eq_true rfl⟩) (wpreS hK hW _) rfl rfl hl.1 rfl (lv_room (Nat.le_of_ble_eq_true rfl)) dX0_brew_6 ⟨Nat.le_refl 0, Nat.le_refl 0⟩) hW (fun H locs hW => ?_)
  refine lv_if_ne (tgt := 15) hx hb dX0_brew_9 (by decide) (fun c3 => ?_) (fun c3 => ?_)
  · have h := if_f h c3
    refine lv_iconst (v := (0 : Int32)) hx hb dX0_brew_15 (by decide) ?_
    refine lv_istore_n (lv' := [(2, .int (0 : Int32)), (0, .ref (a (0, 0, 0))), (1, .int p1)]) hx hb dX0_brew_16 rfl hl (by decide) rfl (fun ls hl => ?_)
    have L9 : ∀ (n : Nat) (F5 : St) (x4 : Int32) (F6 : St) (x7 : Int32), lp_X0_brew_17 p1 n F5 x4 = some (F6, x7) → (∀ (H : Heap) (locs : List Loc) (ls : Array Slot), wS D dA a s F6 H locs → lv_has ls 3 [(2, .int x7)] → WX p l e (rmL 4 96) s m av below meth c (wQi D dA a s.heap.size Fz rz) dA a H locs (F0 m 57 ls [])) → ∀ (H : Heap) (locs : List Loc) (ls : Array Slot), wS D dA a s F5 H locs → lv_has ls 3 [(0, .ref (a (0, 0, 0))), (1, .int p1), (2, .int x4)] → WX p l e (rmL 4 96) s m av below meth c (wQi D dA a s.heap.size Fz rz) dA a H locs (F0 m 17 ls []) := by
      intro n
      induction n with
      | zero =>
        intro F5 x4 F6 x7 h
        exact absurd (show (none : Option (St × Int32)) = some (F6, x7) from h) (by simp)
      | succ n ih =>
        intro F5 x4 F6 x7 h K8 H locs ls hW hl
        have h := lp_X0_brew_17_s.symm.trans h
        refine lv_iload_n hx hb dX0_brew_17 rfl (lv_at hl 2 rfl) ?_
        refine lv_iload_n hx hb dX0_brew_18 rfl (lv_at hl 1 rfl) ?_
        refine lv_icmp_ge (tgt := 57) hx hb dX0_brew_19 (by decide) (fun c10 => ?_) (fun c10 => ?_)
        · have h := if_t h c10
          cases h
          exact K8 H locs ls hW (lv_sub hl [2] rfl)
        · have h := if_f h c10
          refine lv_aload_n hx hb dX0_brew_22 rfl (lv_at hl 0 rfl) ?_
          refine gf_0_15 S hK hW hv0 q317 dX0_brew_23 ?_
          refine gn_1_2 S hK hW (vq_0_15 hv0) q153 dX0_brew_26 ?_
          refine lv_aload_n hx hb dX0_brew_29 rfl (lv_at hl 0 rfl) ?_
          refine gf_0_11 S hK hW hv0 q304 dX0_brew_30 ?_
          refine lv_icmp_ge (tgt := 57) hx hb dX0_brew_33 (by decide) (fun c11 => ?_) (fun c11 => ?_)
          · have h := if_t h c11
            cases h
            exact K8 H locs ls hW (lv_sub hl [2] rfl)
          · have h := if_f h c11
            refine lv_aload_n hx hb dX0_brew_36 rfl (lv_at hl 0 rfl) ?_
            refine gf_0_15 S hK hW hv0 q317 dX0_brew_37 ?_
            refine lv_aload_n hx hb dX0_brew_40 rfl (lv_at hl 0 rfl) ?_
            refine gf_0_8 S hK hW hv0 q295 dX0_brew_41 ?_
            refine lv_aload_n hx hb dX0_brew_44 rfl (lv_at hl 0 rfl) ?_
            refine gf_0_9 S hK hW hv0 q297 dX0_brew_45 ?_
            obtain ⟨F12, hc13, h⟩ := ob_e h
            refine wk_v (va_runV (As := [.int (F5 0 8 0 0), .int (F5 0 9 0 0)]) (rest := []) S (met_X1_go l hD (vq_0_15 hv0) hc13 H.size) (cwV 2 S.2.2.2.2 (lw_V q723 q724 q725 q56 q726) rfl rfl rfl yd_X1_go ⟨Nat.le_of_ble_eq_true rfl, Nat.le_of_ble_eq_true rfl⟩) (wpreV hK hW (vq_0_15 hv0) rfl rfl _) rfl rfl hl.1 rfl (lv_room (Nat.le_of_ble_eq_true rfl)) dX0_brew_48 ⟨Nat.le_refl 0, Nat.le_refl 0⟩) hW (fun H locs hW => ?_)
            refine lv_iinc (v := (x4 + 1)) (lv' := [(2, .int (x4 + 1)), (0, .ref (a (0, 0, 0))), (1, .int p1)]) hx hb dX0_brew_51 hl (k := 2) rfl rfl (by decide) rfl (fun ls hl => ?_)
            refine lv_goto (tgt := 17) hx hb dX0_brew_54 (by decide) ?_
            exact ih _ _ _ _ h K8 H locs ls hW (lv_sub hl [1, 2, 0] rfl)
    obtain ⟨F6, x7, hz14, h⟩ := ob2_e h
    refine L9 300 F (0 : Int32) F6 x7 hz14 (fun H locs ls hW hl => ?_) H locs ls hW (lv_sub hl [1, 2, 0] rfl)
    refine lv_iload_n hx hb dX0_brew_57 rfl (lv_at hl 0 rfl) ?_
    cases h
    exact we_i S hr hlk hW dX0_brew_58
  · have h := if_t h c3
    refine lv_bipush (v := (-3 : Int32)) hx hb dX0_brew_12 (by decide) ?_
    cases h
    exact we_i S hr hlk hW dX0_brew_14
/-loop lp_X5_run_20_14-/
def lp_X5_run_20_14 : Nat → St → Option (St)
  | 0, _ => none
  | n + 1, F5 => if (F5 0 11 0 0) ≤ (F5 1 2 3 0) then some F5 else ob (fn_X7_step F5) (fun r10 => ob (fn_X7_warmth F5) (fun r12 => ob (fn_X1_go F5 3 r10 r12) (fun F14 => lp_X5_run_20_14 n F14)))
theorem lp_X5_run_20_14_s {n : Nat} {F5 : St} : lp_X5_run_20_14 (n + 1) F5 = if (F5 0 11 0 0) ≤ (F5 1 2 3 0) then some F5 else ob (fn_X7_step F5) (fun r10 => ob (fn_X7_warmth F5) (fun r12 => ob (fn_X1_go F5 3 r10 r12) (fun F14 => lp_X5_run_20_14 n F14))) := rfl
def fn_X5_run_20 (F : St) : Option (St) :=
  ob (fn_X7_much F) (fun r1 => ob (fn_X1_begin F 3 r1) (fun F3 => ob (lp_X5_run_20_14 300 F3) (fun F6 => some F6)))
set_option maxHeartbeats 4000000 in
theorem met_X5_run_20 (l : Launch) {D : va_G} {dA : WK} {a : Ix → Nat} (hD : wD D dA a) {F : St} {Fz : St} (hv0 : wVd dA (20, 0, 0)) (h : fn_X5_run_20 F = some Fz) : Mv l yX5_run cX5_run 1 4 96 D dA a F [.ref (a (20, 0, 0))] Fz := by
  refine fun sz => mst (Qc := fun sz => wQv D dA a sz Fz) (by decide) (Nat.le_of_ble_eq_true rfl) ?_ sz
  intro p e s m below meth c S hr hlk hK hW ls hl
  have hl : lv_has ls 1 [(0, .ref (a (20, 0, 0)))] := hl
  have hx := S.1
  have hb := S.2.1
  generalize ([.ref (a (20, 0, 0))] : List Value).toArray = av at S ⊢
  unfold fn_X5_run_20 at h
  obtain ⟨H, eH⟩ : ∃ z, z = s.heap := ⟨_, rfl⟩
  obtain ⟨locs, eL⟩ : ∃ z : List Loc, z = [] := ⟨_, rfl⟩
  show WX p l e (rmL 4 96) s m av below meth c (wQv D dA a s.heap.size Fz) dA a s.heap [] (F0 m 0 ls [])
  have hW : wS D dA a s F H locs := by rw [eH, eL]; exact wS_in hW
  refine wx_in eH eL ?_
  clear eH eL
  refine lv_aload_n hx hb dX5_run_0 rfl (lv_at hl 0 rfl) ?_
  refine gf_20_0 S hK hW hv0 q210 dX5_run_1 ?_
  refine gn_0_18 S hK hW (vq_20_0 hv0) q321 dX5_run_4 ?_
  refine lv_aload_n hx hb dX5_run_7 rfl (lv_at hl 0 rfl) ?_
  obtain ⟨r1, hc2, h⟩ := ob_e h
  refine wk_i (va_runU (C := "WaterGrounds$Tried") (owner := "WaterGrounds$Brew") (As := []) (rest := [.ref (a (1, 3, 0))]) S (met_X7_much l hD hv0 hc2 H.size) (va_cwO 0 S.2.2.2.2 (lw_O q843 q846 q844 q847 q848 q62 q849) rfl rfl rfl q854 (by decide +kernel) ⟨Nat.le_of_ble_eq_true rfl, Nat.le_of_ble_eq_true rfl⟩) (wpreV hK hW hv0 rfl rfl _) rfl rfl hl.1 rfl (lv_room (Nat.le_of_ble_eq_true rfl)) dX5_run_8 ⟨Nat.le_refl 0, Nat.le_refl 0⟩) hW (fun H locs hW => ?_)
  obtain ⟨F3, hc4, h⟩ := ob_e h
  refine wk_v (va_runV (As := [.int r1]) (rest := []) S (met_X1_begin l hD (vq_0_18 (vq_20_0 hv0)) hc4 H.size) (cwV 1 S.2.2.2.2 (lw_V q855 q258 q259 q56 q260) rfl rfl rfl yd_X1_begin ⟨Nat.le_of_ble_eq_true rfl, Nat.le_of_ble_eq_true rfl⟩) (wpreV hK hW (vq_0_18 (vq_20_0 hv0)) rfl rfl _) rfl rfl hl.1 rfl (lv_room (Nat.le_of_ble_eq_true rfl)) dX5_run_11 ⟨Nat.le_refl 0, Nat.le_refl 0⟩) hW (fun H locs hW => ?_)
  have L8 : ∀ (n : Nat) (F5 : St) (F6 : St), lp_X5_run_20_14 n F5 = some F6 → (∀ (H : Heap) (locs : List Loc) (ls : Array Slot), wS D dA a s F6 H locs → lv_has ls 1 [] → WX p l e (rmL 4 96) s m av below meth c (wQv D dA a s.heap.size Fz) dA a H locs (F0 m 55 ls [])) → ∀ (H : Heap) (locs : List Loc) (ls : Array Slot), wS D dA a s F5 H locs → lv_has ls 1 [(0, .ref (a (20, 0, 0)))] → WX p l e (rmL 4 96) s m av below meth c (wQv D dA a s.heap.size Fz) dA a H locs (F0 m 14 ls []) := by
    intro n
    induction n with
    | zero =>
      intro F5 F6 h
      exact absurd (show (none : Option (St)) = some F6 from h) (by simp)
    | succ n ih =>
      intro F5 F6 h K7 H locs ls hW hl
      have h := lp_X5_run_20_14_s.symm.trans h
      refine lv_aload_n hx hb dX5_run_14 rfl (lv_at hl 0 rfl) ?_
      refine gf_20_0 S hK hW hv0 q210 dX5_run_15 ?_
      refine gn_0_18 S hK hW (vq_20_0 hv0) q321 dX5_run_18 ?_
      refine gn_1_2 S hK hW (vq_0_18 (vq_20_0 hv0)) q152 dX5_run_21 ?_
      refine lv_aload_n hx hb dX5_run_24 rfl (lv_at hl 0 rfl) ?_
      refine gf_20_0 S hK hW hv0 q210 dX5_run_25 ?_
      refine gn_0_11 S hK hW (vq_20_0 hv0) q306 dX5_run_28 ?_
      refine lv_icmp_ge (tgt := 55) hx hb dX5_run_31 (by decide) (fun c9 => ?_) (fun c9 => ?_)
      · have h := if_t h c9
        cases h
        exact K7 H locs ls hW (lv_sub hl [] rfl)
      · have h := if_f h c9
        refine lv_aload_n hx hb dX5_run_34 rfl (lv_at hl 0 rfl) ?_
        refine gf_20_0 S hK hW hv0 q210 dX5_run_35 ?_
        refine gn_0_18 S hK hW (vq_20_0 hv0) q321 dX5_run_38 ?_
        refine lv_aload_n hx hb dX5_run_41 rfl (lv_at hl 0 rfl) ?_
        obtain ⟨r10, hc11, h⟩ := ob_e h
        refine wk_i (va_runU (C := "WaterGrounds$Tried") (owner := "WaterGrounds$Brew") (As := []) (rest := [.ref (a (1, 3, 0))]) S (met_X7_step l hD hv0 hc11 H.size) (va_cwO 0 S.2.2.2.2 (lw_O q856 q859 q857 q860 q861 q62 q862) rfl rfl rfl q867 (by decide +kernel) ⟨Nat.le_of_ble_eq_true rfl, Nat.le_of_ble_eq_true rfl⟩) (wpreV hK hW hv0 rfl rfl _) rfl rfl hl.1 rfl (lv_room (Nat.le_of_ble_eq_true rfl)) dX5_run_42 ⟨Nat.le_refl 0, Nat.le_refl 0⟩) hW (fun H locs hW => ?_)
        refine lv_aload_n hx hb dX5_run_45 rfl (lv_at hl 0 rfl) ?_
        obtain ⟨r12, hc13, h⟩ := ob_e h
        refine wk_i (va_runU (C := "WaterGrounds$Tried") (owner := "WaterGrounds$Brew") (As := []) (rest := [.int r10, .ref (a (1, 3, 0))]) S (met_X7_warmth l hD hv0 hc13 H.size) (va_cwO 0 S.2.2.2.2 (lw_O q868 q871 q869 q872 q873 q62 q874) rfl rfl rfl q879 (by decide +kernel) ⟨Nat.le_of_ble_eq_true rfl, Nat.le_of_ble_eq_true rfl⟩) (wpreV hK hW hv0 rfl rfl _) rfl rfl hl.1 rfl (lv_room (Nat.le_of_ble_eq_true rfl)) dX5_run_46 ⟨Nat.le_refl 0, Nat.le_refl 0⟩) hW (fun H locs hW => ?_)
        obtain ⟨F14, hc15, h⟩ := ob_e h
        refine wk_v (va_runV (As := [.int r10, .int r12]) (rest := []) S (met_X1_go l hD (vq_0_18 (vq_20_0 hv0)) hc15 H.size) (cwV 2 S.2.2.2.2 (lw_V q880 q724 q725 q56 q726) rfl rfl rfl yd_X1_go ⟨Nat.le_of_ble_eq_true rfl, Nat.le_of_ble_eq_true rfl⟩) (wpreV hK hW (vq_0_18 (vq_20_0 hv0)) rfl rfl _) rfl rfl hl.1 rfl (lv_room (Nat.le_of_ble_eq_true rfl)) dX5_run_49 ⟨Nat.le_refl 0, Nat.le_refl 0⟩) hW (fun H locs hW => ?_)
        refine lv_goto (tgt := 14) hx hb dX5_run_52 (by decide) ?_
        exact ih _ _ h K7 H locs ls hW (lv_sub hl [0] rfl)
  obtain ⟨F6, hz16, h⟩ := ob_e h
  refine L8 300 F3 F6 hz16 (fun H locs ls hW hl => ?_) H locs ls hW (lv_sub hl [0] rfl)
  cases h
  exact we_v S hr hlk hW dX5_run_55
def fn_X5_taste_20 (F : St) : Option (St × Int32) :=
  ob (fn_X5_run_20 F) (fun F1 => ob (fn_X7_much F1) (fun r3 => ob (fn_X1_out F1 3 r3) (fun r5 => ob (fn_X1_strong F1 3) (fun r7 => ob (fn_X7_much F1) (fun r9 => ob (fn_X1_uneven F1 3 r9) (fun r11 => if r11 ≤ (F1 26 0 0 4) then if r5 < (F1 26 0 0 2) then if (F1 26 0 0 2) ≤ r5 then some (F1, (2 : Int32)) else some (F1, (1 : Int32)) else if r5 ≤ (F1 26 0 0 3) then if (F1 26 0 0 0) ≤ r7 then if r7 ≤ (F1 26 0 0 1) then some (F1, (0 : Int32)) else some (F1, (4 : Int32)) else some (F1, (3 : Int32)) else if (F1 26 0 0 2) ≤ r5 then some (F1, (2 : Int32)) else some (F1, (1 : Int32)) else some (F1, (5 : Int32))))))))
set_option maxHeartbeats 4000000 in
theorem met_X5_taste_20 (l : Launch) {D : va_G} {dA : WK} {a : Ix → Nat} (hD : wD D dA a) {F : St} {Fz : St} {rz : Int32} (hv0 : wVd dA (20, 0, 0)) (h : fn_X5_taste_20 F = some (Fz, rz)) : Mi l yX5_taste cX5_taste 3 .int 5 116 D dA a F [.ref (a (20, 0, 0))] Fz rz := by
  refine fun sz => mst (Qc := fun sz => wQi D dA a sz Fz rz) (by decide) (Nat.le_of_ble_eq_true rfl) ?_ sz
  intro p e s m below meth c S hr hlk hK hW ls hl
  have hl : lv_has ls 3 [(0, .ref (a (20, 0, 0)))] := hl
  have hx := S.1
  have hb := S.2.1
  generalize ([.ref (a (20, 0, 0))] : List Value).toArray = av at S ⊢
  unfold fn_X5_taste_20 at h
  obtain ⟨H, eH⟩ : ∃ z, z = s.heap := ⟨_, rfl⟩
  obtain ⟨locs, eL⟩ : ∃ z : List Loc, z = [] := ⟨_, rfl⟩
  show WX p l e (rmL 5 116) s m av below meth c (wQi D dA a s.heap.size Fz rz) dA a s.heap [] (F0 m 0 ls [])
  have hW : wS D dA a s F H locs := by rw [eH, eL]; exact wS_in hW
  refine wx_in eH eL ?_
  clear eH eL
  refine lv_aload_n hx hb dX5_taste_0 rfl (lv_at hl 0 rfl) ?_
  obtain ⟨F1, hc2, h⟩ := ob_e h
  refine wk_v (va_runU (C := "WaterGrounds$Tried") (owner := "WaterGrounds$Brew") (As := []) (rest := []) S (met_X5_run_20 l hD hv0 hc2 H.size) (va_cwU 0 S.2.2.2.2 (lw_U q836 q839 q840 q837 q60 q842) rfl rfl rfl rfl yd_X5_run.2 ⟨Nat.le_of_ble_eq_true rfl, Nat.le_of_ble_eq_true rfl⟩) (wpreV hK hW hv0 rfl rfl _) rfl rfl hl.1 rfl (lv_room (Nat.le_of_ble_eq_true rfl)) dX5_taste_1 ⟨Nat.le_refl 0, Nat.le_refl 0⟩) hW (fun H locs hW => ?_)
  refine lv_aload_n hx hb dX5_taste_4 rfl (lv_at hl 0 rfl) ?_
  refine gf_20_0 S hK hW hv0 q210 dX5_taste_5 ?_
  refine gn_0_18 S hK hW (vq_20_0 hv0) q321 dX5_taste_8 ?_
  refine lv_aload_n hx hb dX5_taste_11 rfl (lv_at hl 0 rfl) ?_
  obtain ⟨r3, hc4, h⟩ := ob_e h
  refine wk_i (va_runU (C := "WaterGrounds$Tried") (owner := "WaterGrounds$Brew") (As := []) (rest := [.ref (a (1, 3, 0))]) S (met_X7_much l hD hv0 hc4 H.size) (va_cwO 0 S.2.2.2.2 (lw_O q843 q846 q844 q847 q848 q62 q849) rfl rfl rfl q854 (by decide +kernel) ⟨Nat.le_of_ble_eq_true rfl, Nat.le_of_ble_eq_true rfl⟩) (wpreV hK hW hv0 rfl rfl _) rfl rfl hl.1 rfl (lv_room (Nat.le_of_ble_eq_true rfl)) dX5_taste_12 ⟨Nat.le_refl 0, Nat.le_refl 0⟩) hW (fun H locs hW => ?_)
  obtain ⟨r5, hc6, h⟩ := ob_e h
  refine wk_i (va_runV (As := [.int r3]) (rest := []) S (met_X1_out l hD (vq_0_18 (vq_20_0 hv0)) hc6 H.size) (cwV 1 S.2.2.2.2 (lw_V q881 q794 q795 q56 q796) rfl rfl rfl yd_X1_out ⟨Nat.le_of_ble_eq_true rfl, Nat.le_of_ble_eq_true rfl⟩) (wpreV hK hW (vq_0_18 (vq_20_0 hv0)) rfl rfl _) rfl rfl hl.1 rfl (lv_room (Nat.le_of_ble_eq_true rfl)) dX5_taste_15 ⟨Nat.le_refl 0, Nat.le_refl 0⟩) hW (fun H locs hW => ?_)
  refine lv_istore_n (lv' := [(1, .int r5), (0, .ref (a (20, 0, 0)))]) hx hb dX5_taste_18 rfl hl (by decide) rfl (fun ls hl => ?_)
  refine lv_aload_n hx hb dX5_taste_19 rfl (lv_at hl 1 rfl) ?_
  refine gf_20_0 S hK hW hv0 q210 dX5_taste_20 ?_
  refine gn_0_18 S hK hW (vq_20_0 hv0) q321 dX5_taste_23 ?_
  obtain ⟨r7, hc8, h⟩ := ob_e h
  refine wk_i (va_runV (As := []) (rest := []) S (met_X1_strong l hD (vq_0_18 (vq_20_0 hv0)) hc8 H.size) (cwV 0 S.2.2.2.2 (lw_V q882 q786 q787 q56 q788) rfl rfl rfl yd_X1_strong ⟨Nat.le_of_ble_eq_true rfl, Nat.le_of_ble_eq_true rfl⟩) (wpreV hK hW (vq_0_18 (vq_20_0 hv0)) rfl rfl _) rfl rfl hl.1 rfl (lv_room (Nat.le_of_ble_eq_true rfl)) dX5_taste_26 ⟨Nat.le_refl 0, Nat.le_refl 0⟩) hW (fun H locs hW => ?_)
  refine lv_istore_n (lv' := [(2, .int r7), (1, .int r5), (0, .ref (a (20, 0, 0)))]) hx hb dX5_taste_29 rfl hl (by decide) rfl (fun ls hl => ?_)
  refine lv_aload_n hx hb dX5_taste_30 rfl (lv_at hl 2 rfl) ?_
  refine gf_20_0 S hK hW hv0 q210 dX5_taste_31 ?_
  refine gn_0_18 S hK hW (vq_20_0 hv0) q321 dX5_taste_34 ?_
  refine lv_aload_n hx hb dX5_taste_37 rfl (lv_at hl 2 rfl) ?_
  obtain ⟨r9, hc10, h⟩ := ob_e h
  refine wk_i (va_runU (C := "WaterGrounds$Tried") (owner := "WaterGrounds$Brew") (As := []) (rest := [.ref (a (1, 3, 0))]) S (met_X7_much l hD hv0 hc10 H.size) (va_cwO 0 S.2.2.2.2 (lw_O q843 q846 q844 q847 q848 q62 q849) rfl rfl rfl q854 (by decide +kernel) ⟨Nat.le_of_ble_eq_true rfl, Nat.le_of_ble_eq_true rfl⟩) (wpreV hK hW hv0 rfl rfl _) rfl rfl hl.1 rfl (lv_room (Nat.le_of_ble_eq_true rfl)) dX5_taste_38 ⟨Nat.le_refl 0, Nat.le_refl 0⟩) hW (fun H locs hW => ?_)
  obtain ⟨r11, hc12, h⟩ := ob_e h
  refine wk_i (va_runV (As := [.int r9]) (rest := []) S (met_X1_uneven l hD (vq_0_18 (vq_20_0 hv0)) hc12 H.size) (cwV 1 S.2.2.2.2 (lw_V q883 q802 q803 q56 q804) rfl rfl rfl yd_X1_uneven ⟨Nat.le_of_ble_eq_true rfl, Nat.le_of_ble_eq_true rfl⟩) (wpreV hK hW (vq_0_18 (vq_20_0 hv0)) rfl rfl _) rfl rfl hl.1 rfl (lv_room (Nat.le_of_ble_eq_true rfl)) dX5_taste_41 ⟨Nat.le_refl 0, Nat.le_refl 0⟩) hW (fun H locs hW => ?_)
  refine lv_aload_n hx hb dX5_taste_44 rfl (lv_at hl 2 rfl) ?_
  refine gf_20_0 S hK hW hv0 q210 dX5_taste_45 ?_
  refine gn_0_12 S hK hW (vq_20_0 hv0) q309 dX5_taste_48 ?_
  refine lv_iconst (v := (4 : Int32)) hx hb dX5_taste_51 (by decide) ?_
  refine ald_26 (z := 4) S hK hW (vq_0_12 (vq_20_0 hv0)) (by decide) (by decide) dX5_taste_52 ?_
  refine lv_icmp_le (tgt := 58) hx hb dX5_taste_53 (by decide) (fun c13 => ?_) (fun c13 => ?_)
  · have h := if_t h c13
    refine lv_iload_n hx hb dX5_taste_58 rfl (lv_at hl 1 rfl) ?_
    refine lv_aload_n hx hb dX5_taste_59 rfl (lv_at hl 2 rfl) ?_
    refine gf_20_0 S hK hW hv0 q210 dX5_taste_60 ?_
    refine gn_0_12 S hK hW (vq_20_0 hv0) q309 dX5_taste_63 ?_
    refine lv_iconst (v := (2 : Int32)) hx hb dX5_taste_66 (by decide) ?_
    refine ald_26 (z := 2) S hK hW (vq_0_12 (vq_20_0 hv0)) (by decide) (by decide) dX5_taste_67 ?_
    refine lv_icmp_lt (tgt := 84) hx hb dX5_taste_68 (by decide) (fun c14 => ?_) (fun c14 => ?_)
    · have h := if_t h c14
      refine lv_iload_n hx hb dX5_taste_84 rfl (lv_at hl 1 rfl) ?_
      refine lv_aload_n hx hb dX5_taste_85 rfl (lv_at hl 2 rfl) ?_
      refine gf_20_0 S hK hW hv0 q210 dX5_taste_86 ?_
      refine gn_0_12 S hK hW (vq_20_0 hv0) q309 dX5_taste_89 ?_
      refine lv_iconst (v := (2 : Int32)) hx hb dX5_taste_92 (by decide) ?_
      refine ald_26 (z := 2) S hK hW (vq_0_12 (vq_20_0 hv0)) (by decide) (by decide) dX5_taste_93 ?_
      refine lv_icmp_ge (tgt := 101) hx hb dX5_taste_94 (by decide) (fun c15 => ?_) (fun c15 => ?_)
      · have h := if_t h c15
        refine lv_iconst (v := (2 : Int32)) hx hb dX5_taste_101 (by decide) ?_
        cases h
        exact we_i S hr hlk hW dX5_taste_102
      · have h := if_f h c15
        refine lv_iconst (v := (1 : Int32)) hx hb dX5_taste_97 (by decide) ?_
        refine lv_goto (tgt := 102) hx hb dX5_taste_98 (by decide) ?_
        cases h
        exact we_i S hr hlk hW dX5_taste_102
    · have h := if_f h c14
      refine lv_iload_n hx hb dX5_taste_71 rfl (lv_at hl 1 rfl) ?_
      refine lv_aload_n hx hb dX5_taste_72 rfl (lv_at hl 2 rfl) ?_
      refine gf_20_0 S hK hW hv0 q210 dX5_taste_73 ?_
      refine gn_0_12 S hK hW (vq_20_0 hv0) q309 dX5_taste_76 ?_
      refine lv_iconst (v := (3 : Int32)) hx hb dX5_taste_79 (by decide) ?_
      refine ald_26 (z := 3) S hK hW (vq_0_12 (vq_20_0 hv0)) (by decide) (by decide) dX5_taste_80 ?_
      refine lv_icmp_le (tgt := 103) hx hb dX5_taste_81 (by decide) (fun c16 => ?_) (fun c16 => ?_)
      · have h := if_t h c16
        refine lv_iload_n hx hb dX5_taste_103 rfl (lv_at hl 0 rfl) ?_
        refine lv_aload_n hx hb dX5_taste_104 rfl (lv_at hl 2 rfl) ?_
        refine gf_20_0 S hK hW hv0 q210 dX5_taste_105 ?_
        refine gn_0_12 S hK hW (vq_20_0 hv0) q309 dX5_taste_108 ?_
        refine lv_iconst (v := (0 : Int32)) hx hb dX5_taste_111 (by decide) ?_
        refine ald_26 (z := 0) S hK hW (vq_0_12 (vq_20_0 hv0)) (by decide) (by decide) dX5_taste_112 ?_
        refine lv_icmp_ge (tgt := 120) hx hb dX5_taste_113 (by decide) (fun c17 => ?_) (fun c17 => ?_)
        · have h := if_t h c17
          refine lv_iload_n hx hb dX5_taste_120 rfl (lv_at hl 0 rfl) ?_
          refine lv_aload_n hx hb dX5_taste_121 rfl (lv_at hl 2 rfl) ?_
          refine gf_20_0 S hK hW hv0 q210 dX5_taste_122 ?_
          refine gn_0_12 S hK hW (vq_20_0 hv0) q309 dX5_taste_125 ?_
          refine lv_iconst (v := (1 : Int32)) hx hb dX5_taste_128 (by decide) ?_
          refine ald_26 (z := 1) S hK hW (vq_0_12 (vq_20_0 hv0)) (by decide) (by decide) dX5_taste_129 ?_
          refine lv_icmp_le (tgt := 137) hx hb dX5_taste_130 (by decide) (fun c18 => ?_) (fun c18 => ?_)
          · have h := if_t h c18
            refine lv_iconst (v := (0 : Int32)) hx hb dX5_taste_137 (by decide) ?_
            cases h
            exact we_i S hr hlk hW dX5_taste_138
          · have h := if_f h c18
            refine lv_iconst (v := (4 : Int32)) hx hb dX5_taste_133 (by decide) ?_
            refine lv_goto (tgt := 138) hx hb dX5_taste_134 (by decide) ?_
            cases h
            exact we_i S hr hlk hW dX5_taste_138
        · have h := if_f h c17
          refine lv_iconst (v := (3 : Int32)) hx hb dX5_taste_116 (by decide) ?_
          refine lv_goto (tgt := 138) hx hb dX5_taste_117 (by decide) ?_
          cases h
          exact we_i S hr hlk hW dX5_taste_138
      · have h := if_f h c16
        refine lv_iload_n hx hb dX5_taste_84 rfl (lv_at hl 1 rfl) ?_
        refine lv_aload_n hx hb dX5_taste_85 rfl (lv_at hl 2 rfl) ?_
        refine gf_20_0 S hK hW hv0 q210 dX5_taste_86 ?_
        refine gn_0_12 S hK hW (vq_20_0 hv0) q309 dX5_taste_89 ?_
        refine lv_iconst (v := (2 : Int32)) hx hb dX5_taste_92 (by decide) ?_
        refine ald_26 (z := 2) S hK hW (vq_0_12 (vq_20_0 hv0)) (by decide) (by decide) dX5_taste_93 ?_
        refine lv_icmp_ge (tgt := 101) hx hb dX5_taste_94 (by decide) (fun c19 => ?_) (fun c19 => ?_)
        · have h := if_t h c19
          refine lv_iconst (v := (2 : Int32)) hx hb dX5_taste_101 (by decide) ?_
          cases h
          exact we_i S hr hlk hW dX5_taste_102
        · have h := if_f h c19
          refine lv_iconst (v := (1 : Int32)) hx hb dX5_taste_97 (by decide) ?_
          refine lv_goto (tgt := 102) hx hb dX5_taste_98 (by decide) ?_
          cases h
          exact we_i S hr hlk hW dX5_taste_102
  · have h := if_f h c13
    refine lv_iconst (v := (5 : Int32)) hx hb dX5_taste_56 (by decide) ?_
    cases h
    exact we_i S hr hlk hW dX5_taste_57
/-loop lp_X0_rightNear_33-/
def lp_X0_rightNear_33 (F : St) (p2 : Int32) (x4 : Int32) : Nat → Int32 → Int32 → Option (Int32 × Int32)
  | 0, _, _ => none
  | n + 1, x12, x13 => if (if (p2 + (1 : Int32)) < (10 : Int32) then (p2 + (1 : Int32)) else (10 : Int32)) < x13 then some (x12, x13) else og (vpb x4 11) (og (vpb x13 11) (pl (x12 + (F 22 0 x4.toNatClampNeg x13.toNatClampNeg)) (fun x22 => lp_X0_rightNear_33 F p2 x4 n x22 (x13 + 1))))
theorem lp_X0_rightNear_33_s {F : St} {p2 : Int32} {x4 : Int32} {n : Nat} {x12 : Int32} {x13 : Int32} : lp_X0_rightNear_33 F p2 x4 (n + 1) x12 x13 = if (if (p2 + (1 : Int32)) < (10 : Int32) then (p2 + (1 : Int32)) else (10 : Int32)) < x13 then some (x12, x13) else og (vpb x4 11) (og (vpb x13 11) (pl (x12 + (F 22 0 x4.toNatClampNeg x13.toNatClampNeg)) (fun x22 => lp_X0_rightNear_33 F p2 x4 n x22 (x13 + 1)))) := rfl
/-loop lp_X0_rightNear_11-/
def lp_X0_rightNear_11 (F : St) (p1 : Int32) (p2 : Int32) : Nat → Int32 → Int32 → Option (Int32 × Int32)
  | 0, _, _ => none
  | n + 1, x3, x4 => if (if (p1 + (1 : Int32)) < (10 : Int32) then (p1 + (1 : Int32)) else (10 : Int32)) < x4 then some (x3, x4) else pl (if (0 : Int32) < (p2 - (1 : Int32)) then (p2 - (1 : Int32)) else (0 : Int32)) (fun x10 => ob2 (lp_X0_rightNear_33 F p2 x4 300 x3 x10) (fun x14 x15 => lp_X0_rightNear_11 F p1 p2 n x14 (x4 + 1)))
theorem lp_X0_rightNear_11_s {F : St} {p1 : Int32} {p2 : Int32} {n : Nat} {x3 : Int32} {x4 : Int32} : lp_X0_rightNear_11 F p1 p2 (n + 1) x3 x4 = if (if (p1 + (1 : Int32)) < (10 : Int32) then (p1 + (1 : Int32)) else (10 : Int32)) < x4 then some (x3, x4) else pl (if (0 : Int32) < (p2 - (1 : Int32)) then (p2 - (1 : Int32)) else (0 : Int32)) (fun x10 => ob2 (lp_X0_rightNear_33 F p2 x4 300 x3 x10) (fun x14 x15 => lp_X0_rightNear_11 F p1 p2 n x14 (x4 + 1))) := rfl
def fn_X0_rightNear (F : St) (p1 : Int32) (p2 : Int32) : Option (Int32) :=
  pl (if (0 : Int32) < (p1 - (1 : Int32)) then (p1 - (1 : Int32)) else (0 : Int32)) (fun x1 => ob2 (lp_X0_rightNear_11 F p1 p2 300 (0 : Int32) x1) (fun x5 x6 => some x5))
theorem yd_X0_rightNear : yX0_rightNear.cls = RX0 ∧ yX0_rightNear.cls ≠ "java/lang/invoke/MethodHandle" ∧ yX0_rightNear.cls ≠ "java/lang/invoke/VarHandle" ∧ (parseMethodDescriptor yX0_rightNear.desc).map (fun d => d.parameters.length) = some 2 := by decide +kernel
set_option maxHeartbeats 4000000 in
theorem met_X0_rightNear (l : Launch) {D : va_G} {dA : WK} {a : Ix → Nat} (hD : wD D dA a) {F : St} {p1 : Int32} {p2 : Int32} {rz : Int32} (hv0 : wVd dA (0, 0, 0)) (h : fn_X0_rightNear F p1 p2 = some rz) : Mi l yX0_rightNear cX0_rightNear 6 .int 1 21 D dA a F [.ref (a (0, 0, 0)), .int p1, .int p2] F rz := by
  refine fun sz => mst (Qc := fun sz => wQi D dA a sz F rz) (by decide) (Nat.le_of_ble_eq_true rfl) ?_ sz
  intro p e s m below meth c S hr hlk hK hW ls hl
  have hl : lv_has ls 6 [(0, .ref (a (0, 0, 0))), (1, .int p1), (2, .int p2)] := hl
  have hx := S.1
  have hb := S.2.1
  generalize ([.ref (a (0, 0, 0)), .int p1, .int p2] : List Value).toArray = av at S ⊢
  unfold fn_X0_rightNear at h
  obtain ⟨H, eH⟩ : ∃ z, z = s.heap := ⟨_, rfl⟩
  obtain ⟨locs, eL⟩ : ∃ z : List Loc, z = [] := ⟨_, rfl⟩
  show WX p l e (rmL 1 21) s m av below meth c (wQi D dA a s.heap.size F rz) dA a s.heap [] (F0 m 0 ls [])
  have hW : wS D dA a s F H locs := by rw [eH, eL]; exact wS_in hW
  refine wx_in eH eL ?_
  clear eH eL
  refine lv_iconst (v := (0 : Int32)) hx hb dX0_rightNear_0 (by decide) ?_
  refine lv_istore_n (lv' := [(3, .int (0 : Int32)), (0, .ref (a (0, 0, 0))), (1, .int p1), (2, .int p2)]) hx hb dX0_rightNear_1 rfl hl (by decide) rfl (fun ls hl => ?_)
  refine lv_iconst (v := (0 : Int32)) hx hb dX0_rightNear_2 (by decide) ?_
  refine lv_iload_n hx hb dX0_rightNear_3 rfl (lv_at hl 2 rfl) ?_
  refine lv_iconst (v := (1 : Int32)) hx hb dX0_rightNear_4 (by decide) ?_
  refine lv_isub hx hb dX0_rightNear_5 ?_
  refine va_mmax hx hb (S.2.2.1.trans hl.1.symm) S.2.2.2.1 (S.2.2.2.2 _ q916) (S.2.2.2.2 _ q769) (S.2.2.2.2 _ q79) (S.2.2.2.2 _ q770) (Nat.le_of_ble_eq_true rfl) (Nat.le_of_ble_eq_true rfl) (Nat.zero_le _) (Nat.zero_le _) dX0_rightNear_6 ?_
  obtain ⟨x1, e2, h⟩ := pl_e h
  refine lv_nm e2 ?_
  refine lv_istore (lv' := [(4, .int x1), (3, .int (0 : Int32)), (0, .ref (a (0, 0, 0))), (1, .int p1), (2, .int p2)]) hx hb dX0_rightNear_9 hl (by decide) rfl (fun ls hl => ?_)
  have L8 : ∀ (n : Nat) (x3 : Int32) (x4 : Int32) (x5 : Int32) (x6 : Int32), lp_X0_rightNear_11 F p1 p2 n x3 x4 = some (x5, x6) → (∀ (H : Heap) (locs : List Loc) (ls : Array Slot), wS D dA a s F H locs → lv_has ls 6 [(3, .int x5)] → WX p l e (rmL 1 21) s m av below meth c (wQi D dA a s.heap.size F rz) dA a H locs (F0 m 71 ls [])) → ∀ (H : Heap) (locs : List Loc) (ls : Array Slot), wS D dA a s F H locs → lv_has ls 6 [(0, .ref (a (0, 0, 0))), (1, .int p1), (2, .int p2), (3, .int x3), (4, .int x4)] → WX p l e (rmL 1 21) s m av below meth c (wQi D dA a s.heap.size F rz) dA a H locs (F0 m 11 ls []) := by
    intro n
    induction n with
    | zero =>
      intro x3 x4 x5 x6 h
      exact absurd (show (none : Option (Int32 × Int32)) = some (x5, x6) from h) (by simp)
    | succ n ih =>
      intro x3 x4 x5 x6 h K7 H locs ls hW hl
      have h := lp_X0_rightNear_11_s.symm.trans h
      refine lv_iload hx hb dX0_rightNear_11 (lv_at hl 4 rfl) ?_
      refine lv_bipush (v := (10 : Int32)) hx hb dX0_rightNear_13 (by decide) ?_
      refine lv_iload_n hx hb dX0_rightNear_15 rfl (lv_at hl 1 rfl) ?_
      refine lv_iconst (v := (1 : Int32)) hx hb dX0_rightNear_16 (by decide) ?_
      refine lv_iadd hx hb dX0_rightNear_17 ?_
      refine va_mmin hx hb (S.2.2.1.trans hl.1.symm) S.2.2.2.1 (S.2.2.2.2 _ q935) (S.2.2.2.2 _ q736) (S.2.2.2.2 _ q79) (S.2.2.2.2 _ q737) (Nat.le_of_ble_eq_true rfl) (Nat.le_of_ble_eq_true rfl) (Nat.zero_le _) (Nat.zero_le _) dX0_rightNear_18 ?_
      refine lv_icmp_gt (tgt := 71) hx hb dX0_rightNear_21 (by decide) (fun c9 => ?_) (fun c9 => ?_)
      · have h := if_t h c9
        cases h
        exact K7 H locs ls hW (lv_sub hl [3] rfl)
      · have h := if_f h c9
        refine lv_iconst (v := (0 : Int32)) hx hb dX0_rightNear_24 (by decide) ?_
        refine lv_iload_n hx hb dX0_rightNear_25 rfl (lv_at hl 2 rfl) ?_
        refine lv_iconst (v := (1 : Int32)) hx hb dX0_rightNear_26 (by decide) ?_
        refine lv_isub hx hb dX0_rightNear_27 ?_
        refine va_mmax hx hb (S.2.2.1.trans hl.1.symm) S.2.2.2.1 (S.2.2.2.2 _ q916) (S.2.2.2.2 _ q769) (S.2.2.2.2 _ q79) (S.2.2.2.2 _ q770) (Nat.le_of_ble_eq_true rfl) (Nat.le_of_ble_eq_true rfl) (Nat.zero_le _) (Nat.zero_le _) dX0_rightNear_28 ?_
        obtain ⟨x10, e11, h⟩ := pl_e h
        refine lv_nm e11 ?_
        refine lv_istore (lv' := [(5, .int x10), (0, .ref (a (0, 0, 0))), (1, .int p1), (2, .int p2), (3, .int x3), (4, .int x4)]) hx hb dX0_rightNear_31 hl (by decide) rfl (fun ls hl => ?_)
        have L17 : ∀ (n : Nat) (x12 : Int32) (x13 : Int32) (x14 : Int32) (x15 : Int32), lp_X0_rightNear_33 F p2 x4 n x12 x13 = some (x14, x15) → (∀ (H : Heap) (locs : List Loc) (ls : Array Slot), wS D dA a s F H locs → lv_has ls 6 [(0, .ref (a (0, 0, 0))), (1, .int p1), (2, .int p2), (3, .int x14), (4, .int x4)] → WX p l e (rmL 1 21) s m av below meth c (wQi D dA a s.heap.size F rz) dA a H locs (F0 m 65 ls [])) → ∀ (H : Heap) (locs : List Loc) (ls : Array Slot), wS D dA a s F H locs → lv_has ls 6 [(0, .ref (a (0, 0, 0))), (1, .int p1), (2, .int p2), (3, .int x12), (4, .int x4), (5, .int x13)] → WX p l e (rmL 1 21) s m av below meth c (wQi D dA a s.heap.size F rz) dA a H locs (F0 m 33 ls []) := by
          intro n
          induction n with
          | zero =>
            intro x12 x13 x14 x15 h
            exact absurd (show (none : Option (Int32 × Int32)) = some (x14, x15) from h) (by simp)
          | succ n ih =>
            intro x12 x13 x14 x15 h K16 H locs ls hW hl
            have h := lp_X0_rightNear_33_s.symm.trans h
            refine lv_iload hx hb dX0_rightNear_33 (lv_at hl 5 rfl) ?_
            refine lv_bipush (v := (10 : Int32)) hx hb dX0_rightNear_35 (by decide) ?_
            refine lv_iload_n hx hb dX0_rightNear_37 rfl (lv_at hl 2 rfl) ?_
            refine lv_iconst (v := (1 : Int32)) hx hb dX0_rightNear_38 (by decide) ?_
            refine lv_iadd hx hb dX0_rightNear_39 ?_
            refine va_mmin hx hb (S.2.2.1.trans hl.1.symm) S.2.2.2.1 (S.2.2.2.2 _ q935) (S.2.2.2.2 _ q736) (S.2.2.2.2 _ q79) (S.2.2.2.2 _ q737) (Nat.le_of_ble_eq_true rfl) (Nat.le_of_ble_eq_true rfl) (Nat.zero_le _) (Nat.zero_le _) dX0_rightNear_40 ?_
            refine lv_icmp_gt (tgt := 65) hx hb dX0_rightNear_43 (by decide) (fun c18 => ?_) (fun c18 => ?_)
            · have h := if_t h c18
              cases h
              exact K16 H locs ls hW (lv_sub hl [0, 1, 2, 3, 4] rfl)
            · have h := if_f h c18
              refine lv_iload_n hx hb dX0_rightNear_46 rfl (lv_at hl 3 rfl) ?_
              refine lv_aload_n hx hb dX0_rightNear_47 rfl (lv_at hl 0 rfl) ?_
              refine gf_0_25 S hK hW hv0 q330 dX0_rightNear_48 ?_
              refine lv_iload hx hb dX0_rightNear_51 (lv_at hl 4 rfl) ?_
              obtain ⟨g19, h⟩ := og_e h
              refine aald_21 S hK hW (vq_0_25 hv0) g19 rfl dX0_rightNear_53 ?_
              have v20 := (ve_21 (vq_0_25 hv0) (vpb_lt g19))
              refine lv_iload hx hb dX0_rightNear_54 (lv_at hl 5 rfl) ?_
              obtain ⟨g21, h⟩ := og_e h
              refine ald_22 S hK hW v20 g21 rfl dX0_rightNear_56 ?_
              refine lv_iadd hx hb dX0_rightNear_57 ?_
              obtain ⟨x22, e23, h⟩ := pl_e h
              refine lv_nm e23 ?_
              refine lv_istore_n (lv' := [(3, .int x22), (0, .ref (a (0, 0, 0))), (1, .int p1), (2, .int p2), (4, .int x4), (5, .int x13)]) hx hb dX0_rightNear_58 rfl hl (by decide) rfl (fun ls hl => ?_)
              refine lv_iinc (v := (x13 + 1)) (lv' := [(5, .int (x13 + 1)), (3, .int x22), (0, .ref (a (0, 0, 0))), (1, .int p1), (2, .int p2), (4, .int x4)]) hx hb dX0_rightNear_59 hl (k := 5) rfl rfl (by decide) rfl (fun ls hl => ?_)
              refine lv_goto (tgt := 33) hx hb dX0_rightNear_62 (by decide) ?_
              exact ih _ _ _ _ h K16 H locs ls hW (lv_sub hl [2, 3, 4, 1, 5, 0] rfl)
        obtain ⟨x14, x15, hz24, h⟩ := ob2_e h
        refine L17 300 x3 x10 x14 x15 hz24 (fun H locs ls hW hl => ?_) H locs ls hW (lv_sub hl [1, 2, 3, 4, 5, 0] rfl)
        refine lv_iinc (v := (x4 + 1)) (lv' := [(4, .int (x4 + 1)), (0, .ref (a (0, 0, 0))), (1, .int p1), (2, .int p2), (3, .int x14)]) hx hb dX0_rightNear_65 hl (k := 4) rfl rfl (by decide) rfl (fun ls hl => ?_)
        refine lv_goto (tgt := 11) hx hb dX0_rightNear_68 (by decide) ?_
        exact ih _ _ _ _ h K7 H locs ls hW (lv_sub hl [1, 2, 3, 4, 0] rfl)
  obtain ⟨x5, x6, hz25, h⟩ := ob2_e h
  refine L8 300 (0 : Int32) x1 x5 x6 hz25 (fun H locs ls hW hl => ?_) H locs ls hW (lv_sub hl [2, 3, 4, 1, 0] rfl)
  refine lv_iload_n hx hb dX0_rightNear_71 rfl (lv_at hl 0 rfl) ?_
  cases h
  exact we_i S hr hlk hW dX0_rightNear_72
/-loop lp_X0_broad_24-/
def lp_X0_broad_24 : Nat → St → Int32 → Option (St × Int32)
  | 0, _, _ => none
  | n + 1, F7, x6 => if (121 : Int32) ≤ x6 then some (F7, x6) else pl (fu F7 20 1 0 0 (x6 / (11 : Int32))) (fun F13 => pl (fu F13 20 2 0 0 ((10 : Int32) * (x6 - x6 / (11 : Int32) * (11 : Int32)))) (fun F15 => og (vpb (x6 / (11 : Int32)) 11) (ob2 (fn_X5_taste_20 F15) (fun F19 r20 => ob (if r20 = 0 then some (1 : Int32) else some (0 : Int32)) (fun y24 => og (vpb (x6 - x6 / (11 : Int32) * (11 : Int32)) 11) (pl (fu F19 22 0 ((x6 / (11 : Int32)).toNatClampNeg) (x6 - x6 / (11 : Int32) * (11 : Int32)).toNatClampNeg y24) (fun F27 => lp_X0_broad_24 n F27 (x6 + 1))))))))
theorem lp_X0_broad_24_s {n : Nat} {F7 : St} {x6 : Int32} : lp_X0_broad_24 (n + 1) F7 x6 = if (121 : Int32) ≤ x6 then some (F7, x6) else pl (fu F7 20 1 0 0 (x6 / (11 : Int32))) (fun F13 => pl (fu F13 20 2 0 0 ((10 : Int32) * (x6 - x6 / (11 : Int32) * (11 : Int32)))) (fun F15 => og (vpb (x6 / (11 : Int32)) 11) (ob2 (fn_X5_taste_20 F15) (fun F19 r20 => ob (if r20 = 0 then some (1 : Int32) else some (0 : Int32)) (fun y24 => og (vpb (x6 - x6 / (11 : Int32) * (11 : Int32)) 11) (pl (fu F19 22 0 ((x6 / (11 : Int32)).toNatClampNeg) (x6 - x6 / (11 : Int32) * (11 : Int32)).toNatClampNeg y24) (fun F27 => lp_X0_broad_24 n F27 (x6 + 1)))))))) := rfl
/-loop lp_X0_broad_94-/
def lp_X0_broad_94 (F8 : St) : Nat → Int32 → Int32 → Option (Int32 × Int32)
  | 0, _, _ => none
  | n + 1, x30, x31 => if (121 : Int32) ≤ x31 then some (x30, x31) else ob (fn_X0_rightNear F8 (x31 / (11 : Int32)) (x31 - x31 / (11 : Int32) * (11 : Int32))) (fun r37 => ob (fn_X0_rightNear F8 (x30 / (11 : Int32)) (x30 - x30 / (11 : Int32) * (11 : Int32))) (fun r39 => ob (if r37 ≤ r39 then some x30 else some x31) (fun y43 => lp_X0_broad_94 F8 n y43 (x31 + 1))))
theorem lp_X0_broad_94_s {F8 : St} {n : Nat} {x30 : Int32} {x31 : Int32} : lp_X0_broad_94 F8 (n + 1) x30 x31 = if (121 : Int32) ≤ x31 then some (x30, x31) else ob (fn_X0_rightNear F8 (x31 / (11 : Int32)) (x31 - x31 / (11 : Int32) * (11 : Int32))) (fun r37 => ob (fn_X0_rightNear F8 (x30 / (11 : Int32)) (x30 - x30 / (11 : Int32) * (11 : Int32))) (fun r39 => ob (if r37 ≤ r39 then some x30 else some x31) (fun y43 => lp_X0_broad_94 F8 n y43 (x31 + 1)))) := rfl
def fn_X0_broad (F : St) (p1 : Int32) : Option (St × Int32) :=
  ob (fn_X0_isIn F p1.toInt64 (0 : Int64) (2 : Int64)) (fun r1 => if r1 = 0 then some (F, (-3 : Int32)) else ob (fn_X7_lay F) (fun F4 => ob2 (lp_X0_broad_24 300 F4 (0 : Int32)) (fun F8 x9 => ob2 (lp_X0_broad_94 F8 300 (0 : Int32) (1 : Int32)) (fun x32 x33 => if p1 = 0 then ob (fn_X0_rightNear F8 (x32 / (11 : Int32)) (x32 - x32 / (11 : Int32) * (11 : Int32))) (fun r48 => some (F8, r48)) else if p1 = (1 : Int32) then some (F8, (x32 / (11 : Int32))) else some (F8, ((10 : Int32) * (x32 - x32 / (11 : Int32) * (11 : Int32))))))))
theorem yd_X0_broad : yX0_broad.cls = RX0 ∧ yX0_broad.cls ≠ "java/lang/invoke/MethodHandle" ∧ yX0_broad.cls ≠ "java/lang/invoke/VarHandle" ∧ (parseMethodDescriptor yX0_broad.desc).map (fun d => d.parameters.length) = some 1 := by decide +kernel
set_option maxHeartbeats 4000000 in
theorem met_X0_broad (l : Launch) {D : va_G} {dA : WK} {a : Ix → Nat} (hD : wD D dA a) {F : St} {p1 : Int32} {Fz : St} {rz : Int32} (hv0 : wVd dA (0, 0, 0)) (h : fn_X0_broad F p1 = some (Fz, rz)) : Mi l yX0_broad cX0_broad 4 .int 6 138 D dA a F [.ref (a (0, 0, 0)), .int p1] Fz rz := by
  refine fun sz => mst (Qc := fun sz => wQi D dA a sz Fz rz) (by decide) (Nat.le_of_ble_eq_true rfl) ?_ sz
  intro p e s m below meth c S hr hlk hK hW ls hl
  have hl : lv_has ls 4 [(0, .ref (a (0, 0, 0))), (1, .int p1)] := hl
  have hx := S.1
  have hb := S.2.1
  generalize ([.ref (a (0, 0, 0)), .int p1] : List Value).toArray = av at S ⊢
  unfold fn_X0_broad at h
  obtain ⟨H, eH⟩ : ∃ z, z = s.heap := ⟨_, rfl⟩
  obtain ⟨locs, eL⟩ : ∃ z : List Loc, z = [] := ⟨_, rfl⟩
  show WX p l e (rmL 6 138) s m av below meth c (wQi D dA a s.heap.size Fz rz) dA a s.heap [] (F0 m 0 ls [])
  have hW : wS D dA a s F H locs := by rw [eH, eL]; exact wS_in hW
  refine wx_in eH eL ?_
  clear eH eL
  refine lv_iload_n hx hb dX0_broad_0 rfl (lv_at hl 1 rfl) ?_
  refine lv_i2l hx hb dX0_broad_1 rfl ?_
  refine lv_lconst (v := (0 : Int64)) hx hb dX0_broad_2 (by decide) ?_
  refine lv_ldc2 (v := (2 : Int64)) hx hb S.2.2.2.1 (S.2.2.2.2 _ q713) dX0_broad_3 ?_
  obtain ⟨r1, hc2, h⟩ := ob_e h
  refine wk_i (va_runS (As := [.long p1.toInt64, .long (0 : Int64), .long (2 : Int64)]) (rest := []) S (met_X0_isIn l hD hc2 H.size) (va_cwS 3 S.2.2.2.2 (lw_S q389 q390 q55 q391) rfl rfl rfl yd_X0_isIn.2 ⟨Nat.le_of_ble_eq_true rfl, Nat.le_of_ble_eq_true rfl⟩) (wpreS hK hW _) rfl rfl hl.1 rfl (lv_room (Nat.le_of_ble_eq_true rfl)) dX0_broad_6 ⟨Nat.le_refl 0, Nat.le_refl 0⟩) hW (fun H locs hW => ?_)
  refine lv_if_ne (tgt := 15) hx hb dX0_broad_9 (by decide) (fun c3 => ?_) (fun c3 => ?_)
  · have h := if_f h c3
    refine lv_aload_n hx hb dX0_broad_15 rfl (lv_at hl 0 rfl) ?_
    refine gf_0_24 S hK hW hv0 q329 dX0_broad_16 ?_
    obtain ⟨F4, hc5, h⟩ := ob_e h
    refine wk_v (va_runV (As := []) (rest := []) S (met_X7_lay l hD (vq_0_24 hv0) hc5 H.size) (cwV 0 S.2.2.2.2 (lw_V q924 q925 q926 q62 q927) rfl rfl rfl yd_X7_lay ⟨Nat.le_of_ble_eq_true rfl, Nat.le_of_ble_eq_true rfl⟩) (wpreV hK hW (vq_0_24 hv0) rfl rfl _) rfl rfl hl.1 rfl (lv_room (Nat.le_of_ble_eq_true rfl)) dX0_broad_19 ⟨Nat.le_refl 0, Nat.le_refl 0⟩) hW (fun H locs hW => ?_)
    refine lv_iconst (v := (0 : Int32)) hx hb dX0_broad_22 (by decide) ?_
    refine lv_istore_n (lv' := [(2, .int (0 : Int32)), (0, .ref (a (0, 0, 0))), (1, .int p1)]) hx hb dX0_broad_23 rfl hl (by decide) rfl (fun ls hl => ?_)
    have L11 : ∀ (n : Nat) (F7 : St) (x6 : Int32) (F8 : St) (x9 : Int32), lp_X0_broad_24 n F7 x6 = some (F8, x9) → (∀ (H : Heap) (locs : List Loc) (ls : Array Slot), wS D dA a s F8 H locs → lv_has ls 4 [(0, .ref (a (0, 0, 0))), (1, .int p1)] → WX p l e (rmL 6 138) s m av below meth c (wQi D dA a s.heap.size Fz rz) dA a H locs (F0 m 90 ls [])) → ∀ (H : Heap) (locs : List Loc) (ls : Array Slot), wS D dA a s F7 H locs → lv_has ls 4 [(0, .ref (a (0, 0, 0))), (1, .int p1), (2, .int x6)] → WX p l e (rmL 6 138) s m av below meth c (wQi D dA a s.heap.size Fz rz) dA a H locs (F0 m 24 ls []) := by
      intro n
      induction n with
      | zero =>
        intro F7 x6 F8 x9 h
        exact absurd (show (none : Option (St × Int32)) = some (F8, x9) from h) (by simp)
      | succ n ih =>
        intro F7 x6 F8 x9 h K10 H locs ls hW hl
        have h := lp_X0_broad_24_s.symm.trans h
        refine lv_iload_n hx hb dX0_broad_24 rfl (lv_at hl 2 rfl) ?_
        refine lv_bipush (v := (121 : Int32)) hx hb dX0_broad_25 (by decide) ?_
        refine lv_icmp_ge (tgt := 90) hx hb dX0_broad_27 (by decide) (fun c12 => ?_) (fun c12 => ?_)
        · have h := if_t h c12
          cases h
          exact K10 H locs ls hW (lv_sub hl [0, 1] rfl)
        · have h := if_f h c12
          refine lv_aload_n hx hb dX0_broad_30 rfl (lv_at hl 0 rfl) ?_
          refine gf_0_24 S hK hW hv0 q329 dX0_broad_31 ?_
          refine lv_iload_n hx hb dX0_broad_34 rfl (lv_at hl 2 rfl) ?_
          refine lv_bipush (v := (11 : Int32)) hx hb dX0_broad_35 (by decide) ?_
          refine lv_idiv hx hb dX0_broad_37 (by decide) ?_
          obtain ⟨F13, e14, h⟩ := pl_e h
          refine pn_20_1 S hK hD hW (vq_0_24 hv0) e14 q241 dX0_broad_38 (fun H locs hW => ?_)
          refine lv_aload_n hx hb dX0_broad_41 rfl (lv_at hl 0 rfl) ?_
          refine gf_0_24 S hK hW hv0 q329 dX0_broad_42 ?_
          refine lv_bipush (v := (10 : Int32)) hx hb dX0_broad_45 (by decide) ?_
          refine lv_iload_n hx hb dX0_broad_47 rfl (lv_at hl 2 rfl) ?_
          refine lv_bipush (v := (11 : Int32)) hx hb dX0_broad_48 (by decide) ?_
          refine lv_irem hx hb dX0_broad_50 (by decide) ?_
          refine lv_imul hx hb dX0_broad_51 ?_
          obtain ⟨F15, e16, h⟩ := pl_e h
          refine pn_20_2 S hK hD hW (vq_0_24 hv0) e16 q243 dX0_broad_52 (fun H locs hW => ?_)
          refine lv_aload_n hx hb dX0_broad_55 rfl (lv_at hl 0 rfl) ?_
          refine gf_0_25 S hK hW hv0 q330 dX0_broad_56 ?_
          refine lv_iload_n hx hb dX0_broad_59 rfl (lv_at hl 2 rfl) ?_
          refine lv_bipush (v := (11 : Int32)) hx hb dX0_broad_60 (by decide) ?_
          refine lv_idiv hx hb dX0_broad_62 (by decide) ?_
          obtain ⟨g17, h⟩ := og_e h
          refine aald_21 S hK hW (vq_0_25 hv0) g17 rfl dX0_broad_63 ?_
          have v18 := (ve_21 (vq_0_25 hv0) (vpb_lt g17))
          refine lv_iload_n hx hb dX0_broad_64 rfl (lv_at hl 2 rfl) ?_
          refine lv_bipush (v := (11 : Int32)) hx hb dX0_broad_65 (by decide) ?_
          refine lv_irem hx hb dX0_broad_67 (by decide) ?_
          refine lv_aload_n hx hb dX0_broad_68 rfl (lv_at hl 0 rfl) ?_
          refine gf_0_24 S hK hW hv0 q329 dX0_broad_69 ?_
          obtain ⟨F19, r20, hc21, h⟩ := ob2_e h
          refine wk_i (va_runU (C := "WaterGrounds$Tried") (owner := "WaterGrounds$Brew") (As := []) (rest := [.int (x6 - x6 / (11 : Int32) * (11 : Int32)), .ref (a (22, ((x6 / (11 : Int32)).toNatClampNeg), 0))]) S (met_X5_taste_20 l hD (vq_0_24 hv0) hc21 H.size) (va_cwU 0 S.2.2.2.2 (lw_U q928 q929 q930 q830 q60 q835) rfl rfl rfl rfl yd_X5_taste.2 ⟨Nat.le_of_ble_eq_true rfl, Nat.le_of_ble_eq_true rfl⟩) (wpreV hK hW (vq_0_24 hv0) rfl rfl _) rfl rfl hl.1 rfl (lv_room (Nat.le_of_ble_eq_true rfl)) dX0_broad_72 ⟨Nat.le_refl 0, Nat.le_refl 0⟩) hW (fun H locs hW => ?_)
          obtain ⟨y24, hz23, h⟩ := ob_e h
          have K25 : ∀ (H : Heap) (locs : List Loc) (ls : Array Slot), wS D dA a s F19 H locs → lv_has ls 4 [(0, .ref (a (0, 0, 0))), (1, .int p1), (2, .int x6)] → WX p l e (rmL 6 138) s m av below meth c (wQi D dA a s.heap.size Fz rz) dA a H locs (F0 m 83 ls [.int y24, .int (x6 - x6 / (11 : Int32) * (11 : Int32)), .ref (a (22, ((x6 / (11 : Int32)).toNatClampNeg), 0))]) := by
            intro H locs ls hW hl
            obtain ⟨g26, h⟩ := og_e h
            obtain ⟨F27, e28, h⟩ := pl_e h
            refine ast_22 S hK hD hW v18 g26 rfl e28 dX0_broad_83 (fun H locs hW => ?_)
            refine lv_iinc (v := (x6 + 1)) (lv' := [(2, .int (x6 + 1)), (0, .ref (a (0, 0, 0))), (1, .int p1)]) hx hb dX0_broad_84 hl (k := 2) rfl rfl (by decide) rfl (fun ls hl => ?_)
            refine lv_goto (tgt := 24) hx hb dX0_broad_87 (by decide) ?_
            exact ih _ _ _ _ h K10 H locs ls hW (lv_sub hl [1, 2, 0] rfl)
          clear h
          refine lv_if_ne (tgt := 82) hx hb dX0_broad_75 (by decide) (fun c22 => ?_) (fun c22 => ?_)
          · have h := if_f hz23 c22
            refine lv_iconst (v := (0 : Int32)) hx hb dX0_broad_82 (by decide) ?_
            cases h
            exact K25 H locs ls hW (lv_sub hl [0, 1, 2] rfl)
          · have h := if_t hz23 c22
            refine lv_iconst (v := (1 : Int32)) hx hb dX0_broad_78 (by decide) ?_
            refine lv_goto (tgt := 83) hx hb dX0_broad_79 (by decide) ?_
            cases h
            exact K25 H locs ls hW (lv_sub hl [0, 1, 2] rfl)
    obtain ⟨F8, x9, hz29, h⟩ := ob2_e h
    refine L11 300 F4 (0 : Int32) F8 x9 hz29 (fun H locs ls hW hl => ?_) H locs ls hW (lv_sub hl [1, 2, 0] rfl)
    refine lv_iconst (v := (0 : Int32)) hx hb dX0_broad_90 (by decide) ?_
    refine lv_istore_n (lv' := [(2, .int (0 : Int32)), (0, .ref (a (0, 0, 0))), (1, .int p1)]) hx hb dX0_broad_91 rfl hl (by decide) rfl (fun ls hl => ?_)
    refine lv_iconst (v := (1 : Int32)) hx hb dX0_broad_92 (by decide) ?_
    refine lv_istore_n (lv' := [(3, .int (1 : Int32)), (2, .int (0 : Int32)), (0, .ref (a (0, 0, 0))), (1, .int p1)]) hx hb dX0_broad_93 rfl hl (by decide) rfl (fun ls hl => ?_)
    have L35 : ∀ (n : Nat) (x30 : Int32) (x31 : Int32) (x32 : Int32) (x33 : Int32), lp_X0_broad_94 F8 n x30 x31 = some (x32, x33) → (∀ (H : Heap) (locs : List Loc) (ls : Array Slot), wS D dA a s F8 H locs → lv_has ls 4 [(0, .ref (a (0, 0, 0))), (1, .int p1), (2, .int x32)] → WX p l e (rmL 6 138) s m av below meth c (wQi D dA a s.heap.size Fz rz) dA a H locs (F0 m 139 ls [])) → ∀ (H : Heap) (locs : List Loc) (ls : Array Slot), wS D dA a s F8 H locs → lv_has ls 4 [(0, .ref (a (0, 0, 0))), (1, .int p1), (2, .int x30), (3, .int x31)] → WX p l e (rmL 6 138) s m av below meth c (wQi D dA a s.heap.size Fz rz) dA a H locs (F0 m 94 ls []) := by
      intro n
      induction n with
      | zero =>
        intro x30 x31 x32 x33 h
        exact absurd (show (none : Option (Int32 × Int32)) = some (x32, x33) from h) (by simp)
      | succ n ih =>
        intro x30 x31 x32 x33 h K34 H locs ls hW hl
        have h := lp_X0_broad_94_s.symm.trans h
        refine lv_iload_n hx hb dX0_broad_94 rfl (lv_at hl 3 rfl) ?_
        refine lv_bipush (v := (121 : Int32)) hx hb dX0_broad_95 (by decide) ?_
        refine lv_icmp_ge (tgt := 139) hx hb dX0_broad_97 (by decide) (fun c36 => ?_) (fun c36 => ?_)
        · have h := if_t h c36
          cases h
          exact K34 H locs ls hW (lv_sub hl [0, 1, 2] rfl)
        · have h := if_f h c36
          refine lv_aload_n hx hb dX0_broad_100 rfl (lv_at hl 0 rfl) ?_
          refine lv_iload_n hx hb dX0_broad_101 rfl (lv_at hl 3 rfl) ?_
          refine lv_bipush (v := (11 : Int32)) hx hb dX0_broad_102 (by decide) ?_
          refine lv_idiv hx hb dX0_broad_104 (by decide) ?_
          refine lv_iload_n hx hb dX0_broad_105 rfl (lv_at hl 3 rfl) ?_
          refine lv_bipush (v := (11 : Int32)) hx hb dX0_broad_106 (by decide) ?_
          refine lv_irem hx hb dX0_broad_108 (by decide) ?_
          obtain ⟨r37, hc38, h⟩ := ob_e h
          refine wk_i (va_runV (As := [.int (x31 / (11 : Int32)), .int (x31 - x31 / (11 : Int32) * (11 : Int32))]) (rest := []) S (met_X0_rightNear l hD hv0 hc38 H.size) (cwV 2 S.2.2.2.2 (lw_V q931 q933 qs21 q55 q934) rfl rfl rfl yd_X0_rightNear ⟨Nat.le_of_ble_eq_true rfl, Nat.le_of_ble_eq_true rfl⟩) (wpreV hK hW hv0 rfl rfl _) rfl rfl hl.1 rfl (lv_room (Nat.le_of_ble_eq_true rfl)) dX0_broad_109 ⟨Nat.le_refl 0, Nat.le_refl 0⟩) hW (fun H locs hW => ?_)
          refine lv_aload_n hx hb dX0_broad_112 rfl (lv_at hl 0 rfl) ?_
          refine lv_iload_n hx hb dX0_broad_113 rfl (lv_at hl 2 rfl) ?_
          refine lv_bipush (v := (11 : Int32)) hx hb dX0_broad_114 (by decide) ?_
          refine lv_idiv hx hb dX0_broad_116 (by decide) ?_
          refine lv_iload_n hx hb dX0_broad_117 rfl (lv_at hl 2 rfl) ?_
          refine lv_bipush (v := (11 : Int32)) hx hb dX0_broad_118 (by decide) ?_
          refine lv_irem hx hb dX0_broad_120 (by decide) ?_
          obtain ⟨r39, hc40, h⟩ := ob_e h
          refine wk_i (va_runV (As := [.int (x30 / (11 : Int32)), .int (x30 - x30 / (11 : Int32) * (11 : Int32))]) (rest := [.int r37]) S (met_X0_rightNear l hD hv0 hc40 H.size) (cwV 2 S.2.2.2.2 (lw_V q931 q933 qs21 q55 q934) rfl rfl rfl yd_X0_rightNear ⟨Nat.le_of_ble_eq_true rfl, Nat.le_of_ble_eq_true rfl⟩) (wpreV hK hW hv0 rfl rfl _) rfl rfl hl.1 rfl (lv_room (Nat.le_of_ble_eq_true rfl)) dX0_broad_121 ⟨Nat.le_refl 0, Nat.le_refl 0⟩) hW (fun H locs hW => ?_)
          obtain ⟨y43, hz42, h⟩ := ob_e h
          have K44 : ∀ (H : Heap) (locs : List Loc) (ls : Array Slot), wS D dA a s F8 H locs → lv_has ls 4 [(0, .ref (a (0, 0, 0))), (1, .int p1), (3, .int x31)] → WX p l e (rmL 6 138) s m av below meth c (wQi D dA a s.heap.size Fz rz) dA a H locs (F0 m 132 ls [.int y43]) := by
            intro H locs ls hW hl
            refine lv_istore_n (lv' := [(2, .int y43), (0, .ref (a (0, 0, 0))), (1, .int p1), (3, .int x31)]) hx hb dX0_broad_132 rfl hl (by decide) rfl (fun ls hl => ?_)
            refine lv_iinc (v := (x31 + 1)) (lv' := [(3, .int (x31 + 1)), (2, .int y43), (0, .ref (a (0, 0, 0))), (1, .int p1)]) hx hb dX0_broad_133 hl (k := 3) rfl rfl (by decide) rfl (fun ls hl => ?_)
            refine lv_goto (tgt := 94) hx hb dX0_broad_136 (by decide) ?_
            exact ih _ _ _ _ h K34 H locs ls hW (lv_sub hl [2, 3, 1, 0] rfl)
          clear h
          refine lv_icmp_le (tgt := 131) hx hb dX0_broad_124 (by decide) (fun c41 => ?_) (fun c41 => ?_)
          · have h := if_t hz42 c41
            refine lv_iload_n hx hb dX0_broad_131 rfl (lv_at hl 2 rfl) ?_
            cases h
            exact K44 H locs ls hW (lv_sub hl [0, 1, 3] rfl)
          · have h := if_f hz42 c41
            refine lv_iload_n hx hb dX0_broad_127 rfl (lv_at hl 3 rfl) ?_
            refine lv_goto (tgt := 132) hx hb dX0_broad_128 (by decide) ?_
            cases h
            exact K44 H locs ls hW (lv_sub hl [0, 1, 3] rfl)
    obtain ⟨x32, x33, hz45, h⟩ := ob2_e h
    refine L35 300 (0 : Int32) (1 : Int32) x32 x33 hz45 (fun H locs ls hW hl => ?_) H locs ls hW (lv_sub hl [2, 3, 1, 0] rfl)
    refine lv_iload_n hx hb dX0_broad_139 rfl (lv_at hl 1 rfl) ?_
    refine lv_if_ne (tgt := 158) hx hb dX0_broad_140 (by decide) (fun c46 => ?_) (fun c46 => ?_)
    · have h := if_f h c46
      refine lv_iload_n hx hb dX0_broad_158 rfl (lv_at hl 1 rfl) ?_
      refine lv_iconst (v := (1 : Int32)) hx hb dX0_broad_159 (by decide) ?_
      refine lv_icmp_ne (tgt := 170) hx hb dX0_broad_160 (by decide) (fun c47 => ?_) (fun c47 => ?_)
      · have h := if_f h c47
        refine lv_bipush (v := (10 : Int32)) hx hb dX0_broad_170 (by decide) ?_
        refine lv_iload_n hx hb dX0_broad_172 rfl (lv_at hl 2 rfl) ?_
        refine lv_bipush (v := (11 : Int32)) hx hb dX0_broad_173 (by decide) ?_
        refine lv_irem hx hb dX0_broad_175 (by decide) ?_
        refine lv_imul hx hb dX0_broad_176 ?_
        cases h
        exact we_i S hr hlk hW dX0_broad_177
      · have h := if_t h c47
        refine lv_iload_n hx hb dX0_broad_163 rfl (lv_at hl 2 rfl) ?_
        refine lv_bipush (v := (11 : Int32)) hx hb dX0_broad_164 (by decide) ?_
        refine lv_idiv hx hb dX0_broad_166 (by decide) ?_
        refine lv_goto (tgt := 177) hx hb dX0_broad_167 (by decide) ?_
        cases h
        exact we_i S hr hlk hW dX0_broad_177
    · have h := if_t h c46
      refine lv_aload_n hx hb dX0_broad_143 rfl (lv_at hl 0 rfl) ?_
      refine lv_iload_n hx hb dX0_broad_144 rfl (lv_at hl 2 rfl) ?_
      refine lv_bipush (v := (11 : Int32)) hx hb dX0_broad_145 (by decide) ?_
      refine lv_idiv hx hb dX0_broad_147 (by decide) ?_
      refine lv_iload_n hx hb dX0_broad_148 rfl (lv_at hl 2 rfl) ?_
      refine lv_bipush (v := (11 : Int32)) hx hb dX0_broad_149 (by decide) ?_
      refine lv_irem hx hb dX0_broad_151 (by decide) ?_
      obtain ⟨r48, hc49, h⟩ := ob_e h
      refine wk_i (va_runV (As := [.int (x32 / (11 : Int32)), .int (x32 - x32 / (11 : Int32) * (11 : Int32))]) (rest := []) S (met_X0_rightNear l hD hv0 hc49 H.size) (cwV 2 S.2.2.2.2 (lw_V q931 q933 qs21 q55 q934) rfl rfl rfl yd_X0_rightNear ⟨Nat.le_of_ble_eq_true rfl, Nat.le_of_ble_eq_true rfl⟩) (wpreV hK hW hv0 rfl rfl _) rfl rfl hl.1 rfl (lv_room (Nat.le_of_ble_eq_true rfl)) dX0_broad_152 ⟨Nat.le_refl 0, Nat.le_refl 0⟩) hW (fun H locs hW => ?_)
      refine lv_goto (tgt := 177) hx hb dX0_broad_155 (by decide) ?_
      cases h
      exact we_i S hr hlk hW dX0_broad_177
  · have h := if_t h c3
    refine lv_bipush (v := (-3 : Int32)) hx hb dX0_broad_12 (by decide) ?_
    cases h
    exact we_i S hr hlk hW dX0_broad_14
def fn_X0_cell (F : St) (p1 : Int32) (p2 : Int32) (p3 : Int32) : Option (Int32) :=
  ob (fn_X0_isIn F p1.toInt64 (0 : Int64) (((F 0 0 0 0) - (1 : Int32)).toInt64)) (fun r1 => if r1 = 0 then some (-2 : Int32) else ob (fn_X0_isIn F p2.toInt64 (0 : Int64) (((F 0 1 0 0) - (1 : Int32)).toInt64)) (fun r4 => if r4 = 0 then some (-2 : Int32) else og (vpb p1 4) (og (vpb p2 4) (ob (fn_X0_isIn F p3.toInt64 (3 : Int64) (8 : Int64)) (fun r11 => if r11 = 0 then if p3.toInt < 0 ∨ 2 < p3.toInt then some (-3 : Int32) else if p3 = (0 : Int32) then some (F 2 1 (4 * (4 * 0 + p1.toNatClampNeg) + p2.toNatClampNeg) 0) else if p3 = (1 : Int32) then ob (fn_X1_looseOf F 0 p1 p2 (F 0 8 0 0) (1 : Int32)) (fun r17 => some r17) else if p3 = (2 : Int32) then some (F 2 2 (4 * (4 * 0 + p1.toNatClampNeg) + p2.toNatClampNeg) 0) else none else if (6 : Int32) ≤ p3 then og (vpb (p3 - (6 : Int32)) 3) (some (F 4 1 (4 * (4 * 0 + p1.toNatClampNeg) + p2.toNatClampNeg) ((p3 - (6 : Int32)).toNatClampNeg))) else og (vpb (p3 - (3 : Int32)) 3) (some (F 4 0 (4 * (4 * 0 + p1.toNatClampNeg) + p2.toNatClampNeg) ((p3 - (3 : Int32)).toNatClampNeg))))))))
theorem yd_X0_cell : yX0_cell.cls = RX0 ∧ yX0_cell.cls ≠ "java/lang/invoke/MethodHandle" ∧ yX0_cell.cls ≠ "java/lang/invoke/VarHandle" ∧ (parseMethodDescriptor yX0_cell.desc).map (fun d => d.parameters.length) = some 3 := by decide +kernel
set_option maxHeartbeats 4000000 in
theorem met_X0_cell (l : Launch) {D : va_G} {dA : WK} {a : Ix → Nat} (hD : wD D dA a) {F : St} {p1 : Int32} {p2 : Int32} {p3 : Int32} {rz : Int32} (hv0 : wVd dA (0, 0, 0)) (h : fn_X0_cell F p1 p2 p3 = some rz) : Mi l yX0_cell cX0_cell 5 .int 2 46 D dA a F [.ref (a (0, 0, 0)), .int p1, .int p2, .int p3] F rz := by
  refine fun sz => mst (Qc := fun sz => wQi D dA a sz F rz) (by decide) (Nat.le_of_ble_eq_true rfl) ?_ sz
  intro p e s m below meth c S hr hlk hK hW ls hl
  have hl : lv_has ls 5 [(0, .ref (a (0, 0, 0))), (1, .int p1), (2, .int p2), (3, .int p3)] := hl
  have hx := S.1
  have hb := S.2.1
  generalize ([.ref (a (0, 0, 0)), .int p1, .int p2, .int p3] : List Value).toArray = av at S ⊢
  unfold fn_X0_cell at h
  obtain ⟨H, eH⟩ : ∃ z, z = s.heap := ⟨_, rfl⟩
  obtain ⟨locs, eL⟩ : ∃ z : List Loc, z = [] := ⟨_, rfl⟩
  show WX p l e (rmL 2 46) s m av below meth c (wQi D dA a s.heap.size F rz) dA a s.heap [] (F0 m 0 ls [])
  have hW : wS D dA a s F H locs := by rw [eH, eL]; exact wS_in hW
  refine wx_in eH eL ?_
  clear eH eL
  refine lv_iload_n hx hb dX0_cell_0 rfl (lv_at hl 1 rfl) ?_
  refine lv_i2l hx hb dX0_cell_1 rfl ?_
  refine lv_lconst (v := (0 : Int64)) hx hb dX0_cell_2 (by decide) ?_
  refine lv_aload_n hx hb dX0_cell_3 rfl (lv_at hl 0 rfl) ?_
  refine gf_0_0 S hK hW hv0 q265 dX0_cell_4 ?_
  refine lv_iconst (v := (1 : Int32)) hx hb dX0_cell_7 (by decide) ?_
  refine lv_isub hx hb dX0_cell_8 ?_
  refine lv_i2l hx hb dX0_cell_9 rfl ?_
  obtain ⟨r1, hc2, h⟩ := ob_e h
  refine wk_i (va_runS (As := [.long p1.toInt64, .long (0 : Int64), .long (((F 0 0 0 0) - (1 : Int32)).toInt64)]) (rest := []) S (met_X0_isIn l hD hc2 H.size) (va_cwS 3 S.2.2.2.2 (lw_S q389 q390 q55 q391) rfl rfl rfl yd_X0_isIn.2 ⟨Nat.le_of_ble_eq_true rfl, Nat.le_of_ble_eq_true rfl⟩) (wpreS hK hW _) rfl rfl hl.1 rfl (lv_room (Nat.le_of_ble_eq_true rfl)) dX0_cell_10 ⟨Nat.le_refl 0, Nat.le_refl 0⟩) hW (fun H locs hW => ?_)
  refine lv_if_eq (tgt := 32) hx hb dX0_cell_13 (by decide) (fun c3 => ?_) (fun c3 => ?_)
  · have h := if_t h c3
    refine lv_bipush (v := (-2 : Int32)) hx hb dX0_cell_32 (by decide) ?_
    cases h
    exact we_i S hr hlk hW dX0_cell_34
  · have h := if_f h c3
    refine lv_iload_n hx hb dX0_cell_16 rfl (lv_at hl 2 rfl) ?_
    refine lv_i2l hx hb dX0_cell_17 rfl ?_
    refine lv_lconst (v := (0 : Int64)) hx hb dX0_cell_18 (by decide) ?_
    refine lv_aload_n hx hb dX0_cell_19 rfl (lv_at hl 0 rfl) ?_
    refine gf_0_1 S hK hW hv0 q269 dX0_cell_20 ?_
    refine lv_iconst (v := (1 : Int32)) hx hb dX0_cell_23 (by decide) ?_
    refine lv_isub hx hb dX0_cell_24 ?_
    refine lv_i2l hx hb dX0_cell_25 rfl ?_
    obtain ⟨r4, hc5, h⟩ := ob_e h
    refine wk_i (va_runS (As := [.long p2.toInt64, .long (0 : Int64), .long (((F 0 1 0 0) - (1 : Int32)).toInt64)]) (rest := []) S (met_X0_isIn l hD hc5 H.size) (va_cwS 3 S.2.2.2.2 (lw_S q389 q390 q55 q391) rfl rfl rfl yd_X0_isIn.2 ⟨Nat.le_of_ble_eq_true rfl, Nat.le_of_ble_eq_true rfl⟩) (wpreS hK hW _) rfl rfl hl.1 rfl (lv_room (Nat.le_of_ble_eq_true rfl)) dX0_cell_26 ⟨Nat.le_refl 0, Nat.le_refl 0⟩) hW (fun H locs hW => ?_)
    refine lv_if_ne (tgt := 35) hx hb dX0_cell_29 (by decide) (fun c6 => ?_) (fun c6 => ?_)
    · have h := if_f h c6
      refine lv_aload_n hx hb dX0_cell_35 rfl (lv_at hl 0 rfl) ?_
      refine gf_0_15 S hK hW hv0 q317 dX0_cell_36 ?_
      refine gn_1_0 S hK hW (vq_0_15 hv0) q148 dX0_cell_39 ?_
      refine lv_iload_n hx hb dX0_cell_42 rfl (lv_at hl 1 rfl) ?_
      obtain ⟨g7, h⟩ := og_e h
      refine aald_6 S hK hW (vq_1_0 (vq_0_15 hv0)) g7 rfl dX0_cell_43 ?_
      have v8 := (ve_6 (vq_1_0 (vq_0_15 hv0)) (vpb_lt g7))
      refine lv_iload_n hx hb dX0_cell_44 rfl (lv_at hl 2 rfl) ?_
      obtain ⟨g9, h⟩ := og_e h
      refine aald_7 S hK hW v8 g9 rfl dX0_cell_45 ?_
      have v10 := (ve_7 v8 (vpb_lt g9))
      refine lv_astore (lv' := [(4, .ref (a (2, (4 * (4 * 0 + p1.toNatClampNeg) + p2.toNatClampNeg), 0))), (0, .ref (a (0, 0, 0))), (1, .int p1), (2, .int p2), (3, .int p3)]) hx hb dX0_cell_46 hl (by decide) rfl (fun ls hl => ?_)
      refine lv_iload_n hx hb dX0_cell_48 rfl (lv_at hl 4 rfl) ?_
      refine lv_i2l hx hb dX0_cell_49 rfl ?_
      refine lv_ldc2 (v := (3 : Int64)) hx hb S.2.2.2.1 (S.2.2.2.2 _ q779) dX0_cell_50 ?_
      refine lv_ldc2 (v := (8 : Int64)) hx hb S.2.2.2.1 (S.2.2.2.2 _ q388) dX0_cell_53 ?_
      obtain ⟨r11, hc12, h⟩ := ob_e h
      refine wk_i (va_runS (As := [.long p3.toInt64, .long (3 : Int64), .long (8 : Int64)]) (rest := []) S (met_X0_isIn l hD hc12 H.size) (va_cwS 3 S.2.2.2.2 (lw_S q389 q390 q55 q391) rfl rfl rfl yd_X0_isIn.2 ⟨Nat.le_of_ble_eq_true rfl, Nat.le_of_ble_eq_true rfl⟩) (wpreS hK hW _) rfl rfl hl.1 rfl (lv_room (Nat.le_of_ble_eq_true rfl)) dX0_cell_56 ⟨Nat.le_refl 0, Nat.le_refl 0⟩) hW (fun H locs hW => ?_)
      refine lv_if_eq (tgt := 97) hx hb dX0_cell_59 (by decide) (fun c13 => ?_) (fun c13 => ?_)
      · have h := if_t h c13
        refine lv_iload_n hx hb dX0_cell_97 rfl (lv_at hl 4 rfl) ?_
        by_cases c14 : p3.toInt < 0 ∨ 2 < p3.toInt
        · have h := if_t h c14
          refine lv_tableOut (tgt := 151) hx hb dX0_cell_98 c14 (by decide) ?_
          refine lv_bipush (v := (-3 : Int32)) hx hb dX0_cell_151 (by decide) ?_
          cases h
          exact we_i S hr hlk hW dX0_cell_153
        · have hz := if_f h c14
          by_cases c15 : p3 = (0 : Int32)
          · have h := if_t hz c15
            refine lv_sw c15 ?_
            refine lv_tableIn (off := 26) (tgt := 124) hx hb dX0_cell_98 (by decide) (by decide) (by decide) (by decide) ?_
            refine lv_aload hx hb dX0_cell_124 (lv_at hl 0 rfl) ?_
            refine gn_2_1 S hK hW v10 q129 dX0_cell_126 ?_
            cases h
            exact we_i S hr hlk hW dX0_cell_129
          have hz := if_f hz c15
          by_cases c16 : p3 = (1 : Int32)
          · have h := if_t hz c16
            refine lv_sw c16 ?_
            refine lv_tableIn (off := 32) (tgt := 130) hx hb dX0_cell_98 (by decide) (by decide) (by decide) (by decide) ?_
            refine lv_aload_n hx hb dX0_cell_130 rfl (lv_at hl 1 rfl) ?_
            refine gf_0_15 S hK hW hv0 q317 dX0_cell_131 ?_
            refine lv_iload_n hx hb dX0_cell_134 rfl (lv_at hl 2 rfl) ?_
            refine lv_iload_n hx hb dX0_cell_135 rfl (lv_at hl 3 rfl) ?_
            refine lv_aload_n hx hb dX0_cell_136 rfl (lv_at hl 1 rfl) ?_
            refine gf_0_8 S hK hW hv0 q295 dX0_cell_137 ?_
            refine lv_iconst (v := (1 : Int32)) hx hb dX0_cell_140 (by decide) ?_
            obtain ⟨r17, hc18, h⟩ := ob_e h
            refine wk_i (va_runV (As := [.int p1, .int p2, .int (F 0 8 0 0), .int (1 : Int32)]) (rest := []) S (met_X1_looseOf l hD (vq_0_15 hv0) hc18 H.size) (cwV 4 S.2.2.2.2 (lw_V q780 q765 q766 q56 q767) rfl rfl rfl yd_X1_looseOf ⟨Nat.le_of_ble_eq_true rfl, Nat.le_of_ble_eq_true rfl⟩) (wpreV hK hW (vq_0_15 hv0) rfl rfl _) rfl rfl hl.1 rfl (lv_room (Nat.le_of_ble_eq_true rfl)) dX0_cell_141 ⟨Nat.le_refl 0, Nat.le_refl 0⟩) hW (fun H locs hW => ?_)
            cases h
            exact we_i S hr hlk hW dX0_cell_144
          have hz := if_f hz c16
          by_cases c19 : p3 = (2 : Int32)
          · have h := if_t hz c19
            refine lv_sw c19 ?_
            refine lv_tableIn (off := 47) (tgt := 145) hx hb dX0_cell_98 (by decide) (by decide) (by decide) (by decide) ?_
            refine lv_aload hx hb dX0_cell_145 (lv_at hl 0 rfl) ?_
            refine gn_2_2 S hK hW v10 q132 dX0_cell_147 ?_
            cases h
            exact we_i S hr hlk hW dX0_cell_150
          have hz := if_f hz c19
          cases hz
      · have h := if_f h c13
        refine lv_iload_n hx hb dX0_cell_62 rfl (lv_at hl 4 rfl) ?_
        refine lv_bipush (v := (6 : Int32)) hx hb dX0_cell_63 (by decide) ?_
        refine lv_icmp_ge (tgt := 83) hx hb dX0_cell_65 (by decide) (fun c20 => ?_) (fun c20 => ?_)
        · have h := if_t h c20
          refine lv_aload hx hb dX0_cell_83 (lv_at hl 0 rfl) ?_
          refine gn_2_0 S hK hW v10 q126 dX0_cell_85 ?_
          refine lv_iload_n hx hb dX0_cell_88 rfl (lv_at hl 4 rfl) ?_
          refine lv_bipush (v := (6 : Int32)) hx hb dX0_cell_89 (by decide) ?_
          refine lv_isub hx hb dX0_cell_91 ?_
          obtain ⟨g21, h⟩ := og_e h
          refine aald_3 S hK hW (vq_2_0 v10) g21 rfl dX0_cell_92 ?_
          have v22 := (ve_3 (vq_2_0 v10) (vpb_lt g21))
          refine gn_4_1 S hK hW v22 q117 dX0_cell_93 ?_
          cases h
          exact we_i S hr hlk hW dX0_cell_96
        · have h := if_f h c20
          refine lv_aload hx hb dX0_cell_68 (lv_at hl 0 rfl) ?_
          refine gn_2_0 S hK hW v10 q126 dX0_cell_70 ?_
          refine lv_iload_n hx hb dX0_cell_73 rfl (lv_at hl 4 rfl) ?_
          refine lv_iconst (v := (3 : Int32)) hx hb dX0_cell_74 (by decide) ?_
          refine lv_isub hx hb dX0_cell_75 ?_
          obtain ⟨g23, h⟩ := og_e h
          refine aald_3 S hK hW (vq_2_0 v10) g23 rfl dX0_cell_76 ?_
          have v24 := (ve_3 (vq_2_0 v10) (vpb_lt g23))
          refine gn_4_0 S hK hW v24 q114 dX0_cell_77 ?_
          refine lv_goto (tgt := 96) hx hb dX0_cell_80 (by decide) ?_
          cases h
          exact we_i S hr hlk hW dX0_cell_96
    · have h := if_t h c6
      refine lv_bipush (v := (-2 : Int32)) hx hb dX0_cell_32 (by decide) ?_
      cases h
      exact we_i S hr hlk hW dX0_cell_34
def fn_X0_count (F : St) (p1 : Int32) : Option (Int32) :=
  if p1.toInt < 0 ∨ 9 < p1.toInt then some (-3 : Int32) else if p1 = (0 : Int32) then some (F 0 0 0 0) else if p1 = (1 : Int32) then some (F 0 1 0 0) else if p1 = (2 : Int32) then some (F 0 8 0 0) else if p1 = (3 : Int32) then some (F 0 9 0 0) else if p1 = (4 : Int32) then some (F 0 10 0 0) else if p1 = (5 : Int32) then some (F 0 11 0 0) else if p1 = (6 : Int32) then some (F 0 14 0 0) else if p1 = (7 : Int32) then some (F 0 20 0 0) else if p1 = (8 : Int32) then some (F 0 6 0 0) else if p1 = (9 : Int32) then some (F 0 7 0 0) else none
theorem yd_X0_count : yX0_count.cls = RX0 ∧ yX0_count.cls ≠ "java/lang/invoke/MethodHandle" ∧ yX0_count.cls ≠ "java/lang/invoke/VarHandle" ∧ (parseMethodDescriptor yX0_count.desc).map (fun d => d.parameters.length) = some 1 := by decide +kernel
set_option maxHeartbeats 4000000 in
theorem met_X0_count (l : Launch) {D : va_G} {dA : WK} {a : Ix → Nat} (hD : wD D dA a) {F : St} {p1 : Int32} {rz : Int32} (hv0 : wVd dA (0, 0, 0)) (h : fn_X0_count F p1 = some rz) : Mi l yX0_count cX0_count 2 .int 0 0 D dA a F [.ref (a (0, 0, 0)), .int p1] F rz := by
  refine fun sz => mst (Qc := fun sz => wQi D dA a sz F rz) (by decide) (Nat.le_of_ble_eq_true rfl) ?_ sz
  intro p e s m below meth c S hr hlk hK hW ls hl
  have hl : lv_has ls 2 [(0, .ref (a (0, 0, 0))), (1, .int p1)] := hl
  have hx := S.1
  have hb := S.2.1
  generalize ([.ref (a (0, 0, 0)), .int p1] : List Value).toArray = av at S ⊢
  unfold fn_X0_count at h
  obtain ⟨H, eH⟩ : ∃ z, z = s.heap := ⟨_, rfl⟩
  obtain ⟨locs, eL⟩ : ∃ z : List Loc, z = [] := ⟨_, rfl⟩
  show WX p l e (rmL 0 0) s m av below meth c (wQi D dA a s.heap.size F rz) dA a s.heap [] (F0 m 0 ls [])
  have hW : wS D dA a s F H locs := by rw [eH, eL]; exact wS_in hW
  refine wx_in eH eL ?_
  clear eH eL
  refine lv_iload_n hx hb dX0_count_0 rfl (lv_at hl 1 rfl) ?_
  by_cases c1 : p1.toInt < 0 ∨ 9 < p1.toInt
  · have h := if_t h c1
    refine lv_tableOut (tgt := 106) hx hb dX0_count_1 c1 (by decide) ?_
    refine lv_bipush (v := (-3 : Int32)) hx hb dX0_count_106 (by decide) ?_
    cases h
    exact we_i S hr hlk hW dX0_count_108
  · have hz := if_f h c1
    by_cases c2 : p1 = (0 : Int32)
    · have h := if_t hz c2
      refine lv_sw c2 ?_
      refine lv_tableIn (off := 55) (tgt := 56) hx hb dX0_count_1 (by decide) (by decide) (by decide) (by decide) ?_
      refine lv_aload_n hx hb dX0_count_56 rfl (lv_at hl 0 rfl) ?_
      refine gf_0_0 S hK hW hv0 q265 dX0_count_57 ?_
      cases h
      exact we_i S hr hlk hW dX0_count_60
    have hz := if_f hz c2
    by_cases c3 : p1 = (1 : Int32)
    · have h := if_t hz c3
      refine lv_sw c3 ?_
      refine lv_tableIn (off := 60) (tgt := 61) hx hb dX0_count_1 (by decide) (by decide) (by decide) (by decide) ?_
      refine lv_aload_n hx hb dX0_count_61 rfl (lv_at hl 0 rfl) ?_
      refine gf_0_1 S hK hW hv0 q269 dX0_count_62 ?_
      cases h
      exact we_i S hr hlk hW dX0_count_65
    have hz := if_f hz c3
    by_cases c4 : p1 = (2 : Int32)
    · have h := if_t hz c4
      refine lv_sw c4 ?_
      refine lv_tableIn (off := 65) (tgt := 66) hx hb dX0_count_1 (by decide) (by decide) (by decide) (by decide) ?_
      refine lv_aload_n hx hb dX0_count_66 rfl (lv_at hl 0 rfl) ?_
      refine gf_0_8 S hK hW hv0 q295 dX0_count_67 ?_
      cases h
      exact we_i S hr hlk hW dX0_count_70
    have hz := if_f hz c4
    by_cases c5 : p1 = (3 : Int32)
    · have h := if_t hz c5
      refine lv_sw c5 ?_
      refine lv_tableIn (off := 70) (tgt := 71) hx hb dX0_count_1 (by decide) (by decide) (by decide) (by decide) ?_
      refine lv_aload_n hx hb dX0_count_71 rfl (lv_at hl 0 rfl) ?_
      refine gf_0_9 S hK hW hv0 q297 dX0_count_72 ?_
      cases h
      exact we_i S hr hlk hW dX0_count_75
    have hz := if_f hz c5
    by_cases c6 : p1 = (4 : Int32)
    · have h := if_t hz c6
      refine lv_sw c6 ?_
      refine lv_tableIn (off := 75) (tgt := 76) hx hb dX0_count_1 (by decide) (by decide) (by decide) (by decide) ?_
      refine lv_aload_n hx hb dX0_count_76 rfl (lv_at hl 0 rfl) ?_
      refine gf_0_10 S hK hW hv0 q301 dX0_count_77 ?_
      cases h
      exact we_i S hr hlk hW dX0_count_80
    have hz := if_f hz c6
    by_cases c7 : p1 = (5 : Int32)
    · have h := if_t hz c7
      refine lv_sw c7 ?_
      refine lv_tableIn (off := 80) (tgt := 81) hx hb dX0_count_1 (by decide) (by decide) (by decide) (by decide) ?_
      refine lv_aload_n hx hb dX0_count_81 rfl (lv_at hl 0 rfl) ?_
      refine gf_0_11 S hK hW hv0 q304 dX0_count_82 ?_
      cases h
      exact we_i S hr hlk hW dX0_count_85
    have hz := if_f hz c7
    by_cases c8 : p1 = (6 : Int32)
    · have h := if_t hz c8
      refine lv_sw c8 ?_
      refine lv_tableIn (off := 85) (tgt := 86) hx hb dX0_count_1 (by decide) (by decide) (by decide) (by decide) ?_
      refine lv_aload_n hx hb dX0_count_86 rfl (lv_at hl 0 rfl) ?_
      refine gf_0_14 S hK hW hv0 q316 dX0_count_87 ?_
      cases h
      exact we_i S hr hlk hW dX0_count_90
    have hz := if_f hz c8
    by_cases c9 : p1 = (7 : Int32)
    · have h := if_t hz c9
      refine lv_sw c9 ?_
      refine lv_tableIn (off := 90) (tgt := 91) hx hb dX0_count_1 (by decide) (by decide) (by decide) (by decide) ?_
      refine lv_aload_n hx hb dX0_count_91 rfl (lv_at hl 0 rfl) ?_
      refine gf_0_20 S hK hW hv0 q325 dX0_count_92 ?_
      cases h
      exact we_i S hr hlk hW dX0_count_95
    have hz := if_f hz c9
    by_cases c10 : p1 = (8 : Int32)
    · have h := if_t hz c10
      refine lv_sw c10 ?_
      refine lv_tableIn (off := 95) (tgt := 96) hx hb dX0_count_1 (by decide) (by decide) (by decide) (by decide) ?_
      refine lv_aload_n hx hb dX0_count_96 rfl (lv_at hl 0 rfl) ?_
      refine gf_0_6 S hK hW hv0 q287 dX0_count_97 ?_
      cases h
      exact we_i S hr hlk hW dX0_count_100
    have hz := if_f hz c10
    by_cases c11 : p1 = (9 : Int32)
    · have h := if_t hz c11
      refine lv_sw c11 ?_
      refine lv_tableIn (off := 100) (tgt := 101) hx hb dX0_count_1 (by decide) (by decide) (by decide) (by decide) ?_
      refine lv_aload_n hx hb dX0_count_101 rfl (lv_at hl 0 rfl) ?_
      refine gf_0_7 S hK hW hv0 q291 dX0_count_102 ?_
      cases h
      exact we_i S hr hlk hW dX0_count_105
    have hz := if_f hz c11
    cases hz
def fn_X0_cup (F : St) (p1 : Int32) : Option (Int32) :=
  if p1.toInt < 0 ∨ 7 < p1.toInt then some (-3 : Int32) else if p1 = (0 : Int32) then some (F 2 1 (64 + 0) 0) else if p1 = (1 : Int32) then og (vpb (p1 - (1 : Int32)) 3) (some (F 4 1 (64 + 0) ((p1 - (1 : Int32)).toNatClampNeg))) else if p1 = (2 : Int32) then og (vpb (p1 - (1 : Int32)) 3) (some (F 4 1 (64 + 0) ((p1 - (1 : Int32)).toNatClampNeg))) else if p1 = (3 : Int32) then og (vpb (p1 - (1 : Int32)) 3) (some (F 4 1 (64 + 0) ((p1 - (1 : Int32)).toNatClampNeg))) else if p1 = (4 : Int32) then ob (fn_X1_strong F 0) (fun r13 => some r13) else if p1 = (5 : Int32) then ob (fn_X1_out F 0 (F 0 10 0 0)) (fun r16 => some r16) else if p1 = (6 : Int32) then ob (fn_X1_uneven F 0 (F 0 10 0 0)) (fun r19 => some r19) else if p1 = (7 : Int32) then some (F 1 2 0 0) else none
theorem yd_X0_cup : yX0_cup.cls = RX0 ∧ yX0_cup.cls ≠ "java/lang/invoke/MethodHandle" ∧ yX0_cup.cls ≠ "java/lang/invoke/VarHandle" ∧ (parseMethodDescriptor yX0_cup.desc).map (fun d => d.parameters.length) = some 1 := by decide +kernel
set_option maxHeartbeats 4000000 in
theorem met_X0_cup (l : Launch) {D : va_G} {dA : WK} {a : Ix → Nat} (hD : wD D dA a) {F : St} {p1 : Int32} {rz : Int32} (hv0 : wVd dA (0, 0, 0)) (h : fn_X0_cup F p1 = some rz) : Mi l yX0_cup cX0_cup 2 .int 2 50 D dA a F [.ref (a (0, 0, 0)), .int p1] F rz := by
  refine fun sz => mst (Qc := fun sz => wQi D dA a sz F rz) (by decide) (Nat.le_of_ble_eq_true rfl) ?_ sz
  intro p e s m below meth c S hr hlk hK hW ls hl
  have hl : lv_has ls 2 [(0, .ref (a (0, 0, 0))), (1, .int p1)] := hl
  have hx := S.1
  have hb := S.2.1
  generalize ([.ref (a (0, 0, 0)), .int p1] : List Value).toArray = av at S ⊢
  unfold fn_X0_cup at h
  obtain ⟨H, eH⟩ : ∃ z, z = s.heap := ⟨_, rfl⟩
  obtain ⟨locs, eL⟩ : ∃ z : List Loc, z = [] := ⟨_, rfl⟩
  show WX p l e (rmL 2 50) s m av below meth c (wQi D dA a s.heap.size F rz) dA a s.heap [] (F0 m 0 ls [])
  have hW : wS D dA a s F H locs := by rw [eH, eL]; exact wS_in hW
  refine wx_in eH eL ?_
  clear eH eL
  refine lv_iload_n hx hb dX0_cup_0 rfl (lv_at hl 1 rfl) ?_
  by_cases c1 : p1.toInt < 0 ∨ 7 < p1.toInt
  · have h := if_t h c1
    refine lv_tableOut (tgt := 117) hx hb dX0_cup_1 c1 (by decide) ?_
    refine lv_bipush (v := (-3 : Int32)) hx hb dX0_cup_117 (by decide) ?_
    cases h
    exact we_i S hr hlk hW dX0_cup_119
  · have hz := if_f h c1
    by_cases c2 : p1 = (0 : Int32)
    · have h := if_t hz c2
      refine lv_sw c2 ?_
      refine lv_tableIn (off := 47) (tgt := 48) hx hb dX0_cup_1 (by decide) (by decide) (by decide) (by decide) ?_
      refine lv_aload_n hx hb dX0_cup_48 rfl (lv_at hl 0 rfl) ?_
      refine gf_0_15 S hK hW hv0 q317 dX0_cup_49 ?_
      refine gn_1_1 S hK hW (vq_0_15 hv0) q150 dX0_cup_52 ?_
      refine gn_2_1 S hK hW (vq_1_1 (vq_0_15 hv0)) q129 dX0_cup_55 ?_
      cases h
      exact we_i S hr hlk hW dX0_cup_58
    have hz := if_f hz c2
    by_cases c3 : p1 = (1 : Int32)
    · have h := if_t hz c3
      refine lv_sw c3 ?_
      refine lv_tableIn (off := 58) (tgt := 59) hx hb dX0_cup_1 (by decide) (by decide) (by decide) (by decide) ?_
      refine lv_aload_n hx hb dX0_cup_59 rfl (lv_at hl 0 rfl) ?_
      refine gf_0_15 S hK hW hv0 q317 dX0_cup_60 ?_
      refine gn_1_1 S hK hW (vq_0_15 hv0) q150 dX0_cup_63 ?_
      refine gn_2_0 S hK hW (vq_1_1 (vq_0_15 hv0)) q126 dX0_cup_66 ?_
      refine lv_iload_n hx hb dX0_cup_69 rfl (lv_at hl 1 rfl) ?_
      refine lv_iconst (v := (1 : Int32)) hx hb dX0_cup_70 (by decide) ?_
      refine lv_isub hx hb dX0_cup_71 ?_
      obtain ⟨g4, h⟩ := og_e h
      refine aald_3 S hK hW (vq_2_0 (vq_1_1 (vq_0_15 hv0))) g4 rfl dX0_cup_72 ?_
      have v5 := (ve_3 (vq_2_0 (vq_1_1 (vq_0_15 hv0))) (vpb_lt g4))
      refine gn_4_1 S hK hW v5 q117 dX0_cup_73 ?_
      cases h
      exact we_i S hr hlk hW dX0_cup_76
    have hz := if_f hz c3
    by_cases c6 : p1 = (2 : Int32)
    · have h := if_t hz c6
      refine lv_sw c6 ?_
      refine lv_tableIn (off := 58) (tgt := 59) hx hb dX0_cup_1 (by decide) (by decide) (by decide) (by decide) ?_
      refine lv_aload_n hx hb dX0_cup_59 rfl (lv_at hl 0 rfl) ?_
      refine gf_0_15 S hK hW hv0 q317 dX0_cup_60 ?_
      refine gn_1_1 S hK hW (vq_0_15 hv0) q150 dX0_cup_63 ?_
      refine gn_2_0 S hK hW (vq_1_1 (vq_0_15 hv0)) q126 dX0_cup_66 ?_
      refine lv_iload_n hx hb dX0_cup_69 rfl (lv_at hl 1 rfl) ?_
      refine lv_iconst (v := (1 : Int32)) hx hb dX0_cup_70 (by decide) ?_
      refine lv_isub hx hb dX0_cup_71 ?_
      obtain ⟨g7, h⟩ := og_e h
      refine aald_3 S hK hW (vq_2_0 (vq_1_1 (vq_0_15 hv0))) g7 rfl dX0_cup_72 ?_
      have v8 := (ve_3 (vq_2_0 (vq_1_1 (vq_0_15 hv0))) (vpb_lt g7))
      refine gn_4_1 S hK hW v8 q117 dX0_cup_73 ?_
      cases h
      exact we_i S hr hlk hW dX0_cup_76
    have hz := if_f hz c6
    by_cases c9 : p1 = (3 : Int32)
    · have h := if_t hz c9
      refine lv_sw c9 ?_
      refine lv_tableIn (off := 58) (tgt := 59) hx hb dX0_cup_1 (by decide) (by decide) (by decide) (by decide) ?_
      refine lv_aload_n hx hb dX0_cup_59 rfl (lv_at hl 0 rfl) ?_
      refine gf_0_15 S hK hW hv0 q317 dX0_cup_60 ?_
      refine gn_1_1 S hK hW (vq_0_15 hv0) q150 dX0_cup_63 ?_
      refine gn_2_0 S hK hW (vq_1_1 (vq_0_15 hv0)) q126 dX0_cup_66 ?_
      refine lv_iload_n hx hb dX0_cup_69 rfl (lv_at hl 1 rfl) ?_
      refine lv_iconst (v := (1 : Int32)) hx hb dX0_cup_70 (by decide) ?_
      refine lv_isub hx hb dX0_cup_71 ?_
      obtain ⟨g10, h⟩ := og_e h
      refine aald_3 S hK hW (vq_2_0 (vq_1_1 (vq_0_15 hv0))) g10 rfl dX0_cup_72 ?_
      have v11 := (ve_3 (vq_2_0 (vq_1_1 (vq_0_15 hv0))) (vpb_lt g10))
      refine gn_4_1 S hK hW v11 q117 dX0_cup_73 ?_
      cases h
      exact we_i S hr hlk hW dX0_cup_76
    have hz := if_f hz c9
    by_cases c12 : p1 = (4 : Int32)
    · have h := if_t hz c12
      refine lv_sw c12 ?_
      refine lv_tableIn (off := 76) (tgt := 77) hx hb dX0_cup_1 (by decide) (by decide) (by decide) (by decide) ?_
      refine lv_aload_n hx hb dX0_cup_77 rfl (lv_at hl 0 rfl) ?_
      refine gf_0_15 S hK hW hv0 q317 dX0_cup_78 ?_
      obtain ⟨r13, hc14, h⟩ := ob_e h
      refine wk_i (va_runV (As := []) (rest := []) S (met_X1_strong l hD (vq_0_15 hv0) hc14 H.size) (cwV 0 S.2.2.2.2 (lw_V q785 q786 q787 q56 q788) rfl rfl rfl yd_X1_strong ⟨Nat.le_of_ble_eq_true rfl, Nat.le_of_ble_eq_true rfl⟩) (wpreV hK hW (vq_0_15 hv0) rfl rfl _) rfl rfl hl.1 rfl (lv_room (Nat.le_of_ble_eq_true rfl)) dX0_cup_81 ⟨Nat.le_refl 0, Nat.le_refl 0⟩) hW (fun H locs hW => ?_)
      cases h
      exact we_i S hr hlk hW dX0_cup_84
    have hz := if_f hz c12
    by_cases c15 : p1 = (5 : Int32)
    · have h := if_t hz c15
      refine lv_sw c15 ?_
      refine lv_tableIn (off := 84) (tgt := 85) hx hb dX0_cup_1 (by decide) (by decide) (by decide) (by decide) ?_
      refine lv_aload_n hx hb dX0_cup_85 rfl (lv_at hl 0 rfl) ?_
      refine gf_0_15 S hK hW hv0 q317 dX0_cup_86 ?_
      refine lv_aload_n hx hb dX0_cup_89 rfl (lv_at hl 0 rfl) ?_
      refine gf_0_10 S hK hW hv0 q301 dX0_cup_90 ?_
      obtain ⟨r16, hc17, h⟩ := ob_e h
      refine wk_i (va_runV (As := [.int (F 0 10 0 0)]) (rest := []) S (met_X1_out l hD (vq_0_15 hv0) hc17 H.size) (cwV 1 S.2.2.2.2 (lw_V q793 q794 q795 q56 q796) rfl rfl rfl yd_X1_out ⟨Nat.le_of_ble_eq_true rfl, Nat.le_of_ble_eq_true rfl⟩) (wpreV hK hW (vq_0_15 hv0) rfl rfl _) rfl rfl hl.1 rfl (lv_room (Nat.le_of_ble_eq_true rfl)) dX0_cup_93 ⟨Nat.le_refl 0, Nat.le_refl 0⟩) hW (fun H locs hW => ?_)
      cases h
      exact we_i S hr hlk hW dX0_cup_96
    have hz := if_f hz c15
    by_cases c18 : p1 = (6 : Int32)
    · have h := if_t hz c18
      refine lv_sw c18 ?_
      refine lv_tableIn (off := 96) (tgt := 97) hx hb dX0_cup_1 (by decide) (by decide) (by decide) (by decide) ?_
      refine lv_aload_n hx hb dX0_cup_97 rfl (lv_at hl 0 rfl) ?_
      refine gf_0_15 S hK hW hv0 q317 dX0_cup_98 ?_
      refine lv_aload_n hx hb dX0_cup_101 rfl (lv_at hl 0 rfl) ?_
      refine gf_0_10 S hK hW hv0 q301 dX0_cup_102 ?_
      obtain ⟨r19, hc20, h⟩ := ob_e h
      refine wk_i (va_runV (As := [.int (F 0 10 0 0)]) (rest := []) S (met_X1_uneven l hD (vq_0_15 hv0) hc20 H.size) (cwV 1 S.2.2.2.2 (lw_V q801 q802 q803 q56 q804) rfl rfl rfl yd_X1_uneven ⟨Nat.le_of_ble_eq_true rfl, Nat.le_of_ble_eq_true rfl⟩) (wpreV hK hW (vq_0_15 hv0) rfl rfl _) rfl rfl hl.1 rfl (lv_room (Nat.le_of_ble_eq_true rfl)) dX0_cup_105 ⟨Nat.le_refl 0, Nat.le_refl 0⟩) hW (fun H locs hW => ?_)
      cases h
      exact we_i S hr hlk hW dX0_cup_108
    have hz := if_f hz c18
    by_cases c21 : p1 = (7 : Int32)
    · have h := if_t hz c21
      refine lv_sw c21 ?_
      refine lv_tableIn (off := 108) (tgt := 109) hx hb dX0_cup_1 (by decide) (by decide) (by decide) (by decide) ?_
      refine lv_aload_n hx hb dX0_cup_109 rfl (lv_at hl 0 rfl) ?_
      refine gf_0_15 S hK hW hv0 q317 dX0_cup_110 ?_
      refine gn_1_2 S hK hW (vq_0_15 hv0) q153 dX0_cup_113 ?_
      cases h
      exact we_i S hr hlk hW dX0_cup_116
    have hz := if_f hz c21
    cases hz
def fn_X0_erase (F : St) : Option (St × Int32) :=
  pl (F 0 20 0 0) (fun x1 => pl (fu F 0 20 0 0 (0 : Int32)) (fun F3 => some (F3, x1)))
theorem yd_X0_erase : yX0_erase.cls = RX0 ∧ yX0_erase.cls ≠ "java/lang/invoke/MethodHandle" ∧ yX0_erase.cls ≠ "java/lang/invoke/VarHandle" ∧ (parseMethodDescriptor yX0_erase.desc).map (fun d => d.parameters.length) = some 0 := by decide +kernel
set_option maxHeartbeats 4000000 in
theorem met_X0_erase (l : Launch) {D : va_G} {dA : WK} {a : Ix → Nat} (hD : wD D dA a) {F : St} {Fz : St} {rz : Int32} (hv0 : wVd dA (0, 0, 0)) (h : fn_X0_erase F = some (Fz, rz)) : Mi l yX0_erase cX0_erase 2 .int 0 0 D dA a F [.ref (a (0, 0, 0))] Fz rz := by
  refine fun sz => mst (Qc := fun sz => wQi D dA a sz Fz rz) (by decide) (Nat.le_of_ble_eq_true rfl) ?_ sz
  intro p e s m below meth c S hr hlk hK hW ls hl
  have hl : lv_has ls 2 [(0, .ref (a (0, 0, 0)))] := hl
  have hx := S.1
  have hb := S.2.1
  generalize ([.ref (a (0, 0, 0))] : List Value).toArray = av at S ⊢
  unfold fn_X0_erase at h
  obtain ⟨H, eH⟩ : ∃ z, z = s.heap := ⟨_, rfl⟩
  obtain ⟨locs, eL⟩ : ∃ z : List Loc, z = [] := ⟨_, rfl⟩
  show WX p l e (rmL 0 0) s m av below meth c (wQi D dA a s.heap.size Fz rz) dA a s.heap [] (F0 m 0 ls [])
  have hW : wS D dA a s F H locs := by rw [eH, eL]; exact wS_in hW
  refine wx_in eH eL ?_
  clear eH eL
  refine lv_aload_n hx hb dX0_erase_0 rfl (lv_at hl 0 rfl) ?_
  refine gf_0_20 S hK hW hv0 q325 dX0_erase_1 ?_
  obtain ⟨x1, e2, h⟩ := pl_e h
  refine lv_nm e2 ?_
  refine lv_istore_n (lv' := [(1, .int x1), (0, .ref (a (0, 0, 0)))]) hx hb dX0_erase_4 rfl hl (by decide) rfl (fun ls hl => ?_)
  refine lv_aload_n hx hb dX0_erase_5 rfl (lv_at hl 1 rfl) ?_
  refine lv_iconst (v := (0 : Int32)) hx hb dX0_erase_6 (by decide) ?_
  obtain ⟨F3, e4, h⟩ := pl_e h
  refine pf_0_20 S hK hD hW hv0 e4 q325 dX0_erase_7 (fun H locs hW => ?_)
  refine lv_iload_n hx hb dX0_erase_10 rfl (lv_at hl 0 rfl) ?_
  cases h
  exact we_i S hr hlk hW dX0_erase_11
/-loop lp_X0_figure_4-/
def lp_X0_figure_4 (p1 : Int32) : Nat → Int32 → Int32 → Option (Int32 × Int32)
  | 0, _, _ => none
  | n + 1, x1, x2 => if p1 ≤ x2 then some (x1, x2) else pl (x1 / (6 : Int32)) (fun x8 => lp_X0_figure_4 p1 n x8 (x2 + 1))
theorem lp_X0_figure_4_s {p1 : Int32} {n : Nat} {x1 : Int32} {x2 : Int32} : lp_X0_figure_4 p1 (n + 1) x1 x2 = if p1 ≤ x2 then some (x1, x2) else pl (x1 / (6 : Int32)) (fun x8 => lp_X0_figure_4 p1 n x8 (x2 + 1)) := rfl
def fn_X0_figure (F : St) (p0 : Int32) (p1 : Int32) : Option (Int32) :=
  ob2 (lp_X0_figure_4 p1 300 p0 (0 : Int32)) (fun x3 x4 => some (x3 - x3 / (6 : Int32) * (6 : Int32)))
theorem yd_X0_figure : yX0_figure.cls = RX0 ∧ yX0_figure.cls ≠ "java/lang/invoke/MethodHandle" ∧ yX0_figure.cls ≠ "java/lang/invoke/VarHandle" ∧ (parseMethodDescriptor yX0_figure.desc).map (fun d => d.parameters.length) = some 2 := by decide +kernel
set_option maxHeartbeats 4000000 in
theorem met_X0_figure (l : Launch) {D : va_G} {dA : WK} {a : Ix → Nat} (hD : wD D dA a) {F : St} {p0 : Int32} {p1 : Int32} {rz : Int32} (h : fn_X0_figure F p0 p1 = some rz) : Mi l yX0_figure cX0_figure 4 .int 0 0 D dA a F [.int p0, .int p1] F rz := by
  refine fun sz => mst (Qc := fun sz => wQi D dA a sz F rz) (by decide) (Nat.le_of_ble_eq_true rfl) ?_ sz
  intro p e s m below meth c S hr hlk hK hW ls hl
  have hl : lv_has ls 4 [(0, .int p0), (1, .int p1)] := hl
  have hx := S.1
  have hb := S.2.1
  generalize ([.int p0, .int p1] : List Value).toArray = av at S ⊢
  unfold fn_X0_figure at h
  obtain ⟨H, eH⟩ : ∃ z, z = s.heap := ⟨_, rfl⟩
  obtain ⟨locs, eL⟩ : ∃ z : List Loc, z = [] := ⟨_, rfl⟩
  show WX p l e (rmL 0 0) s m av below meth c (wQi D dA a s.heap.size F rz) dA a s.heap [] (F0 m 0 ls [])
  have hW : wS D dA a s F H locs := by rw [eH, eL]; exact wS_in hW
  refine wx_in eH eL ?_
  clear eH eL
  refine lv_iload_n hx hb dX0_figure_0 rfl (lv_at hl 0 rfl) ?_
  refine lv_istore_n (lv' := [(2, .int p0), (0, .int p0), (1, .int p1)]) hx hb dX0_figure_1 rfl hl (by decide) rfl (fun ls hl => ?_)
  refine lv_iconst (v := (0 : Int32)) hx hb dX0_figure_2 (by decide) ?_
  refine lv_istore_n (lv' := [(3, .int (0 : Int32)), (2, .int p0), (0, .int p0), (1, .int p1)]) hx hb dX0_figure_3 rfl hl (by decide) rfl (fun ls hl => ?_)
  have L6 : ∀ (n : Nat) (x1 : Int32) (x2 : Int32) (x3 : Int32) (x4 : Int32), lp_X0_figure_4 p1 n x1 x2 = some (x3, x4) → (∀ (H : Heap) (locs : List Loc) (ls : Array Slot), wS D dA a s F H locs → lv_has ls 4 [(2, .int x3)] → WX p l e (rmL 0 0) s m av below meth c (wQi D dA a s.heap.size F rz) dA a H locs (F0 m 20 ls [])) → ∀ (H : Heap) (locs : List Loc) (ls : Array Slot), wS D dA a s F H locs → lv_has ls 4 [(1, .int p1), (2, .int x1), (3, .int x2)] → WX p l e (rmL 0 0) s m av below meth c (wQi D dA a s.heap.size F rz) dA a H locs (F0 m 4 ls []) := by
    intro n
    induction n with
    | zero =>
      intro x1 x2 x3 x4 h
      exact absurd (show (none : Option (Int32 × Int32)) = some (x3, x4) from h) (by simp)
    | succ n ih =>
      intro x1 x2 x3 x4 h K5 H locs ls hW hl
      have h := lp_X0_figure_4_s.symm.trans h
      refine lv_iload_n hx hb dX0_figure_4 rfl (lv_at hl 2 rfl) ?_
      refine lv_iload_n hx hb dX0_figure_5 rfl (lv_at hl 0 rfl) ?_
      refine lv_icmp_ge (tgt := 20) hx hb dX0_figure_6 (by decide) (fun c7 => ?_) (fun c7 => ?_)
      · have h := if_t h c7
        cases h
        exact K5 H locs ls hW (lv_sub hl [1] rfl)
      · have h := if_f h c7
        refine lv_iload_n hx hb dX0_figure_9 rfl (lv_at hl 1 rfl) ?_
        refine lv_bipush (v := (6 : Int32)) hx hb dX0_figure_10 (by decide) ?_
        refine lv_idiv hx hb dX0_figure_12 (by decide) ?_
        obtain ⟨x8, e9, h⟩ := pl_e h
        refine lv_nm e9 ?_
        refine lv_istore_n (lv' := [(2, .int x8), (1, .int p1), (3, .int x2)]) hx hb dX0_figure_13 rfl hl (by decide) rfl (fun ls hl => ?_)
        refine lv_iinc (v := (x2 + 1)) (lv' := [(3, .int (x2 + 1)), (2, .int x8), (1, .int p1)]) hx hb dX0_figure_14 hl (k := 2) rfl rfl (by decide) rfl (fun ls hl => ?_)
        refine lv_goto (tgt := 4) hx hb dX0_figure_17 (by decide) ?_
        exact ih _ _ _ _ h K5 H locs ls hW (lv_sub hl [2, 1, 0] rfl)
  obtain ⟨x3, x4, hz10, h⟩ := ob2_e h
  refine L6 300 p0 (0 : Int32) x3 x4 hz10 (fun H locs ls hW hl => ?_) H locs ls hW (lv_sub hl [3, 1, 0] rfl)
  refine lv_iload_n hx hb dX0_figure_20 rfl (lv_at hl 0 rfl) ?_
  refine lv_bipush (v := (6 : Int32)) hx hb dX0_figure_21 (by decide) ?_
  refine lv_irem hx hb dX0_figure_23 (by decide) ?_
  cases h
  exact we_i S hr hlk hW dX0_figure_24
/-loop lp_X5_run_19_14-/
def lp_X5_run_19_14 : Nat → St → Option (St)
  | 0, _ => none
  | n + 1, F5 => if (F5 0 11 0 0) ≤ (F5 1 2 3 0) then some F5 else ob (fn_X6_step F5) (fun r10 => ob (fn_X6_warmth F5) (fun r12 => ob (fn_X1_go F5 3 r10 r12) (fun F14 => lp_X5_run_19_14 n F14)))
theorem lp_X5_run_19_14_s {n : Nat} {F5 : St} : lp_X5_run_19_14 (n + 1) F5 = if (F5 0 11 0 0) ≤ (F5 1 2 3 0) then some F5 else ob (fn_X6_step F5) (fun r10 => ob (fn_X6_warmth F5) (fun r12 => ob (fn_X1_go F5 3 r10 r12) (fun F14 => lp_X5_run_19_14 n F14))) := rfl
def fn_X5_run_19 (F : St) : Option (St) :=
  ob (fn_X6_much F) (fun r1 => ob (fn_X1_begin F 3 r1) (fun F3 => ob (lp_X5_run_19_14 300 F3) (fun F6 => some F6)))
set_option maxHeartbeats 4000000 in
theorem met_X5_run_19 (l : Launch) {D : va_G} {dA : WK} {a : Ix → Nat} (hD : wD D dA a) {F : St} {Fz : St} (hv0 : wVd dA (19, 0, 0)) (h : fn_X5_run_19 F = some Fz) : Mv l yX5_run cX5_run 1 4 96 D dA a F [.ref (a (19, 0, 0))] Fz := by
  refine fun sz => mst (Qc := fun sz => wQv D dA a sz Fz) (by decide) (Nat.le_of_ble_eq_true rfl) ?_ sz
  intro p e s m below meth c S hr hlk hK hW ls hl
  have hl : lv_has ls 1 [(0, .ref (a (19, 0, 0)))] := hl
  have hx := S.1
  have hb := S.2.1
  generalize ([.ref (a (19, 0, 0))] : List Value).toArray = av at S ⊢
  unfold fn_X5_run_19 at h
  obtain ⟨H, eH⟩ : ∃ z, z = s.heap := ⟨_, rfl⟩
  obtain ⟨locs, eL⟩ : ∃ z : List Loc, z = [] := ⟨_, rfl⟩
  show WX p l e (rmL 4 96) s m av below meth c (wQv D dA a s.heap.size Fz) dA a s.heap [] (F0 m 0 ls [])
  have hW : wS D dA a s F H locs := by rw [eH, eL]; exact wS_in hW
  refine wx_in eH eL ?_
  clear eH eL
  refine lv_aload_n hx hb dX5_run_0 rfl (lv_at hl 0 rfl) ?_
  refine gf_19_0 S hK hW hv0 q210 dX5_run_1 ?_
  refine gn_0_18 S hK hW (vq_19_0 hv0) q321 dX5_run_4 ?_
  refine lv_aload_n hx hb dX5_run_7 rfl (lv_at hl 0 rfl) ?_
  obtain ⟨r1, hc2, h⟩ := ob_e h
  refine wk_i (va_runU (C := "WaterGrounds$Turned") (owner := "WaterGrounds$Brew") (As := []) (rest := [.ref (a (1, 3, 0))]) S (met_X6_much l hD hv0 hc2 H.size) (va_cwO 0 S.2.2.2.2 (lw_O q843 q846 q844 q850 q851 q61 q852) rfl rfl rfl q854 (by decide +kernel) ⟨Nat.le_of_ble_eq_true rfl, Nat.le_of_ble_eq_true rfl⟩) (wpreV hK hW hv0 rfl rfl _) rfl rfl hl.1 rfl (lv_room (Nat.le_of_ble_eq_true rfl)) dX5_run_8 ⟨Nat.le_refl 0, Nat.le_refl 0⟩) hW (fun H locs hW => ?_)
  obtain ⟨F3, hc4, h⟩ := ob_e h
  refine wk_v (va_runV (As := [.int r1]) (rest := []) S (met_X1_begin l hD (vq_0_18 (vq_19_0 hv0)) hc4 H.size) (cwV 1 S.2.2.2.2 (lw_V q855 q258 q259 q56 q260) rfl rfl rfl yd_X1_begin ⟨Nat.le_of_ble_eq_true rfl, Nat.le_of_ble_eq_true rfl⟩) (wpreV hK hW (vq_0_18 (vq_19_0 hv0)) rfl rfl _) rfl rfl hl.1 rfl (lv_room (Nat.le_of_ble_eq_true rfl)) dX5_run_11 ⟨Nat.le_refl 0, Nat.le_refl 0⟩) hW (fun H locs hW => ?_)
  have L8 : ∀ (n : Nat) (F5 : St) (F6 : St), lp_X5_run_19_14 n F5 = some F6 → (∀ (H : Heap) (locs : List Loc) (ls : Array Slot), wS D dA a s F6 H locs → lv_has ls 1 [] → WX p l e (rmL 4 96) s m av below meth c (wQv D dA a s.heap.size Fz) dA a H locs (F0 m 55 ls [])) → ∀ (H : Heap) (locs : List Loc) (ls : Array Slot), wS D dA a s F5 H locs → lv_has ls 1 [(0, .ref (a (19, 0, 0)))] → WX p l e (rmL 4 96) s m av below meth c (wQv D dA a s.heap.size Fz) dA a H locs (F0 m 14 ls []) := by
    intro n
    induction n with
    | zero =>
      intro F5 F6 h
      exact absurd (show (none : Option (St)) = some F6 from h) (by simp)
    | succ n ih =>
      intro F5 F6 h K7 H locs ls hW hl
      have h := lp_X5_run_19_14_s.symm.trans h
      refine lv_aload_n hx hb dX5_run_14 rfl (lv_at hl 0 rfl) ?_
      refine gf_19_0 S hK hW hv0 q210 dX5_run_15 ?_
      refine gn_0_18 S hK hW (vq_19_0 hv0) q321 dX5_run_18 ?_
      refine gn_1_2 S hK hW (vq_0_18 (vq_19_0 hv0)) q152 dX5_run_21 ?_
      refine lv_aload_n hx hb dX5_run_24 rfl (lv_at hl 0 rfl) ?_
      refine gf_19_0 S hK hW hv0 q210 dX5_run_25 ?_
      refine gn_0_11 S hK hW (vq_19_0 hv0) q306 dX5_run_28 ?_
      refine lv_icmp_ge (tgt := 55) hx hb dX5_run_31 (by decide) (fun c9 => ?_) (fun c9 => ?_)
      · have h := if_t h c9
        cases h
        exact K7 H locs ls hW (lv_sub hl [] rfl)
      · have h := if_f h c9
        refine lv_aload_n hx hb dX5_run_34 rfl (lv_at hl 0 rfl) ?_
        refine gf_19_0 S hK hW hv0 q210 dX5_run_35 ?_
        refine gn_0_18 S hK hW (vq_19_0 hv0) q321 dX5_run_38 ?_
        refine lv_aload_n hx hb dX5_run_41 rfl (lv_at hl 0 rfl) ?_
        obtain ⟨r10, hc11, h⟩ := ob_e h
        refine wk_i (va_runU (C := "WaterGrounds$Turned") (owner := "WaterGrounds$Brew") (As := []) (rest := [.ref (a (1, 3, 0))]) S (met_X6_step l hD hv0 hc11 H.size) (va_cwO 0 S.2.2.2.2 (lw_O q856 q859 q857 q863 q864 q61 q865) rfl rfl rfl q867 (by decide +kernel) ⟨Nat.le_of_ble_eq_true rfl, Nat.le_of_ble_eq_true rfl⟩) (wpreV hK hW hv0 rfl rfl _) rfl rfl hl.1 rfl (lv_room (Nat.le_of_ble_eq_true rfl)) dX5_run_42 ⟨Nat.le_refl 0, Nat.le_refl 0⟩) hW (fun H locs hW => ?_)
        refine lv_aload_n hx hb dX5_run_45 rfl (lv_at hl 0 rfl) ?_
        obtain ⟨r12, hc13, h⟩ := ob_e h
        refine wk_i (va_runU (C := "WaterGrounds$Turned") (owner := "WaterGrounds$Brew") (As := []) (rest := [.int r10, .ref (a (1, 3, 0))]) S (met_X6_warmth l hD hv0 hc13 H.size) (va_cwO 0 S.2.2.2.2 (lw_O q868 q871 q869 q875 q876 q61 q877) rfl rfl rfl q879 (by decide +kernel) ⟨Nat.le_of_ble_eq_true rfl, Nat.le_of_ble_eq_true rfl⟩) (wpreV hK hW hv0 rfl rfl _) rfl rfl hl.1 rfl (lv_room (Nat.le_of_ble_eq_true rfl)) dX5_run_46 ⟨Nat.le_refl 0, Nat.le_refl 0⟩) hW (fun H locs hW => ?_)
        obtain ⟨F14, hc15, h⟩ := ob_e h
        refine wk_v (va_runV (As := [.int r10, .int r12]) (rest := []) S (met_X1_go l hD (vq_0_18 (vq_19_0 hv0)) hc15 H.size) (cwV 2 S.2.2.2.2 (lw_V q880 q724 q725 q56 q726) rfl rfl rfl yd_X1_go ⟨Nat.le_of_ble_eq_true rfl, Nat.le_of_ble_eq_true rfl⟩) (wpreV hK hW (vq_0_18 (vq_19_0 hv0)) rfl rfl _) rfl rfl hl.1 rfl (lv_room (Nat.le_of_ble_eq_true rfl)) dX5_run_49 ⟨Nat.le_refl 0, Nat.le_refl 0⟩) hW (fun H locs hW => ?_)
        refine lv_goto (tgt := 14) hx hb dX5_run_52 (by decide) ?_
        exact ih _ _ h K7 H locs ls hW (lv_sub hl [0] rfl)
  obtain ⟨F6, hz16, h⟩ := ob_e h
  refine L8 300 F3 F6 hz16 (fun H locs ls hW hl => ?_) H locs ls hW (lv_sub hl [0] rfl)
  cases h
  exact we_v S hr hlk hW dX5_run_55
def fn_X5_taste_19 (F : St) : Option (St × Int32) :=
  ob (fn_X5_run_19 F) (fun F1 => ob (fn_X6_much F1) (fun r3 => ob (fn_X1_out F1 3 r3) (fun r5 => ob (fn_X1_strong F1 3) (fun r7 => ob (fn_X6_much F1) (fun r9 => ob (fn_X1_uneven F1 3 r9) (fun r11 => if r11 ≤ (F1 26 0 0 4) then if r5 < (F1 26 0 0 2) then if (F1 26 0 0 2) ≤ r5 then some (F1, (2 : Int32)) else some (F1, (1 : Int32)) else if r5 ≤ (F1 26 0 0 3) then if (F1 26 0 0 0) ≤ r7 then if r7 ≤ (F1 26 0 0 1) then some (F1, (0 : Int32)) else some (F1, (4 : Int32)) else some (F1, (3 : Int32)) else if (F1 26 0 0 2) ≤ r5 then some (F1, (2 : Int32)) else some (F1, (1 : Int32)) else some (F1, (5 : Int32))))))))
set_option maxHeartbeats 4000000 in
theorem met_X5_taste_19 (l : Launch) {D : va_G} {dA : WK} {a : Ix → Nat} (hD : wD D dA a) {F : St} {Fz : St} {rz : Int32} (hv0 : wVd dA (19, 0, 0)) (h : fn_X5_taste_19 F = some (Fz, rz)) : Mi l yX5_taste cX5_taste 3 .int 5 116 D dA a F [.ref (a (19, 0, 0))] Fz rz := by
  refine fun sz => mst (Qc := fun sz => wQi D dA a sz Fz rz) (by decide) (Nat.le_of_ble_eq_true rfl) ?_ sz
  intro p e s m below meth c S hr hlk hK hW ls hl
  have hl : lv_has ls 3 [(0, .ref (a (19, 0, 0)))] := hl
  have hx := S.1
  have hb := S.2.1
  generalize ([.ref (a (19, 0, 0))] : List Value).toArray = av at S ⊢
  unfold fn_X5_taste_19 at h
  obtain ⟨H, eH⟩ : ∃ z, z = s.heap := ⟨_, rfl⟩
  obtain ⟨locs, eL⟩ : ∃ z : List Loc, z = [] := ⟨_, rfl⟩
  show WX p l e (rmL 5 116) s m av below meth c (wQi D dA a s.heap.size Fz rz) dA a s.heap [] (F0 m 0 ls [])
  have hW : wS D dA a s F H locs := by rw [eH, eL]; exact wS_in hW
  refine wx_in eH eL ?_
  clear eH eL
  refine lv_aload_n hx hb dX5_taste_0 rfl (lv_at hl 0 rfl) ?_
  obtain ⟨F1, hc2, h⟩ := ob_e h
  refine wk_v (va_runU (C := "WaterGrounds$Turned") (owner := "WaterGrounds$Brew") (As := []) (rest := []) S (met_X5_run_19 l hD hv0 hc2 H.size) (va_cwU 0 S.2.2.2.2 (lw_U q836 q839 q841 q837 q60 q842) rfl rfl rfl rfl yd_X5_run.2 ⟨Nat.le_of_ble_eq_true rfl, Nat.le_of_ble_eq_true rfl⟩) (wpreV hK hW hv0 rfl rfl _) rfl rfl hl.1 rfl (lv_room (Nat.le_of_ble_eq_true rfl)) dX5_taste_1 ⟨Nat.le_refl 0, Nat.le_refl 0⟩) hW (fun H locs hW => ?_)
  refine lv_aload_n hx hb dX5_taste_4 rfl (lv_at hl 0 rfl) ?_
  refine gf_19_0 S hK hW hv0 q210 dX5_taste_5 ?_
  refine gn_0_18 S hK hW (vq_19_0 hv0) q321 dX5_taste_8 ?_
  refine lv_aload_n hx hb dX5_taste_11 rfl (lv_at hl 0 rfl) ?_
  obtain ⟨r3, hc4, h⟩ := ob_e h
  refine wk_i (va_runU (C := "WaterGrounds$Turned") (owner := "WaterGrounds$Brew") (As := []) (rest := [.ref (a (1, 3, 0))]) S (met_X6_much l hD hv0 hc4 H.size) (va_cwO 0 S.2.2.2.2 (lw_O q843 q846 q844 q850 q851 q61 q852) rfl rfl rfl q854 (by decide +kernel) ⟨Nat.le_of_ble_eq_true rfl, Nat.le_of_ble_eq_true rfl⟩) (wpreV hK hW hv0 rfl rfl _) rfl rfl hl.1 rfl (lv_room (Nat.le_of_ble_eq_true rfl)) dX5_taste_12 ⟨Nat.le_refl 0, Nat.le_refl 0⟩) hW (fun H locs hW => ?_)
  obtain ⟨r5, hc6, h⟩ := ob_e h
  refine wk_i (va_runV (As := [.int r3]) (rest := []) S (met_X1_out l hD (vq_0_18 (vq_19_0 hv0)) hc6 H.size) (cwV 1 S.2.2.2.2 (lw_V q881 q794 q795 q56 q796) rfl rfl rfl yd_X1_out ⟨Nat.le_of_ble_eq_true rfl, Nat.le_of_ble_eq_true rfl⟩) (wpreV hK hW (vq_0_18 (vq_19_0 hv0)) rfl rfl _) rfl rfl hl.1 rfl (lv_room (Nat.le_of_ble_eq_true rfl)) dX5_taste_15 ⟨Nat.le_refl 0, Nat.le_refl 0⟩) hW (fun H locs hW => ?_)
  refine lv_istore_n (lv' := [(1, .int r5), (0, .ref (a (19, 0, 0)))]) hx hb dX5_taste_18 rfl hl (by decide) rfl (fun ls hl => ?_)
  refine lv_aload_n hx hb dX5_taste_19 rfl (lv_at hl 1 rfl) ?_
  refine gf_19_0 S hK hW hv0 q210 dX5_taste_20 ?_
  refine gn_0_18 S hK hW (vq_19_0 hv0) q321 dX5_taste_23 ?_
  obtain ⟨r7, hc8, h⟩ := ob_e h
  refine wk_i (va_runV (As := []) (rest := []) S (met_X1_strong l hD (vq_0_18 (vq_19_0 hv0)) hc8 H.size) (cwV 0 S.2.2.2.2 (lw_V q882 q786 q787 q56 q788) rfl rfl rfl yd_X1_strong ⟨Nat.le_of_ble_eq_true rfl, Nat.le_of_ble_eq_true rfl⟩) (wpreV hK hW (vq_0_18 (vq_19_0 hv0)) rfl rfl _) rfl rfl hl.1 rfl (lv_room (Nat.le_of_ble_eq_true rfl)) dX5_taste_26 ⟨Nat.le_refl 0, Nat.le_refl 0⟩) hW (fun H locs hW => ?_)
  refine lv_istore_n (lv' := [(2, .int r7), (1, .int r5), (0, .ref (a (19, 0, 0)))]) hx hb dX5_taste_29 rfl hl (by decide) rfl (fun ls hl => ?_)
  refine lv_aload_n hx hb dX5_taste_30 rfl (lv_at hl 2 rfl) ?_
  refine gf_19_0 S hK hW hv0 q210 dX5_taste_31 ?_
  refine gn_0_18 S hK hW (vq_19_0 hv0) q321 dX5_taste_34 ?_
  refine lv_aload_n hx hb dX5_taste_37 rfl (lv_at hl 2 rfl) ?_
  obtain ⟨r9, hc10, h⟩ := ob_e h
  refine wk_i (va_runU (C := "WaterGrounds$Turned") (owner := "WaterGrounds$Brew") (As := []) (rest := [.ref (a (1, 3, 0))]) S (met_X6_much l hD hv0 hc10 H.size) (va_cwO 0 S.2.2.2.2 (lw_O q843 q846 q844 q850 q851 q61 q852) rfl rfl rfl q854 (by decide +kernel) ⟨Nat.le_of_ble_eq_true rfl, Nat.le_of_ble_eq_true rfl⟩) (wpreV hK hW hv0 rfl rfl _) rfl rfl hl.1 rfl (lv_room (Nat.le_of_ble_eq_true rfl)) dX5_taste_38 ⟨Nat.le_refl 0, Nat.le_refl 0⟩) hW (fun H locs hW => ?_)
  obtain ⟨r11, hc12, h⟩ := ob_e h
  refine wk_i (va_runV (As := [.int r9]) (rest := []) S (met_X1_uneven l hD (vq_0_18 (vq_19_0 hv0)) hc12 H.size) (cwV 1 S.2.2.2.2 (lw_V q883 q802 q803 q56 q804) rfl rfl rfl yd_X1_uneven ⟨Nat.le_of_ble_eq_true rfl, Nat.le_of_ble_eq_true rfl⟩) (wpreV hK hW (vq_0_18 (vq_19_0 hv0)) rfl rfl _) rfl rfl hl.1 rfl (lv_room (Nat.le_of_ble_eq_true rfl)) dX5_taste_41 ⟨Nat.le_refl 0, Nat.le_refl 0⟩) hW (fun H locs hW => ?_)
  refine lv_aload_n hx hb dX5_taste_44 rfl (lv_at hl 2 rfl) ?_
  refine gf_19_0 S hK hW hv0 q210 dX5_taste_45 ?_
  refine gn_0_12 S hK hW (vq_19_0 hv0) q309 dX5_taste_48 ?_
  refine lv_iconst (v := (4 : Int32)) hx hb dX5_taste_51 (by decide) ?_
  refine ald_26 (z := 4) S hK hW (vq_0_12 (vq_19_0 hv0)) (by decide) (by decide) dX5_taste_52 ?_
  refine lv_icmp_le (tgt := 58) hx hb dX5_taste_53 (by decide) (fun c13 => ?_) (fun c13 => ?_)
  · have h := if_t h c13
    refine lv_iload_n hx hb dX5_taste_58 rfl (lv_at hl 1 rfl) ?_
    refine lv_aload_n hx hb dX5_taste_59 rfl (lv_at hl 2 rfl) ?_
    refine gf_19_0 S hK hW hv0 q210 dX5_taste_60 ?_
    refine gn_0_12 S hK hW (vq_19_0 hv0) q309 dX5_taste_63 ?_
    refine lv_iconst (v := (2 : Int32)) hx hb dX5_taste_66 (by decide) ?_
    refine ald_26 (z := 2) S hK hW (vq_0_12 (vq_19_0 hv0)) (by decide) (by decide) dX5_taste_67 ?_
    refine lv_icmp_lt (tgt := 84) hx hb dX5_taste_68 (by decide) (fun c14 => ?_) (fun c14 => ?_)
    · have h := if_t h c14
      refine lv_iload_n hx hb dX5_taste_84 rfl (lv_at hl 1 rfl) ?_
      refine lv_aload_n hx hb dX5_taste_85 rfl (lv_at hl 2 rfl) ?_
      refine gf_19_0 S hK hW hv0 q210 dX5_taste_86 ?_
      refine gn_0_12 S hK hW (vq_19_0 hv0) q309 dX5_taste_89 ?_
      refine lv_iconst (v := (2 : Int32)) hx hb dX5_taste_92 (by decide) ?_
      refine ald_26 (z := 2) S hK hW (vq_0_12 (vq_19_0 hv0)) (by decide) (by decide) dX5_taste_93 ?_
      refine lv_icmp_ge (tgt := 101) hx hb dX5_taste_94 (by decide) (fun c15 => ?_) (fun c15 => ?_)
      · have h := if_t h c15
        refine lv_iconst (v := (2 : Int32)) hx hb dX5_taste_101 (by decide) ?_
        cases h
        exact we_i S hr hlk hW dX5_taste_102
      · have h := if_f h c15
        refine lv_iconst (v := (1 : Int32)) hx hb dX5_taste_97 (by decide) ?_
        refine lv_goto (tgt := 102) hx hb dX5_taste_98 (by decide) ?_
        cases h
        exact we_i S hr hlk hW dX5_taste_102
    · have h := if_f h c14
      refine lv_iload_n hx hb dX5_taste_71 rfl (lv_at hl 1 rfl) ?_
      refine lv_aload_n hx hb dX5_taste_72 rfl (lv_at hl 2 rfl) ?_
      refine gf_19_0 S hK hW hv0 q210 dX5_taste_73 ?_
      refine gn_0_12 S hK hW (vq_19_0 hv0) q309 dX5_taste_76 ?_
      refine lv_iconst (v := (3 : Int32)) hx hb dX5_taste_79 (by decide) ?_
      refine ald_26 (z := 3) S hK hW (vq_0_12 (vq_19_0 hv0)) (by decide) (by decide) dX5_taste_80 ?_
      refine lv_icmp_le (tgt := 103) hx hb dX5_taste_81 (by decide) (fun c16 => ?_) (fun c16 => ?_)
      · have h := if_t h c16
        refine lv_iload_n hx hb dX5_taste_103 rfl (lv_at hl 0 rfl) ?_
        refine lv_aload_n hx hb dX5_taste_104 rfl (lv_at hl 2 rfl) ?_
        refine gf_19_0 S hK hW hv0 q210 dX5_taste_105 ?_
        refine gn_0_12 S hK hW (vq_19_0 hv0) q309 dX5_taste_108 ?_
        refine lv_iconst (v := (0 : Int32)) hx hb dX5_taste_111 (by decide) ?_
        refine ald_26 (z := 0) S hK hW (vq_0_12 (vq_19_0 hv0)) (by decide) (by decide) dX5_taste_112 ?_
        refine lv_icmp_ge (tgt := 120) hx hb dX5_taste_113 (by decide) (fun c17 => ?_) (fun c17 => ?_)
        · have h := if_t h c17
          refine lv_iload_n hx hb dX5_taste_120 rfl (lv_at hl 0 rfl) ?_
          refine lv_aload_n hx hb dX5_taste_121 rfl (lv_at hl 2 rfl) ?_
          refine gf_19_0 S hK hW hv0 q210 dX5_taste_122 ?_
          refine gn_0_12 S hK hW (vq_19_0 hv0) q309 dX5_taste_125 ?_
          refine lv_iconst (v := (1 : Int32)) hx hb dX5_taste_128 (by decide) ?_
          refine ald_26 (z := 1) S hK hW (vq_0_12 (vq_19_0 hv0)) (by decide) (by decide) dX5_taste_129 ?_
          refine lv_icmp_le (tgt := 137) hx hb dX5_taste_130 (by decide) (fun c18 => ?_) (fun c18 => ?_)
          · have h := if_t h c18
            refine lv_iconst (v := (0 : Int32)) hx hb dX5_taste_137 (by decide) ?_
            cases h
            exact we_i S hr hlk hW dX5_taste_138
          · have h := if_f h c18
            refine lv_iconst (v := (4 : Int32)) hx hb dX5_taste_133 (by decide) ?_
            refine lv_goto (tgt := 138) hx hb dX5_taste_134 (by decide) ?_
            cases h
            exact we_i S hr hlk hW dX5_taste_138
        · have h := if_f h c17
          refine lv_iconst (v := (3 : Int32)) hx hb dX5_taste_116 (by decide) ?_
          refine lv_goto (tgt := 138) hx hb dX5_taste_117 (by decide) ?_
          cases h
          exact we_i S hr hlk hW dX5_taste_138
      · have h := if_f h c16
        refine lv_iload_n hx hb dX5_taste_84 rfl (lv_at hl 1 rfl) ?_
        refine lv_aload_n hx hb dX5_taste_85 rfl (lv_at hl 2 rfl) ?_
        refine gf_19_0 S hK hW hv0 q210 dX5_taste_86 ?_
        refine gn_0_12 S hK hW (vq_19_0 hv0) q309 dX5_taste_89 ?_
        refine lv_iconst (v := (2 : Int32)) hx hb dX5_taste_92 (by decide) ?_
        refine ald_26 (z := 2) S hK hW (vq_0_12 (vq_19_0 hv0)) (by decide) (by decide) dX5_taste_93 ?_
        refine lv_icmp_ge (tgt := 101) hx hb dX5_taste_94 (by decide) (fun c19 => ?_) (fun c19 => ?_)
        · have h := if_t h c19
          refine lv_iconst (v := (2 : Int32)) hx hb dX5_taste_101 (by decide) ?_
          cases h
          exact we_i S hr hlk hW dX5_taste_102
        · have h := if_f h c19
          refine lv_iconst (v := (1 : Int32)) hx hb dX5_taste_97 (by decide) ?_
          refine lv_goto (tgt := 102) hx hb dX5_taste_98 (by decide) ?_
          cases h
          exact we_i S hr hlk hW dX5_taste_102
  · have h := if_f h c13
    refine lv_iconst (v := (5 : Int32)) hx hb dX5_taste_56 (by decide) ?_
    cases h
    exact we_i S hr hlk hW dX5_taste_57
