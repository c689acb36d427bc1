set_option maxRecDepth 100000
theorem yd_X3_init : yX3_init.cls = RX3 ∧ yX3_init.cls ≠ "java/lang/invoke/MethodHandle" ∧ yX3_init.cls ≠ "java/lang/invoke/VarHandle" ∧ (parseMethodDescriptor yX3_init.desc).map (fun d => d.parameters.length) = some 0 := by decide +kernel
set_option maxHeartbeats 8000000 in
theorem met_X3_init (l : Launch) {D : va_G} {dA : WK} (hap : slAp D) (q sz : Nat) : Mc l yX3_init cX3_init 1 1 12 0 0 D dA sz [(q, .inr (3, [.int (0 : Int32), .int (0 : Int32)]))] [(q, .inr (3, [.int (0 : Int32), .int (0 : Int32)]))] [.ref q] := by
  refine cst (by decide) (Nat.le_of_ble_eq_true rfl) ?_
  intro p e s m below meth c A S hr hlk hmn hK hsz hP hD hA eA ls hl
  have hmn : meth.name = "<init>" := hmn
  have hl : lv_has ls 1 [(0, .ref q)] := hl
  have hx := S.1
  have hb := S.2.1
  generalize ([.ref q] : List Value).toArray = av at S ⊢
  have hA : ∀ q, s.heap.size ≤ q → A q := by rw [hsz]; exact hA
  have hS : va_S A s.heap s.heap [] := va_S.rf
  obtain ⟨H, eH⟩ : ∃ z, z = s.heap := ⟨_, rfl⟩
  have hz : H.size = sz := by rw [eH]; exact hsz
  have hP : va_P D vwCl [(q, .inr (3, [.int (0 : Int32), .int (0 : Int32)]))] H := by rw [eH]; exact hP
  have hS : va_S A s.heap H [] := by rw [eH]; exact hS
  show W p l e (rmC 1 12 0 0) s m av below meth c s.heap [] 0 0 _ (F0 m 0 ls [])
  rw [show W p l e (rmC 1 12 0 0) s m av below meth c s.heap [] 0 0 = W p l e (rmC 1 12 0 0) s m av below meth c H [] 0 0 by rw [eH]]
  clear eH
  refine lv_aload_n hx hb dX3_init_0 rfl (lv_at hl 0 rfl) ?_
  refine W.objInit hx hb S.2.2.2.1 (S.2.2.2.2 _ q111) (S.2.2.2.2 _ q86) (S.2.2.2.2 _ q87) rfl (by rw [S.2.2.1]; exact hl.1) rfl dX3_init_1 (Nat.le_of_ble_eq_true rfl) (Nat.le_of_ble_eq_true rfl) ?_
  refine W.eq (g2 := F0 m 4 ls []) rfl ?_
  exact ce_v S hr hlk hP hD hS hz eA dX3_init_4
def gw (dA : WK) (q sz : Nat) : va_W := [(q, .inr (2, [.ref sz, .int (0 : Int32), .int (0 : Int32), .int (0 : Int32), .ref (sz + 4)])), (sz, .inl (dA.1 3, 3, .inr (.inr (.inr (.inr (va_up (va_up (va_up (fun _ => none) 0 (some (sz + 1))) 1 (some (sz + 2))) 2 (some (sz + 3)))))))), ((sz + 1), .inr (3, [.int (0 : Int32), .int (0 : Int32)])), ((sz + 2), .inr (3, [.int (0 : Int32), .int (0 : Int32)])), ((sz + 3), .inr (3, [.int (0 : Int32), .int (0 : Int32)])), ((sz + 4), .inl (dA.1 0, 3, .inl (fun _ => 0)))]
theorem yd_X2_init : yX2_init.cls = RX2 ∧ yX2_init.cls ≠ "java/lang/invoke/MethodHandle" ∧ yX2_init.cls ≠ "java/lang/invoke/VarHandle" ∧ (parseMethodDescriptor yX2_init.desc).map (fun d => d.parameters.length) = some 0 := by decide +kernel
set_option maxHeartbeats 8000000 in
theorem met_X2_init (l : Launch) {D : va_G} {dA : WK} (hap : slAp D) (q sz : Nat) : Mc l yX2_init cX2_init 1 2 32 5 12 D dA sz [(q, .inr (2, [.null, .int (0 : Int32), .int (0 : Int32), .int (0 : Int32), .null]))] (gw dA q sz) [.ref q] := by
  refine cst (by decide) (Nat.le_of_ble_eq_true rfl) ?_
  intro p e s m below meth c A S hr hlk hmn hK hsz hP hD hA eA ls hl
  have hmn : meth.name = "<init>" := hmn
  have hl : lv_has ls 1 [(0, .ref q)] := hl
  have hx := S.1
  have hb := S.2.1
  generalize ([.ref q] : List Value).toArray = av at S ⊢
  have hA : ∀ q, s.heap.size ≤ q → A q := by rw [hsz]; exact hA
  have hS : va_S A s.heap s.heap [] := va_S.rf
  obtain ⟨H, eH⟩ : ∃ z, z = s.heap := ⟨_, rfl⟩
  have hz : H.size = sz := by rw [eH]; exact hsz
  have hP : va_P D vwCl [(q, .inr (2, [.null, .int (0 : Int32), .int (0 : Int32), .int (0 : Int32), .null]))] H := by rw [eH]; exact hP
  have hS : va_S A s.heap H [] := by rw [eH]; exact hS
  show W p l e (rmC 2 32 5 12) s m av below meth c s.heap [] 0 0 _ (F0 m 0 ls [])
  rw [show W p l e (rmC 2 32 5 12) s m av below meth c s.heap [] 0 0 = W p l e (rmC 2 32 5 12) s m av below meth c H [] 0 0 by rw [eH]]
  clear eH
  refine lv_aload_n hx hb dX2_init_0 rfl (lv_at hl 0 rfl) ?_
  refine W.objInit hx hb S.2.2.2.1 (S.2.2.2.2 _ q104) (S.2.2.2.2 _ q86) (S.2.2.2.2 _ q87) rfl (by rw [S.2.2.1]; exact hl.1) rfl dX2_init_1 (Nat.le_of_ble_eq_true rfl) (Nat.le_of_ble_eq_true rfl) ?_
  refine W.eq (g2 := F0 m 4 ls []) rfl ?_
  refine lv_aload_n hx hb dX2_init_4 rfl (lv_at hl 0 rfl) ?_
  refine lv_iconst (v := (3 : Int32)) hx hb dX2_init_5 (by decide) ?_
  refine hnewq (t := 3) (z := sz) (N := 3) S q105 hK.2.2.1 rfl hK hP hD hS hA (by decide) (by decide) (by decide) hz (Nat.le_of_ble_eq_true rfl) (Nat.le_of_ble_eq_true rfl) dX2_init_6 (fun H hz hP hD hS => ?_)
  have hP : va_P D vwCl [(q, .inr (2, [.null, .int (0 : Int32), .int (0 : Int32), .int (0 : Int32), .null])), (sz, .inl (dA.1 3, 3, .inr (.inr (.inr (.inr (fun _ => none))))))] H := hP
  have hD : va_D A [(q, .inr (2, [.null, .int (0 : Int32), .int (0 : Int32), .int (0 : Int32), .null])), (sz, .inl (dA.1 3, 3, .inr (.inr (.inr (.inr (fun _ => none))))))] := hD
  have hz : H.size = (sz + 1) := hz
  refine lv_dup hx hb dX2_init_9 rfl ?_
  refine lv_iconst (v := (0 : Int32)) hx hb dX2_init_10 (by decide) ?_
  refine hnew (ci := 3) (fs := [.int (0 : Int32), .int (0 : Int32)]) (z := (sz + 1)) S in_X3 tyX3 tyX3_ok q105 q107 q58 hK hP hD hS hA rfl (by decide +kernel) hz (Nat.le_of_ble_eq_true rfl) (Nat.le_of_ble_eq_true rfl) dX2_init_11 (fun H hz hP hD hS => ?_)
  have hP : va_P D vwCl [(q, .inr (2, [.null, .int (0 : Int32), .int (0 : Int32), .int (0 : Int32), .null])), (sz, .inl (dA.1 3, 3, .inr (.inr (.inr (.inr (fun _ => none)))))), ((sz + 1), .inr (3, [.int (0 : Int32), .int (0 : Int32)]))] H := hP
  have hD : va_D A [(q, .inr (2, [.null, .int (0 : Int32), .int (0 : Int32), .int (0 : Int32), .null])), (sz, .inl (dA.1 3, 3, .inr (.inr (.inr (.inr (fun _ => none)))))), ((sz + 1), .inr (3, [.int (0 : Int32), .int (0 : Int32)]))] := hD
  have hz : H.size = (sz + 2) := hz
  refine lv_dup hx hb dX2_init_14 rfl ?_
  have hPc := hP.sub (ws' := [((sz + 1), .inr (3, [.int (0 : Int32), .int (0 : Int32)]))]) [2] rfl
  have hDc := hD.sub (ws' := [((sz + 1), .inr (3, [.int (0 : Int32), .int (0 : Int32)]))]) [2] (by decide) rfl
  refine ck_v (wr := [(q, .inr (2, [.null, .int (0 : Int32), .int (0 : Int32), .int (0 : Int32), .null])), (sz, .inl (dA.1 3, 3, .inr (.inr (.inr (.inr (fun _ => none))))))]) (w1 := [((sz + 1), .inr (3, [.int (0 : Int32), .int (0 : Int32)]))]) (va_runIN (As := []) (rest := [.ref (sz + 1), .int (0 : Int32), .ref sz, .ref sz, .ref q]) S (met_X3_init l hap (sz + 1) (sz + 2)) ⟨va_cnB 0 S.2.2.2.2 (lw_meth q110) rfl rfl rfl (hK.2.1 _ (List.mem_filter.mpr ⟨q108, rfl⟩)) (S.2.2.2.2 _ q58) yd_X3_init.2 ⟨Nat.le_of_ble_eq_true rfl, Nat.le_of_ble_eq_true rfl⟩, rfl, S.2.2.2.2 _ q109⟩ (cpreS hK hPc hDc hz (.ref (sz + 1) :: [])) rfl rfl hl.1 rfl (lv_room (Nat.le_of_ble_eq_true rfl)) dX2_init_15 ⟨Nat.le_of_ble_eq_true rfl, Nat.le_of_ble_eq_true rfl⟩) hP hD hS hA hz [2] [0, 1] rfl rfl (by decide) (by decide) (fun H locs hz hP hD hS => ?_)
  have hP : va_P D vwCl [(q, .inr (2, [.null, .int (0 : Int32), .int (0 : Int32), .int (0 : Int32), .null])), (sz, .inl (dA.1 3, 3, .inr (.inr (.inr (.inr (fun _ => none)))))), ((sz + 1), .inr (3, [.int (0 : Int32), .int (0 : Int32)]))] H := hP
  have hD : va_D A [(q, .inr (2, [.null, .int (0 : Int32), .int (0 : Int32), .int (0 : Int32), .null])), (sz, .inl (dA.1 3, 3, .inr (.inr (.inr (.inr (fun _ => none)))))), ((sz + 1), .inr (3, [.int (0 : Int32), .int (0 : Int32)]))] := hD
  have hz : H.size = (sz + 2) := hz
  refine laast (z := 0) (t := 3) S hK hP hD hS 1 2 rfl rfl rfl rfl (by decide) (by decide) dX2_init_18 (fun H locs hzz hP hD hS => ?_)
  have hP : va_P D vwCl [(q, .inr (2, [.null, .int (0 : Int32), .int (0 : Int32), .int (0 : Int32), .null])), (sz, .inl (dA.1 3, 3, .inr (.inr (.inr (.inr (va_up (fun _ => none) 0 (some (sz + 1)))))))), ((sz + 1), .inr (3, [.int (0 : Int32), .int (0 : Int32)]))] H := hP
  have hD : va_D A [(q, .inr (2, [.null, .int (0 : Int32), .int (0 : Int32), .int (0 : Int32), .null])), (sz, .inl (dA.1 3, 3, .inr (.inr (.inr (.inr (va_up (fun _ => none) 0 (some (sz + 1)))))))), ((sz + 1), .inr (3, [.int (0 : Int32), .int (0 : Int32)]))] := hD
  have hz : H.size = (sz + 2) := hzz.trans hz
  refine lv_dup hx hb dX2_init_19 rfl ?_
  refine lv_iconst (v := (1 : Int32)) hx hb dX2_init_20 (by decide) ?_
  refine hnew (ci := 3) (fs := [.int (0 : Int32), .int (0 : Int32)]) (z := (sz + 2)) S in_X3 tyX3 tyX3_ok q105 q107 q58 hK hP hD hS hA rfl (by decide +kernel) hz (Nat.le_of_ble_eq_true rfl) (Nat.le_of_ble_eq_true rfl) dX2_init_21 (fun H hz hP hD hS => ?_)
  have hP : va_P D vwCl [(q, .inr (2, [.null, .int (0 : Int32), .int (0 : Int32), .int (0 : Int32), .null])), (sz, .inl (dA.1 3, 3, .inr (.inr (.inr (.inr (va_up (fun _ => none) 0 (some (sz + 1)))))))), ((sz + 1), .inr (3, [.int (0 : Int32), .int (0 : Int32)])), ((sz + 2), .inr (3, [.int (0 : Int32), .int (0 : Int32)]))] H := hP
  have hD : va_D A [(q, .inr (2, [.null, .int (0 : Int32), .int (0 : Int32), .int (0 : Int32), .null])), (sz, .inl (dA.1 3, 3, .inr (.inr (.inr (.inr (va_up (fun _ => none) 0 (some (sz + 1)))))))), ((sz + 1), .inr (3, [.int (0 : Int32), .int (0 : Int32)])), ((sz + 2), .inr (3, [.int (0 : Int32), .int (0 : Int32)]))] := hD
  have hz : H.size = (sz + 3) := hz
  refine lv_dup hx hb dX2_init_24 rfl ?_
  have hPc := hP.sub (ws' := [((sz + 2), .inr (3, [.int (0 : Int32), .int (0 : Int32)]))]) [3] rfl
  have hDc := hD.sub (ws' := [((sz + 2), .inr (3, [.int (0 : Int32), .int (0 : Int32)]))]) [3] (by decide) rfl
  refine ck_v (wr := [(q, .inr (2, [.null, .int (0 : Int32), .int (0 : Int32), .int (0 : Int32), .null])), (sz, .inl (dA.1 3, 3, .inr (.inr (.inr (.inr (va_up (fun _ => none) 0 (some (sz + 1)))))))), ((sz + 1), .inr (3, [.int (0 : Int32), .int (0 : Int32)]))]) (w1 := [((sz + 2), .inr (3, [.int (0 : Int32), .int (0 : Int32)]))]) (va_runIN (As := []) (rest := [.ref (sz + 2), .int (1 : Int32), .ref sz, .ref sz, .ref q]) S (met_X3_init l hap (sz + 2) (sz + 3)) ⟨va_cnB 0 S.2.2.2.2 (lw_meth q110) rfl rfl rfl (hK.2.1 _ (List.mem_filter.mpr ⟨q108, rfl⟩)) (S.2.2.2.2 _ q58) yd_X3_init.2 ⟨Nat.le_of_ble_eq_true rfl, Nat.le_of_ble_eq_true rfl⟩, rfl, S.2.2.2.2 _ q109⟩ (cpreS hK hPc hDc hz (.ref (sz + 2) :: [])) rfl rfl hl.1 rfl (lv_room (Nat.le_of_ble_eq_true rfl)) dX2_init_25 ⟨Nat.le_of_ble_eq_true rfl, Nat.le_of_ble_eq_true rfl⟩) hP hD hS hA hz [3] [0, 1, 2] rfl rfl (by decide) (by decide) (fun H locs hz hP hD hS => ?_)
  have hP : va_P D vwCl [(q, .inr (2, [.null, .int (0 : Int32), .int (0 : Int32), .int (0 : Int32), .null])), (sz, .inl (dA.1 3, 3, .inr (.inr (.inr (.inr (va_up (fun _ => none) 0 (some (sz + 1)))))))), ((sz + 1), .inr (3, [.int (0 : Int32), .int (0 : Int32)])), ((sz + 2), .inr (3, [.int (0 : Int32), .int (0 : Int32)]))] H := hP
  have hD : va_D A [(q, .inr (2, [.null, .int (0 : Int32), .int (0 : Int32), .int (0 : Int32), .null])), (sz, .inl (dA.1 3, 3, .inr (.inr (.inr (.inr (va_up (fun _ => none) 0 (some (sz + 1)))))))), ((sz + 1), .inr (3, [.int (0 : Int32), .int (0 : Int32)])), ((sz + 2), .inr (3, [.int (0 : Int32), .int (0 : Int32)]))] := hD
  have hz : H.size = (sz + 3) := hz
  refine laast (z := 1) (t := 3) S hK hP hD hS 1 3 rfl rfl rfl rfl (by decide) (by decide) dX2_init_28 (fun H locs hzz hP hD hS => ?_)
  have hP : va_P D vwCl [(q, .inr (2, [.null, .int (0 : Int32), .int (0 : Int32), .int (0 : Int32), .null])), (sz, .inl (dA.1 3, 3, .inr (.inr (.inr (.inr (va_up (va_up (fun _ => none) 0 (some (sz + 1))) 1 (some (sz + 2)))))))), ((sz + 1), .inr (3, [.int (0 : Int32), .int (0 : Int32)])), ((sz + 2), .inr (3, [.int (0 : Int32), .int (0 : Int32)]))] H := hP
  have hD : va_D A [(q, .inr (2, [.null, .int (0 : Int32), .int (0 : Int32), .int (0 : Int32), .null])), (sz, .inl (dA.1 3, 3, .inr (.inr (.inr (.inr (va_up (va_up (fun _ => none) 0 (some (sz + 1))) 1 (some (sz + 2)))))))), ((sz + 1), .inr (3, [.int (0 : Int32), .int (0 : Int32)])), ((sz + 2), .inr (3, [.int (0 : Int32), .int (0 : Int32)]))] := hD
  have hz : H.size = (sz + 3) := hzz.trans hz
  refine lv_dup hx hb dX2_init_29 rfl ?_
  refine lv_iconst (v := (2 : Int32)) hx hb dX2_init_30 (by decide) ?_
  refine hnew (ci := 3) (fs := [.int (0 : Int32), .int (0 : Int32)]) (z := (sz + 3)) S in_X3 tyX3 tyX3_ok q105 q107 q58 hK hP hD hS hA rfl (by decide +kernel) hz (Nat.le_of_ble_eq_true rfl) (Nat.le_of_ble_eq_true rfl) dX2_init_31 (fun H hz hP hD hS => ?_)
  have hP : va_P D vwCl [(q, .inr (2, [.null, .int (0 : Int32), .int (0 : Int32), .int (0 : Int32), .null])), (sz, .inl (dA.1 3, 3, .inr (.inr (.inr (.inr (va_up (va_up (fun _ => none) 0 (some (sz + 1))) 1 (some (sz + 2)))))))), ((sz + 1), .inr (3, [.int (0 : Int32), .int (0 : Int32)])), ((sz + 2), .inr (3, [.int (0 : Int32), .int (0 : Int32)])), ((sz + 3), .inr (3, [.int (0 : Int32), .int (0 : Int32)]))] H := hP
  have hD : va_D A [(q, .inr (2, [.null, .int (0 : Int32), .int (0 : Int32), .int (0 : Int32), .null])), (sz, .inl (dA.1 3, 3, .inr (.inr (.inr (.inr (va_up (va_up (fun _ => none) 0 (some (sz + 1))) 1 (some (sz + 2)))))))), ((sz + 1), .inr (3, [.int (0 : Int32), .int (0 : Int32)])), ((sz + 2), .inr (3, [.int (0 : Int32), .int (0 : Int32)])), ((sz + 3), .inr (3, [.int (0 : Int32), .int (0 : Int32)]))] := hD
  have hz : H.size = (sz + 4) := hz
  refine lv_dup hx hb dX2_init_34 rfl ?_
  have hPc := hP.sub (ws' := [((sz + 3), .inr (3, [.int (0 : Int32), .int (0 : Int32)]))]) [4] rfl
  have hDc := hD.sub (ws' := [((sz + 3), .inr (3, [.int (0 : Int32), .int (0 : Int32)]))]) [4] (by decide) rfl
  refine ck_v (wr := [(q, .inr (2, [.null, .int (0 : Int32), .int (0 : Int32), .int (0 : Int32), .null])), (sz, .inl (dA.1 3, 3, .inr (.inr (.inr (.inr (va_up (va_up (fun _ => none) 0 (some (sz + 1))) 1 (some (sz + 2)))))))), ((sz + 1), .inr (3, [.int (0 : Int32), .int (0 : Int32)])), ((sz + 2), .inr (3, [.int (0 : Int32), .int (0 : Int32)]))]) (w1 := [((sz + 3), .inr (3, [.int (0 : Int32), .int (0 : Int32)]))]) (va_runIN (As := []) (rest := [.ref (sz + 3), .int (2 : Int32), .ref sz, .ref sz, .ref q]) S (met_X3_init l hap (sz + 3) (sz + 4)) ⟨va_cnB 0 S.2.2.2.2 (lw_meth q110) rfl rfl rfl (hK.2.1 _ (List.mem_filter.mpr ⟨q108, rfl⟩)) (S.2.2.2.2 _ q58) yd_X3_init.2 ⟨Nat.le_of_ble_eq_true rfl, Nat.le_of_ble_eq_true rfl⟩, rfl, S.2.2.2.2 _ q109⟩ (cpreS hK hPc hDc hz (.ref (sz + 3) :: [])) rfl rfl hl.1 rfl (lv_room (Nat.le_of_ble_eq_true rfl)) dX2_init_35 ⟨Nat.le_of_ble_eq_true rfl, Nat.le_of_ble_eq_true rfl⟩) hP hD hS hA hz [4] [0, 1, 2, 3] rfl rfl (by decide) (by decide) (fun H locs hz hP hD hS => ?_)
  have hP : va_P D vwCl [(q, .inr (2, [.null, .int (0 : Int32), .int (0 : Int32), .int (0 : Int32), .null])), (sz, .inl (dA.1 3, 3, .inr (.inr (.inr (.inr (va_up (va_up (fun _ => none) 0 (some (sz + 1))) 1 (some (sz + 2)))))))), ((sz + 1), .inr (3, [.int (0 : Int32), .int (0 : Int32)])), ((sz + 2), .inr (3, [.int (0 : Int32), .int (0 : Int32)])), ((sz + 3), .inr (3, [.int (0 : Int32), .int (0 : Int32)]))] H := hP
  have hD : va_D A [(q, .inr (2, [.null, .int (0 : Int32), .int (0 : Int32), .int (0 : Int32), .null])), (sz, .inl (dA.1 3, 3, .inr (.inr (.inr (.inr (va_up (va_up (fun _ => none) 0 (some (sz + 1))) 1 (some (sz + 2)))))))), ((sz + 1), .inr (3, [.int (0 : Int32), .int (0 : Int32)])), ((sz + 2), .inr (3, [.int (0 : Int32), .int (0 : Int32)])), ((sz + 3), .inr (3, [.int (0 : Int32), .int (0 : Int32)]))] := hD
  have hz : H.size = (sz + 4) := hz
  refine laast (z := 2) (t := 3) S hK hP hD hS 1 4 rfl rfl rfl rfl (by decide) (by decide) dX2_init_38 (fun H locs hzz hP hD hS => ?_)
  have hP : va_P D vwCl [(q, .inr (2, [.null, .int (0 : Int32), .int (0 : Int32), .int (0 : Int32), .null])), (sz, .inl (dA.1 3, 3, .inr (.inr (.inr (.inr (va_up (va_up (va_up (fun _ => none) 0 (some (sz + 1))) 1 (some (sz + 2))) 2 (some (sz + 3)))))))), ((sz + 1), .inr (3, [.int (0 : Int32), .int (0 : Int32)])), ((sz + 2), .inr (3, [.int (0 : Int32), .int (0 : Int32)])), ((sz + 3), .inr (3, [.int (0 : Int32), .int (0 : Int32)]))] H := hP
  have hD : va_D A [(q, .inr (2, [.null, .int (0 : Int32), .int (0 : Int32), .int (0 : Int32), .null])), (sz, .inl (dA.1 3, 3, .inr (.inr (.inr (.inr (va_up (va_up (va_up (fun _ => none) 0 (some (sz + 1))) 1 (some (sz + 2))) 2 (some (sz + 3)))))))), ((sz + 1), .inr (3, [.int (0 : Int32), .int (0 : Int32)])), ((sz + 2), .inr (3, [.int (0 : Int32), .int (0 : Int32)])), ((sz + 3), .inr (3, [.int (0 : Int32), .int (0 : Int32)]))] := hD
  have hz : H.size = (sz + 4) := hzz.trans hz
  refine cputF (ci := 2) (v := .ref sz) S in_X2 hap hK hP hD hS 0 rfl rfl 0 (by decide) q124 (fun _ h => h) rfl hmn rfl (tyX2_ok 0 (by decide)) rfl rfl (Nat.le_of_ble_eq_true rfl) dX2_init_39 (fun H locs hzz hP hD hS => ?_)
  have hP : va_P D vwCl [(q, .inr (2, [.ref sz, .int (0 : Int32), .int (0 : Int32), .int (0 : Int32), .null])), (sz, .inl (dA.1 3, 3, .inr (.inr (.inr (.inr (va_up (va_up (va_up (fun _ => none) 0 (some (sz + 1))) 1 (some (sz + 2))) 2 (some (sz + 3)))))))), ((sz + 1), .inr (3, [.int (0 : Int32), .int (0 : Int32)])), ((sz + 2), .inr (3, [.int (0 : Int32), .int (0 : Int32)])), ((sz + 3), .inr (3, [.int (0 : Int32), .int (0 : Int32)]))] H := hP
  have hD : va_D A [(q, .inr (2, [.ref sz, .int (0 : Int32), .int (0 : Int32), .int (0 : Int32), .null])), (sz, .inl (dA.1 3, 3, .inr (.inr (.inr (.inr (va_up (va_up (va_up (fun _ => none) 0 (some (sz + 1))) 1 (some (sz + 2))) 2 (some (sz + 3)))))))), ((sz + 1), .inr (3, [.int (0 : Int32), .int (0 : Int32)])), ((sz + 2), .inr (3, [.int (0 : Int32), .int (0 : Int32)])), ((sz + 3), .inr (3, [.int (0 : Int32), .int (0 : Int32)]))] := hD
  have hz : H.size = (sz + 4) := hzz.trans hz
  refine lv_aload_n hx hb dX2_init_42 rfl (lv_at hl 0 rfl) ?_
  refine lv_iconst (v := (3 : Int32)) hx hb dX2_init_43 (by decide) ?_
  refine hnewa (atype := .int) (t := 0) (z := (sz + 4)) (N := 3) (a0 := (3, .inl (fun _ => 0))) S q123 rfl rfl rfl hK hP hD hS hA (fun _ => rfl) (by decide) (by decide) (by decide) hz (Nat.le_of_ble_eq_true rfl) (Nat.le_of_ble_eq_true rfl) dX2_init_44 (fun H hz hP hD hS => ?_)
  have hP : va_P D vwCl [(q, .inr (2, [.ref sz, .int (0 : Int32), .int (0 : Int32), .int (0 : Int32), .null])), (sz, .inl (dA.1 3, 3, .inr (.inr (.inr (.inr (va_up (va_up (va_up (fun _ => none) 0 (some (sz + 1))) 1 (some (sz + 2))) 2 (some (sz + 3)))))))), ((sz + 1), .inr (3, [.int (0 : Int32), .int (0 : Int32)])), ((sz + 2), .inr (3, [.int (0 : Int32), .int (0 : Int32)])), ((sz + 3), .inr (3, [.int (0 : Int32), .int (0 : Int32)])), ((sz + 4), .inl (dA.1 0, 3, .inl (fun _ => 0)))] H := hP
  have hD : va_D A [(q, .inr (2, [.ref sz, .int (0 : Int32), .int (0 : Int32), .int (0 : Int32), .null])), (sz, .inl (dA.1 3, 3, .inr (.inr (.inr (.inr (va_up (va_up (va_up (fun _ => none) 0 (some (sz + 1))) 1 (some (sz + 2))) 2 (some (sz + 3)))))))), ((sz + 1), .inr (3, [.int (0 : Int32), .int (0 : Int32)])), ((sz + 2), .inr (3, [.int (0 : Int32), .int (0 : Int32)])), ((sz + 3), .inr (3, [.int (0 : Int32), .int (0 : Int32)])), ((sz + 4), .inl (dA.1 0, 3, .inl (fun _ => 0)))] := hD
  have hz : H.size = (sz + 5) := hz
  refine cputF (ci := 2) (v := .ref (sz + 4)) S in_X2 hap hK hP hD hS 0 rfl rfl 4 (by decide) q134 (fun _ h => h) rfl hmn rfl (tyX2_ok 4 (by decide)) rfl rfl (Nat.le_of_ble_eq_true rfl) dX2_init_46 (fun H locs hzz hP hD hS => ?_)
  have hP : va_P D vwCl [(q, .inr (2, [.ref sz, .int (0 : Int32), .int (0 : Int32), .int (0 : Int32), .ref (sz + 4)])), (sz, .inl (dA.1 3, 3, .inr (.inr (.inr (.inr (va_up (va_up (va_up (fun _ => none) 0 (some (sz + 1))) 1 (some (sz + 2))) 2 (some (sz + 3)))))))), ((sz + 1), .inr (3, [.int (0 : Int32), .int (0 : Int32)])), ((sz + 2), .inr (3, [.int (0 : Int32), .int (0 : Int32)])), ((sz + 3), .inr (3, [.int (0 : Int32), .int (0 : Int32)])), ((sz + 4), .inl (dA.1 0, 3, .inl (fun _ => 0)))] H := hP
  have hD : va_D A [(q, .inr (2, [.ref sz, .int (0 : Int32), .int (0 : Int32), .int (0 : Int32), .ref (sz + 4)])), (sz, .inl (dA.1 3, 3, .inr (.inr (.inr (.inr (va_up (va_up (va_up (fun _ => none) 0 (some (sz + 1))) 1 (some (sz + 2))) 2 (some (sz + 3)))))))), ((sz + 1), .inr (3, [.int (0 : Int32), .int (0 : Int32)])), ((sz + 2), .inr (3, [.int (0 : Int32), .int (0 : Int32)])), ((sz + 3), .inr (3, [.int (0 : Int32), .int (0 : Int32)])), ((sz + 4), .inl (dA.1 0, 3, .inl (fun _ => 0)))] := hD
  have hz : H.size = (sz + 5) := hzz.trans hz
  exact ce_v S hr hlk hP hD hS hz eA dX2_init_49
theorem yd_X5_init : yX5_init.cls = RX5 ∧ yX5_init.cls ≠ "java/lang/invoke/MethodHandle" ∧ yX5_init.cls ≠ "java/lang/invoke/VarHandle" ∧ (parseMethodDescriptor yX5_init.desc).map (fun d => d.parameters.length) = some 1 := by decide +kernel
set_option maxHeartbeats 8000000 in
theorem met_X5_init (l : Launch) {D : va_G} {dA : WK} (hap : slAp D) (q sz : Nat) (h0 : Nat) : Mc l yX5_init cX5_init 2 1 12 0 0 D dA sz [(q, .inr (5, [.null]))] [(q, .inr (5, [.ref h0]))] [.ref q, .ref h0] := by
  refine cst (by decide) (Nat.le_of_ble_eq_true rfl) ?_
  intro p e s m below meth c A S hr hlk hmn hK hsz hP hD hA eA ls hl
  have hmn : meth.name = "<init>" := hmn
  have hl : lv_has ls 2 [(0, .ref q), (1, .ref h0)] := hl
  have hx := S.1
  have hb := S.2.1
  generalize ([.ref q, .ref h0] : List Value).toArray = av at S ⊢
  have hA : ∀ q, s.heap.size ≤ q → A q := by rw [hsz]; exact hA
  have hS : va_S A s.heap s.heap [] := va_S.rf
  obtain ⟨H, eH⟩ : ∃ z, z = s.heap := ⟨_, rfl⟩
  have hz : H.size = sz := by rw [eH]; exact hsz
  have hP : va_P D vwCl [(q, .inr (5, [.null]))] H := by rw [eH]; exact hP
  have hS : va_S A s.heap H [] := by rw [eH]; exact hS
  show W p l e (rmC 1 12 0 0) s m av below meth c s.heap [] 0 0 _ (F0 m 0 ls [])
  rw [show W p l e (rmC 1 12 0 0) s m av below meth c s.heap [] 0 0 = W p l e (rmC 1 12 0 0) s m av below meth c H [] 0 0 by rw [eH]]
  clear eH
  refine lv_aload_n hx hb dX5_init_0 rfl (lv_at hl 0 rfl) ?_
  refine lv_aload_n hx hb dX5_init_1 rfl (lv_at hl 1 rfl) ?_
  refine cputF (ci := 5) (v := .ref h0) S in_X5 hap hK hP hD hS 0 rfl rfl 0 (by decide) q210 (fun _ h => h) rfl hmn rfl (tyX5_ok 0 (by decide)) rfl rfl (Nat.le_of_ble_eq_true rfl) dX5_init_2 (fun H locs hzz hP hD hS => ?_)
  have hP : va_P D vwCl [(q, .inr (5, [.ref h0]))] H := hP
  have hD : va_D A [(q, .inr (5, [.ref h0]))] := hD
  have hz : H.size = sz := hzz.trans hz
  refine lv_aload_n hx hb dX5_init_5 rfl (lv_at hl 0 rfl) ?_
  refine W.objInit hx hb S.2.2.2.1 (S.2.2.2.2 _ q209) (S.2.2.2.2 _ q86) (S.2.2.2.2 _ q87) rfl (by rw [S.2.2.1]; exact hl.1) rfl dX5_init_6 (Nat.le_of_ble_eq_true rfl) (Nat.le_of_ble_eq_true rfl) ?_
  refine W.eq (g2 := F0 m 9 ls []) rfl ?_
  exact ce_v S hr hlk hP hD hS hz eA dX5_init_9
set_option maxHeartbeats 8000000 in
theorem met_X5_init_6 (l : Launch) {D : va_G} {dA : WK} (hap : slAp D) (q sz : Nat) (g0 g1 g2 g3 g4 : Value) (h0 : Nat) : Mc l yX5_init cX5_init 2 1 12 0 0 D dA sz [(q, .inr (6, [g0, g1, g2, g3, g4]))] [(q, .inr (6, [.ref h0, g1, g2, g3, g4]))] [.ref q, .ref h0] := by
  refine cst (by decide) (Nat.le_of_ble_eq_true rfl) ?_
  intro p e s m below meth c A S hr hlk hmn hK hsz hP hD hA eA ls hl
  have hmn : meth.name = "<init>" := hmn
  have hl : lv_has ls 2 [(0, .ref q), (1, .ref h0)] := hl
  have hx := S.1
  have hb := S.2.1
  generalize ([.ref q, .ref h0] : List Value).toArray = av at S ⊢
  have hA : ∀ q, s.heap.size ≤ q → A q := by rw [hsz]; exact hA
  have hS : va_S A s.heap s.heap [] := va_S.rf
  obtain ⟨H, eH⟩ : ∃ z, z = s.heap := ⟨_, rfl⟩
  have hz : H.size = sz := by rw [eH]; exact hsz
  have hP : va_P D vwCl [(q, .inr (6, [g0, g1, g2, g3, g4]))] H := by rw [eH]; exact hP
  have hS : va_S A s.heap H [] := by rw [eH]; exact hS
  show W p l e (rmC 1 12 0 0) s m av below meth c s.heap [] 0 0 _ (F0 m 0 ls [])
  rw [show W p l e (rmC 1 12 0 0) s m av below meth c s.heap [] 0 0 = W p l e (rmC 1 12 0 0) s m av below meth c H [] 0 0 by rw [eH]]
  clear eH
  refine lv_aload_n hx hb dX5_init_0 rfl (lv_at hl 0 rfl) ?_
  refine lv_aload_n hx hb dX5_init_1 rfl (lv_at hl 1 rfl) ?_
  refine cputF (ci := 6) (v := .ref h0) S in_X6 hap hK hP hD hS 0 rfl rfl 0 (by decide) q210 (fun _ h => h) rfl hmn rfl (tyX6_ok 0 (by decide)) rfl rfl (Nat.le_of_ble_eq_true rfl) dX5_init_2 (fun H locs hzz hP hD hS => ?_)
  have hP : va_P D vwCl [(q, .inr (6, [.ref h0, g1, g2, g3, g4]))] H := hP
  have hD : va_D A [(q, .inr (6, [.ref h0, g1, g2, g3, g4]))] := hD
  have hz : H.size = sz := hzz.trans hz
  refine lv_aload_n hx hb dX5_init_5 rfl (lv_at hl 0 rfl) ?_
  refine W.objInit hx hb S.2.2.2.1 (S.2.2.2.2 _ q209) (S.2.2.2.2 _ q86) (S.2.2.2.2 _ q87) rfl (by rw [S.2.2.1]; exact hl.1) rfl dX5_init_6 (Nat.le_of_ble_eq_true rfl) (Nat.le_of_ble_eq_true rfl) ?_
  refine W.eq (g2 := F0 m 9 ls []) rfl ?_
  exact ce_v S hr hlk hP hD hS hz eA dX5_init_9
theorem yd_X6_init : yX6_init.cls = RX6 ∧ yX6_init.cls ≠ "java/lang/invoke/MethodHandle" ∧ yX6_init.cls ≠ "java/lang/invoke/VarHandle" ∧ (parseMethodDescriptor yX6_init.desc).map (fun d => d.parameters.length) = some 1 := by decide +kernel
set_option maxHeartbeats 8000000 in
theorem met_X6_init (l : Launch) {D : va_G} {dA : WK} (hap : slAp D) (q sz : Nat) (h0 : Nat) : Mc l yX6_init cX6_init 2 2 33 0 0 D dA sz [(q, .inr (6, [.null, .int (0 : Int32), .int (0 : Int32), .int (0 : Int32), .null]))] [(q, .inr (6, [.ref h0, (.int (0 : Int32)), (.int (0 : Int32)), (.int (0 : Int32)), (.ref h0)]))] [.ref q, .ref h0] := by
  refine cst (by decide) (Nat.le_of_ble_eq_true rfl) ?_
  intro p e s m below meth c A S hr hlk hmn hK hsz hP hD hA eA ls hl
  have hmn : meth.name = "<init>" := hmn
  have hl : lv_has ls 2 [(0, .ref q), (1, .ref h0)] := hl
  have hx := S.1
  have hb := S.2.1
  generalize ([.ref q, .ref h0] : List Value).toArray = av at S ⊢
  have hA : ∀ q, s.heap.size ≤ q → A q := by rw [hsz]; exact hA
  have hS : va_S A s.heap s.heap [] := va_S.rf
  obtain ⟨H, eH⟩ : ∃ z, z = s.heap := ⟨_, rfl⟩
  have hz : H.size = sz := by rw [eH]; exact hsz
  have hP : va_P D vwCl [(q, .inr (6, [.null, .int (0 : Int32), .int (0 : Int32), .int (0 : Int32), .null]))] H := by rw [eH]; exact hP
  have hS : va_S A s.heap H [] := by rw [eH]; exact hS
  show W p l e (rmC 2 33 0 0) s m av below meth c s.heap [] 0 0 _ (F0 m 0 ls [])
  rw [show W p l e (rmC 2 33 0 0) s m av below meth c s.heap [] 0 0 = W p l e (rmC 2 33 0 0) s m av below meth c H [] 0 0 by rw [eH]]
  clear eH
  refine lv_aload_n hx hb dX6_init_0 rfl (lv_at hl 0 rfl) ?_
  refine lv_aload_n hx hb dX6_init_1 rfl (lv_at hl 1 rfl) ?_
  refine cputF (ci := 6) (v := .ref h0) S in_X6 hap hK hP hD hS 0 rfl rfl 4 (by decide) q223 (fun _ h => h) rfl hmn rfl (tyX6_ok 4 (by decide)) rfl rfl (Nat.le_of_ble_eq_true rfl) dX6_init_2 (fun H locs hzz hP hD hS => ?_)
  have hP : va_P D vwCl [(q, .inr (6, [.null, .int (0 : Int32), .int (0 : Int32), .int (0 : Int32), .ref h0]))] H := hP
  have hD : va_D A [(q, .inr (6, [.null, .int (0 : Int32), .int (0 : Int32), .int (0 : Int32), .ref h0]))] := hD
  have hz : H.size = sz := hzz.trans hz
  refine lv_aload_n hx hb dX6_init_5 rfl (lv_at hl 0 rfl) ?_
  refine lv_aload_n hx hb dX6_init_6 rfl (lv_at hl 1 rfl) ?_
  have hPc := hP.sub (ws' := [(q, .inr (6, [.null, .int (0 : Int32), .int (0 : Int32), .int (0 : Int32), .ref h0]))]) [0] rfl
  have hDc := hD.sub (ws' := [(q, .inr (6, [.null, .int (0 : Int32), .int (0 : Int32), .int (0 : Int32), .ref h0]))]) [0] (by decide) rfl
  refine ck_v (wr := []) (w1 := [(q, .inr (6, [.ref h0, (.int (0 : Int32)), (.int (0 : Int32)), (.int (0 : Int32)), (.ref h0)]))]) (va_runIN (As := [.ref h0]) (rest := []) S (met_X5_init_6 l hap q sz .null (.int (0 : Int32)) (.int (0 : Int32)) (.int (0 : Int32)) (.ref h0) h0) ⟨va_cnB 1 S.2.2.2.2 (lw_meth q208) rfl rfl rfl (hK.2.1 _ (List.mem_filter.mpr ⟨q219, rfl⟩)) (S.2.2.2.2 _ q60) yd_X5_init.2 ⟨Nat.le_of_ble_eq_true rfl, Nat.le_of_ble_eq_true rfl⟩, rfl, S.2.2.2.2 _ q207⟩ (cpreS hK hPc hDc hz (.ref q :: [.ref h0])) rfl rfl hl.1 rfl (lv_room (Nat.le_of_ble_eq_true rfl)) dX6_init_7 ⟨Nat.le_of_ble_eq_true rfl, Nat.le_of_ble_eq_true rfl⟩) hP hD hS hA hz [0] [] rfl rfl (by decide) (by decide) (fun H locs hz hP hD hS => ?_)
  have hP : va_P D vwCl [(q, .inr (6, [.ref h0, (.int (0 : Int32)), (.int (0 : Int32)), (.int (0 : Int32)), (.ref h0)]))] H := hP
  have hD : va_D A [(q, .inr (6, [.ref h0, (.int (0 : Int32)), (.int (0 : Int32)), (.int (0 : Int32)), (.ref h0)]))] := hD
  have hz : H.size = sz := hz
  exact ce_v S hr hlk hP hD hS hz eA dX6_init_10
set_option maxHeartbeats 8000000 in
theorem met_X5_init_7 (l : Launch) {D : va_G} {dA : WK} (hap : slAp D) (q sz : Nat) (g0 g1 g2 g3 g4 : Value) (h0 : Nat) : Mc l yX5_init cX5_init 2 1 12 0 0 D dA sz [(q, .inr (7, [g0, g1, g2, g3, g4]))] [(q, .inr (7, [.ref h0, g1, g2, g3, g4]))] [.ref q, .ref h0] := by
  refine cst (by decide) (Nat.le_of_ble_eq_true rfl) ?_
  intro p e s m below meth c A S hr hlk hmn hK hsz hP hD hA eA ls hl
  have hmn : meth.name = "<init>" := hmn
  have hl : lv_has ls 2 [(0, .ref q), (1, .ref h0)] := hl
  have hx := S.1
  have hb := S.2.1
  generalize ([.ref q, .ref h0] : List Value).toArray = av at S ⊢
  have hA : ∀ q, s.heap.size ≤ q → A q := by rw [hsz]; exact hA
  have hS : va_S A s.heap s.heap [] := va_S.rf
  obtain ⟨H, eH⟩ : ∃ z, z = s.heap := ⟨_, rfl⟩
  have hz : H.size = sz := by rw [eH]; exact hsz
  have hP : va_P D vwCl [(q, .inr (7, [g0, g1, g2, g3, g4]))] H := by rw [eH]; exact hP
  have hS : va_S A s.heap H [] := by rw [eH]; exact hS
  show W p l e (rmC 1 12 0 0) s m av below meth c s.heap [] 0 0 _ (F0 m 0 ls [])
  rw [show W p l e (rmC 1 12 0 0) s m av below meth c s.heap [] 0 0 = W p l e (rmC 1 12 0 0) s m av below meth c H [] 0 0 by rw [eH]]
  clear eH
  refine lv_aload_n hx hb dX5_init_0 rfl (lv_at hl 0 rfl) ?_
  refine lv_aload_n hx hb dX5_init_1 rfl (lv_at hl 1 rfl) ?_
  refine cputF (ci := 7) (v := .ref h0) S in_X7 hap hK hP hD hS 0 rfl rfl 0 (by decide) q210 (fun _ h => h) rfl hmn rfl (tyX7_ok 0 (by decide)) rfl rfl (Nat.le_of_ble_eq_true rfl) dX5_init_2 (fun H locs hzz hP hD hS => ?_)
  have hP : va_P D vwCl [(q, .inr (7, [.ref h0, g1, g2, g3, g4]))] H := hP
  have hD : va_D A [(q, .inr (7, [.ref h0, g1, g2, g3, g4]))] := hD
  have hz : H.size = sz := hzz.trans hz
  refine lv_aload_n hx hb dX5_init_5 rfl (lv_at hl 0 rfl) ?_
  refine W.objInit hx hb S.2.2.2.1 (S.2.2.2.2 _ q209) (S.2.2.2.2 _ q86) (S.2.2.2.2 _ q87) rfl (by rw [S.2.2.1]; exact hl.1) rfl dX5_init_6 (Nat.le_of_ble_eq_true rfl) (Nat.le_of_ble_eq_true rfl) ?_
  refine W.eq (g2 := F0 m 9 ls []) rfl ?_
  exact ce_v S hr hlk hP hD hS hz eA dX5_init_9
theorem yd_X7_init : yX7_init.cls = RX7 ∧ yX7_init.cls ≠ "java/lang/invoke/MethodHandle" ∧ yX7_init.cls ≠ "java/lang/invoke/VarHandle" ∧ (parseMethodDescriptor yX7_init.desc).map (fun d => d.parameters.length) = some 1 := by decide +kernel
set_option maxHeartbeats 8000000 in
theorem met_X7_init (l : Launch) {D : va_G} {dA : WK} (hap : slAp D) (q sz : Nat) (h0 : Nat) : Mc l yX7_init cX7_init 2 2 33 0 0 D dA sz [(q, .inr (7, [.null, .int (0 : Int32), .int (0 : Int32), .int (0 : Int32), .null]))] [(q, .inr (7, [.ref h0, (.int (0 : Int32)), (.int (0 : Int32)), (.int (0 : Int32)), (.ref h0)]))] [.ref q, .ref h0] := by
  refine cst (by decide) (Nat.le_of_ble_eq_true rfl) ?_
  intro p e s m below meth c A S hr hlk hmn hK hsz hP hD hA eA ls hl
  have hmn : meth.name = "<init>" := hmn
  have hl : lv_has ls 2 [(0, .ref q), (1, .ref h0)] := hl
  have hx := S.1
  have hb := S.2.1
  generalize ([.ref q, .ref h0] : List Value).toArray = av at S ⊢
  have hA : ∀ q, s.heap.size ≤ q → A q := by rw [hsz]; exact hA
  have hS : va_S A s.heap s.heap [] := va_S.rf
  obtain ⟨H, eH⟩ : ∃ z, z = s.heap := ⟨_, rfl⟩
  have hz : H.size = sz := by rw [eH]; exact hsz
  have hP : va_P D vwCl [(q, .inr (7, [.null, .int (0 : Int32), .int (0 : Int32), .int (0 : Int32), .null]))] H := by rw [eH]; exact hP
  have hS : va_S A s.heap H [] := by rw [eH]; exact hS
  show W p l e (rmC 2 33 0 0) s m av below meth c s.heap [] 0 0 _ (F0 m 0 ls [])
  rw [show W p l e (rmC 2 33 0 0) s m av below meth c s.heap [] 0 0 = W p l e (rmC 2 33 0 0) s m av below meth c H [] 0 0 by rw [eH]]
  clear eH
  refine lv_aload_n hx hb dX7_init_0 rfl (lv_at hl 0 rfl) ?_
  refine lv_aload_n hx hb dX7_init_1 rfl (lv_at hl 1 rfl) ?_
  refine cputF (ci := 7) (v := .ref h0) S in_X7 hap hK hP hD hS 0 rfl rfl 4 (by decide) q246 (fun _ h => h) rfl hmn rfl (tyX7_ok 4 (by decide)) rfl rfl (Nat.le_of_ble_eq_true rfl) dX7_init_2 (fun H locs hzz hP hD hS => ?_)
  have hP : va_P D vwCl [(q, .inr (7, [.null, .int (0 : Int32), .int (0 : Int32), .int (0 : Int32), .ref h0]))] H := hP
  have hD : va_D A [(q, .inr (7, [.null, .int (0 : Int32), .int (0 : Int32), .int (0 : Int32), .ref h0]))] := hD
  have hz : H.size = sz := hzz.trans hz
  refine lv_aload_n hx hb dX7_init_5 rfl (lv_at hl 0 rfl) ?_
  refine lv_aload_n hx hb dX7_init_6 rfl (lv_at hl 1 rfl) ?_
  have hPc := hP.sub (ws' := [(q, .inr (7, [.null, .int (0 : Int32), .int (0 : Int32), .int (0 : Int32), .ref h0]))]) [0] rfl
  have hDc := hD.sub (ws' := [(q, .inr (7, [.null, .int (0 : Int32), .int (0 : Int32), .int (0 : Int32), .ref h0]))]) [0] (by decide) rfl
  refine ck_v (wr := []) (w1 := [(q, .inr (7, [.ref h0, (.int (0 : Int32)), (.int (0 : Int32)), (.int (0 : Int32)), (.ref h0)]))]) (va_runIN (As := [.ref h0]) (rest := []) S (met_X5_init_7 l hap q sz .null (.int (0 : Int32)) (.int (0 : Int32)) (.int (0 : Int32)) (.ref h0) h0) ⟨va_cnB 1 S.2.2.2.2 (lw_meth q208) rfl rfl rfl (hK.2.1 _ (List.mem_filter.mpr ⟨q239, rfl⟩)) (S.2.2.2.2 _ q60) yd_X5_init.2 ⟨Nat.le_of_ble_eq_true rfl, Nat.le_of_ble_eq_true rfl⟩, rfl, S.2.2.2.2 _ q207⟩ (cpreS hK hPc hDc hz (.ref q :: [.ref h0])) rfl rfl hl.1 rfl (lv_room (Nat.le_of_ble_eq_true rfl)) dX7_init_7 ⟨Nat.le_of_ble_eq_true rfl, Nat.le_of_ble_eq_true rfl⟩) hP hD hS hA hz [0] [] rfl rfl (by decide) (by decide) (fun H locs hz hP hD hS => ?_)
  have hP : va_P D vwCl [(q, .inr (7, [.ref h0, (.int (0 : Int32)), (.int (0 : Int32)), (.int (0 : Int32)), (.ref h0)]))] H := hP
  have hD : va_D A [(q, .inr (7, [.ref h0, (.int (0 : Int32)), (.int (0 : Int32)), (.int (0 : Int32)), (.ref h0)]))] := hD
  have hz : H.size = sz := hz
  exact ce_v S hr hlk hP hD hS hz eA dX7_init_10
theorem yd_X4_init : yX4_init.cls = RX4 ∧ yX4_init.cls ≠ "java/lang/invoke/MethodHandle" ∧ yX4_init.cls ≠ "java/lang/invoke/VarHandle" ∧ (parseMethodDescriptor yX4_init.desc).map (fun d => d.parameters.length) = some 1 := by decide +kernel
set_option maxHeartbeats 8000000 in
theorem met_X4_init (l : Launch) {D : va_G} {dA : WK} (hap : slAp D) (q sz : Nat) (h0 : Nat) : Mc l yX4_init cX4_init 2 1 12 1 10 D dA sz [(q, .inr (4, [.null, .int (0 : Int32), .int (0 : Int32), .int (0 : Int32), .int (0 : Int32), .int (0 : Int32), .int (0 : Int32), .null]))] [(q, .inr (4, [.ref sz, .int (0 : Int32), .int (0 : Int32), .int (0 : Int32), .int (0 : Int32), .int (0 : Int32), .int (0 : Int32), .ref h0])), (sz, .inl (dA.1 8, 10, .inr (.inr (.inr (.inr (fun _ => none))))))] [.ref q, .ref h0] := by
  refine cst (by decide) (Nat.le_of_ble_eq_true rfl) ?_
  intro p e s m below meth c A S hr hlk hmn hK hsz hP hD hA eA ls hl
  have hmn : meth.name = "<init>" := hmn
  have hl : lv_has ls 2 [(0, .ref q), (1, .ref h0)] := hl
  have hx := S.1
  have hb := S.2.1
  generalize ([.ref q, .ref h0] : List Value).toArray = av at S ⊢
  have hA : ∀ q, s.heap.size ≤ q → A q := by rw [hsz]; exact hA
  have hS : va_S A s.heap s.heap [] := va_S.rf
  obtain ⟨H, eH⟩ : ∃ z, z = s.heap := ⟨_, rfl⟩
  have hz : H.size = sz := by rw [eH]; exact hsz
  have hP : va_P D vwCl [(q, .inr (4, [.null, .int (0 : Int32), .int (0 : Int32), .int (0 : Int32), .int (0 : Int32), .int (0 : Int32), .int (0 : Int32), .null]))] H := by rw [eH]; exact hP
  have hS : va_S A s.heap H [] := by rw [eH]; exact hS
  show W p l e (rmC 1 12 1 10) s m av below meth c s.heap [] 0 0 _ (F0 m 0 ls [])
  rw [show W p l e (rmC 1 12 1 10) s m av below meth c s.heap [] 0 0 = W p l e (rmC 1 12 1 10) s m av below meth c H [] 0 0 by rw [eH]]
  clear eH
  refine lv_aload_n hx hb dX4_init_0 rfl (lv_at hl 0 rfl) ?_
  refine lv_aload_n hx hb dX4_init_1 rfl (lv_at hl 1 rfl) ?_
  refine cputF (ci := 4) (v := .ref h0) S in_X4 hap hK hP hD hS 0 rfl rfl 7 (by decide) q185 (fun _ h => h) rfl hmn rfl (tyX4_ok 7 (by decide)) rfl rfl (Nat.le_of_ble_eq_true rfl) dX4_init_2 (fun H locs hzz hP hD hS => ?_)
  have hP : va_P D vwCl [(q, .inr (4, [.null, .int (0 : Int32), .int (0 : Int32), .int (0 : Int32), .int (0 : Int32), .int (0 : Int32), .int (0 : Int32), .ref h0]))] H := hP
  have hD : va_D A [(q, .inr (4, [.null, .int (0 : Int32), .int (0 : Int32), .int (0 : Int32), .int (0 : Int32), .int (0 : Int32), .int (0 : Int32), .ref h0]))] := hD
  have hz : H.size = sz := hzz.trans hz
  refine lv_aload_n hx hb dX4_init_5 rfl (lv_at hl 0 rfl) ?_
  refine W.objInit hx hb S.2.2.2.1 (S.2.2.2.2 _ q173) (S.2.2.2.2 _ q86) (S.2.2.2.2 _ q87) rfl (by rw [S.2.2.1]; exact hl.1) rfl dX4_init_6 (Nat.le_of_ble_eq_true rfl) (Nat.le_of_ble_eq_true rfl) ?_
  refine W.eq (g2 := F0 m 9 ls []) rfl ?_
  refine lv_aload_n hx hb dX4_init_9 rfl (lv_at hl 0 rfl) ?_
  refine lv_bipush (v := (10 : Int32)) hx hb dX4_init_10 (by decide) ?_
  refine hnewq (t := 8) (z := sz) (N := 10) S q174 hK.2.2.2.2.1 rfl hK hP hD hS hA (by decide) (by decide) (by decide) hz (Nat.le_of_ble_eq_true rfl) (Nat.le_of_ble_eq_true rfl) dX4_init_12 (fun H hz hP hD hS => ?_)
  have hP : va_P D vwCl [(q, .inr (4, [.null, .int (0 : Int32), .int (0 : Int32), .int (0 : Int32), .int (0 : Int32), .int (0 : Int32), .int (0 : Int32), .ref h0])), (sz, .inl (dA.1 8, 10, .inr (.inr (.inr (.inr (fun _ => none))))))] H := hP
  have hD : va_D A [(q, .inr (4, [.null, .int (0 : Int32), .int (0 : Int32), .int (0 : Int32), .int (0 : Int32), .int (0 : Int32), .int (0 : Int32), .ref h0])), (sz, .inl (dA.1 8, 10, .inr (.inr (.inr (.inr (fun _ => none))))))] := hD
  have hz : H.size = (sz + 1) := hz
  refine cputF (ci := 4) (v := .ref sz) S in_X4 hap hK hP hD hS 0 rfl rfl 0 (by decide) q176 (fun _ h => h) rfl hmn rfl (tyX4_ok 0 (by decide)) rfl rfl (Nat.le_of_ble_eq_true rfl) dX4_init_15 (fun H locs hzz hP hD hS => ?_)
  have hP : va_P D vwCl [(q, .inr (4, [.ref sz, .int (0 : Int32), .int (0 : Int32), .int (0 : Int32), .int (0 : Int32), .int (0 : Int32), .int (0 : Int32), .ref h0])), (sz, .inl (dA.1 8, 10, .inr (.inr (.inr (.inr (fun _ => none))))))] H := hP
  have hD : va_D A [(q, .inr (4, [.ref sz, .int (0 : Int32), .int (0 : Int32), .int (0 : Int32), .int (0 : Int32), .int (0 : Int32), .int (0 : Int32), .ref h0])), (sz, .inl (dA.1 8, 10, .inr (.inr (.inr (.inr (fun _ => none))))))] := hD
  have hz : H.size = (sz + 1) := hzz.trans hz
  exact ce_v S hr hlk hP hD hS hz eA dX4_init_18
theorem yd_X10_init : yX10_init.cls = RX10 ∧ yX10_init.cls ≠ "java/lang/invoke/MethodHandle" ∧ yX10_init.cls ≠ "java/lang/invoke/VarHandle" ∧ (parseMethodDescriptor yX10_init.desc).map (fun d => d.parameters.length) = some 2 := by decide +kernel
set_option maxHeartbeats 8000000 in
theorem met_X10_init_11 (l : Launch) {D : va_G} {dA : WK} (hap : slAp D) (q sz : Nat) (g0 g1 g2 : Value) (h0 : Nat) (t0 : Nat) : Mc l yX10_init cX10_init 3 1 12 0 0 D dA sz [(q, .inr (11, [g0, g1, g2]))] [(q, .inr (11, [.ref t0, .ref h0, g2]))] [.ref q, .ref h0, .ref t0] := by
  refine cst (by decide) (Nat.le_of_ble_eq_true rfl) ?_
  intro p e s m below meth c A S hr hlk hmn hK hsz hP hD hA eA ls hl
  have hmn : meth.name = "<init>" := hmn
  have hl : lv_has ls 3 [(0, .ref q), (1, .ref h0), (2, .ref t0)] := hl
  have hx := S.1
  have hb := S.2.1
  generalize ([.ref q, .ref h0, .ref t0] : List Value).toArray = av at S ⊢
  have hA : ∀ q, s.heap.size ≤ q → A q := by rw [hsz]; exact hA
  have hS : va_S A s.heap s.heap [] := va_S.rf
  obtain ⟨H, eH⟩ : ∃ z, z = s.heap := ⟨_, rfl⟩
  have hz : H.size = sz := by rw [eH]; exact hsz
  have hP : va_P D vwCl [(q, .inr (11, [g0, g1, g2]))] H := by rw [eH]; exact hP
  have hS : va_S A s.heap H [] := by rw [eH]; exact hS
  show W p l e (rmC 1 12 0 0) s m av below meth c s.heap [] 0 0 _ (F0 m 0 ls [])
  rw [show W p l e (rmC 1 12 0 0) s m av below meth c s.heap [] 0 0 = W p l e (rmC 1 12 0 0) s m av below meth c H [] 0 0 by rw [eH]]
  clear eH
  refine lv_aload_n hx hb dX10_init_0 rfl (lv_at hl 0 rfl) ?_
  refine lv_aload_n hx hb dX10_init_1 rfl (lv_at hl 1 rfl) ?_
  refine cputF (ci := 11) (v := .ref h0) S in_X11 hap hK hP hD hS 0 rfl rfl 1 (by decide) q572 (fun _ h => h) rfl hmn rfl (tyX11_ok 1 (by decide)) rfl rfl (Nat.le_of_ble_eq_true rfl) dX10_init_2 (fun H locs hzz hP hD hS => ?_)
  have hP : va_P D vwCl [(q, .inr (11, [g0, .ref h0, g2]))] H := hP
  have hD : va_D A [(q, .inr (11, [g0, .ref h0, g2]))] := hD
  have hz : H.size = sz := hzz.trans hz
  refine lv_aload_n hx hb dX10_init_5 rfl (lv_at hl 0 rfl) ?_
  refine W.objInit hx hb S.2.2.2.1 (S.2.2.2.2 _ q559) (S.2.2.2.2 _ q86) (S.2.2.2.2 _ q87) rfl (by rw [S.2.2.1]; exact hl.1) rfl dX10_init_6 (Nat.le_of_ble_eq_true rfl) (Nat.le_of_ble_eq_true rfl) ?_
  refine W.eq (g2 := F0 m 9 ls []) rfl ?_
  refine lv_aload_n hx hb dX10_init_9 rfl (lv_at hl 0 rfl) ?_
  refine lv_aload_n hx hb dX10_init_10 rfl (lv_at hl 2 rfl) ?_
  refine cputF (ci := 11) (v := .ref t0) S in_X11 hap hK hP hD hS 0 rfl rfl 0 (by decide) q561 (fun _ h => h) rfl hmn rfl (tyX11_ok 0 (by decide)) rfl rfl (Nat.le_of_ble_eq_true rfl) dX10_init_11 (fun H locs hzz hP hD hS => ?_)
  have hP : va_P D vwCl [(q, .inr (11, [.ref t0, .ref h0, g2]))] H := hP
  have hD : va_D A [(q, .inr (11, [.ref t0, .ref h0, g2]))] := hD
  have hz : H.size = sz := hzz.trans hz
  exact ce_v S hr hlk hP hD hS hz eA dX10_init_14
theorem yd_X11_init : yX11_init.cls = RX11 ∧ yX11_init.cls ≠ "java/lang/invoke/MethodHandle" ∧ yX11_init.cls ≠ "java/lang/invoke/VarHandle" ∧ (parseMethodDescriptor yX11_init.desc).map (fun d => d.parameters.length) = some 2 := by decide +kernel
set_option maxHeartbeats 8000000 in
theorem met_X11_init (l : Launch) {D : va_G} {dA : WK} (hap : slAp D) (q sz : Nat) (h0 : Nat) (t0 : Nat) : Mc l yX11_init cX11_init 3 2 34 0 0 D dA sz [(q, .inr (11, [.null, .null, .null]))] [(q, .inr (11, [.ref t0, .ref h0, (.ref h0)]))] [.ref q, .ref h0, .ref t0] := by
  refine cst (by decide) (Nat.le_of_ble_eq_true rfl) ?_
  intro p e s m below meth c A S hr hlk hmn hK hsz hP hD hA eA ls hl
  have hmn : meth.name = "<init>" := hmn
  have hl : lv_has ls 3 [(0, .ref q), (1, .ref h0), (2, .ref t0)] := hl
  have hx := S.1
  have hb := S.2.1
  generalize ([.ref q, .ref h0, .ref t0] : List Value).toArray = av at S ⊢
  have hA : ∀ q, s.heap.size ≤ q → A q := by rw [hsz]; exact hA
  have hS : va_S A s.heap s.heap [] := va_S.rf
  obtain ⟨H, eH⟩ : ∃ z, z = s.heap := ⟨_, rfl⟩
  have hz : H.size = sz := by rw [eH]; exact hsz
  have hP : va_P D vwCl [(q, .inr (11, [.null, .null, .null]))] H := by rw [eH]; exact hP
  have hS : va_S A s.heap H [] := by rw [eH]; exact hS
  show W p l e (rmC 2 34 0 0) s m av below meth c s.heap [] 0 0 _ (F0 m 0 ls [])
  rw [show W p l e (rmC 2 34 0 0) s m av below meth c s.heap [] 0 0 = W p l e (rmC 2 34 0 0) s m av below meth c H [] 0 0 by rw [eH]]
  clear eH
  refine lv_aload_n hx hb dX11_init_0 rfl (lv_at hl 0 rfl) ?_
  refine lv_aload_n hx hb dX11_init_1 rfl (lv_at hl 1 rfl) ?_
  refine cputF (ci := 11) (v := .ref h0) S in_X11 hap hK hP hD hS 0 rfl rfl 2 (by decide) q560 (fun _ h => h) rfl hmn rfl (tyX11_ok 2 (by decide)) rfl rfl (Nat.le_of_ble_eq_true rfl) dX11_init_2 (fun H locs hzz hP hD hS => ?_)
  have hP : va_P D vwCl [(q, .inr (11, [.null, .null, .ref h0]))] H := hP
  have hD : va_D A [(q, .inr (11, [.null, .null, .ref h0]))] := hD
  have hz : H.size = sz := hzz.trans hz
  refine lv_aload_n hx hb dX11_init_5 rfl (lv_at hl 0 rfl) ?_
  refine lv_aload_n hx hb dX11_init_6 rfl (lv_at hl 1 rfl) ?_
  refine lv_aload_n hx hb dX11_init_7 rfl (lv_at hl 2 rfl) ?_
  have hPc := hP.sub (ws' := [(q, .inr (11, [.null, .null, .ref h0]))]) [0] rfl
  have hDc := hD.sub (ws' := [(q, .inr (11, [.null, .null, .ref h0]))]) [0] (by decide) rfl
  refine ck_v (wr := []) (w1 := [(q, .inr (11, [.ref t0, .ref h0, (.ref h0)]))]) (va_runI (As := [.ref h0, .ref t0]) (rest := []) S (met_X10_init_11 l hap q sz .null .null (.ref h0) h0 t0) (cwI 2 S.2.2.2.2 (lw_meth q558) rfl rfl rfl (S.2.2.2.2 _ q71) (S.2.2.2.2 _ q556) (S.2.2.2.2 _ q557) rfl yd_X10_init.2 ⟨Nat.le_of_ble_eq_true rfl, Nat.le_of_ble_eq_true rfl⟩) (cpreS hK hPc hDc hz (.ref q :: [.ref h0, .ref t0])) rfl rfl hl.1 rfl (lv_room (Nat.le_of_ble_eq_true rfl)) dX11_init_8 ⟨Nat.le_of_ble_eq_true rfl, Nat.le_of_ble_eq_true rfl⟩) hP hD hS hA hz [0] [] rfl rfl (by decide) (by decide) (fun H locs hz hP hD hS => ?_)
  have hP : va_P D vwCl [(q, .inr (11, [.ref t0, .ref h0, (.ref h0)]))] H := hP
  have hD : va_D A [(q, .inr (11, [.ref t0, .ref h0, (.ref h0)]))] := hD
  have hz : H.size = sz := hz
  exact ce_v S hr hlk hP hD hS hz eA dX11_init_11
set_option maxHeartbeats 8000000 in
theorem met_X10_init_12 (l : Launch) {D : va_G} {dA : WK} (hap : slAp D) (q sz : Nat) (g0 g1 g2 g3 : Value) (h0 : Nat) (t0 : Nat) : Mc l yX10_init cX10_init 3 1 12 0 0 D dA sz [(q, .inr (12, [g0, g1, g2, g3]))] [(q, .inr (12, [.ref t0, .ref h0, g2, g3]))] [.ref q, .ref h0, .ref t0] := by
  refine cst (by decide) (Nat.le_of_ble_eq_true rfl) ?_
  intro p e s m below meth c A S hr hlk hmn hK hsz hP hD hA eA ls hl
  have hmn : meth.name = "<init>" := hmn
  have hl : lv_has ls 3 [(0, .ref q), (1, .ref h0), (2, .ref t0)] := hl
  have hx := S.1
  have hb := S.2.1
  generalize ([.ref q, .ref h0, .ref t0] : List Value).toArray = av at S ⊢
  have hA : ∀ q, s.heap.size ≤ q → A q := by rw [hsz]; exact hA
  have hS : va_S A s.heap s.heap [] := va_S.rf
  obtain ⟨H, eH⟩ : ∃ z, z = s.heap := ⟨_, rfl⟩
  have hz : H.size = sz := by rw [eH]; exact hsz
  have hP : va_P D vwCl [(q, .inr (12, [g0, g1, g2, g3]))] H := by rw [eH]; exact hP
  have hS : va_S A s.heap H [] := by rw [eH]; exact hS
  show W p l e (rmC 1 12 0 0) s m av below meth c s.heap [] 0 0 _ (F0 m 0 ls [])
  rw [show W p l e (rmC 1 12 0 0) s m av below meth c s.heap [] 0 0 = W p l e (rmC 1 12 0 0) s m av below meth c H [] 0 0 by rw [eH]]
  clear eH
  refine lv_aload_n hx hb dX10_init_0 rfl (lv_at hl 0 rfl) ?_
  refine lv_aload_n hx hb dX10_init_1 rfl (lv_at hl 1 rfl) ?_
  refine cputF (ci := 12) (v := .ref h0) S in_X12 hap hK hP hD hS 0 rfl rfl 1 (by decide) q572 (fun _ h => h) rfl hmn rfl (tyX12_ok 1 (by decide)) rfl rfl (Nat.le_of_ble_eq_true rfl) dX10_init_2 (fun H locs hzz hP hD hS => ?_)
  have hP : va_P D vwCl [(q, .inr (12, [g0, .ref h0, g2, g3]))] H := hP
  have hD : va_D A [(q, .inr (12, [g0, .ref h0, g2, g3]))] := hD
  have hz : H.size = sz := hzz.trans hz
  refine lv_aload_n hx hb dX10_init_5 rfl (lv_at hl 0 rfl) ?_
  refine W.objInit hx hb S.2.2.2.1 (S.2.2.2.2 _ q559) (S.2.2.2.2 _ q86) (S.2.2.2.2 _ q87) rfl (by rw [S.2.2.1]; exact hl.1) rfl dX10_init_6 (Nat.le_of_ble_eq_true rfl) (Nat.le_of_ble_eq_true rfl) ?_
  refine W.eq (g2 := F0 m 9 ls []) rfl ?_
  refine lv_aload_n hx hb dX10_init_9 rfl (lv_at hl 0 rfl) ?_
  refine lv_aload_n hx hb dX10_init_10 rfl (lv_at hl 2 rfl) ?_
  refine cputF (ci := 12) (v := .ref t0) S in_X12 hap hK hP hD hS 0 rfl rfl 0 (by decide) q561 (fun _ h => h) rfl hmn rfl (tyX12_ok 0 (by decide)) rfl rfl (Nat.le_of_ble_eq_true rfl) dX10_init_11 (fun H locs hzz hP hD hS => ?_)
  have hP : va_P D vwCl [(q, .inr (12, [.ref t0, .ref h0, g2, g3]))] H := hP
  have hD : va_D A [(q, .inr (12, [.ref t0, .ref h0, g2, g3]))] := hD
  have hz : H.size = sz := hzz.trans hz
  exact ce_v S hr hlk hP hD hS hz eA dX10_init_14
theorem yd_X12_init : yX12_init.cls = RX12 ∧ yX12_init.cls ≠ "java/lang/invoke/MethodHandle" ∧ yX12_init.cls ≠ "java/lang/invoke/VarHandle" ∧ (parseMethodDescriptor yX12_init.desc).map (fun d => d.parameters.length) = some 3 := by decide +kernel
set_option maxHeartbeats 8000000 in
theorem met_X12_init (l : Launch) {D : va_G} {dA : WK} (hap : slAp D) (q sz : Nat) (h0 : Nat) (v0 : Int32) (t0 : Nat) : Mc l yX12_init cX12_init 4 2 34 0 0 D dA sz [(q, .inr (12, [.null, .null, .int (0 : Int32), .null]))] [(q, .inr (12, [.ref t0, .ref h0, .int v0, (.ref h0)]))] [.ref q, .ref h0, .int v0, .ref t0] := by
  refine cst (by decide) (Nat.le_of_ble_eq_true rfl) ?_
  intro p e s m below meth c A S hr hlk hmn hK hsz hP hD hA eA ls hl
  have hmn : meth.name = "<init>" := hmn
  have hl : lv_has ls 4 [(0, .ref q), (1, .ref h0), (2, .int v0), (3, .ref t0)] := hl
  have hx := S.1
  have hb := S.2.1
  generalize ([.ref q, .ref h0, .int v0, .ref t0] : List Value).toArray = av at S ⊢
  have hA : ∀ q, s.heap.size ≤ q → A q := by rw [hsz]; exact hA
  have hS : va_S A s.heap s.heap [] := va_S.rf
  obtain ⟨H, eH⟩ : ∃ z, z = s.heap := ⟨_, rfl⟩
  have hz : H.size = sz := by rw [eH]; exact hsz
  have hP : va_P D vwCl [(q, .inr (12, [.null, .null, .int (0 : Int32), .null]))] H := by rw [eH]; exact hP
  have hS : va_S A s.heap H [] := by rw [eH]; exact hS
  show W p l e (rmC 2 34 0 0) s m av below meth c s.heap [] 0 0 _ (F0 m 0 ls [])
  rw [show W p l e (rmC 2 34 0 0) s m av below meth c s.heap [] 0 0 = W p l e (rmC 2 34 0 0) s m av below meth c H [] 0 0 by rw [eH]]
  clear eH
  refine lv_aload_n hx hb dX12_init_0 rfl (lv_at hl 0 rfl) ?_
  refine lv_aload_n hx hb dX12_init_1 rfl (lv_at hl 1 rfl) ?_
  refine cputF (ci := 12) (v := .ref h0) S in_X12 hap hK hP hD hS 0 rfl rfl 3 (by decide) q594 (fun _ h => h) rfl hmn rfl (tyX12_ok 3 (by decide)) rfl rfl (Nat.le_of_ble_eq_true rfl) dX12_init_2 (fun H locs hzz hP hD hS => ?_)
  have hP : va_P D vwCl [(q, .inr (12, [.null, .null, .int (0 : Int32), .ref h0]))] H := hP
  have hD : va_D A [(q, .inr (12, [.null, .null, .int (0 : Int32), .ref h0]))] := hD
  have hz : H.size = sz := hzz.trans hz
  refine lv_aload_n hx hb dX12_init_5 rfl (lv_at hl 0 rfl) ?_
  refine lv_aload_n hx hb dX12_init_6 rfl (lv_at hl 1 rfl) ?_
  refine lv_aload_n hx hb dX12_init_7 rfl (lv_at hl 3 rfl) ?_
  have hPc := hP.sub (ws' := [(q, .inr (12, [.null, .null, .int (0 : Int32), .ref h0]))]) [0] rfl
  have hDc := hD.sub (ws' := [(q, .inr (12, [.null, .null, .int (0 : Int32), .ref h0]))]) [0] (by decide) rfl
  refine ck_v (wr := []) (w1 := [(q, .inr (12, [.ref t0, .ref h0, (.int (0 : Int32)), (.ref h0)]))]) (va_runI (As := [.ref h0, .ref t0]) (rest := []) S (met_X10_init_12 l hap q sz .null .null (.int (0 : Int32)) (.ref h0) h0 t0) (cwI 2 S.2.2.2.2 (lw_meth q558) rfl rfl rfl (S.2.2.2.2 _ q71) (S.2.2.2.2 _ q592) (S.2.2.2.2 _ q557) rfl yd_X10_init.2 ⟨Nat.le_of_ble_eq_true rfl, Nat.le_of_ble_eq_true rfl⟩) (cpreS hK hPc hDc hz (.ref q :: [.ref h0, .ref t0])) rfl rfl hl.1 rfl (lv_room (Nat.le_of_ble_eq_true rfl)) dX12_init_8 ⟨Nat.le_of_ble_eq_true rfl, Nat.le_of_ble_eq_true rfl⟩) hP hD hS hA hz [0] [] rfl rfl (by decide) (by decide) (fun H locs hz hP hD hS => ?_)
  have hP : va_P D vwCl [(q, .inr (12, [.ref t0, .ref h0, (.int (0 : Int32)), (.ref h0)]))] H := hP
  have hD : va_D A [(q, .inr (12, [.ref t0, .ref h0, (.int (0 : Int32)), (.ref h0)]))] := hD
  have hz : H.size = sz := hz
  refine lv_aload_n hx hb dX12_init_11 rfl (lv_at hl 0 rfl) ?_
  refine lv_iload_n hx hb dX12_init_12 rfl (lv_at hl 2 rfl) ?_
  refine cputF (ci := 12) (v := .int v0) S in_X12 hap hK hP hD hS 0 rfl rfl 2 (by decide) q593 (fun _ h => h) rfl hmn rfl (tyX12_ok 2 (by decide)) rfl rfl (Nat.le_of_ble_eq_true rfl) dX12_init_13 (fun H locs hzz hP hD hS => ?_)
  have hP : va_P D vwCl [(q, .inr (12, [.ref t0, .ref h0, .int v0, (.ref h0)]))] H := hP
  have hD : va_D A [(q, .inr (12, [.ref t0, .ref h0, .int v0, (.ref h0)]))] := hD
  have hz : H.size = sz := hzz.trans hz
  exact ce_v S hr hlk hP hD hS hz eA dX12_init_16
set_option maxHeartbeats 8000000 in
theorem met_X10_init_13 (l : Launch) {D : va_G} {dA : WK} (hap : slAp D) (q sz : Nat) (g0 g1 g2 g3 : Value) (h0 : Nat) (t0 : Nat) : Mc l yX10_init cX10_init 3 1 12 0 0 D dA sz [(q, .inr (13, [g0, g1, g2, g3]))] [(q, .inr (13, [.ref t0, .ref h0, g2, g3]))] [.ref q, .ref h0, .ref t0] := by
  refine cst (by decide) (Nat.le_of_ble_eq_true rfl) ?_
  intro p e s m below meth c A S hr hlk hmn hK hsz hP hD hA eA ls hl
  have hmn : meth.name = "<init>" := hmn
  have hl : lv_has ls 3 [(0, .ref q), (1, .ref h0), (2, .ref t0)] := hl
  have hx := S.1
  have hb := S.2.1
  generalize ([.ref q, .ref h0, .ref t0] : List Value).toArray = av at S ⊢
  have hA : ∀ q, s.heap.size ≤ q → A q := by rw [hsz]; exact hA
  have hS : va_S A s.heap s.heap [] := va_S.rf
  obtain ⟨H, eH⟩ : ∃ z, z = s.heap := ⟨_, rfl⟩
  have hz : H.size = sz := by rw [eH]; exact hsz
  have hP : va_P D vwCl [(q, .inr (13, [g0, g1, g2, g3]))] H := by rw [eH]; exact hP
  have hS : va_S A s.heap H [] := by rw [eH]; exact hS
  show W p l e (rmC 1 12 0 0) s m av below meth c s.heap [] 0 0 _ (F0 m 0 ls [])
  rw [show W p l e (rmC 1 12 0 0) s m av below meth c s.heap [] 0 0 = W p l e (rmC 1 12 0 0) s m av below meth c H [] 0 0 by rw [eH]]
  clear eH
  refine lv_aload_n hx hb dX10_init_0 rfl (lv_at hl 0 rfl) ?_
  refine lv_aload_n hx hb dX10_init_1 rfl (lv_at hl 1 rfl) ?_
  refine cputF (ci := 13) (v := .ref h0) S in_X13 hap hK hP hD hS 0 rfl rfl 1 (by decide) q572 (fun _ h => h) rfl hmn rfl (tyX13_ok 1 (by decide)) rfl rfl (Nat.le_of_ble_eq_true rfl) dX10_init_2 (fun H locs hzz hP hD hS => ?_)
  have hP : va_P D vwCl [(q, .inr (13, [g0, .ref h0, g2, g3]))] H := hP
  have hD : va_D A [(q, .inr (13, [g0, .ref h0, g2, g3]))] := hD
  have hz : H.size = sz := hzz.trans hz
  refine lv_aload_n hx hb dX10_init_5 rfl (lv_at hl 0 rfl) ?_
  refine W.objInit hx hb S.2.2.2.1 (S.2.2.2.2 _ q559) (S.2.2.2.2 _ q86) (S.2.2.2.2 _ q87) rfl (by rw [S.2.2.1]; exact hl.1) rfl dX10_init_6 (Nat.le_of_ble_eq_true rfl) (Nat.le_of_ble_eq_true rfl) ?_
  refine W.eq (g2 := F0 m 9 ls []) rfl ?_
  refine lv_aload_n hx hb dX10_init_9 rfl (lv_at hl 0 rfl) ?_
  refine lv_aload_n hx hb dX10_init_10 rfl (lv_at hl 2 rfl) ?_
  refine cputF (ci := 13) (v := .ref t0) S in_X13 hap hK hP hD hS 0 rfl rfl 0 (by decide) q561 (fun _ h => h) rfl hmn rfl (tyX13_ok 0 (by decide)) rfl rfl (Nat.le_of_ble_eq_true rfl) dX10_init_11 (fun H locs hzz hP hD hS => ?_)
  have hP : va_P D vwCl [(q, .inr (13, [.ref t0, .ref h0, g2, g3]))] H := hP
  have hD : va_D A [(q, .inr (13, [.ref t0, .ref h0, g2, g3]))] := hD
  have hz : H.size = sz := hzz.trans hz
  exact ce_v S hr hlk hP hD hS hz eA dX10_init_14
theorem yd_X13_init : yX13_init.cls = RX13 ∧ yX13_init.cls ≠ "java/lang/invoke/MethodHandle" ∧ yX13_init.cls ≠ "java/lang/invoke/VarHandle" ∧ (parseMethodDescriptor yX13_init.desc).map (fun d => d.parameters.length) = some 3 := by decide +kernel
set_option maxHeartbeats 8000000 in
theorem met_X13_init (l : Launch) {D : va_G} {dA : WK} (hap : slAp D) (q sz : Nat) (h0 : Nat) (v0 : Int32) (t0 : Nat) : Mc l yX13_init cX13_init 4 2 34 0 0 D dA sz [(q, .inr (13, [.null, .null, .int (0 : Int32), .null]))] [(q, .inr (13, [.ref t0, .ref h0, .int v0, (.ref h0)]))] [.ref q, .ref h0, .int v0, .ref t0] := by
  refine cst (by decide) (Nat.le_of_ble_eq_true rfl) ?_
  intro p e s m below meth c A S hr hlk hmn hK hsz hP hD hA eA ls hl
  have hmn : meth.name = "<init>" := hmn
  have hl : lv_has ls 4 [(0, .ref q), (1, .ref h0), (2, .int v0), (3, .ref t0)] := hl
  have hx := S.1
  have hb := S.2.1
  generalize ([.ref q, .ref h0, .int v0, .ref t0] : List Value).toArray = av at S ⊢
  have hA : ∀ q, s.heap.size ≤ q → A q := by rw [hsz]; exact hA
  have hS : va_S A s.heap s.heap [] := va_S.rf
  obtain ⟨H, eH⟩ : ∃ z, z = s.heap := ⟨_, rfl⟩
  have hz : H.size = sz := by rw [eH]; exact hsz
  have hP : va_P D vwCl [(q, .inr (13, [.null, .null, .int (0 : Int32), .null]))] H := by rw [eH]; exact hP
  have hS : va_S A s.heap H [] := by rw [eH]; exact hS
  show W p l e (rmC 2 34 0 0) s m av below meth c s.heap [] 0 0 _ (F0 m 0 ls [])
  rw [show W p l e (rmC 2 34 0 0) s m av below meth c s.heap [] 0 0 = W p l e (rmC 2 34 0 0) s m av below meth c H [] 0 0 by rw [eH]]
  clear eH
  refine lv_aload_n hx hb dX13_init_0 rfl (lv_at hl 0 rfl) ?_
  refine lv_aload_n hx hb dX13_init_1 rfl (lv_at hl 1 rfl) ?_
  refine cputF (ci := 13) (v := .ref h0) S in_X13 hap hK hP hD hS 0 rfl rfl 3 (by decide) q620 (fun _ h => h) rfl hmn rfl (tyX13_ok 3 (by decide)) rfl rfl (Nat.le_of_ble_eq_true rfl) dX13_init_2 (fun H locs hzz hP hD hS => ?_)
  have hP : va_P D vwCl [(q, .inr (13, [.null, .null, .int (0 : Int32), .ref h0]))] H := hP
  have hD : va_D A [(q, .inr (13, [.null, .null, .int (0 : Int32), .ref h0]))] := hD
  have hz : H.size = sz := hzz.trans hz
  refine lv_aload_n hx hb dX13_init_5 rfl (lv_at hl 0 rfl) ?_
  refine lv_aload_n hx hb dX13_init_6 rfl (lv_at hl 1 rfl) ?_
  refine lv_aload_n hx hb dX13_init_7 rfl (lv_at hl 3 rfl) ?_
  have hPc := hP.sub (ws' := [(q, .inr (13, [.null, .null, .int (0 : Int32), .ref h0]))]) [0] rfl
  have hDc := hD.sub (ws' := [(q, .inr (13, [.null, .null, .int (0 : Int32), .ref h0]))]) [0] (by decide) rfl
  refine ck_v (wr := []) (w1 := [(q, .inr (13, [.ref t0, .ref h0, (.int (0 : Int32)), (.ref h0)]))]) (va_runI (As := [.ref h0, .ref t0]) (rest := []) S (met_X10_init_13 l hap q sz .null .null (.int (0 : Int32)) (.ref h0) h0 t0) (cwI 2 S.2.2.2.2 (lw_meth q558) rfl rfl rfl (S.2.2.2.2 _ q71) (S.2.2.2.2 _ q618) (S.2.2.2.2 _ q557) rfl yd_X10_init.2 ⟨Nat.le_of_ble_eq_true rfl, Nat.le_of_ble_eq_true rfl⟩) (cpreS hK hPc hDc hz (.ref q :: [.ref h0, .ref t0])) rfl rfl hl.1 rfl (lv_room (Nat.le_of_ble_eq_true rfl)) dX13_init_8 ⟨Nat.le_of_ble_eq_true rfl, Nat.le_of_ble_eq_true rfl⟩) hP hD hS hA hz [0] [] rfl rfl (by decide) (by decide) (fun H locs hz hP hD hS => ?_)
  have hP : va_P D vwCl [(q, .inr (13, [.ref t0, .ref h0, (.int (0 : Int32)), (.ref h0)]))] H := hP
  have hD : va_D A [(q, .inr (13, [.ref t0, .ref h0, (.int (0 : Int32)), (.ref h0)]))] := hD
  have hz : H.size = sz := hz
  refine lv_aload_n hx hb dX13_init_11 rfl (lv_at hl 0 rfl) ?_
  refine lv_iload_n hx hb dX13_init_12 rfl (lv_at hl 2 rfl) ?_
  refine cputF (ci := 13) (v := .int v0) S in_X13 hap hK hP hD hS 0 rfl rfl 2 (by decide) q619 (fun _ h => h) rfl hmn rfl (tyX13_ok 2 (by decide)) rfl rfl (Nat.le_of_ble_eq_true rfl) dX13_init_13 (fun H locs hzz hP hD hS => ?_)
  have hP : va_P D vwCl [(q, .inr (13, [.ref t0, .ref h0, .int v0, (.ref h0)]))] H := hP
  have hD : va_D A [(q, .inr (13, [.ref t0, .ref h0, .int v0, (.ref h0)]))] := hD
  have hz : H.size = sz := hzz.trans hz
  exact ce_v S hr hlk hP hD hS hz eA dX13_init_16
set_option maxHeartbeats 8000000 in
theorem met_X10_init_14 (l : Launch) {D : va_G} {dA : WK} (hap : slAp D) (q sz : Nat) (g0 g1 g2 : Value) (h0 : Nat) (t0 : Nat) : Mc l yX10_init cX10_init 3 1 12 0 0 D dA sz [(q, .inr (14, [g0, g1, g2]))] [(q, .inr (14, [.ref t0, .ref h0, g2]))] [.ref q, .ref h0, .ref t0] := by
  refine cst (by decide) (Nat.le_of_ble_eq_true rfl) ?_
  intro p e s m below meth c A S hr hlk hmn hK hsz hP hD hA eA ls hl
  have hmn : meth.name = "<init>" := hmn
  have hl : lv_has ls 3 [(0, .ref q), (1, .ref h0), (2, .ref t0)] := hl
  have hx := S.1
  have hb := S.2.1
  generalize ([.ref q, .ref h0, .ref t0] : List Value).toArray = av at S ⊢
  have hA : ∀ q, s.heap.size ≤ q → A q := by rw [hsz]; exact hA
  have hS : va_S A s.heap s.heap [] := va_S.rf
  obtain ⟨H, eH⟩ : ∃ z, z = s.heap := ⟨_, rfl⟩
  have hz : H.size = sz := by rw [eH]; exact hsz
  have hP : va_P D vwCl [(q, .inr (14, [g0, g1, g2]))] H := by rw [eH]; exact hP
  have hS : va_S A s.heap H [] := by rw [eH]; exact hS
  show W p l e (rmC 1 12 0 0) s m av below meth c s.heap [] 0 0 _ (F0 m 0 ls [])
  rw [show W p l e (rmC 1 12 0 0) s m av below meth c s.heap [] 0 0 = W p l e (rmC 1 12 0 0) s m av below meth c H [] 0 0 by rw [eH]]
  clear eH
  refine lv_aload_n hx hb dX10_init_0 rfl (lv_at hl 0 rfl) ?_
  refine lv_aload_n hx hb dX10_init_1 rfl (lv_at hl 1 rfl) ?_
  refine cputF (ci := 14) (v := .ref h0) S in_X14 hap hK hP hD hS 0 rfl rfl 1 (by decide) q572 (fun _ h => h) rfl hmn rfl (tyX14_ok 1 (by decide)) rfl rfl (Nat.le_of_ble_eq_true rfl) dX10_init_2 (fun H locs hzz hP hD hS => ?_)
  have hP : va_P D vwCl [(q, .inr (14, [g0, .ref h0, g2]))] H := hP
  have hD : va_D A [(q, .inr (14, [g0, .ref h0, g2]))] := hD
  have hz : H.size = sz := hzz.trans hz
  refine lv_aload_n hx hb dX10_init_5 rfl (lv_at hl 0 rfl) ?_
  refine W.objInit hx hb S.2.2.2.1 (S.2.2.2.2 _ q559) (S.2.2.2.2 _ q86) (S.2.2.2.2 _ q87) rfl (by rw [S.2.2.1]; exact hl.1) rfl dX10_init_6 (Nat.le_of_ble_eq_true rfl) (Nat.le_of_ble_eq_true rfl) ?_
  refine W.eq (g2 := F0 m 9 ls []) rfl ?_
  refine lv_aload_n hx hb dX10_init_9 rfl (lv_at hl 0 rfl) ?_
  refine lv_aload_n hx hb dX10_init_10 rfl (lv_at hl 2 rfl) ?_
  refine cputF (ci := 14) (v := .ref t0) S in_X14 hap hK hP hD hS 0 rfl rfl 0 (by decide) q561 (fun _ h => h) rfl hmn rfl (tyX14_ok 0 (by decide)) rfl rfl (Nat.le_of_ble_eq_true rfl) dX10_init_11 (fun H locs hzz hP hD hS => ?_)
  have hP : va_P D vwCl [(q, .inr (14, [.ref t0, .ref h0, g2]))] H := hP
  have hD : va_D A [(q, .inr (14, [.ref t0, .ref h0, g2]))] := hD
  have hz : H.size = sz := hzz.trans hz
  exact ce_v S hr hlk hP hD hS hz eA dX10_init_14
theorem yd_X14_init : yX14_init.cls = RX14 ∧ yX14_init.cls ≠ "java/lang/invoke/MethodHandle" ∧ yX14_init.cls ≠ "java/lang/invoke/VarHandle" ∧ (parseMethodDescriptor yX14_init.desc).map (fun d => d.parameters.length) = some 2 := by decide +kernel
set_option maxHeartbeats 8000000 in
theorem met_X14_init (l : Launch) {D : va_G} {dA : WK} (hap : slAp D) (q sz : Nat) (h0 : Nat) (t0 : Nat) : Mc l yX14_init cX14_init 3 2 34 0 0 D dA sz [(q, .inr (14, [.null, .null, .null]))] [(q, .inr (14, [.ref t0, .ref h0, (.ref h0)]))] [.ref q, .ref h0, .ref t0] := by
  refine cst (by decide) (Nat.le_of_ble_eq_true rfl) ?_
  intro p e s m below meth c A S hr hlk hmn hK hsz hP hD hA eA ls hl
  have hmn : meth.name = "<init>" := hmn
  have hl : lv_has ls 3 [(0, .ref q), (1, .ref h0), (2, .ref t0)] := hl
  have hx := S.1
  have hb := S.2.1
  generalize ([.ref q, .ref h0, .ref t0] : List Value).toArray = av at S ⊢
  have hA : ∀ q, s.heap.size ≤ q → A q := by rw [hsz]; exact hA
  have hS : va_S A s.heap s.heap [] := va_S.rf
  obtain ⟨H, eH⟩ : ∃ z, z = s.heap := ⟨_, rfl⟩
  have hz : H.size = sz := by rw [eH]; exact hsz
  have hP : va_P D vwCl [(q, .inr (14, [.null, .null, .null]))] H := by rw [eH]; exact hP
  have hS : va_S A s.heap H [] := by rw [eH]; exact hS
  show W p l e (rmC 2 34 0 0) s m av below meth c s.heap [] 0 0 _ (F0 m 0 ls [])
  rw [show W p l e (rmC 2 34 0 0) s m av below meth c s.heap [] 0 0 = W p l e (rmC 2 34 0 0) s m av below meth c H [] 0 0 by rw [eH]]
  clear eH
  refine lv_aload_n hx hb dX14_init_0 rfl (lv_at hl 0 rfl) ?_
  refine lv_aload_n hx hb dX14_init_1 rfl (lv_at hl 1 rfl) ?_
  refine cputF (ci := 14) (v := .ref h0) S in_X14 hap hK hP hD hS 0 rfl rfl 2 (by decide) q640 (fun _ h => h) rfl hmn rfl (tyX14_ok 2 (by decide)) rfl rfl (Nat.le_of_ble_eq_true rfl) dX14_init_2 (fun H locs hzz hP hD hS => ?_)
  have hP : va_P D vwCl [(q, .inr (14, [.null, .null, .ref h0]))] H := hP
  have hD : va_D A [(q, .inr (14, [.null, .null, .ref h0]))] := hD
  have hz : H.size = sz := hzz.trans hz
  refine lv_aload_n hx hb dX14_init_5 rfl (lv_at hl 0 rfl) ?_
  refine lv_aload_n hx hb dX14_init_6 rfl (lv_at hl 1 rfl) ?_
  refine lv_aload_n hx hb dX14_init_7 rfl (lv_at hl 2 rfl) ?_
  have hPc := hP.sub (ws' := [(q, .inr (14, [.null, .null, .ref h0]))]) [0] rfl
  have hDc := hD.sub (ws' := [(q, .inr (14, [.null, .null, .ref h0]))]) [0] (by decide) rfl
  refine ck_v (wr := []) (w1 := [(q, .inr (14, [.ref t0, .ref h0, (.ref h0)]))]) (va_runI (As := [.ref h0, .ref t0]) (rest := []) S (met_X10_init_14 l hap q sz .null .null (.ref h0) h0 t0) (cwI 2 S.2.2.2.2 (lw_meth q558) rfl rfl rfl (S.2.2.2.2 _ q71) (S.2.2.2.2 _ q639) (S.2.2.2.2 _ q557) rfl yd_X10_init.2 ⟨Nat.le_of_ble_eq_true rfl, Nat.le_of_ble_eq_true rfl⟩) (cpreS hK hPc hDc hz (.ref q :: [.ref h0, .ref t0])) rfl rfl hl.1 rfl (lv_room (Nat.le_of_ble_eq_true rfl)) dX14_init_8 ⟨Nat.le_of_ble_eq_true rfl, Nat.le_of_ble_eq_true rfl⟩) hP hD hS hA hz [0] [] rfl rfl (by decide) (by decide) (fun H locs hz hP hD hS => ?_)
  have hP : va_P D vwCl [(q, .inr (14, [.ref t0, .ref h0, (.ref h0)]))] H := hP
  have hD : va_D A [(q, .inr (14, [.ref t0, .ref h0, (.ref h0)]))] := hD
  have hz : H.size = sz := hz
  exact ce_v S hr hlk hP hD hS hz eA dX14_init_11
set_option maxHeartbeats 8000000 in
theorem met_X10_init_15 (l : Launch) {D : va_G} {dA : WK} (hap : slAp D) (q sz : Nat) (g0 g1 g2 g3 : Value) (h0 : Nat) (t0 : Nat) : Mc l yX10_init cX10_init 3 1 12 0 0 D dA sz [(q, .inr (15, [g0, g1, g2, g3]))] [(q, .inr (15, [.ref t0, .ref h0, g2, g3]))] [.ref q, .ref h0, .ref t0] := by
  refine cst (by decide) (Nat.le_of_ble_eq_true rfl) ?_
  intro p e s m below meth c A S hr hlk hmn hK hsz hP hD hA eA ls hl
  have hmn : meth.name = "<init>" := hmn
  have hl : lv_has ls 3 [(0, .ref q), (1, .ref h0), (2, .ref t0)] := hl
  have hx := S.1
  have hb := S.2.1
  generalize ([.ref q, .ref h0, .ref t0] : List Value).toArray = av at S ⊢
  have hA : ∀ q, s.heap.size ≤ q → A q := by rw [hsz]; exact hA
  have hS : va_S A s.heap s.heap [] := va_S.rf
  obtain ⟨H, eH⟩ : ∃ z, z = s.heap := ⟨_, rfl⟩
  have hz : H.size = sz := by rw [eH]; exact hsz
  have hP : va_P D vwCl [(q, .inr (15, [g0, g1, g2, g3]))] H := by rw [eH]; exact hP
  have hS : va_S A s.heap H [] := by rw [eH]; exact hS
  show W p l e (rmC 1 12 0 0) s m av below meth c s.heap [] 0 0 _ (F0 m 0 ls [])
  rw [show W p l e (rmC 1 12 0 0) s m av below meth c s.heap [] 0 0 = W p l e (rmC 1 12 0 0) s m av below meth c H [] 0 0 by rw [eH]]
  clear eH
  refine lv_aload_n hx hb dX10_init_0 rfl (lv_at hl 0 rfl) ?_
  refine lv_aload_n hx hb dX10_init_1 rfl (lv_at hl 1 rfl) ?_
  refine cputF (ci := 15) (v := .ref h0) S in_X15 hap hK hP hD hS 0 rfl rfl 1 (by decide) q572 (fun _ h => h) rfl hmn rfl (tyX15_ok 1 (by decide)) rfl rfl (Nat.le_of_ble_eq_true rfl) dX10_init_2 (fun H locs hzz hP hD hS => ?_)
  have hP : va_P D vwCl [(q, .inr (15, [g0, .ref h0, g2, g3]))] H := hP
  have hD : va_D A [(q, .inr (15, [g0, .ref h0, g2, g3]))] := hD
  have hz : H.size = sz := hzz.trans hz
  refine lv_aload_n hx hb dX10_init_5 rfl (lv_at hl 0 rfl) ?_
  refine W.objInit hx hb S.2.2.2.1 (S.2.2.2.2 _ q559) (S.2.2.2.2 _ q86) (S.2.2.2.2 _ q87) rfl (by rw [S.2.2.1]; exact hl.1) rfl dX10_init_6 (Nat.le_of_ble_eq_true rfl) (Nat.le_of_ble_eq_true rfl) ?_
  refine W.eq (g2 := F0 m 9 ls []) rfl ?_
  refine lv_aload_n hx hb dX10_init_9 rfl (lv_at hl 0 rfl) ?_
  refine lv_aload_n hx hb dX10_init_10 rfl (lv_at hl 2 rfl) ?_
  refine cputF (ci := 15) (v := .ref t0) S in_X15 hap hK hP hD hS 0 rfl rfl 0 (by decide) q561 (fun _ h => h) rfl hmn rfl (tyX15_ok 0 (by decide)) rfl rfl (Nat.le_of_ble_eq_true rfl) dX10_init_11 (fun H locs hzz hP hD hS => ?_)
  have hP : va_P D vwCl [(q, .inr (15, [.ref t0, .ref h0, g2, g3]))] H := hP
  have hD : va_D A [(q, .inr (15, [.ref t0, .ref h0, g2, g3]))] := hD
  have hz : H.size = sz := hzz.trans hz
  exact ce_v S hr hlk hP hD hS hz eA dX10_init_14
theorem yd_X15_init : yX15_init.cls = RX15 ∧ yX15_init.cls ≠ "java/lang/invoke/MethodHandle" ∧ yX15_init.cls ≠ "java/lang/invoke/VarHandle" ∧ (parseMethodDescriptor yX15_init.desc).map (fun d => d.parameters.length) = some 3 := by decide +kernel
set_option maxHeartbeats 8000000 in
theorem met_X15_init (l : Launch) {D : va_G} {dA : WK} (hap : slAp D) (q sz : Nat) (h0 : Nat) (v0 : Int32) (t0 : Nat) : Mc l yX15_init cX15_init 4 2 34 0 0 D dA sz [(q, .inr (15, [.null, .null, .int (0 : Int32), .null]))] [(q, .inr (15, [.ref t0, .ref h0, .int v0, (.ref h0)]))] [.ref q, .ref h0, .int v0, .ref t0] := by
  refine cst (by decide) (Nat.le_of_ble_eq_true rfl) ?_
  intro p e s m below meth c A S hr hlk hmn hK hsz hP hD hA eA ls hl
  have hmn : meth.name = "<init>" := hmn
  have hl : lv_has ls 4 [(0, .ref q), (1, .ref h0), (2, .int v0), (3, .ref t0)] := hl
  have hx := S.1
  have hb := S.2.1
  generalize ([.ref q, .ref h0, .int v0, .ref t0] : List Value).toArray = av at S ⊢
  have hA : ∀ q, s.heap.size ≤ q → A q := by rw [hsz]; exact hA
  have hS : va_S A s.heap s.heap [] := va_S.rf
  obtain ⟨H, eH⟩ : ∃ z, z = s.heap := ⟨_, rfl⟩
  have hz : H.size = sz := by rw [eH]; exact hsz
  have hP : va_P D vwCl [(q, .inr (15, [.null, .null, .int (0 : Int32), .null]))] H := by rw [eH]; exact hP
  have hS : va_S A s.heap H [] := by rw [eH]; exact hS
  show W p l e (rmC 2 34 0 0) s m av below meth c s.heap [] 0 0 _ (F0 m 0 ls [])
  rw [show W p l e (rmC 2 34 0 0) s m av below meth c s.heap [] 0 0 = W p l e (rmC 2 34 0 0) s m av below meth c H [] 0 0 by rw [eH]]
  clear eH
  refine lv_aload_n hx hb dX15_init_0 rfl (lv_at hl 0 rfl) ?_
  refine lv_aload_n hx hb dX15_init_1 rfl (lv_at hl 1 rfl) ?_
  refine cputF (ci := 15) (v := .ref h0) S in_X15 hap hK hP hD hS 0 rfl rfl 3 (by decide) q671 (fun _ h => h) rfl hmn rfl (tyX15_ok 3 (by decide)) rfl rfl (Nat.le_of_ble_eq_true rfl) dX15_init_2 (fun H locs hzz hP hD hS => ?_)
  have hP : va_P D vwCl [(q, .inr (15, [.null, .null, .int (0 : Int32), .ref h0]))] H := hP
  have hD : va_D A [(q, .inr (15, [.null, .null, .int (0 : Int32), .ref h0]))] := hD
  have hz : H.size = sz := hzz.trans hz
  refine lv_aload_n hx hb dX15_init_5 rfl (lv_at hl 0 rfl) ?_
  refine lv_aload_n hx hb dX15_init_6 rfl (lv_at hl 1 rfl) ?_
  refine lv_aload_n hx hb dX15_init_7 rfl (lv_at hl 3 rfl) ?_
  have hPc := hP.sub (ws' := [(q, .inr (15, [.null, .null, .int (0 : Int32), .ref h0]))]) [0] rfl
  have hDc := hD.sub (ws' := [(q, .inr (15, [.null, .null, .int (0 : Int32), .ref h0]))]) [0] (by decide) rfl
  refine ck_v (wr := []) (w1 := [(q, .inr (15, [.ref t0, .ref h0, (.int (0 : Int32)), (.ref h0)]))]) (va_runI (As := [.ref h0, .ref t0]) (rest := []) S (met_X10_init_15 l hap q sz .null .null (.int (0 : Int32)) (.ref h0) h0 t0) (cwI 2 S.2.2.2.2 (lw_meth q558) rfl rfl rfl (S.2.2.2.2 _ q71) (S.2.2.2.2 _ q669) (S.2.2.2.2 _ q557) rfl yd_X10_init.2 ⟨Nat.le_of_ble_eq_true rfl, Nat.le_of_ble_eq_true rfl⟩) (cpreS hK hPc hDc hz (.ref q :: [.ref h0, .ref t0])) rfl rfl hl.1 rfl (lv_room (Nat.le_of_ble_eq_true rfl)) dX15_init_8 ⟨Nat.le_of_ble_eq_true rfl, Nat.le_of_ble_eq_true rfl⟩) hP hD hS hA hz [0] [] rfl rfl (by decide) (by decide) (fun H locs hz hP hD hS => ?_)
  have hP : va_P D vwCl [(q, .inr (15, [.ref t0, .ref h0, (.int (0 : Int32)), (.ref h0)]))] H := hP
  have hD : va_D A [(q, .inr (15, [.ref t0, .ref h0, (.int (0 : Int32)), (.ref h0)]))] := hD
  have hz : H.size = sz := hz
  refine lv_aload_n hx hb dX15_init_11 rfl (lv_at hl 0 rfl) ?_
  refine lv_iload_n hx hb dX15_init_12 rfl (lv_at hl 2 rfl) ?_
  refine cputF (ci := 15) (v := .int v0) S in_X15 hap hK hP hD hS 0 rfl rfl 2 (by decide) q670 (fun _ h => h) rfl hmn rfl (tyX15_ok 2 (by decide)) rfl rfl (Nat.le_of_ble_eq_true rfl) dX15_init_13 (fun H locs hzz hP hD hS => ?_)
  have hP : va_P D vwCl [(q, .inr (15, [.ref t0, .ref h0, .int v0, (.ref h0)]))] H := hP
  have hD : va_D A [(q, .inr (15, [.ref t0, .ref h0, .int v0, (.ref h0)]))] := hD
  have hz : H.size = sz := hzz.trans hz
  exact ce_v S hr hlk hP hD hS hz eA dX15_init_16
