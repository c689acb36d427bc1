/-! A FAULT made: its constructor through Exception and Throwable -/
set_option maxRecDepth 100000
/-- a fault, made -/
def fE (dA : WK) (v : Int32) : List Value := [.null, .null, .null, .ref (dA.2.1 16), .null, .int 0, .int v]
abbrev f9 : List Value := [.null, .null, .null, .null, .null, .int (0 : Int32), .int (0 : Int32)]
abbrev cPreF (D : va_G) (dA : WK) (q : Nat) (x : va_E) (sz : Nat) (av : List Value) : Array Value → State → Prop := va_Pc av (fun U => U.heap.size = sz ∧ va_P D vwCl [(q, x)] U.heap ∧ CK D dA U ∧ KT (va_A [(q, x)] sz) dA U U.heap)
theorem cstF {l : Launch} {y : MethodName} {cc : ByteArray} {L : Nat} {rm : Room} {D : va_G} {dA : WK} {q : Nat} {x : va_E} {av : List Value} {Qc : Array Value → State → Outcome → State → Prop} {mc ms sz : Nat} (hy : plainName y.cls = true) (hn : (lg_sl av).length ≤ L)
    (body : ∀ (p : Program) (e : Env) (s : State) (m : MethodId) (below : List Frame) (meth : Method) (c : Code) (A : Nat → Prop), CallFix p m c cc L s av.toArray lw_all y.cls → meth.sig.returnType = none → meth.locks = false → meth.name = y.name → CK D dA s → KT A dA s s.heap → s.heap.size = sz → va_P D vwCl [(q, x)] s.heap → va_D A [(q, x)] → A = va_A [(q, x)] sz → ∀ ls : Array Slot, lv_has ls L (lv_args 0 av) →
      W p l e rm s m av.toArray below meth c s.heap [] 0 0 (MQ below Qc av.toArray s mc ms A) (F0 m 0 ls [])) : Met l y (ws_ y cc L none) rm (cPreF D dA q x sz av) Qc mc ms (va_A [(q, x)] sz) := by
  refine Met.ofW (cc := cc) (maxL := L) (ret := none) hy rfl ?_
  intro p e s m args below meth c s₁ B hml hv
  obtain ⟨rfl, hsz, hP, hK, hT⟩ := hv
  have hts := atoms_spec (ws := ws_ y cc L none) B.pre
  have hts : ∀ w ∈ lw_all, w.before av.toArray s = true := fun w h => hts w (List.mem_cons_of_mem _ h)
  rw [lg_entry_eq]
  refine body p e s m below meth c _ ⟨B.exec, B.bytes, hml, findClass_of_methodNamed B.named, hts⟩ B.returns B.notSynchronized (name_of_methodNamed B.named B.method).1 hK hT hsz hP ⟨fun i j x y hi hj _ => ?_, fun i x hx => Or.inl ⟨i, x.2, hx⟩⟩ rfl _ (lv_entry _ hn)
  have h1 : i < 1 := (List.getElem?_eq_some_iff.mp hi).1
  have h2 : j < 1 := (List.getElem?_eq_some_iff.mp hj).1
  omega
theorem cFBlind {D : va_G} {dA : WK} {q : Nat} {x : va_E} {sz : Nat} {av : List Value} : FrameBlind (cPreF D dA q x sz av) := fun _ U g mk h => by
  obtain ⟨q0, q1, qP, qK, qT⟩ := h
  exact ⟨q0, q1, qP, CK.same (s := U) (U := U.calling g mk _) qK rfl, KT.moved (u := U) (U := U.calling g mk _) (Vm.Alike.refl _) (fun i r hr => (qT.2.1 i r hr).same rfl) qT⟩
theorem cpreF {D : va_G} {dA : WK} {s : State} {A : Nat → Prop} {H : Heap} {locs : List Loc} {q z : Nat} {x : va_E} (hK : CK D dA s) (hT : KT A dA s s.heap) (hS : va_S A s.heap H locs) (hAA : ∀ r, va_A [(q, x)] z r → A r) (hP : va_P D vwCl [(q, x)] H) (hz : H.size = z) (As : List Value) : PreS s H (cPreF D dA q x z As) As := ⟨cFBlind, fun U hU hWm => ⟨rfl, by rw [hU]; exact hz, by rw [hU]; exact hP, hK.warm hWm, by
    rw [hU]
    exact ((KT.moved hWm.alike (fun i r hr => (hT.2.1 i r hr).warm hWm) hT).kept hS.2.1).narrow hAA⟩⟩
theorem yd_J4_init_2 : yJ4_init_2.cls = RJ4 ∧ yJ4_init_2.cls ≠ "java/lang/invoke/MethodHandle" ∧ yJ4_init_2.cls ≠ "java/lang/invoke/VarHandle" ∧ (parseMethodDescriptor yJ4_init_2.desc).map (fun d => d.parameters.length) = some 4 := by decide +kernel
set_option maxHeartbeats 8000000 in
theorem met_J4_init_2 (l : Launch) {D : va_G} {dA : WK} (hap : slAp D) (q sz : Nat) (t0 : Nat) : Met l yJ4_init_2 (ws_ yJ4_init_2 cJ4_init_2 5 none) (rmC 1 12 0 0) (cPreF D dA q (.inr (9, f9)) sz [.ref q, .ref t0, .null, .int (0 : Int32), .int (0 : Int32)]) (cQ D [(q, .inr (9, [.null, .null, .null, .null, .null, .int (0 : Int32), .int (0 : Int32)]))] [(q, .inr (9, [.null, .null, .null, .ref t0, .null, .int (0 : Int32), .int (0 : Int32)]))] sz 0) 0 0 (va_A [(q, .inr (9, [.null, .null, .null, .null, .null, .int (0 : Int32), .int (0 : Int32)]))] sz) := by
  refine cstF (by decide) (Nat.le_of_ble_eq_true rfl) ?_
  intro p e s m below meth c A S hr hlk hmn hK hT hsz hP hD eA ls hl
  have hmn : meth.name = "<init>" := hmn
  have hl : lv_has ls 5 [(0, .ref q), (1, .ref t0), (2, .null), (3, .int (0 : Int32)), (4, .int (0 : Int32))] := hl
  have hx := S.1
  have hb := S.2.1
  generalize ([.ref q, .ref t0, .null, .int (0 : Int32), .int (0 : Int32)] : List Value).toArray = av at S ⊢
  have hA : ∀ q, s.heap.size ≤ q → A q := fun r hr => by rw [eA, ← hsz]; exact Or.inr hr
  have hS : va_S A s.heap s.heap [] := va_S.rf
  obtain ⟨H, eH⟩ : ∃ z, z = s.heap := ⟨_, rfl⟩
  have hz : H.size = sz := by rw [eH]; exact hsz
  have hP : va_P D vwCl [(q, .inr (9, [.null, .null, .null, .null, .null, .int (0 : Int32), .int (0 : Int32)]))] H := by rw [eH]; exact hP
  have hS : va_S A s.heap H [] := by rw [eH]; exact hS
  show W p l e (rmC 1 12 0 0) s m av below meth c s.heap [] 0 0 _ (F0 m 0 ls [])
  rw [show W p l e (rmC 1 12 0 0) s m av below meth c s.heap [] 0 0 = W p l e (rmC 1 12 0 0) s m av below meth c H [] 0 0 by rw [eH]]
  clear eH
  refine lv_aload_n hx hb dJ4_init_2_0 rfl (lv_at hl 0 rfl) ?_
  refine W.objInit hx hb S.2.2.2.1 (S.2.2.2.2 _ q510) (S.2.2.2.2 _ q86) (S.2.2.2.2 _ q87) rfl (by rw [S.2.2.1]; exact hl.1) rfl dJ4_init_2_1 (Nat.le_of_ble_eq_true rfl) (Nat.le_of_ble_eq_true rfl) ?_
  refine W.eq (g2 := F0 m 4 ls []) rfl ?_
  refine lv_aload_n hx hb dJ4_init_2_4 rfl (lv_at hl 0 rfl) ?_
  refine lv_aload_n hx hb dJ4_init_2_5 rfl (lv_at hl 0 rfl) ?_
  refine cput (ci := 9) (v := .ref q) S in_X9 hap hK hP hD hS 0 rfl rfl 0 (by decide) q538 (fun _ h => h) rfl (tyX9_ok 0 (by decide)) rfl rfl (Nat.le_of_ble_eq_true rfl) dJ4_init_2_6 (fun H locs hzz hP hD hS => ?_)
  have hP : va_P D vwCl [(q, .inr (9, [.ref q, .null, .null, .null, .null, .int (0 : Int32), .int (0 : Int32)]))] H := hP
  have hD : va_D A [(q, .inr (9, [.ref q, .null, .null, .null, .null, .int (0 : Int32), .int (0 : Int32)]))] := hD
  have hz : H.size = sz := hzz.trans hz
  refine lv_aload_n hx hb dJ4_init_2_9 rfl (lv_at hl 0 rfl) ?_
  obtain ⟨r5, r5_h⟩ := zq_rf hT.2.2.2.2.1
  refine va_gets S.1 S.2.1 r5_h hS S.2.2.2.1 (S.2.2.2.2 _ q511) (fun _ h => h) dJ4_init_2_10 ?_
  refine cput (ci := 9) (v := va_rf r5) S in_X9 hap hK hP hD hS 0 rfl rfl 1 (by decide) q539 (fun _ h => h) rfl (tyX9_ok 1 (by decide)) (by cases r5 <;> rfl) (by cases r5 <;> rfl) (Nat.le_of_ble_eq_true rfl) dJ4_init_2_13 (fun H locs hzz hP hD hS => ?_)
  have hP : va_P D vwCl [(q, .inr (9, [.ref q, va_rf r5, .null, .null, .null, .int (0 : Int32), .int (0 : Int32)]))] H := hP
  have hD : va_D A [(q, .inr (9, [.ref q, va_rf r5, .null, .null, .null, .int (0 : Int32), .int (0 : Int32)]))] := hD
  have hz : H.size = sz := hzz.trans hz
  refine lv_aload_n hx hb dJ4_init_2_16 rfl (lv_at hl 0 rfl) ?_
  obtain ⟨r6, r6_h⟩ := zq_rf hT.2.2.2.2.2.1
  refine va_gets S.1 S.2.1 r6_h hS S.2.2.2.1 (S.2.2.2.2 _ q513) (fun _ h => h) dJ4_init_2_17 ?_
  refine cput (ci := 9) (v := va_rf r6) S in_X9 hap hK hP hD hS 0 rfl rfl 2 (by decide) q540 (fun _ h => h) rfl (tyX9_ok 2 (by decide)) (by cases r6 <;> rfl) (by cases r6 <;> rfl) (Nat.le_of_ble_eq_true rfl) dJ4_init_2_20 (fun H locs hzz hP hD hS => ?_)
  have hP : va_P D vwCl [(q, .inr (9, [.ref q, va_rf r5, va_rf r6, .null, .null, .int (0 : Int32), .int (0 : Int32)]))] H := hP
  have hD : va_D A [(q, .inr (9, [.ref q, va_rf r5, va_rf r6, .null, .null, .int (0 : Int32), .int (0 : Int32)]))] := hD
  have hz : H.size = sz := hzz.trans hz
  refine lv_iload hx hb dJ4_init_2_23 (lv_at hl 4 rfl) ?_
  refine lv_if_eq (tgt := 36) hx hb dJ4_init_2_25 (by decide) (fun _ => ?_) (fun c => absurd rfl c)
  refine lv_aload_n hx hb dJ4_init_2_36 rfl (lv_at hl 0 rfl) ?_
  refine lv_null hx hb dJ4_init_2_37 ?_
  refine cput (ci := 9) (v := .null) S in_X9 hap hK hP hD hS 0 rfl rfl 1 (by decide) q539 (fun _ h => h) rfl (tyX9_ok 1 (by decide)) rfl rfl (Nat.le_of_ble_eq_true rfl) dJ4_init_2_38 (fun H locs hzz hP hD hS => ?_)
  have hP : va_P D vwCl [(q, .inr (9, [.ref q, .null, va_rf r6, .null, .null, .int (0 : Int32), .int (0 : Int32)]))] H := hP
  have hD : va_D A [(q, .inr (9, [.ref q, .null, va_rf r6, .null, .null, .int (0 : Int32), .int (0 : Int32)]))] := hD
  have hz : H.size = sz := hzz.trans hz
  refine lv_aload_n hx hb dJ4_init_2_41 rfl (lv_at hl 0 rfl) ?_
  refine lv_aload_n hx hb dJ4_init_2_42 rfl (lv_at hl 1 rfl) ?_
  refine cput (ci := 9) (v := .ref t0) S in_X9 hap hK hP hD hS 0 rfl rfl 3 (by decide) q537 (fun _ h => h) rfl (tyX9_ok 3 (by decide)) rfl rfl (Nat.le_of_ble_eq_true rfl) dJ4_init_2_43 (fun H locs hzz hP hD hS => ?_)
  have hP : va_P D vwCl [(q, .inr (9, [.ref q, .null, va_rf r6, .ref t0, .null, .int (0 : Int32), .int (0 : Int32)]))] H := hP
  have hD : va_D A [(q, .inr (9, [.ref q, .null, va_rf r6, .ref t0, .null, .int (0 : Int32), .int (0 : Int32)]))] := hD
  have hz : H.size = sz := hzz.trans hz
  refine lv_aload_n hx hb dJ4_init_2_46 rfl (lv_at hl 0 rfl) ?_
  refine lv_aload_nN hx hb dJ4_init_2_47 rfl (lv_at hl 2 rfl) ?_
  refine cput (ci := 9) (v := .null) S in_X9 hap hK hP hD hS 0 rfl rfl 0 (by decide) q538 (fun _ h => h) rfl (tyX9_ok 0 (by decide)) rfl rfl (Nat.le_of_ble_eq_true rfl) dJ4_init_2_48 (fun H locs hzz hP hD hS => ?_)
  have hP : va_P D vwCl [(q, .inr (9, [.null, .null, va_rf r6, .ref t0, .null, .int (0 : Int32), .int (0 : Int32)]))] H := hP
  have hD : va_D A [(q, .inr (9, [.null, .null, va_rf r6, .ref t0, .null, .int (0 : Int32), .int (0 : Int32)]))] := hD
  have hz : H.size = sz := hzz.trans hz
  refine lv_iload_n hx hb dJ4_init_2_51 rfl (lv_at hl 3 rfl) ?_
  refine lv_if_ne (tgt := 60) hx hb dJ4_init_2_52 (by decide) (fun c => absurd rfl c) (fun _ => ?_)
  refine lv_aload_n hx hb dJ4_init_2_55 rfl (lv_at hl 0 rfl) ?_
  refine lv_null hx hb dJ4_init_2_56 ?_
  refine cput (ci := 9) (v := .null) S in_X9 hap hK hP hD hS 0 rfl rfl 2 (by decide) q540 (fun _ h => h) rfl (tyX9_ok 2 (by decide)) rfl rfl (Nat.le_of_ble_eq_true rfl) dJ4_init_2_57 (fun H locs hzz hP hD hS => ?_)
  have hP : va_P D vwCl [(q, .inr (9, [.null, .null, .null, .ref t0, .null, .int (0 : Int32), .int (0 : Int32)]))] H := hP
  have hD : va_D A [(q, .inr (9, [.null, .null, .null, .ref t0, .null, .int (0 : Int32), .int (0 : Int32)]))] := hD
  have hz : H.size = sz := hzz.trans hz
  exact ce_v S hr hlk hP hD hS hz eA dJ4_init_2_60
theorem yd_J5_init : yJ5_init.cls = RJ5 ∧ yJ5_init.cls ≠ "java/lang/invoke/MethodHandle" ∧ yJ5_init.cls ≠ "java/lang/invoke/VarHandle" ∧ (parseMethodDescriptor yJ5_init.desc).map (fun d => d.parameters.length) = some 4 := by decide +kernel
set_option maxHeartbeats 8000000 in
theorem met_J5_init (l : Launch) {D : va_G} {dA : WK} (hap : slAp D) (q sz : Nat) (t0 : Nat) : Met l yJ5_init (ws_ yJ5_init cJ5_init 5 none) (rmC 2 36 0 0) (cPreF D dA q (.inr (9, f9)) sz [.ref q, .ref t0, .null, .int (0 : Int32), .int (0 : Int32)]) (cQ D [(q, .inr (9, [.null, .null, .null, .null, .null, .int (0 : Int32), .int (0 : Int32)]))] [(q, .inr (9, [.null, .null, .null, .ref t0, .null, .int (0 : Int32), .int (0 : Int32)]))] sz 0) 0 0 (va_A [(q, .inr (9, [.null, .null, .null, .null, .null, .int (0 : Int32), .int (0 : Int32)]))] sz) := by
  refine cstF (by decide) (Nat.le_of_ble_eq_true rfl) ?_
  intro p e s m below meth c A S hr hlk hmn hK hT hsz hP hD eA ls hl
  have hmn : meth.name = "<init>" := hmn
  have hl : lv_has ls 5 [(0, .ref q), (1, .ref t0), (2, .null), (3, .int (0 : Int32)), (4, .int (0 : Int32))] := hl
  have hx := S.1
  have hb := S.2.1
  generalize ([.ref q, .ref t0, .null, .int (0 : Int32), .int (0 : Int32)] : List Value).toArray = av at S ⊢
  have hA : ∀ q, s.heap.size ≤ q → A q := fun r hr => by rw [eA, ← hsz]; exact Or.inr hr
  have hS : va_S A s.heap s.heap [] := va_S.rf
  obtain ⟨H, eH⟩ : ∃ z, z = s.heap := ⟨_, rfl⟩
  have hz : H.size = sz := by rw [eH]; exact hsz
  have hP : va_P D vwCl [(q, .inr (9, [.null, .null, .null, .null, .null, .int (0 : Int32), .int (0 : Int32)]))] H := by rw [eH]; exact hP
  have hS : va_S A s.heap H [] := by rw [eH]; exact hS
  show W p l e (rmC 2 36 0 0) s m av below meth c s.heap [] 0 0 _ (F0 m 0 ls [])
  rw [show W p l e (rmC 2 36 0 0) s m av below meth c s.heap [] 0 0 = W p l e (rmC 2 36 0 0) s m av below meth c H [] 0 0 by rw [eH]]
  clear eH
  refine lv_aload_n hx hb dJ5_init_0 rfl (lv_at hl 0 rfl) ?_
  refine lv_aload_n hx hb dJ5_init_1 rfl (lv_at hl 1 rfl) ?_
  refine lv_aload_nN hx hb dJ5_init_2 rfl (lv_at hl 2 rfl) ?_
  refine lv_iload_n hx hb dJ5_init_3 rfl (lv_at hl 3 rfl) ?_
  refine lv_iload hx hb dJ5_init_4 (lv_at hl 4 rfl) ?_
  refine ck_v (wr := []) (w1 := [(q, .inr (9, [.null, .null, .null, .ref t0, .null, .int (0 : Int32), .int (0 : Int32)]))]) (va_runI (As := [.ref t0, .null, .int (0 : Int32), .int (0 : Int32)]) (rest := []) S (met_J4_init_2 l hap q sz t0) (cwI 4 S.2.2.2.2 (lw_meth q533) rfl rfl rfl (S.2.2.2.2 _ q68) (S.2.2.2.2 _ q531) (S.2.2.2.2 _ q532) rfl yd_J4_init_2.2 ⟨Nat.le_of_ble_eq_true rfl, Nat.le_of_ble_eq_true rfl⟩) (cpreF hK hT hS (fun r hr => by rw [eA]; exact hr) hP hz (.ref q :: [.ref t0, .null, .int (0 : Int32), .int (0 : Int32)])) rfl rfl hl.1 rfl (lv_room (Nat.le_of_ble_eq_true rfl)) dJ5_init_6 ⟨Nat.le_of_ble_eq_true rfl, Nat.le_of_ble_eq_true rfl⟩) hP hD hS hA hz [0] [] rfl rfl (by decide) (by decide) (fun H locs hzz hP hD hS => ?_)
  have hP : va_P D vwCl [(q, .inr (9, [.null, .null, .null, .ref t0, .null, .int (0 : Int32), .int (0 : Int32)]))] H := hP
  have hD : va_D A [(q, .inr (9, [.null, .null, .null, .ref t0, .null, .int (0 : Int32), .int (0 : Int32)]))] := hD
  have hz : H.size = sz := hzz
  exact ce_v S hr hlk hP hD hS hz eA dJ5_init_9
theorem yd_X9_init : yX9_init.cls = RX9 ∧ yX9_init.cls ≠ "java/lang/invoke/MethodHandle" ∧ yX9_init.cls ≠ "java/lang/invoke/VarHandle" ∧ (parseMethodDescriptor yX9_init.desc).map (fun d => d.parameters.length) = some 1 := by decide +kernel
set_option maxHeartbeats 8000000 in
theorem met_X9_init (l : Launch) {D : va_G} {dA : WK} (hap : slAp D) (q sz : Nat) (v0 : Int32) : Met l yX9_init (ws_ yX9_init cX9_init 2 none) (rmC 3 60 0 0) (cPreF D dA q (.inr (9, f9)) sz [.ref q, .int v0]) (cQ D [(q, .inr (9, [.null, .null, .null, .null, .null, .int (0 : Int32), .int (0 : Int32)]))] [(q, .inr (9, [.null, .null, .null, .ref (dA.2.1 16), .null, .int (0 : Int32), .int v0]))] sz 0) 0 0 (va_A [(q, .inr (9, [.null, .null, .null, .null, .null, .int (0 : Int32), .int (0 : Int32)]))] sz) := by
  refine cstF (by decide) (Nat.le_of_ble_eq_true rfl) ?_
  intro p e s m below meth c A S hr hlk hmn hK hT hsz hP hD eA ls hl
  have hmn : meth.name = "<init>" := hmn
  have hl : lv_has ls 2 [(0, .ref q), (1, .int v0)] := hl
  have hx := S.1
  have hb := S.2.1
  generalize ([.ref q, .int v0] : List Value).toArray = av at S ⊢
  have hA : ∀ q, s.heap.size ≤ q → A q := fun r hr => by rw [eA, ← hsz]; exact Or.inr hr
  have hS : va_S A s.heap s.heap [] := va_S.rf
  obtain ⟨H, eH⟩ : ∃ z, z = s.heap := ⟨_, rfl⟩
  have hz : H.size = sz := by rw [eH]; exact hsz
  have hP : va_P D vwCl [(q, .inr (9, [.null, .null, .null, .null, .null, .int (0 : Int32), .int (0 : Int32)]))] H := by rw [eH]; exact hP
  have hS : va_S A s.heap H [] := by rw [eH]; exact hS
  show W p l e (rmC 3 60 0 0) s m av below meth c s.heap [] 0 0 _ (F0 m 0 ls [])
  rw [show W p l e (rmC 3 60 0 0) s m av below meth c s.heap [] 0 0 = W p l e (rmC 3 60 0 0) s m av below meth c H [] 0 0 by rw [eH]]
  clear eH
  refine lv_aload_n hx hb dX9_init_0 rfl (lv_at hl 0 rfl) ?_
  refine va_ldcS S.1 S.2.1 S.2.2.2.1 (hT.2.1 16 _ rfl) dX9_init_1 ?_
  refine lv_null hx hb dX9_init_3 ?_
  refine lv_iconst (v := (0 : Int32)) hx hb dX9_init_4 (by decide) ?_
  refine lv_iconst (v := (0 : Int32)) hx hb dX9_init_5 (by decide) ?_
  refine ck_v (wr := []) (w1 := [(q, .inr (9, [.null, .null, .null, .ref (dA.2.1 16), .null, .int (0 : Int32), .int (0 : Int32)]))]) (va_runI (As := [.ref (dA.2.1 16), .null, .int (0 : Int32), .int (0 : Int32)]) (rest := []) S (met_J5_init l hap q sz (dA.2.1 16)) (cwI 4 S.2.2.2.2 (lw_meth q530) rfl rfl rfl (S.2.2.2.2 _ q69) (S.2.2.2.2 _ q528) (S.2.2.2.2 _ q529) rfl yd_J5_init.2 ⟨Nat.le_of_ble_eq_true rfl, Nat.le_of_ble_eq_true rfl⟩) (cpreF hK hT hS (fun r hr => by rw [eA]; exact hr) hP hz (.ref q :: [.ref (dA.2.1 16), .null, .int (0 : Int32), .int (0 : Int32)])) rfl rfl hl.1 rfl (lv_room (Nat.le_of_ble_eq_true rfl)) dX9_init_6 ⟨Nat.le_of_ble_eq_true rfl, Nat.le_of_ble_eq_true rfl⟩) hP hD hS hA hz [0] [] rfl rfl (by decide) (by decide) (fun H locs hzz hP hD hS => ?_)
  have hP : va_P D vwCl [(q, .inr (9, [.null, .null, .null, .ref (dA.2.1 16), .null, .int (0 : Int32), .int (0 : Int32)]))] H := hP
  have hD : va_D A [(q, .inr (9, [.null, .null, .null, .ref (dA.2.1 16), .null, .int (0 : Int32), .int (0 : Int32)]))] := hD
  have hz : H.size = sz := hzz
  refine lv_aload_n hx hb dX9_init_9 rfl (lv_at hl 0 rfl) ?_
  refine lv_iload_n hx hb dX9_init_10 rfl (lv_at hl 1 rfl) ?_
  refine cputF (ci := 9) (v := .int v0) S in_X9 hap hK hP hD hS 0 rfl rfl 6 (by decide) q534 (fun _ h => h) rfl hmn rfl (tyX9_ok 6 (by decide)) rfl rfl (Nat.le_of_ble_eq_true rfl) dX9_init_11 (fun H locs hzz hP hD hS => ?_)
  have hP : va_P D vwCl [(q, .inr (9, [.null, .null, .null, .ref (dA.2.1 16), .null, .int (0 : Int32), .int v0]))] H := hP
  have hD : va_D A [(q, .inr (9, [.null, .null, .null, .ref (dA.2.1 16), .null, .int (0 : Int32), .int v0]))] := hD
  have hz : H.size = sz := hzz.trans hz
  exact ce_v S hr hlk hP hD hS hz eA dX9_init_14
