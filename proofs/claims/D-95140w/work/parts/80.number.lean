/-! need, number: they return or throw -/
set_option maxRecDepth 100000
theorem XS_of {s : State} {D : va_G} {dA : WK} {a : Ix → Nat} {F : St} {H : Heap} {locs : List Loc} (hW : wS D dA a s F H locs) (hlo : ∀ x, wV x → wal dA x → a x < s.heap.size) : XS D dA a s F [] H locs := ⟨hW, hlo, nilP, nilD⟩
theorem wr_in {p : Program} {l : Launch} {e : Env} {R : Room} {s : State} {m : MethodId} {args : Array Value} {below : List Frame} {meth : Method} {c : Code} {H : Heap} {locs : List Loc} {cells slots : Nat} {Q : State → Prop} {g : JFrame} (eH : H = s.heap) (eL : locs = []) (k : W p l e R s m args below meth c H locs cells slots Q g) : W p l e R s m args below meth c s.heap [] cells slots Q g := by
  subst eH; subst eL; exact k
def fn_X4_need (F : St) (p1 : Int32) : Option (Unit) :=
  if p1 = 0 then none else some ()
theorem yd_X4_need : yX4_need.cls = RX4 ∧ yX4_need.cls ≠ "java/lang/invoke/MethodHandle" ∧ yX4_need.cls ≠ "java/lang/invoke/VarHandle" ∧ (parseMethodDescriptor yX4_need.desc).map (fun d => d.parameters.length) = some 1 := by decide +kernel
set_option maxHeartbeats 4000000 in
theorem met_X4_need (l : Launch) {D : va_G} {dA : WK} {a : Ix → Nat} (hD : wD D dA a) {F : St} {p1 : Int32} (hv0 : wVd dA (16, 0, 0)) (h : fn_X4_need F p1 = some ()) : Mv l yX4_need cX4_need 2 0 0 D dA a F [.ref (a (16, 0, 0)), .int p1] F := by
  refine fun sz => mst (Qc := fun sz => wQv D dA a sz F) (by decide) (Nat.le_of_ble_eq_true rfl) ?_ sz
  intro p e s m below meth c S hr hlk hK hW ls hl
  have hl : lv_has ls 2 [(0, .ref (a (16, 0, 0))), (1, .int p1)] := hl
  have hx := S.1
  have hb := S.2.1
  generalize ([.ref (a (16, 0, 0)), .int p1] : List Value).toArray = av at S ⊢
  unfold fn_X4_need at h
  obtain ⟨H, eH⟩ : ∃ z, z = s.heap := ⟨_, rfl⟩
  obtain ⟨locs, eL⟩ : ∃ z : List Loc, z = [] := ⟨_, rfl⟩
  show WX p l e (rmL 0 0) s m av below meth c (wQv D dA a s.heap.size F) dA a s.heap [] (F0 m 0 ls [])
  have hW : wS D dA a s F H locs := by rw [eH, eL]; exact wS_in hW
  refine wx_in eH eL ?_
  clear eH eL
  refine lv_iload_n hx hb dX4_need_0 rfl (lv_at hl 1 rfl) ?_
  refine lv_if_ne (tgt := 16) hx hb dX4_need_1 (by decide) (fun c1 => ?_) (fun c1 => ?_)
  · have h := if_f h c1
    cases h
    exact we_v S hr hlk hW dX4_need_16
  · have h := if_t h c1
    cases h
set_option maxHeartbeats 4000000 in
theorem met_X4_need_t (l : Launch) {D : va_G} {dA : WK} {a : Ix → Nat} (hD : wD D dA a) {F : St} {b : Int32} (hb0 : b = 0) (hv0 : wVd dA (16, 0, 0)) (sz : Nat) : MetT l yX4_need (ws_ yX4_need cX4_need 2 none) (rmC 4 81 1 7) (wPreC D dA a F sz [.ref (a (16, 0, 0)), .int b]) (wQt D dA a sz F) 1 7 (wA dA a sz) := by
  refine rst (ρ := Unit) (Qc := fun sz _ => wQv D dA a sz F) (Qt := fun sz => wQt D dA a sz F) (ro := none) (by decide) (Nat.le_of_ble_eq_true rfl) ?_ sz
  intro p e s m below meth c S hr hlk hne hK hC hW ls hl
  have hl : lv_has ls 2 [(0, .ref (a (16, 0, 0))), (1, .int b)] := hl
  have hx := S.1
  have hb := S.2.1
  have hap : slAp D := hD.2
  generalize ([.ref (a (16, 0, 0)), .int b] : List Value).toArray = av at S ⊢
  have hX := XS_in hW
  refine lv_iload_n hx hb dX4_need_0 rfl (lv_at hl 1 rfl) ?_
  refine lv_if_ne (tgt := 16) hx hb dX4_need_1 (by decide) (fun c => absurd hb0 c) (fun _ => ?_)
  refine xnew (ci := 9) (fs := f9) (z := s.heap.size) S in_X9 tyX9 tyX9_ok q487 q488 q70 hK hX rfl (by decide +kernel) rfl (Nat.le_of_ble_eq_true rfl) (Nat.le_of_ble_eq_true rfl) dX4_need_4 (fun H hz hX => ?_)
  have hX : XS D dA a s F [(s.heap.size, .inr (9, f9))] H [] := hX
  refine lv_dup hx hb dX4_need_7 rfl ?_
  refine lv_aload_n hx hb dX4_need_8 rfl (lv_at hl 0 rfl) ?_
  refine gf_16_3 S hK hX.1 hv0 q181 dX4_need_9 ?_
  have hAA : ∀ r, va_A [(s.heap.size, .inr (9, f9))] H.size r → wA dA a s.heap.size r := by
    rintro r (⟨k, e2, hk⟩ | hk)
    · have h1 : k < 1 := (List.getElem?_eq_some_iff.mp hk).1
      rw [show k = 0 by omega] at hk
      injection hk with hk
      have h2 : s.heap.size = r := congrArg Prod.fst hk
      exact Or.inr (by omega)
    · exact Or.inr (by omega)
  refine xck (q0 := 0) (x2 := .inr (9, fE dA (F 16 3 0 0))) (va_runI (As := [.int (F 16 3 0 0)]) (rest := [.ref s.heap.size]) S (met_X9_init l hap s.heap.size H.size (F 16 3 0 0)) (cwI 1 S.2.2.2.2 (lw_meth q526) rfl rfl rfl (S.2.2.2.2 _ q70) (S.2.2.2.2 _ q524) (S.2.2.2.2 _ q525) rfl yd_X9_init.2 ⟨Nat.le_of_ble_eq_true rfl, Nat.le_of_ble_eq_true rfl⟩) (cpreF hC hK.2.2 hX.1.2.1 hAA hX.2.2.1 rfl (.ref s.heap.size :: [.int (F 16 3 0 0)])) rfl rfl hl.1 rfl (lv_room (Nat.le_of_ble_eq_true rfl)) dX4_need_12 ⟨Nat.le_of_ble_eq_true rfl, Nat.le_of_ble_eq_true rfl⟩) hX rfl (fun H locs hz2 hX => ?_)
  have hX : XS D dA a s F [(s.heap.size, .inr (9, fE dA (F 16 3 0 0)))] H locs := hX
  exact W.athrowT (rest := []) hx hb hne hlk (fun t ht _ => ⟨by rw [ht]; exact hX.1.1, Nat.le_refl _, by rw [ht]; exact hX.2.2.1 0 _ rfl, hX.1.2.1.F ht⟩) hX.1.2.1.2.2 dX4_need_15
theorem yd_X4_number : yX4_number.cls = RX4 ∧ yX4_number.cls ≠ "java/lang/invoke/MethodHandle" ∧ yX4_number.cls ≠ "java/lang/invoke/VarHandle" ∧ (parseMethodDescriptor yX4_number.desc).map (fun d => d.parameters.length) = some 2 := by decide +kernel
set_option maxHeartbeats 4000000 in
theorem met_X4_number (l : Launch) {D : va_G} {dA : WK} {a : Ix → Nat} (hD : wD D dA a) {F : St} {p1 : Int32} {p2 : Int32} {Fz : St} {ro : Option Int32} (hv0 : wVd dA (16, 0, 0)) (h : fn_X4_number F p1 p2 = some (Fz, ro)) (sz : Nat) : MetR l yX4_number (ws_ yX4_number cX4_number 6 (some .int)) (rmC 5 102 1 7) (wPreC D dA a F sz [.ref (a (16, 0, 0)), .int p1, .int p2]) (fun r => wQi D dA a sz Fz r) (wQt D dA a sz Fz) 1 7 (wA dA a sz) ro := by
  refine rst (Qc := fun sz r => wQi D dA a sz Fz r) (Qt := fun sz => wQt D dA a sz Fz) (by decide) (Nat.le_of_ble_eq_true rfl) ?_ sz
  intro p e s m below meth c S hr hlk hne hK hC hW ls hl
  have hlo : ∀ x, wV x → wal dA x → a x < s.heap.size := fun x hv hl => (hW x hv hl).lt
  have hl : lv_has ls 6 [(0, .ref (a (16, 0, 0))), (1, .int p1), (2, .int p2)] := hl
  have hx := S.1
  have hb := S.2.1
  generalize ([.ref (a (16, 0, 0)), .int p1, .int p2] : List Value).toArray = av at S ⊢
  unfold fn_X4_number at h
  obtain ⟨H, eH⟩ : ∃ z, z = s.heap := ⟨_, rfl⟩
  obtain ⟨locs, eL⟩ : ∃ z : List Loc, z = [] := ⟨_, rfl⟩
  have hW : wS D dA a s F H locs := by rw [eH, eL]; exact wS_in hW
  refine wr_in eH eL ?_
  clear eH eL
  refine lv_aload_n hx hb dX4_number_0 rfl (lv_at hl 0 rfl) ?_
  refine gf_16_3 S hK hW hv0 q181 dX4_number_1 ?_
  refine lv_aload_n hx hb dX4_number_4 rfl (lv_at hl 0 rfl) ?_
  refine gf_16_7 S hK hW hv0 q185 dX4_number_5 ?_
  refine gn_0_20 S hK hW (vq_16_7 hv0) q324 dX4_number_8 ?_
  obtain ⟨y3, hz2, h⟩ := ob_e h
  have K4 : ∀ (H : Heap) (locs : List Loc) (ls : Array Slot), wS D dA a s F H locs → lv_has ls 6 [(0, .ref (a (16, 0, 0))), (1, .int p1), (2, .int p2)] → W p l e (rmC 5 102 1 7) s m av below meth c H locs 0 0 (MQR below (fun r => wQi D dA a s.heap.size Fz r) (wQt D dA a s.heap.size Fz) av s 1 7 (wA dA a s.heap.size) ro) (F0 m 44 ls [.int y3]) := by
    intro H locs ls hW hl
    refine lv_istore_n (lv' := [(3, .int y3), (0, .ref (a (16, 0, 0))), (1, .int p1), (2, .int p2)]) hx hb dX4_number_44 rfl hl (by decide) rfl (fun ls hl => ?_)
    refine lv_iconst (v := (0 : Int32)) hx hb dX4_number_45 (by decide) ?_
    refine lv_istore (lv' := [(4, .int (0 : Int32)), (3, .int y3), (0, .ref (a (16, 0, 0))), (1, .int p1), (2, .int p2)]) hx hb dX4_number_46 hl (by decide) rfl (fun ls hl => ?_)
    refine lv_aload_n hx hb dX4_number_48 rfl (lv_at hl 2 rfl) ?_
    refine gf_16_3 S hK hW hv0 q181 dX4_number_49 ?_
    refine lv_istore (lv' := [(5, .int (F 16 3 0 0)), (4, .int (0 : Int32)), (3, .int y3), (0, .ref (a (16, 0, 0))), (1, .int p1), (2, .int p2)]) hx hb dX4_number_52 hl (by decide) rfl (fun ls hl => ?_)
    have L16 : ∀ (n : Nat) (x11 : Int32) (x12 : Int32) (x13 : Int32) (x14 : Int32), lp_X4_number F y3 n x11 x12 = some (x13, x14) → (∀ (H : Heap) (locs : List Loc) (ls : Array Slot), wS D dA a s F H locs → lv_has ls 6 [(0, .ref (a (16, 0, 0))), (1, .int p1), (2, .int p2), (3, .int y3), (4, .int x13)] → W p l e (rmC 5 102 1 7) s m av below meth c H locs 0 0 (MQR below (fun r => wQi D dA a s.heap.size Fz r) (wQt D dA a s.heap.size Fz) av s 1 7 (wA dA a s.heap.size) ro) (F0 m 94 ls [])) → ∀ (H : Heap) (locs : List Loc) (ls : Array Slot), wS D dA a s F H locs → lv_has ls 6 [(0, .ref (a (16, 0, 0))), (1, .int p1), (2, .int p2), (3, .int y3), (4, .int x11), (5, .int x12)] → W p l e (rmC 5 102 1 7) s m av below meth c H locs 0 0 (MQR below (fun r => wQi D dA a s.heap.size Fz r) (wQt D dA a s.heap.size Fz) av s 1 7 (wA dA a s.heap.size) ro) (F0 m 54 ls []) := by
      intro n
      induction n with
      | zero =>
        intro x11 x12 x13 x14 h
        exact absurd (show (none : Option (Int32 × Int32)) = some (x13, x14) from h) (by simp)
      | succ n ih =>
        intro x11 x12 x13 x14 h K15 H locs ls hW hl
        have h := lp_X4_number_s.symm.trans h
        refine lv_iload_n hx hb dX4_number_54 rfl (lv_at hl 3 rfl) ?_
        refine lv_if_eq (tgt := 94) hx hb dX4_number_55 (by decide) (fun c17 => ?_) (fun c17 => ?_)
        · have h := if_t h c17
          cases h
          exact K15 H locs ls hW (lv_sub hl [0, 1, 2, 3, 4] rfl)
        · have h := if_f h c17
          refine lv_iload hx hb dX4_number_58 (lv_at hl 5 rfl) ?_
          refine lv_aload_n hx hb dX4_number_60 rfl (lv_at hl 0 rfl) ?_
          refine gf_16_4 S hK hW hv0 q182 dX4_number_61 ?_
          refine lv_icmp_ge (tgt := 94) hx hb dX4_number_64 (by decide) (fun c18 => ?_) (fun c18 => ?_)
          · have h := if_t h c18
            cases h
            exact K15 H locs ls hW (lv_sub hl [0, 1, 2, 3, 4] rfl)
          · have h := if_f h c18
            refine lv_bipush (v := (10 : Int32)) hx hb dX4_number_67 (by decide) ?_
            refine lv_iload hx hb dX4_number_69 (lv_at hl 4 rfl) ?_
            refine lv_imul hx hb dX4_number_71 ?_
            refine lv_aload_n hx hb dX4_number_72 rfl (lv_at hl 0 rfl) ?_
            refine gf_16_7 S hK hW hv0 q185 dX4_number_73 ?_
            refine gn_0_19 S hK hW (vq_16_7 hv0) q322 dX4_number_76 ?_
            refine lv_iload hx hb dX4_number_79 (lv_at hl 5 rfl) ?_
            obtain ⟨g19, h⟩ := og_e h
            refine ald_15 S hK hW (vq_0_19 (vq_16_7 hv0)) g19 rfl dX4_number_81 ?_
            refine lv_iadd hx hb dX4_number_82 ?_
            refine lv_bipush (v := (48 : Int32)) hx hb dX4_number_83 (by decide) ?_
            refine lv_isub hx hb dX4_number_85 ?_
            refine lv_istore (lv' := [(4, .int ((((10 : Int32) * x11) + (F 15 0 0 x12.toNatClampNeg)) - (48 : Int32))), (0, .ref (a (16, 0, 0))), (1, .int p1), (2, .int p2), (3, .int y3), (5, .int x12)]) hx hb dX4_number_86 hl (by decide) rfl (fun ls hl => ?_)
            refine lv_iinc (v := (x12 + 1)) (lv' := [(5, .int (x12 + 1)), (4, .int ((((10 : Int32) * x11) + (F 15 0 0 x12.toNatClampNeg)) - (48 : Int32))), (0, .ref (a (16, 0, 0))), (1, .int p1), (2, .int p2), (3, .int y3)]) hx hb dX4_number_88 hl (k := 5) rfl rfl (by decide) rfl (fun ls hl => ?_)
            refine lv_goto (tgt := 54) hx hb dX4_number_91 (by decide) ?_
            exact ih _ _ _ _ h K15 H locs ls hW (lv_sub hl [2, 3, 4, 5, 1, 0] rfl)
    obtain ⟨x13, x14, hz22, h⟩ := ob2_e h
    refine L16 300 (0 : Int32) (F 16 3 0 0) x13 x14 hz22 (fun H locs ls hW hl => ?_) H locs ls hW (lv_sub hl [3, 4, 5, 2, 1, 0] rfl)
    refine lv_aload_n hx hb dX4_number_94 rfl (lv_at hl 0 rfl) ?_
    refine lv_iload_n hx hb dX4_number_95 rfl (lv_at hl 3 rfl) ?_
    obtain ⟨y25, hz24, h⟩ := ob_e h
    have K26 : ∀ (H : Heap) (locs : List Loc) (ls : Array Slot), wS D dA a s F H locs → lv_has ls 6 [(0, .ref (a (16, 0, 0))), (4, .int x13)] → W p l e (rmC 5 102 1 7) s m av below meth c H locs 0 0 (MQR below (fun r => wQi D dA a s.heap.size Fz r) (wQt D dA a s.heap.size Fz) av s 1 7 (wA dA a s.heap.size) ro) (F0 m 117 ls [.int y25, .ref (a (16, 0, 0))]) := by
      intro H locs ls hW hl
      by_cases c31 : y25 = 0
      · have h := if_t h c31
        cases h
        have hX := XS_of hW hlo
        exact xk_t hne hlk (runVT (As := [.int y25]) (rest := []) S (met_X4_need_t l hD c31 hv0 H.size) (cwV 1 S.2.2.2.2 (lw_V q483 q485 qs7 q59 q486) rfl rfl rfl yd_X4_need ⟨Nat.le_of_ble_eq_true rfl, Nat.le_of_ble_eq_true rfl⟩) (xpreC hK hC hX hv0 rfl rfl _) rfl rfl hl.1 rfl (lv_room (Nat.le_of_ble_eq_true rfl)) dX4_number_117 ⟨Nat.le_of_ble_eq_true rfl, Nat.le_of_ble_eq_true rfl⟩) hX
      have h := if_f h c31
      have hc30 : fn_X4_need F y25 = some () := if_neg c31
      refine wk_v (va_runV (As := [.int y25]) (rest := []) S (met_X4_need l hD hv0 hc30 H.size) (cwV 1 S.2.2.2.2 (lw_V q483 q485 qs7 q59 q486) rfl rfl rfl yd_X4_need ⟨Nat.le_of_ble_eq_true rfl, Nat.le_of_ble_eq_true rfl⟩) (wpreV hK hW hv0 rfl rfl _) rfl rfl hl.1 rfl (lv_room (Nat.le_of_ble_eq_true rfl)) dX4_number_117 ⟨Nat.le_of_ble_eq_true rfl, Nat.le_of_ble_eq_true rfl⟩) hW (fun H locs hW => ?_)
      refine lv_aload_n hx hb dX4_number_120 rfl (lv_at hl 0 rfl) ?_
      obtain ⟨F32, hc33, h⟩ := ob_e h
      refine wk_v (va_runV (As := []) (rest := []) S (met_X4_token l hD hv0 hc33 H.size) (cwV 0 S.2.2.2.2 (lw_V q405 q407 qs1 q59 q408) rfl rfl rfl yd_X4_token ⟨Nat.le_of_ble_eq_true rfl, Nat.le_of_ble_eq_true rfl⟩) (wpreV hK hW hv0 rfl rfl _) rfl rfl hl.1 rfl (lv_room (Nat.le_of_ble_eq_true rfl)) dX4_number_121 ⟨Nat.le_of_ble_eq_true rfl, Nat.le_of_ble_eq_true rfl⟩) hW (fun H locs hW => ?_)
      refine lv_iload hx hb dX4_number_124 (lv_at hl 1 rfl) ?_
      cases h
      exact W_lo (Nat.zero_le 1) (Nat.zero_le 7) (we_i S hr hlk hW dX4_number_126)
    clear h
    refine lv_if_eq (tgt := 116) hx hb dX4_number_96 (by decide) (fun c23 => ?_) (fun c23 => ?_)
    · have h := if_t hz24 c23
      refine lv_iconst (v := (0 : Int32)) hx hb dX4_number_116 (by decide) ?_
      cases h
      exact K26 H locs ls hW (lv_sub hl [0, 4] rfl)
    · have h := if_f hz24 c23
      refine lv_iload hx hb dX4_number_99 (lv_at hl 4 rfl) ?_
      refine lv_i2l hx hb dX4_number_101 rfl ?_
      refine lv_iload_n hx hb dX4_number_102 rfl (lv_at hl 1 rfl) ?_
      refine lv_i2l hx hb dX4_number_103 rfl ?_
      refine lv_iload_n hx hb dX4_number_104 rfl (lv_at hl 2 rfl) ?_
      refine lv_i2l hx hb dX4_number_105 rfl ?_
      obtain ⟨r27, hc28, h⟩ := ob_e h
      refine wk_i (va_runSN (As := [.long x13.toInt64, .long p1.toInt64, .long p2.toInt64]) (rest := [.ref (a (16, 0, 0))]) S (met_X0_isIn l hD hc28 H.size) ⟨va_cnB 3 S.2.2.2.2 (lw_meth q391) rfl rfl rfl (hK.2.1 _ (List.mem_filter.mpr ⟨q415, rfl⟩)) (S.2.2.2.2 _ q55) yd_X0_isIn.2 ⟨Nat.le_of_ble_eq_true rfl, Nat.le_of_ble_eq_true rfl⟩, S.2.2.2.2 _ q390, trivial⟩ (wpreS hK hW _) rfl rfl hl.1 rfl (lv_room (Nat.le_of_ble_eq_true rfl)) dX4_number_106 ⟨Nat.le_of_ble_eq_true rfl, Nat.le_of_ble_eq_true rfl⟩) hW (fun H locs hW => ?_)
      refine lv_if_eq (tgt := 116) hx hb dX4_number_109 (by decide) (fun c29 => ?_) (fun c29 => ?_)
      · have h := if_t h c29
        refine lv_iconst (v := (0 : Int32)) hx hb dX4_number_116 (by decide) ?_
        cases h
        exact K26 H locs ls hW (lv_sub hl [0, 4] rfl)
      · have h := if_f h c29
        refine lv_iconst (v := (1 : Int32)) hx hb dX4_number_112 (by decide) ?_
        refine lv_goto (tgt := 117) hx hb dX4_number_113 (by decide) ?_
        cases h
        exact K26 H locs ls hW (lv_sub hl [0, 4] rfl)
  clear h
  refine lv_icmp_ge (tgt := 43) hx hb dX4_number_11 (by decide) (fun c1 => ?_) (fun c1 => ?_)
  · have h := if_t hz2 c1
    refine lv_iconst (v := (0 : Int32)) hx hb dX4_number_43 (by decide) ?_
    cases h
    exact K4 H locs ls hW (lv_sub hl [0, 1, 2] rfl)
  · have h := if_f hz2 c1
    refine lv_aload_n hx hb dX4_number_14 rfl (lv_at hl 0 rfl) ?_
    refine lv_aload_n hx hb dX4_number_15 rfl (lv_at hl 0 rfl) ?_
    refine gf_16_3 S hK hW hv0 q181 dX4_number_16 ?_
    obtain ⟨r5, hc6, h⟩ := ob_e h
    refine wk_i (va_runV (As := [.int (F 16 3 0 0)]) (rest := []) S (met_X4_kindAt l hD hv0 hc6 H.size) (cwV 1 S.2.2.2.2 (lw_V q409 q411 qs2 q59 q412) rfl rfl rfl yd_X4_kindAt ⟨Nat.le_of_ble_eq_true rfl, Nat.le_of_ble_eq_true rfl⟩) (wpreV hK hW hv0 rfl rfl _) rfl rfl hl.1 rfl (lv_room (Nat.le_of_ble_eq_true rfl)) dX4_number_19 ⟨Nat.le_of_ble_eq_true rfl, Nat.le_of_ble_eq_true rfl⟩) hW (fun H locs hW => ?_)
    refine lv_iconst (v := (2 : Int32)) hx hb dX4_number_22 (by decide) ?_
    refine lv_icmp_ne (tgt := 43) hx hb dX4_number_23 (by decide) (fun c7 => ?_) (fun c7 => ?_)
    · have h := if_f h c7
      refine lv_iconst (v := (0 : Int32)) hx hb dX4_number_43 (by decide) ?_
      cases h
      exact K4 H locs ls hW (lv_sub hl [0, 1, 2] rfl)
    · have h := if_t h c7
      refine lv_aload_n hx hb dX4_number_26 rfl (lv_at hl 0 rfl) ?_
      refine gf_16_4 S hK hW hv0 q182 dX4_number_27 ?_
      refine lv_aload_n hx hb dX4_number_30 rfl (lv_at hl 0 rfl) ?_
      refine gf_16_3 S hK hW hv0 q181 dX4_number_31 ?_
      refine lv_isub hx hb dX4_number_34 ?_
      refine lv_iconst (v := (3 : Int32)) hx hb dX4_number_35 (by decide) ?_
      refine lv_icmp_gt (tgt := 43) hx hb dX4_number_36 (by decide) (fun c8 => ?_) (fun c8 => ?_)
      · have h := if_f h (Int32.not_le.mpr c8)
        refine lv_iconst (v := (0 : Int32)) hx hb dX4_number_43 (by decide) ?_
        cases h
        exact K4 H locs ls hW (lv_sub hl [0, 1, 2] rfl)
      · have h := if_t h (Int32.not_lt.mp c8)
        refine lv_iconst (v := (1 : Int32)) hx hb dX4_number_39 (by decide) ?_
        refine lv_goto (tgt := 44) hx hb dX4_number_40 (by decide) ?_
        cases h
        exact K4 H locs ls hW (lv_sub hl [0, 1, 2] rfl)

