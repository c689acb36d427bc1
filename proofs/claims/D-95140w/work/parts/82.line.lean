/-! line: which line it is, and the making of it -/
set_option maxRecDepth 100000
theorem skw_e {i : Nat} {F : St} {yes no : St → Option (St × Option Ln)} {r : St × Option Ln} (h : skw i F yes no = some r) : ∃ F1 x, fn_X4_skips F i = some (F1, x) ∧ (if x = 0 then no F1 else yes F1) = some r := ob2_e h
theorem yd_X4_line : yX4_line.cls = RX4 ∧ yX4_line.cls ≠ "java/lang/invoke/MethodHandle" ∧ yX4_line.cls ≠ "java/lang/invoke/VarHandle" ∧ (parseMethodDescriptor yX4_line.desc).map (fun d => d.parameters.length) = some 0 := by decide +kernel
set_option maxHeartbeats 8000000 in
theorem met_X4_line (l : Launch) {D : va_G} {dA : WK} {a : Ix → Nat} (hD : wD D dA a) {F : St} {Fz : St} {ro : Option Ln} (hv0 : wVd dA (16, 0, 0)) (h : fn_X4_line F = some (Fz, ro)) (sz : Nat) : MetR l yX4_line (ws_ yX4_line cX4_line 3 (some (.object "WaterGrounds$Line"))) (rmC 7 150 7 44) (wPreC D dA a F sz [.ref (a (16, 0, 0))]) (fun r => wQr D dA a sz Fz r) (wQt D dA a sz Fz) 7 44 (wA dA a sz) ro := by
  refine rst (Qc := fun sz r => wQr D dA a sz Fz r) (Qt := fun sz => wQt D dA a sz Fz) (by decide) (Nat.le_of_ble_eq_true rfl) ?_ sz
  intro p e s m below meth c S hr hlk hne hK hC hW ls hl
  have hl : lv_has ls 3 [(0, .ref (a (16, 0, 0)))] := hl
  have hx := S.1
  have hb := S.2.1
  have hap : slAp D := hD.2
  generalize ([.ref (a (16, 0, 0))] : List Value).toArray = av at S ⊢
  have hX := XS_in hW
  obtain ⟨H, eH⟩ : ∃ z, z = s.heap := ⟨_, rfl⟩
  obtain ⟨locs, eL⟩ : ∃ z : List Loc, z = [] := ⟨_, rfl⟩
  have hX : XS D dA a s F [] H locs := by rw [eH, eL]; exact hX
  refine wr_in eH eL ?_
  clear eH eL
  unfold fn_X4_line at h
  obtain ⟨F1, r2, hc3, h⟩ := skw_e h
  refine lv_aload_n hx hb dX4_line_0 rfl (lv_at hl 0 rfl) ?_
  refine ks_ldc (i := 0) S hK rfl dX4_line_1 ?_
  refine xk_i (va_runV (As := [.ref (dA.2.1 0)]) (rest := []) S (met_X4_skips l hD hv0 (by decide) hc3 H.size) (cwV 1 S.2.2.2.2 (lw_V q423 q425 qs4 q59 q426) rfl rfl rfl yd_X4_skips ⟨Nat.le_of_ble_eq_true rfl, Nat.le_of_ble_eq_true rfl⟩) (xpreV hK hX hv0 rfl rfl _) rfl rfl hl.1 rfl (lv_room (Nat.le_of_ble_eq_true rfl)) dX4_line_3 ⟨Nat.le_of_ble_eq_true rfl, Nat.le_of_ble_eq_true rfl⟩) hX (fun H locs hX => ?_)
  have hX : XS D dA a s F1 [] H locs := hX
  refine lv_if_eq (tgt := 14) hx hb dX4_line_6 (by decide) (fun c4 => ?noc4) (fun c4 => ?yesc4)
  case yesc4 =>
    have h := if_f h c4
    refine lv_aload_n hx hb dX4_line_9 rfl (lv_at hl 0 rfl) ?_
    rcases ro with _ | ln
    · exact W_lo (cells' := 3) (slots' := 25) (Nat.le_of_ble_eq_true rfl) (Nat.le_of_ble_eq_true rfl) (xk_t hne hlk (runVT (As := []) (rest := []) S (met_X4_ofBed l hD hv0 h H.size) (cwV 0 S.2.2.2.2 (lw_V q475 q477 qs5 q59 q478) rfl rfl rfl yd_X4_ofBed ⟨Nat.le_of_ble_eq_true rfl, Nat.le_of_ble_eq_true rfl⟩) (xpreC hK hC hX hv0 rfl rfl _) rfl rfl hl.1 rfl (lv_room (Nat.le_of_ble_eq_true rfl)) dX4_line_10 ⟨Nat.le_of_ble_eq_true rfl, Nat.le_of_ble_eq_true rfl⟩) hX)
    · exact W_lo (cells' := 3) (slots' := 25) (Nat.le_of_ble_eq_true rfl) (Nat.le_of_ble_eq_true rfl) (xk_ra S hr hlk (va_runV (As := []) (rest := []) S (met_X4_ofBed l hD hv0 h H.size) (cwV 0 S.2.2.2.2 (lw_V q475 q477 qs5 q59 q478) rfl rfl rfl yd_X4_ofBed ⟨Nat.le_of_ble_eq_true rfl, Nat.le_of_ble_eq_true rfl⟩) (xpreC hK hC hX hv0 rfl rfl _) rfl rfl hl.1 rfl (lv_room (Nat.le_of_ble_eq_true rfl)) dX4_line_10 ⟨Nat.le_of_ble_eq_true rfl, Nat.le_of_ble_eq_true rfl⟩) hX dX4_line_13)
  have h := if_t h c4
  obtain ⟨F5, r6, hc7, h⟩ := skw_e h
  refine lv_aload_n hx hb dX4_line_14 rfl (lv_at hl 0 rfl) ?_
  refine ks_ldc (i := 1) S hK rfl dX4_line_15 ?_
  refine xk_i (va_runV (As := [.ref (dA.2.1 1)]) (rest := []) S (met_X4_skips l hD hv0 (by decide) hc7 H.size) (cwV 1 S.2.2.2.2 (lw_V q423 q425 qs4 q59 q426) rfl rfl rfl yd_X4_skips ⟨Nat.le_of_ble_eq_true rfl, Nat.le_of_ble_eq_true rfl⟩) (xpreV hK hX hv0 rfl rfl _) rfl rfl hl.1 rfl (lv_room (Nat.le_of_ble_eq_true rfl)) dX4_line_17 ⟨Nat.le_of_ble_eq_true rfl, Nat.le_of_ble_eq_true rfl⟩) hX (fun H locs hX => ?_)
  have hX : XS D dA a s F5 [] H locs := hX
  refine lv_if_eq (tgt := 43) hx hb dX4_line_20 (by decide) (fun c8 => ?noc8) (fun c8 => ?yesc8)
  case yesc8 =>
    have h : obT (rdN (fun _ _ _ => (0, 99)) 3 0 F5 (fun _ => 0)) (fun F1 t => some (F1, some ((12, 0, 3, t) : Ln))) = some (Fz, ro) := if_f h c8
    obtain ⟨z9, hz9⟩ : ∃ z, H.size = z := ⟨_, rfl⟩
    refine xnew (ci := 12) (fs := [.null, .null, .int (0 : Int32), .null]) (z := z9) S in_X12 tyX12 tyX12_ok q581 q582 q73 hK hX rfl (by decide +kernel) hz9 (Nat.le_of_ble_eq_true rfl) (Nat.le_of_ble_eq_true rfl) dX4_line_23 (fun H _ hX => ?_)
    have hX : XS D dA a s F5 [(z9, .inr (12, [.null, .null, .int (0 : Int32), .null]))] H locs := hX
    refine lv_dup hx hb dX4_line_26 rfl ?_
    refine lv_aload_n hx hb dX4_line_27 rfl (lv_at hl 0 rfl) ?_
    refine gf_16_7 S hK hX.1 hv0 q185 dX4_line_28 ?_
    refine lv_iconst (v := (0 : Int32)) hx hb dX4_line_31 (by decide) ?_
    refine lv_aload_n hx hb dX4_line_32 rfl (lv_at hl 0 rfl) ?_
    refine kt_get (k := 0) S hK hX.1 rfl q583 dX4_line_33 ?_
    obtain ⟨F10, t11, hc12, h⟩ := obT_e h
    rcases t11 with _ | t11
    · have h : (some (F10, none) : Option (St × Option Ln)) = some (Fz, ro) := h
      cases h
      exact W_lo (cells' := 3) (slots' := 20) (Nat.le_of_ble_eq_true rfl) (Nat.le_of_ble_eq_true rfl) (xk_t hne hlk (runVT (As := [.ref (dA.2.2.2.1 0)]) (rest := [.int (0 : Int32), .ref (a (0, 0, 0)), .ref z9, .ref z9]) S (met_X4_numbers_0 l hD hv0 hc12 H.size) (cwV 1 S.2.2.2.2 (lw_V q585 q587 qs9 q59 q588) rfl rfl rfl yd_X4_numbers ⟨Nat.le_of_ble_eq_true rfl, Nat.le_of_ble_eq_true rfl⟩) (xpreC hK hC hX hv0 rfl rfl _) rfl rfl hl.1 rfl (lv_room (Nat.le_of_ble_eq_true rfl)) dX4_line_36 ⟨Nat.le_of_ble_eq_true rfl, Nat.le_of_ble_eq_true rfl⟩) hX)
    dsimp only at h
    refine xk_n (va_runV (As := [.ref (dA.2.2.2.1 0)]) (rest := [.int (0 : Int32), .ref (a (0, 0, 0)), .ref z9, .ref z9]) S (met_X4_numbers_0 l hD hv0 hc12 H.size) (cwV 1 S.2.2.2.2 (lw_V q585 q587 qs9 q59 q588) rfl rfl rfl yd_X4_numbers ⟨Nat.le_of_ble_eq_true rfl, Nat.le_of_ble_eq_true rfl⟩) (xpreC hK hC hX hv0 rfl rfl _) rfl rfl hl.1 rfl (lv_room (Nat.le_of_ble_eq_true rfl)) dX4_line_36 ⟨Nat.le_of_ble_eq_true rfl, Nat.le_of_ble_eq_true rfl⟩) hX (fun z13 H locs hX => ?_)
    have hX : XS D dA a s F10 [(z9, .inr (12, [.null, .null, .int (0 : Int32), .null])), (z13, .inl (dA.1 0, 3, .inl t11))] H locs := hX
    refine xck (q0 := 0) (x2 := .inr (12, [.ref z13, .ref (a (0, 0, 0)), .int (0 : Int32), .ref (a (0, 0, 0))])) (va_runI (As := [.ref (a (0, 0, 0)), .int (0 : Int32), .ref z13]) (rest := [.ref z9]) S (met_X12_init l hap z9 H.size (a (0, 0, 0)) (0 : Int32) z13) (cwI 3 S.2.2.2.2 (lw_meth q591) rfl rfl rfl (S.2.2.2.2 _ q73) (S.2.2.2.2 _ q589) (S.2.2.2.2 _ q590) rfl yd_X12_init.2 ⟨Nat.le_of_ble_eq_true rfl, Nat.le_of_ble_eq_true rfl⟩) (cpreS hC (hX.2.2.1.sub (ws' := [(z9, .inr (12, [.null, .null, .int (0 : Int32), .null]))]) [0] rfl) (hX.2.2.2.sub (ws' := [(z9, .inr (12, [.null, .null, .int (0 : Int32), .null]))]) [0] (by decide) rfl) rfl (.ref z9 :: [.ref (a (0, 0, 0)), .int (0 : Int32), .ref z13])) rfl rfl hl.1 rfl (lv_room (Nat.le_of_ble_eq_true rfl)) dX4_line_39 ⟨Nat.le_of_ble_eq_true rfl, Nat.le_of_ble_eq_true rfl⟩) hX rfl (fun H locs _ hX => ?_)
    have hX : XS D dA a s F10 [(z9, .inr (12, [.ref z13, .ref (a (0, 0, 0)), .int (0 : Int32), .ref (a (0, 0, 0))])), (z13, .inl (dA.1 0, 3, .inl t11))] H locs := hX
    have h : (some (F10, some (12, 0, 3, t11)) : Option (St × Option Ln)) = some (Fz, ro) := h
    cases h
    exact W_lo (cells' := 7) (slots' := 44) (Nat.le_of_ble_eq_true rfl) (Nat.le_of_ble_eq_true rfl) (W.aret S.1 S.2.1 hr (Or.inl ⟨_, rfl⟩) (Or.inr ⟨_, rfl⟩) (fun t ht _ => ⟨⟨z13, z9, rfl, trivial, by rw [ht]; exact hX.1.1, by rw [ht]; exact hX.2.2.1.sub [0, 1] rfl, hX.2.2.2.sub [0, 1] (by decide) rfl, fun q => absurd (show (3 : Nat) = 0 from q) (by decide), Nat.le_of_ble_eq_true rfl⟩, hX.1.2.1.F ht⟩) hX.1.2.1.2.2 dX4_line_42 hlk)
  have h := if_t h c8
  obtain ⟨F14, r15, hc16, h⟩ := skw_e h
  refine lv_aload_n hx hb dX4_line_43 rfl (lv_at hl 0 rfl) ?_
  refine ks_ldc (i := 2) S hK rfl dX4_line_44 ?_
  refine xk_i (va_runV (As := [.ref (dA.2.1 2)]) (rest := []) S (met_X4_skips l hD hv0 (by decide) hc16 H.size) (cwV 1 S.2.2.2.2 (lw_V q423 q425 qs4 q59 q426) rfl rfl rfl yd_X4_skips ⟨Nat.le_of_ble_eq_true rfl, Nat.le_of_ble_eq_true rfl⟩) (xpreV hK hX hv0 rfl rfl _) rfl rfl hl.1 rfl (lv_room (Nat.le_of_ble_eq_true rfl)) dX4_line_46 ⟨Nat.le_of_ble_eq_true rfl, Nat.le_of_ble_eq_true rfl⟩) hX (fun H locs hX => ?_)
  have hX : XS D dA a s F14 [] H locs := hX
  refine lv_if_eq (tgt := 72) hx hb dX4_line_49 (by decide) (fun c17 => ?noc17) (fun c17 => ?yesc17)
  case yesc17 =>
    have h : obT (rdN (fun _ _ _ => (0, 100)) 3 0 F14 (fun _ => 0)) (fun F1 t => some (F1, some ((12, 1, 3, t) : Ln))) = some (Fz, ro) := if_f h c17
    obtain ⟨z18, hz18⟩ : ∃ z, H.size = z := ⟨_, rfl⟩
    refine xnew (ci := 12) (fs := [.null, .null, .int (0 : Int32), .null]) (z := z18) S in_X12 tyX12 tyX12_ok q581 q582 q73 hK hX rfl (by decide +kernel) hz18 (Nat.le_of_ble_eq_true rfl) (Nat.le_of_ble_eq_true rfl) dX4_line_52 (fun H _ hX => ?_)
    have hX : XS D dA a s F14 [(z18, .inr (12, [.null, .null, .int (0 : Int32), .null]))] H locs := hX
    refine lv_dup hx hb dX4_line_55 rfl ?_
    refine lv_aload_n hx hb dX4_line_56 rfl (lv_at hl 0 rfl) ?_
    refine gf_16_7 S hK hX.1 hv0 q185 dX4_line_57 ?_
    refine lv_iconst (v := (1 : Int32)) hx hb dX4_line_60 (by decide) ?_
    refine lv_aload_n hx hb dX4_line_61 rfl (lv_at hl 0 rfl) ?_
    refine kt_get (k := 1) S hK hX.1 rfl q603 dX4_line_62 ?_
    obtain ⟨F19, t20, hc21, h⟩ := obT_e h
    rcases t20 with _ | t20
    · have h : (some (F19, none) : Option (St × Option Ln)) = some (Fz, ro) := h
      cases h
      exact W_lo (cells' := 3) (slots' := 20) (Nat.le_of_ble_eq_true rfl) (Nat.le_of_ble_eq_true rfl) (xk_t hne hlk (runVT (As := [.ref (dA.2.2.2.1 1)]) (rest := [.int (1 : Int32), .ref (a (0, 0, 0)), .ref z18, .ref z18]) S (met_X4_numbers_1 l hD hv0 hc21 H.size) (cwV 1 S.2.2.2.2 (lw_V q585 q587 qs9 q59 q588) rfl rfl rfl yd_X4_numbers ⟨Nat.le_of_ble_eq_true rfl, Nat.le_of_ble_eq_true rfl⟩) (xpreC hK hC hX hv0 rfl rfl _) rfl rfl hl.1 rfl (lv_room (Nat.le_of_ble_eq_true rfl)) dX4_line_65 ⟨Nat.le_of_ble_eq_true rfl, Nat.le_of_ble_eq_true rfl⟩) hX)
    dsimp only at h
    refine xk_n (va_runV (As := [.ref (dA.2.2.2.1 1)]) (rest := [.int (1 : Int32), .ref (a (0, 0, 0)), .ref z18, .ref z18]) S (met_X4_numbers_1 l hD hv0 hc21 H.size) (cwV 1 S.2.2.2.2 (lw_V q585 q587 qs9 q59 q588) rfl rfl rfl yd_X4_numbers ⟨Nat.le_of_ble_eq_true rfl, Nat.le_of_ble_eq_true rfl⟩) (xpreC hK hC hX hv0 rfl rfl _) rfl rfl hl.1 rfl (lv_room (Nat.le_of_ble_eq_true rfl)) dX4_line_65 ⟨Nat.le_of_ble_eq_true rfl, Nat.le_of_ble_eq_true rfl⟩) hX (fun z22 H locs hX => ?_)
    have hX : XS D dA a s F19 [(z18, .inr (12, [.null, .null, .int (0 : Int32), .null])), (z22, .inl (dA.1 0, 3, .inl t20))] H locs := hX
    refine xck (q0 := 0) (x2 := .inr (12, [.ref z22, .ref (a (0, 0, 0)), .int (1 : Int32), .ref (a (0, 0, 0))])) (va_runI (As := [.ref (a (0, 0, 0)), .int (1 : Int32), .ref z22]) (rest := [.ref z18]) S (met_X12_init l hap z18 H.size (a (0, 0, 0)) (1 : Int32) z22) (cwI 3 S.2.2.2.2 (lw_meth q591) rfl rfl rfl (S.2.2.2.2 _ q73) (S.2.2.2.2 _ q589) (S.2.2.2.2 _ q590) rfl yd_X12_init.2 ⟨Nat.le_of_ble_eq_true rfl, Nat.le_of_ble_eq_true rfl⟩) (cpreS hC (hX.2.2.1.sub (ws' := [(z18, .inr (12, [.null, .null, .int (0 : Int32), .null]))]) [0] rfl) (hX.2.2.2.sub (ws' := [(z18, .inr (12, [.null, .null, .int (0 : Int32), .null]))]) [0] (by decide) rfl) rfl (.ref z18 :: [.ref (a (0, 0, 0)), .int (1 : Int32), .ref z22])) rfl rfl hl.1 rfl (lv_room (Nat.le_of_ble_eq_true rfl)) dX4_line_68 ⟨Nat.le_of_ble_eq_true rfl, Nat.le_of_ble_eq_true rfl⟩) hX rfl (fun H locs _ hX => ?_)
    have hX : XS D dA a s F19 [(z18, .inr (12, [.ref z22, .ref (a (0, 0, 0)), .int (1 : Int32), .ref (a (0, 0, 0))])), (z22, .inl (dA.1 0, 3, .inl t20))] H locs := hX
    have h : (some (F19, some (12, 1, 3, t20)) : Option (St × Option Ln)) = some (Fz, ro) := h
    cases h
    exact W_lo (cells' := 7) (slots' := 44) (Nat.le_of_ble_eq_true rfl) (Nat.le_of_ble_eq_true rfl) (W.aret S.1 S.2.1 hr (Or.inl ⟨_, rfl⟩) (Or.inr ⟨_, rfl⟩) (fun t ht _ => ⟨⟨z22, z18, rfl, trivial, by rw [ht]; exact hX.1.1, by rw [ht]; exact hX.2.2.1.sub [0, 1] rfl, hX.2.2.2.sub [0, 1] (by decide) rfl, fun q => absurd (show (3 : Nat) = 0 from q) (by decide), Nat.le_of_ble_eq_true rfl⟩, hX.1.2.1.F ht⟩) hX.1.2.1.2.2 dX4_line_71 hlk)
  have h := if_t h c17
  obtain ⟨F23, r24, hc25, h⟩ := skw_e h
  refine lv_aload_n hx hb dX4_line_72 rfl (lv_at hl 0 rfl) ?_
  refine ks_ldc (i := 3) S hK rfl dX4_line_73 ?_
  refine xk_i (va_runV (As := [.ref (dA.2.1 3)]) (rest := []) S (met_X4_skips l hD hv0 (by decide) hc25 H.size) (cwV 1 S.2.2.2.2 (lw_V q423 q425 qs4 q59 q426) rfl rfl rfl yd_X4_skips ⟨Nat.le_of_ble_eq_true rfl, Nat.le_of_ble_eq_true rfl⟩) (xpreV hK hX hv0 rfl rfl _) rfl rfl hl.1 rfl (lv_room (Nat.le_of_ble_eq_true rfl)) dX4_line_75 ⟨Nat.le_of_ble_eq_true rfl, Nat.le_of_ble_eq_true rfl⟩) hX (fun H locs hX => ?_)
  have hX : XS D dA a s F23 [] H locs := hX
  refine lv_if_eq (tgt := 101) hx hb dX4_line_78 (by decide) (fun c26 => ?noc26) (fun c26 => ?yesc26)
  case yesc26 =>
    have h : obT (rdN (fun k _ _ => (0, if k = 0 then 95 else 9)) 2 0 F23 (fun _ => 0)) (fun F1 t => some (F1, some ((12, 2, 2, t) : Ln))) = some (Fz, ro) := if_f h c26
    obtain ⟨z27, hz27⟩ : ∃ z, H.size = z := ⟨_, rfl⟩
    refine xnew (ci := 12) (fs := [.null, .null, .int (0 : Int32), .null]) (z := z27) S in_X12 tyX12 tyX12_ok q581 q582 q73 hK hX rfl (by decide +kernel) hz27 (Nat.le_of_ble_eq_true rfl) (Nat.le_of_ble_eq_true rfl) dX4_line_81 (fun H _ hX => ?_)
    have hX : XS D dA a s F23 [(z27, .inr (12, [.null, .null, .int (0 : Int32), .null]))] H locs := hX
    refine lv_dup hx hb dX4_line_84 rfl ?_
    refine lv_aload_n hx hb dX4_line_85 rfl (lv_at hl 0 rfl) ?_
    refine gf_16_7 S hK hX.1 hv0 q185 dX4_line_86 ?_
    refine lv_iconst (v := (2 : Int32)) hx hb dX4_line_89 (by decide) ?_
    refine lv_aload_n hx hb dX4_line_90 rfl (lv_at hl 0 rfl) ?_
    refine kt_get (k := 2) S hK hX.1 rfl q606 dX4_line_91 ?_
    obtain ⟨F28, t29, hc30, h⟩ := obT_e h
    rcases t29 with _ | t29
    · have h : (some (F28, none) : Option (St × Option Ln)) = some (Fz, ro) := h
      cases h
      exact W_lo (cells' := 4) (slots' := 28) (Nat.le_of_ble_eq_true rfl) (Nat.le_of_ble_eq_true rfl) (xk_t hne hlk (runVT (As := [.ref (dA.2.2.2.1 2)]) (rest := [.int (2 : Int32), .ref (a (0, 0, 0)), .ref z27, .ref z27]) S (met_X4_numbers_2 l hD hv0 hc30 H.size) (cwV 1 S.2.2.2.2 (lw_V q585 q587 qs9 q59 q588) rfl rfl rfl yd_X4_numbers ⟨Nat.le_of_ble_eq_true rfl, Nat.le_of_ble_eq_true rfl⟩) (xpreC hK hC hX hv0 rfl rfl _) rfl rfl hl.1 rfl (lv_room (Nat.le_of_ble_eq_true rfl)) dX4_line_94 ⟨Nat.le_of_ble_eq_true rfl, Nat.le_of_ble_eq_true rfl⟩) hX)
    dsimp only at h
    refine xk_n (va_runV (As := [.ref (dA.2.2.2.1 2)]) (rest := [.int (2 : Int32), .ref (a (0, 0, 0)), .ref z27, .ref z27]) S (met_X4_numbers_2 l hD hv0 hc30 H.size) (cwV 1 S.2.2.2.2 (lw_V q585 q587 qs9 q59 q588) rfl rfl rfl yd_X4_numbers ⟨Nat.le_of_ble_eq_true rfl, Nat.le_of_ble_eq_true rfl⟩) (xpreC hK hC hX hv0 rfl rfl _) rfl rfl hl.1 rfl (lv_room (Nat.le_of_ble_eq_true rfl)) dX4_line_94 ⟨Nat.le_of_ble_eq_true rfl, Nat.le_of_ble_eq_true rfl⟩) hX (fun z31 H locs hX => ?_)
    have hX : XS D dA a s F28 [(z27, .inr (12, [.null, .null, .int (0 : Int32), .null])), (z31, .inl (dA.1 0, 2, .inl t29))] H locs := hX
    refine xck (q0 := 0) (x2 := .inr (12, [.ref z31, .ref (a (0, 0, 0)), .int (2 : Int32), .ref (a (0, 0, 0))])) (va_runI (As := [.ref (a (0, 0, 0)), .int (2 : Int32), .ref z31]) (rest := [.ref z27]) S (met_X12_init l hap z27 H.size (a (0, 0, 0)) (2 : Int32) z31) (cwI 3 S.2.2.2.2 (lw_meth q591) rfl rfl rfl (S.2.2.2.2 _ q73) (S.2.2.2.2 _ q589) (S.2.2.2.2 _ q590) rfl yd_X12_init.2 ⟨Nat.le_of_ble_eq_true rfl, Nat.le_of_ble_eq_true rfl⟩) (cpreS hC (hX.2.2.1.sub (ws' := [(z27, .inr (12, [.null, .null, .int (0 : Int32), .null]))]) [0] rfl) (hX.2.2.2.sub (ws' := [(z27, .inr (12, [.null, .null, .int (0 : Int32), .null]))]) [0] (by decide) rfl) rfl (.ref z27 :: [.ref (a (0, 0, 0)), .int (2 : Int32), .ref z31])) rfl rfl hl.1 rfl (lv_room (Nat.le_of_ble_eq_true rfl)) dX4_line_97 ⟨Nat.le_of_ble_eq_true rfl, Nat.le_of_ble_eq_true rfl⟩) hX rfl (fun H locs _ hX => ?_)
    have hX : XS D dA a s F28 [(z27, .inr (12, [.ref z31, .ref (a (0, 0, 0)), .int (2 : Int32), .ref (a (0, 0, 0))])), (z31, .inl (dA.1 0, 2, .inl t29))] H locs := hX
    have h : (some (F28, some (12, 2, 2, t29)) : Option (St × Option Ln)) = some (Fz, ro) := h
    cases h
    exact W_lo (cells' := 7) (slots' := 44) (Nat.le_of_ble_eq_true rfl) (Nat.le_of_ble_eq_true rfl) (W.aret S.1 S.2.1 hr (Or.inl ⟨_, rfl⟩) (Or.inr ⟨_, rfl⟩) (fun t ht _ => ⟨⟨z31, z27, rfl, trivial, by rw [ht]; exact hX.1.1, by rw [ht]; exact hX.2.2.1.sub [0, 1] rfl, hX.2.2.2.sub [0, 1] (by decide) rfl, fun q => absurd (show (2 : Nat) = 0 from q) (by decide), Nat.le_of_ble_eq_true rfl⟩, hX.1.2.1.F ht⟩) hX.1.2.1.2.2 dX4_line_100 hlk)
  have h := if_t h c26
  obtain ⟨F32, r33, hc34, h⟩ := skw_e h
  refine lv_aload_n hx hb dX4_line_101 rfl (lv_at hl 0 rfl) ?_
  refine ks_ldc (i := 4) S hK rfl dX4_line_102 ?_
  refine xk_i (va_runV (As := [.ref (dA.2.1 4)]) (rest := []) S (met_X4_skips l hD hv0 (by decide) hc34 H.size) (cwV 1 S.2.2.2.2 (lw_V q423 q425 qs4 q59 q426) rfl rfl rfl yd_X4_skips ⟨Nat.le_of_ble_eq_true rfl, Nat.le_of_ble_eq_true rfl⟩) (xpreV hK hX hv0 rfl rfl _) rfl rfl hl.1 rfl (lv_room (Nat.le_of_ble_eq_true rfl)) dX4_line_104 ⟨Nat.le_of_ble_eq_true rfl, Nat.le_of_ble_eq_true rfl⟩) hX (fun H locs hX => ?_)
  have hX : XS D dA a s F32 [] H locs := hX
  refine lv_if_eq (tgt := 116) hx hb dX4_line_107 (by decide) (fun c35 => ?noc35) (fun c35 => ?yesc35)
  case yesc35 =>
    have h := if_f h c35
    refine lv_aload_n hx hb dX4_line_110 rfl (lv_at hl 0 rfl) ?_
    refine lv_iconst (v := (1 : Int32)) hx hb dX4_line_111 (by decide) ?_
    rcases ro with _ | ln
    · exact W_lo (cells' := 2) (slots' := 16) (Nat.le_of_ble_eq_true rfl) (Nat.le_of_ble_eq_true rfl) (xk_t hne hlk (runVT (As := [.int (1 : Int32)]) (rest := []) S (met_X4_ofCell l hD hv0 h H.size) (cwV 1 S.2.2.2.2 (lw_V q609 q611 qs10 q59 q612) rfl rfl rfl yd_X4_ofCell ⟨Nat.le_of_ble_eq_true rfl, Nat.le_of_ble_eq_true rfl⟩) (xpreC hK hC hX hv0 rfl rfl _) rfl rfl hl.1 rfl (lv_room (Nat.le_of_ble_eq_true rfl)) dX4_line_112 ⟨Nat.le_of_ble_eq_true rfl, Nat.le_of_ble_eq_true rfl⟩) hX)
    · exact W_lo (cells' := 2) (slots' := 16) (Nat.le_of_ble_eq_true rfl) (Nat.le_of_ble_eq_true rfl) (xk_ra S hr hlk (va_runV (As := [.int (1 : Int32)]) (rest := []) S (met_X4_ofCell l hD hv0 h H.size) (cwV 1 S.2.2.2.2 (lw_V q609 q611 qs10 q59 q612) rfl rfl rfl yd_X4_ofCell ⟨Nat.le_of_ble_eq_true rfl, Nat.le_of_ble_eq_true rfl⟩) (xpreC hK hC hX hv0 rfl rfl _) rfl rfl hl.1 rfl (lv_room (Nat.le_of_ble_eq_true rfl)) dX4_line_112 ⟨Nat.le_of_ble_eq_true rfl, Nat.le_of_ble_eq_true rfl⟩) hX dX4_line_115)
  have h := if_t h c35
  obtain ⟨F36, r37, hc38, h⟩ := skw_e h
  refine lv_aload_n hx hb dX4_line_116 rfl (lv_at hl 0 rfl) ?_
  refine ks_ldc (i := 5) S hK rfl dX4_line_117 ?_
  refine xk_i (va_runV (As := [.ref (dA.2.1 5)]) (rest := []) S (met_X4_skips l hD hv0 (by decide) hc38 H.size) (cwV 1 S.2.2.2.2 (lw_V q423 q425 qs4 q59 q426) rfl rfl rfl yd_X4_skips ⟨Nat.le_of_ble_eq_true rfl, Nat.le_of_ble_eq_true rfl⟩) (xpreV hK hX hv0 rfl rfl _) rfl rfl hl.1 rfl (lv_room (Nat.le_of_ble_eq_true rfl)) dX4_line_119 ⟨Nat.le_of_ble_eq_true rfl, Nat.le_of_ble_eq_true rfl⟩) hX (fun H locs hX => ?_)
  have hX : XS D dA a s F36 [] H locs := hX
  refine lv_if_eq (tgt := 131) hx hb dX4_line_122 (by decide) (fun c39 => ?noc39) (fun c39 => ?yesc39)
  case yesc39 =>
    have h := if_f h c39
    refine lv_aload_n hx hb dX4_line_125 rfl (lv_at hl 0 rfl) ?_
    refine lv_iconst (v := (-1 : Int32)) hx hb dX4_line_126 (by decide) ?_
    rcases ro with _ | ln
    · exact W_lo (cells' := 2) (slots' := 16) (Nat.le_of_ble_eq_true rfl) (Nat.le_of_ble_eq_true rfl) (xk_t hne hlk (runVT (As := [.int (-1 : Int32)]) (rest := []) S (met_X4_ofCell l hD hv0 h H.size) (cwV 1 S.2.2.2.2 (lw_V q609 q611 qs10 q59 q612) rfl rfl rfl yd_X4_ofCell ⟨Nat.le_of_ble_eq_true rfl, Nat.le_of_ble_eq_true rfl⟩) (xpreC hK hC hX hv0 rfl rfl _) rfl rfl hl.1 rfl (lv_room (Nat.le_of_ble_eq_true rfl)) dX4_line_127 ⟨Nat.le_of_ble_eq_true rfl, Nat.le_of_ble_eq_true rfl⟩) hX)
    · exact W_lo (cells' := 2) (slots' := 16) (Nat.le_of_ble_eq_true rfl) (Nat.le_of_ble_eq_true rfl) (xk_ra S hr hlk (va_runV (As := [.int (-1 : Int32)]) (rest := []) S (met_X4_ofCell l hD hv0 h H.size) (cwV 1 S.2.2.2.2 (lw_V q609 q611 qs10 q59 q612) rfl rfl rfl yd_X4_ofCell ⟨Nat.le_of_ble_eq_true rfl, Nat.le_of_ble_eq_true rfl⟩) (xpreC hK hC hX hv0 rfl rfl _) rfl rfl hl.1 rfl (lv_room (Nat.le_of_ble_eq_true rfl)) dX4_line_127 ⟨Nat.le_of_ble_eq_true rfl, Nat.le_of_ble_eq_true rfl⟩) hX dX4_line_130)
  have h := if_t h c39
  obtain ⟨F40, r41, hc42, h⟩ := skw_e h
  refine lv_aload_n hx hb dX4_line_131 rfl (lv_at hl 0 rfl) ?_
  refine ks_ldc (i := 6) S hK rfl dX4_line_132 ?_
  refine xk_i (va_runV (As := [.ref (dA.2.1 6)]) (rest := []) S (met_X4_skips l hD hv0 (by decide) hc42 H.size) (cwV 1 S.2.2.2.2 (lw_V q423 q425 qs4 q59 q426) rfl rfl rfl yd_X4_skips ⟨Nat.le_of_ble_eq_true rfl, Nat.le_of_ble_eq_true rfl⟩) (xpreV hK hX hv0 rfl rfl _) rfl rfl hl.1 rfl (lv_room (Nat.le_of_ble_eq_true rfl)) dX4_line_134 ⟨Nat.le_of_ble_eq_true rfl, Nat.le_of_ble_eq_true rfl⟩) hX (fun H locs hX => ?_)
  have hX : XS D dA a s F40 [] H locs := hX
  refine lv_if_eq (tgt := 145) hx hb dX4_line_137 (by decide) (fun c43 => ?noc43) (fun c43 => ?yesc43)
  case yesc43 =>
    have h := if_f h c43
    refine lv_aload_n hx hb dX4_line_140 rfl (lv_at hl 0 rfl) ?_
    rcases ro with _ | ln
    · exact W_lo (cells' := 2) (slots' := 17) (Nat.le_of_ble_eq_true rfl) (Nat.le_of_ble_eq_true rfl) (xk_t hne hlk (runVT (As := []) (rest := []) S (met_X4_ofPour l hD hv0 h H.size) (cwV 0 S.2.2.2.2 (lw_V q630 q632 qs11 q59 q633) rfl rfl rfl yd_X4_ofPour ⟨Nat.le_of_ble_eq_true rfl, Nat.le_of_ble_eq_true rfl⟩) (xpreC hK hC hX hv0 rfl rfl _) rfl rfl hl.1 rfl (lv_room (Nat.le_of_ble_eq_true rfl)) dX4_line_141 ⟨Nat.le_of_ble_eq_true rfl, Nat.le_of_ble_eq_true rfl⟩) hX)
    · exact W_lo (cells' := 2) (slots' := 17) (Nat.le_of_ble_eq_true rfl) (Nat.le_of_ble_eq_true rfl) (xk_ra S hr hlk (va_runV (As := []) (rest := []) S (met_X4_ofPour l hD hv0 h H.size) (cwV 0 S.2.2.2.2 (lw_V q630 q632 qs11 q59 q633) rfl rfl rfl yd_X4_ofPour ⟨Nat.le_of_ble_eq_true rfl, Nat.le_of_ble_eq_true rfl⟩) (xpreC hK hC hX hv0 rfl rfl _) rfl rfl hl.1 rfl (lv_room (Nat.le_of_ble_eq_true rfl)) dX4_line_141 ⟨Nat.le_of_ble_eq_true rfl, Nat.le_of_ble_eq_true rfl⟩) hX dX4_line_144)
  have h := if_t h c43
  obtain ⟨F44, r45, hc46, h⟩ := skw_e h
  refine lv_aload_n hx hb dX4_line_145 rfl (lv_at hl 0 rfl) ?_
  refine ks_ldc (i := 7) S hK rfl dX4_line_146 ?_
  refine xk_i (va_runV (As := [.ref (dA.2.1 7)]) (rest := []) S (met_X4_skips l hD hv0 (by decide) hc46 H.size) (cwV 1 S.2.2.2.2 (lw_V q423 q425 qs4 q59 q426) rfl rfl rfl yd_X4_skips ⟨Nat.le_of_ble_eq_true rfl, Nat.le_of_ble_eq_true rfl⟩) (xpreV hK hX hv0 rfl rfl _) rfl rfl hl.1 rfl (lv_room (Nat.le_of_ble_eq_true rfl)) dX4_line_148 ⟨Nat.le_of_ble_eq_true rfl, Nat.le_of_ble_eq_true rfl⟩) hX (fun H locs hX => ?_)
  have hX : XS D dA a s F44 [] H locs := hX
  refine lv_if_eq (tgt := 169) hx hb dX4_line_151 (by decide) (fun c47 => ?noc47) (fun c47 => ?yesc47)
  case yesc47 =>
    have h := if_f h c47
    obtain ⟨z48, hz48⟩ : ∃ z, H.size = z := ⟨_, rfl⟩
    refine xnew (ci := 14) (fs := [.null, .null, .null]) (z := z48) S in_X14 tyX14 tyX14_ok q634 q635 q75 hK hX rfl (by decide +kernel) hz48 (Nat.le_of_ble_eq_true rfl) (Nat.le_of_ble_eq_true rfl) dX4_line_154 (fun H _ hX => ?_)
    have hX : XS D dA a s F44 [(z48, .inr (14, [.null, .null, .null]))] H locs := hX
    refine lv_dup hx hb dX4_line_157 rfl ?_
    refine lv_aload_n hx hb dX4_line_158 rfl (lv_at hl 0 rfl) ?_
    refine gf_16_7 S hK hX.1 hv0 q185 dX4_line_159 ?_
    refine kt_get (k := 3) S hK hX.1 rfl q647 dX4_line_162 ?_
    refine xck (q0 := 0) (x2 := .inr (14, [.ref (dA.2.2.2.1 3), .ref (a (0, 0, 0)), .ref (a (0, 0, 0))])) (va_runI (As := [.ref (a (0, 0, 0)), .ref (dA.2.2.2.1 3)]) (rest := [.ref z48]) S (met_X14_init l hap z48 H.size (a (0, 0, 0)) (dA.2.2.2.1 3)) (cwI 2 S.2.2.2.2 (lw_meth q638) rfl rfl rfl (S.2.2.2.2 _ q75) (S.2.2.2.2 _ q636) (S.2.2.2.2 _ q637) rfl yd_X14_init.2 ⟨Nat.le_of_ble_eq_true rfl, Nat.le_of_ble_eq_true rfl⟩) (cpreS hC (hX.2.2.1.sub (ws' := [(z48, .inr (14, [.null, .null, .null]))]) [0] rfl) (hX.2.2.2.sub (ws' := [(z48, .inr (14, [.null, .null, .null]))]) [0] (by decide) rfl) rfl (.ref z48 :: [.ref (a (0, 0, 0)), .ref (dA.2.2.2.1 3)])) rfl rfl hl.1 rfl (lv_room (Nat.le_of_ble_eq_true rfl)) dX4_line_165 ⟨Nat.le_of_ble_eq_true rfl, Nat.le_of_ble_eq_true rfl⟩) hX rfl (fun H locs _ hX => ?_)
    have hX : XS D dA a s F44 [(z48, .inr (14, [.ref (dA.2.2.2.1 3), .ref (a (0, 0, 0)), .ref (a (0, 0, 0))]))] H locs := hX
    have h : (some (F44, some (14, 0, 0, (fun _ => 0))) : Option (St × Option Ln)) = some (Fz, ro) := h
    cases h
    exact W_lo (cells' := 7) (slots' := 44) (Nat.le_of_ble_eq_true rfl) (Nat.le_of_ble_eq_true rfl) (W.aret S.1 S.2.1 hr (Or.inl ⟨_, rfl⟩) (Or.inr ⟨_, rfl⟩) (fun t ht _ => ⟨⟨(dA.2.2.2.1 3), z48, rfl, trivial, by rw [ht]; exact hX.1.1, by rw [ht]; exact hX.2.2.1.sub [0] rfl, hX.2.2.2.sub [0] (by decide) rfl, fun q => rfl, Nat.le_of_ble_eq_true rfl⟩, hX.1.2.1.F ht⟩) hX.1.2.1.2.2 dX4_line_168 hlk)
  have h := if_t h c47
  obtain ⟨F49, r50, hc51, h⟩ := skw_e h
  refine lv_aload_n hx hb dX4_line_169 rfl (lv_at hl 0 rfl) ?_
  refine ks_ldc (i := 8) S hK rfl dX4_line_170 ?_
  refine xk_i (va_runV (As := [.ref (dA.2.1 8)]) (rest := []) S (met_X4_skips l hD hv0 (by decide) hc51 H.size) (cwV 1 S.2.2.2.2 (lw_V q423 q425 qs4 q59 q426) rfl rfl rfl yd_X4_skips ⟨Nat.le_of_ble_eq_true rfl, Nat.le_of_ble_eq_true rfl⟩) (xpreV hK hX hv0 rfl rfl _) rfl rfl hl.1 rfl (lv_room (Nat.le_of_ble_eq_true rfl)) dX4_line_172 ⟨Nat.le_of_ble_eq_true rfl, Nat.le_of_ble_eq_true rfl⟩) hX (fun H locs hX => ?_)
  have hX : XS D dA a s F49 [] H locs := hX
  refine lv_if_eq (tgt := 183) hx hb dX4_line_175 (by decide) (fun c52 => ?noc52) (fun c52 => ?yesc52)
  case yesc52 =>
    have h := if_f h c52
    refine lv_aload_n hx hb dX4_line_178 rfl (lv_at hl 0 rfl) ?_
    rcases ro with _ | ln
    · exact W_lo (cells' := 0) (slots' := 0) (Nat.le_of_ble_eq_true rfl) (Nat.le_of_ble_eq_true rfl) (xk_t hne hlk (runVT (As := []) (rest := []) S (met_X4_ofChart l hD hv0 h H.size) (cwV 0 S.2.2.2.2 (lw_V q650 q652 qs12 q59 q653) rfl rfl rfl yd_X4_ofChart ⟨Nat.le_of_ble_eq_true rfl, Nat.le_of_ble_eq_true rfl⟩) (xpreC hK hC hX hv0 rfl rfl _) rfl rfl hl.1 rfl (lv_room (Nat.le_of_ble_eq_true rfl)) dX4_line_179 ⟨Nat.le_of_ble_eq_true rfl, Nat.le_of_ble_eq_true rfl⟩) hX)
    · exact W_lo (cells' := 0) (slots' := 0) (Nat.le_of_ble_eq_true rfl) (Nat.le_of_ble_eq_true rfl) (xk_ra S hr hlk (va_runV (As := []) (rest := []) S (met_X4_ofChart l hD hv0 h H.size) (cwV 0 S.2.2.2.2 (lw_V q650 q652 qs12 q59 q653) rfl rfl rfl yd_X4_ofChart ⟨Nat.le_of_ble_eq_true rfl, Nat.le_of_ble_eq_true rfl⟩) (xpreC hK hC hX hv0 rfl rfl _) rfl rfl hl.1 rfl (lv_room (Nat.le_of_ble_eq_true rfl)) dX4_line_179 ⟨Nat.le_of_ble_eq_true rfl, Nat.le_of_ble_eq_true rfl⟩) hX dX4_line_182)
  have h := if_t h c52
  have h : fn_X4_lineO F49 = some (Fz, ro) := h
  unfold fn_X4_lineO at h
  refine lv_aload_n hx hb dX4_line_183 rfl (lv_at hl 0 rfl) ?_
  refine ko_get S hK hX.1 q654 dX4_line_184 ?_
  obtain ⟨F53, w0, hc54, h⟩ := ob2_e h
  refine xk_i (va_runV (As := [.ref (dA.2.2.2.1 6)]) (rest := []) S (met_X4_one_16_t6 l hD hv0 hc54 H.size) (cwV 1 S.2.2.2.2 (lw_V q656 q658 qs13 q59 q659) rfl rfl rfl yd_X4_one ⟨Nat.le_of_ble_eq_true rfl, Nat.le_of_ble_eq_true rfl⟩) (xpreV hK hX hv0 rfl rfl _) rfl rfl hl.1 rfl (lv_room (Nat.le_of_ble_eq_true rfl)) dX4_line_187 ⟨Nat.le_of_ble_eq_true rfl, Nat.le_of_ble_eq_true rfl⟩) hX (fun H locs hX => ?_)
  have hX : XS D dA a s F53 [] H locs := hX
  refine lv_istore_n (lv' := [(1, .int w0), (0, .ref (a (16, 0, 0)))]) hx hb dX4_line_190 rfl hl (by decide) rfl (fun ls hl => ?_)
  refine lv_aload_n hx hb dX4_line_191 rfl (lv_at hl 1 rfl) ?_
  refine lv_iload_n hx hb dX4_line_192 rfl (lv_at hl 0 rfl) ?_
  refine lv_iconst (v := (-1 : Int32)) hx hb dX4_line_193 (by decide) ?_
  refine lv_icmp_eq (tgt := 201) hx hb dX4_line_194 (by decide) (fun c => ?no) (fun c => ?yes)
  case no =>
    have h := if_t h c
    cases h
    refine lv_iconst (v := (0 : Int32)) hx hb dX4_line_201 (by decide) ?_
    exact W_lo (cells' := 6) (slots' := 37) (Nat.le_of_ble_eq_true rfl) (Nat.le_of_ble_eq_true rfl) (xk_t hne hlk (runVT (As := [.int (0 : Int32)]) (rest := []) S (met_X4_need_t l hD rfl hv0 H.size) (cwV 1 S.2.2.2.2 (lw_V q483 q485 qs7 q59 q486) rfl rfl rfl yd_X4_need ⟨Nat.le_of_ble_eq_true rfl, Nat.le_of_ble_eq_true rfl⟩) (xpreC hK hC hX hv0 rfl rfl _) rfl rfl hl.1 rfl (lv_room (Nat.le_of_ble_eq_true rfl)) dX4_line_202 ⟨Nat.le_of_ble_eq_true rfl, Nat.le_of_ble_eq_true rfl⟩) hX)
  have h := if_f h c
  obtain ⟨g6, h⟩ := og_e h
  have h : obT (rdN (fun _ _ _ => (lstI.getD w0.toNatClampNeg 0, mstI.getD w0.toNatClampNeg 0)) 1 0 F53 (fun _ => 0)) (fun F1 t => some (F1, some ((15, w0, 1, t) : Ln))) = some (Fz, ro) := h
  refine lv_iconst (v := (1 : Int32)) hx hb dX4_line_197 (by decide) ?_
  refine lv_goto (tgt := 202) hx hb dX4_line_198 (by decide) ?_
  refine xk_v (va_runV (As := [.int (1 : Int32)]) (rest := []) S (met_X4_need l hD hv0 (show fn_X4_need F53 1 = some () from rfl) H.size) (cwV 1 S.2.2.2.2 (lw_V q483 q485 qs7 q59 q486) rfl rfl rfl yd_X4_need ⟨Nat.le_of_ble_eq_true rfl, Nat.le_of_ble_eq_true rfl⟩) (xpreV hK hX hv0 rfl rfl _) rfl rfl hl.1 rfl (lv_room (Nat.le_of_ble_eq_true rfl)) dX4_line_202 ⟨Nat.le_of_ble_eq_true rfl, Nat.le_of_ble_eq_true rfl⟩) hX (fun H locs hX => ?_)
  have hX : XS D dA a s F53 [] H locs := hX
  refine lv_iconst (v := (1 : Int32)) hx hb dX4_line_205 (by decide) ?_
  obtain ⟨z55, hz55⟩ : ∃ z, H.size = z := ⟨_, rfl⟩
  refine xnewa (z := z55) (N := 1) S hK hX (by decide) (by decide) (by decide) hz55 (Nat.le_of_ble_eq_true rfl) (Nat.le_of_ble_eq_true rfl) dX4_line_206 (fun H _ hX => ?_)
  have hX : XS D dA a s F53 [(z55, .inl (dA.1 0, 1, .inl (fun _ => 0)))] H locs := hX
  refine lv_astore_n (lv' := [(2, .ref z55), (1, .int w0), (0, .ref (a (16, 0, 0)))]) hx hb dX4_line_208 rfl hl (by decide) rfl (fun ls hl => ?_)
  refine lv_aload_n hx hb dX4_line_209 rfl (lv_at hl 0 rfl) ?_
  refine lv_iconst (v := (0 : Int32)) hx hb dX4_line_210 (by decide) ?_
  refine lv_aload_n hx hb dX4_line_211 rfl (lv_at hl 2 rfl) ?_
  refine kt_get (k := 4) S hK hX.1 rfl q660 dX4_line_212 ?_
  refine lv_iload_n hx hb dX4_line_215 rfl (lv_at hl 1 rfl) ?_
  refine kt_ald (k := 4) S hK hX.1 rfl g6 rfl dX4_line_216 ?_
  refine kt_get (k := 5) S hK hX.1 rfl q662 dX4_line_217 ?_
  refine lv_iload_n hx hb dX4_line_220 rfl (lv_at hl 1 rfl) ?_
  refine kt_ald (k := 5) S hK hX.1 rfl g6 rfl dX4_line_221 ?_
  rw [rd1] at h
  obtain ⟨F56, v57, hc58, h⟩ := obT_e h
  have hc58 : fn_X4_number F53 ((stv.getD 4 []).getD w0.toNatClampNeg 0) ((stv.getD 5 []).getD w0.toNatClampNeg 0) = some (F56, v57) := hc58
  rcases v57 with _ | v57
  · have h : (some (F56, none) : Option (St × Option Ln)) = some (Fz, ro) := h
    cases h
    exact W_lo (cells' := 6) (slots' := 37) (Nat.le_of_ble_eq_true rfl) (Nat.le_of_ble_eq_true rfl) (xk_t hne hlk (runVT (As := [.int ((stv.getD 4 []).getD w0.toNatClampNeg 0), .int ((stv.getD 5 []).getD w0.toNatClampNeg 0)]) (rest := [.int (0 : Int32), .ref z55]) S (met_X4_number l hD hv0 hc58 H.size) (cwV 2 S.2.2.2.2 (lw_V q479 q481 qs6 q59 q482) rfl rfl rfl yd_X4_number ⟨Nat.le_of_ble_eq_true rfl, Nat.le_of_ble_eq_true rfl⟩) (xpreC hK hC hX hv0 rfl rfl _) rfl rfl hl.1 rfl (lv_room (Nat.le_of_ble_eq_true rfl)) dX4_line_222 ⟨Nat.le_of_ble_eq_true rfl, Nat.le_of_ble_eq_true rfl⟩) hX)
  dsimp only at h
  refine xk_i (va_runV (As := [.int ((stv.getD 4 []).getD w0.toNatClampNeg 0), .int ((stv.getD 5 []).getD w0.toNatClampNeg 0)]) (rest := [.int (0 : Int32), .ref z55]) S (met_X4_number l hD hv0 hc58 H.size) (cwV 2 S.2.2.2.2 (lw_V q479 q481 qs6 q59 q482) rfl rfl rfl yd_X4_number ⟨Nat.le_of_ble_eq_true rfl, Nat.le_of_ble_eq_true rfl⟩) (xpreC hK hC hX hv0 rfl rfl _) rfl rfl hl.1 rfl (lv_room (Nat.le_of_ble_eq_true rfl)) dX4_line_222 ⟨Nat.le_of_ble_eq_true rfl, Nat.le_of_ble_eq_true rfl⟩) hX (fun H locs hX => ?_)
  have hX : XS D dA a s F56 [(z55, .inl (dA.1 0, 1, .inl (fun _ => 0)))] H locs := hX
  refine xiast (q0 := 0) (z0 := 0) S hK hX rfl (by decide) (by decide) dX4_line_225 (fun H locs hX => ?_)
  have hX : XS D dA a s F56 [(z55, .inl (dA.1 0, 1, .inl (upd (fun _ => 0) 0 v57)))] H locs := hX
  obtain ⟨z59, hz59⟩ : ∃ z, H.size = z := ⟨_, rfl⟩
  refine xnew (ci := 15) (fs := [.null, .null, .int (0 : Int32), .null]) (z := z59) S in_X15 tyX15 tyX15_ok q664 q665 q76 hK hX rfl (by decide +kernel) hz59 (Nat.le_of_ble_eq_true rfl) (Nat.le_of_ble_eq_true rfl) dX4_line_226 (fun H _ hX => ?_)
  have hX : XS D dA a s F56 [(z55, .inl (dA.1 0, 1, .inl (upd (fun _ => 0) 0 v57))), (z59, .inr (15, [.null, .null, .int (0 : Int32), .null]))] H locs := hX
  refine lv_dup hx hb dX4_line_229 rfl ?_
  refine lv_aload_n hx hb dX4_line_230 rfl (lv_at hl 2 rfl) ?_
  refine gf_16_7 S hK hX.1 hv0 q185 dX4_line_231 ?_
  refine lv_iload_n hx hb dX4_line_234 rfl (lv_at hl 1 rfl) ?_
  refine lv_aload_n hx hb dX4_line_235 rfl (lv_at hl 0 rfl) ?_
  refine xck (q0 := 1) (x2 := .inr (15, [.ref z55, .ref (a (0, 0, 0)), .int w0, .ref (a (0, 0, 0))])) (va_runI (As := [.ref (a (0, 0, 0)), .int w0, .ref z55]) (rest := [.ref z59]) S (met_X15_init l hap z59 H.size (a (0, 0, 0)) w0 z55) (cwI 3 S.2.2.2.2 (lw_meth q668) rfl rfl rfl (S.2.2.2.2 _ q76) (S.2.2.2.2 _ q666) (S.2.2.2.2 _ q667) rfl yd_X15_init.2 ⟨Nat.le_of_ble_eq_true rfl, Nat.le_of_ble_eq_true rfl⟩) (cpreS hC (hX.2.2.1.sub (ws' := [(z59, .inr (15, [.null, .null, .int (0 : Int32), .null]))]) [1] rfl) (hX.2.2.2.sub (ws' := [(z59, .inr (15, [.null, .null, .int (0 : Int32), .null]))]) [1] (by decide) rfl) rfl (.ref z59 :: [.ref (a (0, 0, 0)), .int w0, .ref z55])) rfl rfl hl.1 rfl (lv_room (Nat.le_of_ble_eq_true rfl)) dX4_line_236 ⟨Nat.le_of_ble_eq_true rfl, Nat.le_of_ble_eq_true rfl⟩) hX rfl (fun H locs _ hX => ?_)
  have hX : XS D dA a s F56 [(z55, .inl (dA.1 0, 1, .inl (upd (fun _ => 0) 0 v57))), (z59, .inr (15, [.ref z55, .ref (a (0, 0, 0)), .int w0, .ref (a (0, 0, 0))]))] H locs := hX
  have h : (some (F56, some (15, w0, 1, (upd (fun _ => 0) 0 v57))) : Option (St × Option Ln)) = some (Fz, ro) := h
  cases h
  exact W_lo (cells' := 7) (slots' := 44) (Nat.le_of_ble_eq_true rfl) (Nat.le_of_ble_eq_true rfl) (W.aret S.1 S.2.1 hr (Or.inl ⟨_, rfl⟩) (Or.inr ⟨_, rfl⟩) (fun t ht _ => ⟨⟨z55, z59, rfl, trivial, by rw [ht]; exact hX.1.1, by rw [ht]; exact hX.2.2.1.sub [1, 0] rfl, hX.2.2.2.sub [1, 0] (by decide) rfl, fun q => absurd (show (1 : Nat) = 0 from q) (by decide), Nat.le_of_ble_eq_true rfl⟩, hX.1.2.1.F ht⟩) hX.1.2.1.2.2 dX4_line_239 hlk)
