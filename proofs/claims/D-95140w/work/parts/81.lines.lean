/-! the line-making methods of the reader -/
set_option maxRecDepth 100000
theorem obT_e {α β : Type} {o : Option (St × Option α)} {f : St → α → Option (St × Option β)} {r : St × Option β} (h : obT o f = some r) : ∃ F1 v, o = some (F1, v) ∧ (match v with | none => some (F1, none) | some x => f F1 x) = some r := by
  cases o with
  | none => cases h
  | some y =>
    obtain ⟨F1, v⟩ := y
    refine ⟨F1, v, rfl, ?_⟩
    cases v with
    | none => exact h
    | some x => exact h
theorem obT_a {α β γ : Type} {o : Option (St × Option α)} {f : St → α → Option (St × Option β)} {k : St → β → Option (St × Option γ)} : obT (obT o f) k = obT o (fun F v => obT (f F v) k) := by
  cases o with
  | none => rfl
  | some y =>
    obtain ⟨F1, v⟩ := y
    cases v <;> rfl
theorem rd1 {γ : Type} {bd : BdI} {m k : Nat} {F : St} {t : Nat → Int32} {g : St → (Nat → Int32) → Option (St × Option γ)} : obT (rdN bd (m + 1) k F t) g = obT (fn_X4_number F (bd k F t).1 (bd k F t).2) (fun F1 v => obT (rdN bd m (k + 1) F1 (upN t k v)) g) := obT_a
theorem rd1n {bd : BdI} {m k : Nat} {F : St} {t : Nat → Int32} : rdN bd (m + 1) k F t = obT (fn_X4_number F (bd k F t).1 (bd k F t).2) (fun F1 v => rdN bd m (k + 1) F1 (upN t k v)) := rfl
/-- a line's object -/
def lnE (o zt : Nat) (t v : Int32) : va_E := if t = 11 then .inr (11, [.ref zt, .ref o, .ref o]) else if t = 12 then .inr (12, [.ref zt, .ref o, .int v, .ref o]) else if t = 13 then .inr (13, [.ref zt, .ref o, .int v, .ref o]) else if t = 14 then .inr (14, [.ref zt, .ref o, .ref o]) else .inr (15, [.ref zt, .ref o, .int v, .ref o])
/-- a line, and the row that it tells -/
def lnC (dA : WK) (o : Nat) (ln : Ln) (z zt : Nat) : va_W := (z, lnE o zt ln.1 ln.2.1) :: (if ln.2.2.1 = 0 then [] else [(zt, .inl (dA.1 0, ln.2.2.1, .inl ln.2.2.2))])
abbrev wQr (D : va_G) (dA : WK) (a : Ix → Nat) (sz : Nat) (F1 : St) (ln : Ln) : Array Value → State → Outcome → State → Prop := va_Qr (S := Nat) (fun _ => True) (fun zt z t => wP D dA a F1 t.heap ∧ va_P D vwCl (lnC dA (a (0, 0, 0)) ln z zt) t.heap ∧ va_D (fun q => sz ≤ q) (lnC dA (a (0, 0, 0)) ln z zt) ∧ (ln.2.2.1 = 0 → zt = dA.2.2.2.1 3) ∧ ln.2.2.1 ≤ 5) (wA dA a sz)
abbrev wQn (n : Nat) (D : va_G) (dA : WK) (a : Ix → Nat) (sz : Nat) (F1 : St) (t0 : Nat → Int32) : Array Value → State → Outcome → State → Prop := va_Qr (S := Unit) (fun _ => True) (fun _ z t => wP D dA a F1 t.heap ∧ va_P D vwCl [(z, .inl (dA.1 0, n, .inl t0))] t.heap ∧ va_D (fun q => sz ≤ q) [(z, .inl (dA.1 0, n, .inl t0))]) (wA dA a sz)
section XQ
variable {p : Program} {l : Launch} {e : Env} {R : Room} {s : State} {m : MethodId} {args : Array Value} {below : List Frame} {meth : Method} {c : Code} {H : Heap} {locs : List Loc} {cells slots : Nat} {Q : State → Prop}
variable {cc : ByteArray} {nL pc : Nat} {ls : Array Slot} {rest st0 : List Value} {D : va_G} {dA : WK} {a : Ix → Nat} {F F1 : St} {own : String} {X : va_W}
/-- behind a call that brings a row -/
theorem xk_n {mc ms n : Nat} {t0 : Nat → Int32} {av : Array Value} (hr : va_Run p l e R s m args below meth c H locs cells slots mc ms (F0 m pc ls st0) rest (wQn n D dA a H.size F1 t0 av) (wA dA a H.size)) (hX : XS D dA a s F X H locs)
    (kk : ∀ (z : Nat) (H1 : Heap) (locs1 : List Loc), XS D dA a s F1 (X ++ [(z, .inl (dA.1 0, n, .inl t0))]) H1 locs1 → W p l e R s m args below meth c H1 locs1 (cells + mc) (slots + ms) Q (F0 m (pc + 3) ls (.ref z :: rest))) : W p l e R s m args below meth c H locs cells slots Q (F0 m pc ls st0) :=
  va_callr hr hX.1.2.1 (fun _ _ h => hX.1.2.2 _ h) (fun _ h => hX.1.2.2 _ h) (fun u z t H1 locs1 ht _ _ hB hz hk hS => by
    obtain ⟨g1, g2, g3⟩ := hB
    rw [ht] at g1 g2
    have hX1 := hX.go g1 hz hk hS
    have hz2 : H.size ≤ z := g3.2 0 _ rfl
    have h0 := hX.1.2.1.1
    refine kk z H1 locs1 ⟨hX1.1, hX1.2.1, hX1.2.2.1.app g2, va_D.app hX1.2.2.2 (g3.weaken (fun k q _ h => Nat.le_trans h0 h)) (fun i j x y hx hy hxy => ?_)⟩
    have h1 := (hX.out hx).1
    have h2 : H.size ≤ y.1 := g3.2 j y hy
    omega)
/-- a call that brings a line, and the return of it -/
theorem xk_ra {mc ms : Nat} {ln : Ln} {av : Array Value} (S : CallFix p m c cc nL s args lw_all own) (hret : meth.sig.returnType = some (.object "WaterGrounds$Line")) (hlk : meth.locks = false) (hr : va_Run p l e R s m args below meth c H locs cells slots mc ms (F0 m pc ls st0) [] (wQr D dA a H.size F1 ln av) (wA dA a H.size)) (hX : XS D dA a s F X H locs) (hdg : decode cc (pc + 3) = .ok (.areturn, 1)) :
    W p l e R s m args below meth c H locs cells slots (MQ below (wQr D dA a s.heap.size F1 ln) args s (cells + mc) (slots + ms) (wA dA a s.heap.size)) (F0 m pc ls st0) :=
  va_callr hr hX.1.2.1 (fun _ _ h => hX.1.2.2 _ h) (fun _ h => hX.1.2.2 _ h) (fun zt z t H1 locs1 ht _ _ hB hz hk hS => by
    obtain ⟨g1, g2, g3, g4, g5⟩ := hB
    rw [ht] at g1 g2
    exact W.aret S.1 S.2.1 hret (Or.inl ⟨_, rfl⟩) (Or.inr ⟨_, rfl⟩) (fun t2 ht2 _ => ⟨⟨zt, z, rfl, trivial, by rw [ht2]; exact g1, by rw [ht2]; exact g2, g3.weaken (fun k q _ h => Nat.le_trans hX.1.2.1.1 h), g4, g5⟩, hS.F ht2⟩) hS.2.2 hdg hlk)
end XQ
theorem yd_X4_numbers : yX4_numbers.cls = RX4 ∧ yX4_numbers.cls ≠ "java/lang/invoke/MethodHandle" ∧ yX4_numbers.cls ≠ "java/lang/invoke/VarHandle" ∧ (parseMethodDescriptor yX4_numbers.desc).map (fun d => d.parameters.length) = some 1 := by decide +kernel
set_option maxHeartbeats 8000000 in
theorem met_X4_numbers_0 (l : Launch) {D : va_G} {dA : WK} {a : Ix → Nat} (hD : wD D dA a) {F : St} {Fz : St} {ro : Option (Nat → Int32)} (hv0 : wVd dA (16, 0, 0)) (h : rdN (fun _ _ _ => (0, 99)) 3 0 F (fun _ => 0) = some (Fz, ro)) (sz : Nat) : MetR l yX4_numbers (ws_ yX4_numbers cX4_numbers 4 (some (.array .int))) (rmC 6 127 4 24) (wPreC D dA a F sz [.ref (a (16, 0, 0)), .ref (dA.2.2.2.1 0)]) (fun r => wQn 3 D dA a sz Fz r) (wQt D dA a sz Fz) 4 24 (wA dA a sz) ro := by
  refine rst (Qc := fun sz r => wQn 3 D dA a sz Fz r) (Qt := fun sz => wQt D dA a sz Fz) (by decide) (Nat.le_of_ble_eq_true rfl) ?_ sz
  intro p e s m below meth c S hr hlk hne hK hC hW ls hl
  have hl : lv_has ls 4 [(0, .ref (a (16, 0, 0))), (1, .ref (dA.2.2.2.1 0))] := hl
  have hx := S.1
  have hb := S.2.1
  have hap : slAp D := hD.2
  generalize ([.ref (a (16, 0, 0)), .ref (dA.2.2.2.1 0)] : List Value).toArray = av at S ⊢
  have hX := XS_in hW
  obtain ⟨H, eH⟩ : ∃ z, z = s.heap := ⟨_, rfl⟩
  obtain ⟨locs, eL⟩ : ∃ z : List Loc, z = [] := ⟨_, rfl⟩
  have hX : XS D dA a s F [] H locs := by rw [eH, eL]; exact hX
  refine wr_in eH eL ?_
  clear eH eL
  refine lv_aload_n hx hb dX4_numbers_0 rfl (lv_at hl 1 rfl) ?_
  refine kt_len (k := 0) (v := (3 : Int32)) S hK hX.1 rfl (by decide) dX4_numbers_1 ?_
  obtain ⟨z1, hz1⟩ : ∃ z, H.size = z := ⟨_, rfl⟩
  refine xnewa (z := z1) (N := 3) S hK hX (by decide) (by decide) (by decide) hz1 (Nat.le_of_ble_eq_true rfl) (Nat.le_of_ble_eq_true rfl) dX4_numbers_2 (fun H _ hX => ?_)
  have hX : XS D dA a s F [(z1, .inl (dA.1 0, 3, .inl (fun _ => 0)))] H locs := hX
  refine lv_astore_n (lv' := [(2, .ref z1), (0, .ref (a (16, 0, 0))), (1, .ref (dA.2.2.2.1 0))]) hx hb dX4_numbers_4 rfl hl (by decide) rfl (fun ls hl => ?_)
  refine lv_iconst (v := (0 : Int32)) hx hb dX4_numbers_5 (by decide) ?_
  refine lv_istore_n (lv' := [(3, .int (0 : Int32)), (2, .ref z1), (0, .ref (a (16, 0, 0))), (1, .ref (dA.2.2.2.1 0))]) hx hb dX4_numbers_6 rfl hl (by decide) rfl (fun ls hl => ?_)
  refine lv_iload_n hx hb dX4_numbers_7 rfl (lv_at hl 0 rfl) ?_
  refine lv_aload_n hx hb dX4_numbers_8 rfl (lv_at hl 1 rfl) ?_
  refine xlen (q0 := 0) (v := (3 : Int32)) S hK hX rfl (by decide) dX4_numbers_9 ?_
  refine lv_icmp_ge (tgt := 30) hx hb dX4_numbers_10 (by decide) (fun c => absurd c (by decide)) (fun _ => ?_)
  refine lv_aload_n hx hb dX4_numbers_13 rfl (lv_at hl 1 rfl) ?_
  refine lv_iload_n hx hb dX4_numbers_14 rfl (lv_at hl 0 rfl) ?_
  refine lv_aload_n hx hb dX4_numbers_15 rfl (lv_at hl 2 rfl) ?_
  refine lv_iconst (v := (0 : Int32)) hx hb dX4_numbers_16 (by decide) ?_
  refine lv_aload_n hx hb dX4_numbers_17 rfl (lv_at hl 3 rfl) ?_
  refine lv_iload_n hx hb dX4_numbers_18 rfl (lv_at hl 0 rfl) ?_
  refine kt_ald (k := 0) (z := 0) S hK hX.1 rfl (by decide) (by decide) dX4_numbers_19 ?_
  rw [rd1n] at h
  obtain ⟨F2, v3, hc4, h⟩ := obT_e h
  have hc4 : fn_X4_number F (0 : Int32) ((stv.getD 0 []).getD 0 0) = some (F2, v3) := hc4
  rcases v3 with _ | v3
  · have h : (some (F2, none) : Option (St × Option (Nat → Int32))) = some (Fz, ro) := h
    cases h
    exact W_lo (cells' := 3) (slots' := 17) (Nat.le_of_ble_eq_true rfl) (Nat.le_of_ble_eq_true rfl) (xk_t hne hlk (runVT (As := [.int (0 : Int32), .int ((stv.getD 0 []).getD 0 0)]) (rest := [.int (0 : Int32), .ref z1]) S (met_X4_number l hD hv0 hc4 H.size) (cwV 2 S.2.2.2.2 (lw_V q479 q481 qs6 q59 q482) rfl rfl rfl yd_X4_number ⟨Nat.le_of_ble_eq_true rfl, Nat.le_of_ble_eq_true rfl⟩) (xpreC hK hC hX hv0 rfl rfl _) rfl rfl hl.1 rfl (lv_room (Nat.le_of_ble_eq_true rfl)) dX4_numbers_20 ⟨Nat.le_of_ble_eq_true rfl, Nat.le_of_ble_eq_true rfl⟩) hX)
  dsimp only at h
  refine xk_i (va_runV (As := [.int (0 : Int32), .int ((stv.getD 0 []).getD 0 0)]) (rest := [.int (0 : Int32), .ref z1]) S (met_X4_number l hD hv0 hc4 H.size) (cwV 2 S.2.2.2.2 (lw_V q479 q481 qs6 q59 q482) rfl rfl rfl yd_X4_number ⟨Nat.le_of_ble_eq_true rfl, Nat.le_of_ble_eq_true rfl⟩) (xpreC hK hC hX hv0 rfl rfl _) rfl rfl hl.1 rfl (lv_room (Nat.le_of_ble_eq_true rfl)) dX4_numbers_20 ⟨Nat.le_of_ble_eq_true rfl, Nat.le_of_ble_eq_true rfl⟩) hX (fun H locs hX => ?_)
  have hX : XS D dA a s F2 [(z1, .inl (dA.1 0, 3, .inl (fun _ => 0)))] H locs := hX
  refine xiast (q0 := 0) (z0 := 0) S hK hX rfl (by decide) (by decide) dX4_numbers_23 (fun H locs hX => ?_)
  have hX : XS D dA a s F2 [(z1, .inl (dA.1 0, 3, .inl (upd (fun _ => 0) 0 v3)))] H locs := hX
  refine lv_iinc (v := (1 : Int32)) (lv' := [(3, .int (1 : Int32)), (2, .ref z1), (0, .ref (a (16, 0, 0))), (1, .ref (dA.2.2.2.1 0))]) hx hb dX4_numbers_24 hl (k := 0) rfl (by decide) (by decide) rfl (fun ls hl => ?_)
  refine lv_goto (tgt := 7) hx hb dX4_numbers_27 (by decide) ?_
  refine lv_iload_n hx hb dX4_numbers_7 rfl (lv_at hl 0 rfl) ?_
  refine lv_aload_n hx hb dX4_numbers_8 rfl (lv_at hl 1 rfl) ?_
  refine xlen (q0 := 0) (v := (3 : Int32)) S hK hX rfl (by decide) dX4_numbers_9 ?_
  refine lv_icmp_ge (tgt := 30) hx hb dX4_numbers_10 (by decide) (fun c => absurd c (by decide)) (fun _ => ?_)
  refine lv_aload_n hx hb dX4_numbers_13 rfl (lv_at hl 1 rfl) ?_
  refine lv_iload_n hx hb dX4_numbers_14 rfl (lv_at hl 0 rfl) ?_
  refine lv_aload_n hx hb dX4_numbers_15 rfl (lv_at hl 2 rfl) ?_
  refine lv_iconst (v := (0 : Int32)) hx hb dX4_numbers_16 (by decide) ?_
  refine lv_aload_n hx hb dX4_numbers_17 rfl (lv_at hl 3 rfl) ?_
  refine lv_iload_n hx hb dX4_numbers_18 rfl (lv_at hl 0 rfl) ?_
  refine kt_ald (k := 0) (z := 1) S hK hX.1 rfl (by decide) (by decide) dX4_numbers_19 ?_
  rw [rd1n] at h
  obtain ⟨F5, v6, hc7, h⟩ := obT_e h
  have hc7 : fn_X4_number F2 (0 : Int32) ((stv.getD 0 []).getD 1 0) = some (F5, v6) := hc7
  rcases v6 with _ | v6
  · have h : (some (F5, none) : Option (St × Option (Nat → Int32))) = some (Fz, ro) := h
    cases h
    exact W_lo (cells' := 3) (slots' := 17) (Nat.le_of_ble_eq_true rfl) (Nat.le_of_ble_eq_true rfl) (xk_t hne hlk (runVT (As := [.int (0 : Int32), .int ((stv.getD 0 []).getD 1 0)]) (rest := [.int (1 : Int32), .ref z1]) S (met_X4_number l hD hv0 hc7 H.size) (cwV 2 S.2.2.2.2 (lw_V q479 q481 qs6 q59 q482) rfl rfl rfl yd_X4_number ⟨Nat.le_of_ble_eq_true rfl, Nat.le_of_ble_eq_true rfl⟩) (xpreC hK hC hX hv0 rfl rfl _) rfl rfl hl.1 rfl (lv_room (Nat.le_of_ble_eq_true rfl)) dX4_numbers_20 ⟨Nat.le_of_ble_eq_true rfl, Nat.le_of_ble_eq_true rfl⟩) hX)
  dsimp only at h
  refine xk_i (va_runV (As := [.int (0 : Int32), .int ((stv.getD 0 []).getD 1 0)]) (rest := [.int (1 : Int32), .ref z1]) S (met_X4_number l hD hv0 hc7 H.size) (cwV 2 S.2.2.2.2 (lw_V q479 q481 qs6 q59 q482) rfl rfl rfl yd_X4_number ⟨Nat.le_of_ble_eq_true rfl, Nat.le_of_ble_eq_true rfl⟩) (xpreC hK hC hX hv0 rfl rfl _) rfl rfl hl.1 rfl (lv_room (Nat.le_of_ble_eq_true rfl)) dX4_numbers_20 ⟨Nat.le_of_ble_eq_true rfl, Nat.le_of_ble_eq_true rfl⟩) hX (fun H locs hX => ?_)
  have hX : XS D dA a s F5 [(z1, .inl (dA.1 0, 3, .inl (upd (fun _ => 0) 0 v3)))] H locs := hX
  refine xiast (q0 := 0) (z0 := 1) S hK hX rfl (by decide) (by decide) dX4_numbers_23 (fun H locs hX => ?_)
  have hX : XS D dA a s F5 [(z1, .inl (dA.1 0, 3, .inl (upd (upd (fun _ => 0) 0 v3) 1 v6)))] H locs := hX
  refine lv_iinc (v := (2 : Int32)) (lv' := [(3, .int (2 : Int32)), (2, .ref z1), (0, .ref (a (16, 0, 0))), (1, .ref (dA.2.2.2.1 0))]) hx hb dX4_numbers_24 hl (k := 0) rfl (by decide) (by decide) rfl (fun ls hl => ?_)
  refine lv_goto (tgt := 7) hx hb dX4_numbers_27 (by decide) ?_
  refine lv_iload_n hx hb dX4_numbers_7 rfl (lv_at hl 0 rfl) ?_
  refine lv_aload_n hx hb dX4_numbers_8 rfl (lv_at hl 1 rfl) ?_
  refine xlen (q0 := 0) (v := (3 : Int32)) S hK hX rfl (by decide) dX4_numbers_9 ?_
  refine lv_icmp_ge (tgt := 30) hx hb dX4_numbers_10 (by decide) (fun c => absurd c (by decide)) (fun _ => ?_)
  refine lv_aload_n hx hb dX4_numbers_13 rfl (lv_at hl 1 rfl) ?_
  refine lv_iload_n hx hb dX4_numbers_14 rfl (lv_at hl 0 rfl) ?_
  refine lv_aload_n hx hb dX4_numbers_15 rfl (lv_at hl 2 rfl) ?_
  refine lv_iconst (v := (0 : Int32)) hx hb dX4_numbers_16 (by decide) ?_
  refine lv_aload_n hx hb dX4_numbers_17 rfl (lv_at hl 3 rfl) ?_
  refine lv_iload_n hx hb dX4_numbers_18 rfl (lv_at hl 0 rfl) ?_
  refine kt_ald (k := 0) (z := 2) S hK hX.1 rfl (by decide) (by decide) dX4_numbers_19 ?_
  rw [rd1n] at h
  obtain ⟨F8, v9, hc10, h⟩ := obT_e h
  have hc10 : fn_X4_number F5 (0 : Int32) ((stv.getD 0 []).getD 2 0) = some (F8, v9) := hc10
  rcases v9 with _ | v9
  · have h : (some (F8, none) : Option (St × Option (Nat → Int32))) = some (Fz, ro) := h
    cases h
    exact W_lo (cells' := 3) (slots' := 17) (Nat.le_of_ble_eq_true rfl) (Nat.le_of_ble_eq_true rfl) (xk_t hne hlk (runVT (As := [.int (0 : Int32), .int ((stv.getD 0 []).getD 2 0)]) (rest := [.int (2 : Int32), .ref z1]) S (met_X4_number l hD hv0 hc10 H.size) (cwV 2 S.2.2.2.2 (lw_V q479 q481 qs6 q59 q482) rfl rfl rfl yd_X4_number ⟨Nat.le_of_ble_eq_true rfl, Nat.le_of_ble_eq_true rfl⟩) (xpreC hK hC hX hv0 rfl rfl _) rfl rfl hl.1 rfl (lv_room (Nat.le_of_ble_eq_true rfl)) dX4_numbers_20 ⟨Nat.le_of_ble_eq_true rfl, Nat.le_of_ble_eq_true rfl⟩) hX)
  dsimp only at h
  refine xk_i (va_runV (As := [.int (0 : Int32), .int ((stv.getD 0 []).getD 2 0)]) (rest := [.int (2 : Int32), .ref z1]) S (met_X4_number l hD hv0 hc10 H.size) (cwV 2 S.2.2.2.2 (lw_V q479 q481 qs6 q59 q482) rfl rfl rfl yd_X4_number ⟨Nat.le_of_ble_eq_true rfl, Nat.le_of_ble_eq_true rfl⟩) (xpreC hK hC hX hv0 rfl rfl _) rfl rfl hl.1 rfl (lv_room (Nat.le_of_ble_eq_true rfl)) dX4_numbers_20 ⟨Nat.le_of_ble_eq_true rfl, Nat.le_of_ble_eq_true rfl⟩) hX (fun H locs hX => ?_)
  have hX : XS D dA a s F8 [(z1, .inl (dA.1 0, 3, .inl (upd (upd (fun _ => 0) 0 v3) 1 v6)))] H locs := hX
  refine xiast (q0 := 0) (z0 := 2) S hK hX rfl (by decide) (by decide) dX4_numbers_23 (fun H locs hX => ?_)
  have hX : XS D dA a s F8 [(z1, .inl (dA.1 0, 3, .inl (upd (upd (upd (fun _ => 0) 0 v3) 1 v6) 2 v9)))] H locs := hX
  refine lv_iinc (v := (3 : Int32)) (lv' := [(3, .int (3 : Int32)), (2, .ref z1), (0, .ref (a (16, 0, 0))), (1, .ref (dA.2.2.2.1 0))]) hx hb dX4_numbers_24 hl (k := 0) rfl (by decide) (by decide) rfl (fun ls hl => ?_)
  refine lv_goto (tgt := 7) hx hb dX4_numbers_27 (by decide) ?_
  refine lv_iload_n hx hb dX4_numbers_7 rfl (lv_at hl 0 rfl) ?_
  refine lv_aload_n hx hb dX4_numbers_8 rfl (lv_at hl 1 rfl) ?_
  refine xlen (q0 := 0) (v := (3 : Int32)) S hK hX rfl (by decide) dX4_numbers_9 ?_
  refine lv_icmp_ge (tgt := 30) hx hb dX4_numbers_10 (by decide) (fun _ => ?_) (fun c => absurd c (by decide))
  refine lv_aload_n hx hb dX4_numbers_30 rfl (lv_at hl 1 rfl) ?_
  have h : (some (F8, some (upd (upd (upd (fun _ => 0) 0 v3) 1 v6) 2 v9)) : Option (St × Option (Nat → Int32))) = some (Fz, ro) := h
  cases h
  exact W_lo (cells' := 4) (slots' := 24) (Nat.le_of_ble_eq_true rfl) (Nat.le_of_ble_eq_true rfl) (W.aret S.1 S.2.1 hr (Or.inr ⟨_, rfl⟩) (Or.inr ⟨_, rfl⟩) (fun t ht _ => ⟨⟨(), z1, rfl, trivial, by rw [ht]; exact hX.1.1, by rw [ht]; exact hX.2.2.1, hX.2.2.2⟩, hX.1.2.1.F ht⟩) hX.1.2.1.2.2 dX4_numbers_31 hlk)
set_option maxHeartbeats 8000000 in
theorem met_X4_numbers_1 (l : Launch) {D : va_G} {dA : WK} {a : Ix → Nat} (hD : wD D dA a) {F : St} {Fz : St} {ro : Option (Nat → Int32)} (hv0 : wVd dA (16, 0, 0)) (h : rdN (fun _ _ _ => (0, 100)) 3 0 F (fun _ => 0) = some (Fz, ro)) (sz : Nat) : MetR l yX4_numbers (ws_ yX4_numbers cX4_numbers 4 (some (.array .int))) (rmC 6 127 4 24) (wPreC D dA a F sz [.ref (a (16, 0, 0)), .ref (dA.2.2.2.1 1)]) (fun r => wQn 3 D dA a sz Fz r) (wQt D dA a sz Fz) 4 24 (wA dA a sz) ro := by
  refine rst (Qc := fun sz r => wQn 3 D dA a sz Fz r) (Qt := fun sz => wQt D dA a sz Fz) (by decide) (Nat.le_of_ble_eq_true rfl) ?_ sz
  intro p e s m below meth c S hr hlk hne hK hC hW ls hl
  have hl : lv_has ls 4 [(0, .ref (a (16, 0, 0))), (1, .ref (dA.2.2.2.1 1))] := hl
  have hx := S.1
  have hb := S.2.1
  have hap : slAp D := hD.2
  generalize ([.ref (a (16, 0, 0)), .ref (dA.2.2.2.1 1)] : List Value).toArray = av at S ⊢
  have hX := XS_in hW
  obtain ⟨H, eH⟩ : ∃ z, z = s.heap := ⟨_, rfl⟩
  obtain ⟨locs, eL⟩ : ∃ z : List Loc, z = [] := ⟨_, rfl⟩
  have hX : XS D dA a s F [] H locs := by rw [eH, eL]; exact hX
  refine wr_in eH eL ?_
  clear eH eL
  refine lv_aload_n hx hb dX4_numbers_0 rfl (lv_at hl 1 rfl) ?_
  refine kt_len (k := 1) (v := (3 : Int32)) S hK hX.1 rfl (by decide) dX4_numbers_1 ?_
  obtain ⟨z1, hz1⟩ : ∃ z, H.size = z := ⟨_, rfl⟩
  refine xnewa (z := z1) (N := 3) S hK hX (by decide) (by decide) (by decide) hz1 (Nat.le_of_ble_eq_true rfl) (Nat.le_of_ble_eq_true rfl) dX4_numbers_2 (fun H _ hX => ?_)
  have hX : XS D dA a s F [(z1, .inl (dA.1 0, 3, .inl (fun _ => 0)))] H locs := hX
  refine lv_astore_n (lv' := [(2, .ref z1), (0, .ref (a (16, 0, 0))), (1, .ref (dA.2.2.2.1 1))]) hx hb dX4_numbers_4 rfl hl (by decide) rfl (fun ls hl => ?_)
  refine lv_iconst (v := (0 : Int32)) hx hb dX4_numbers_5 (by decide) ?_
  refine lv_istore_n (lv' := [(3, .int (0 : Int32)), (2, .ref z1), (0, .ref (a (16, 0, 0))), (1, .ref (dA.2.2.2.1 1))]) hx hb dX4_numbers_6 rfl hl (by decide) rfl (fun ls hl => ?_)
  refine lv_iload_n hx hb dX4_numbers_7 rfl (lv_at hl 0 rfl) ?_
  refine lv_aload_n hx hb dX4_numbers_8 rfl (lv_at hl 1 rfl) ?_
  refine xlen (q0 := 0) (v := (3 : Int32)) S hK hX rfl (by decide) dX4_numbers_9 ?_
  refine lv_icmp_ge (tgt := 30) hx hb dX4_numbers_10 (by decide) (fun c => absurd c (by decide)) (fun _ => ?_)
  refine lv_aload_n hx hb dX4_numbers_13 rfl (lv_at hl 1 rfl) ?_
  refine lv_iload_n hx hb dX4_numbers_14 rfl (lv_at hl 0 rfl) ?_
  refine lv_aload_n hx hb dX4_numbers_15 rfl (lv_at hl 2 rfl) ?_
  refine lv_iconst (v := (0 : Int32)) hx hb dX4_numbers_16 (by decide) ?_
  refine lv_aload_n hx hb dX4_numbers_17 rfl (lv_at hl 3 rfl) ?_
  refine lv_iload_n hx hb dX4_numbers_18 rfl (lv_at hl 0 rfl) ?_
  refine kt_ald (k := 1) (z := 0) S hK hX.1 rfl (by decide) (by decide) dX4_numbers_19 ?_
  rw [rd1n] at h
  obtain ⟨F2, v3, hc4, h⟩ := obT_e h
  have hc4 : fn_X4_number F (0 : Int32) ((stv.getD 1 []).getD 0 0) = some (F2, v3) := hc4
  rcases v3 with _ | v3
  · have h : (some (F2, none) : Option (St × Option (Nat → Int32))) = some (Fz, ro) := h
    cases h
    exact W_lo (cells' := 3) (slots' := 17) (Nat.le_of_ble_eq_true rfl) (Nat.le_of_ble_eq_true rfl) (xk_t hne hlk (runVT (As := [.int (0 : Int32), .int ((stv.getD 1 []).getD 0 0)]) (rest := [.int (0 : Int32), .ref z1]) S (met_X4_number l hD hv0 hc4 H.size) (cwV 2 S.2.2.2.2 (lw_V q479 q481 qs6 q59 q482) rfl rfl rfl yd_X4_number ⟨Nat.le_of_ble_eq_true rfl, Nat.le_of_ble_eq_true rfl⟩) (xpreC hK hC hX hv0 rfl rfl _) rfl rfl hl.1 rfl (lv_room (Nat.le_of_ble_eq_true rfl)) dX4_numbers_20 ⟨Nat.le_of_ble_eq_true rfl, Nat.le_of_ble_eq_true rfl⟩) hX)
  dsimp only at h
  refine xk_i (va_runV (As := [.int (0 : Int32), .int ((stv.getD 1 []).getD 0 0)]) (rest := [.int (0 : Int32), .ref z1]) S (met_X4_number l hD hv0 hc4 H.size) (cwV 2 S.2.2.2.2 (lw_V q479 q481 qs6 q59 q482) rfl rfl rfl yd_X4_number ⟨Nat.le_of_ble_eq_true rfl, Nat.le_of_ble_eq_true rfl⟩) (xpreC hK hC hX hv0 rfl rfl _) rfl rfl hl.1 rfl (lv_room (Nat.le_of_ble_eq_true rfl)) dX4_numbers_20 ⟨Nat.le_of_ble_eq_true rfl, Nat.le_of_ble_eq_true rfl⟩) hX (fun H locs hX => ?_)
  have hX : XS D dA a s F2 [(z1, .inl (dA.1 0, 3, .inl (fun _ => 0)))] H locs := hX
  refine xiast (q0 := 0) (z0 := 0) S hK hX rfl (by decide) (by decide) dX4_numbers_23 (fun H locs hX => ?_)
  have hX : XS D dA a s F2 [(z1, .inl (dA.1 0, 3, .inl (upd (fun _ => 0) 0 v3)))] H locs := hX
  refine lv_iinc (v := (1 : Int32)) (lv' := [(3, .int (1 : Int32)), (2, .ref z1), (0, .ref (a (16, 0, 0))), (1, .ref (dA.2.2.2.1 1))]) hx hb dX4_numbers_24 hl (k := 0) rfl (by decide) (by decide) rfl (fun ls hl => ?_)
  refine lv_goto (tgt := 7) hx hb dX4_numbers_27 (by decide) ?_
  refine lv_iload_n hx hb dX4_numbers_7 rfl (lv_at hl 0 rfl) ?_
  refine lv_aload_n hx hb dX4_numbers_8 rfl (lv_at hl 1 rfl) ?_
  refine xlen (q0 := 0) (v := (3 : Int32)) S hK hX rfl (by decide) dX4_numbers_9 ?_
  refine lv_icmp_ge (tgt := 30) hx hb dX4_numbers_10 (by decide) (fun c => absurd c (by decide)) (fun _ => ?_)
  refine lv_aload_n hx hb dX4_numbers_13 rfl (lv_at hl 1 rfl) ?_
  refine lv_iload_n hx hb dX4_numbers_14 rfl (lv_at hl 0 rfl) ?_
  refine lv_aload_n hx hb dX4_numbers_15 rfl (lv_at hl 2 rfl) ?_
  refine lv_iconst (v := (0 : Int32)) hx hb dX4_numbers_16 (by decide) ?_
  refine lv_aload_n hx hb dX4_numbers_17 rfl (lv_at hl 3 rfl) ?_
  refine lv_iload_n hx hb dX4_numbers_18 rfl (lv_at hl 0 rfl) ?_
  refine kt_ald (k := 1) (z := 1) S hK hX.1 rfl (by decide) (by decide) dX4_numbers_19 ?_
  rw [rd1n] at h
  obtain ⟨F5, v6, hc7, h⟩ := obT_e h
  have hc7 : fn_X4_number F2 (0 : Int32) ((stv.getD 1 []).getD 1 0) = some (F5, v6) := hc7
  rcases v6 with _ | v6
  · have h : (some (F5, none) : Option (St × Option (Nat → Int32))) = some (Fz, ro) := h
    cases h
    exact W_lo (cells' := 3) (slots' := 17) (Nat.le_of_ble_eq_true rfl) (Nat.le_of_ble_eq_true rfl) (xk_t hne hlk (runVT (As := [.int (0 : Int32), .int ((stv.getD 1 []).getD 1 0)]) (rest := [.int (1 : Int32), .ref z1]) S (met_X4_number l hD hv0 hc7 H.size) (cwV 2 S.2.2.2.2 (lw_V q479 q481 qs6 q59 q482) rfl rfl rfl yd_X4_number ⟨Nat.le_of_ble_eq_true rfl, Nat.le_of_ble_eq_true rfl⟩) (xpreC hK hC hX hv0 rfl rfl _) rfl rfl hl.1 rfl (lv_room (Nat.le_of_ble_eq_true rfl)) dX4_numbers_20 ⟨Nat.le_of_ble_eq_true rfl, Nat.le_of_ble_eq_true rfl⟩) hX)
  dsimp only at h
  refine xk_i (va_runV (As := [.int (0 : Int32), .int ((stv.getD 1 []).getD 1 0)]) (rest := [.int (1 : Int32), .ref z1]) S (met_X4_number l hD hv0 hc7 H.size) (cwV 2 S.2.2.2.2 (lw_V q479 q481 qs6 q59 q482) rfl rfl rfl yd_X4_number ⟨Nat.le_of_ble_eq_true rfl, Nat.le_of_ble_eq_true rfl⟩) (xpreC hK hC hX hv0 rfl rfl _) rfl rfl hl.1 rfl (lv_room (Nat.le_of_ble_eq_true rfl)) dX4_numbers_20 ⟨Nat.le_of_ble_eq_true rfl, Nat.le_of_ble_eq_true rfl⟩) hX (fun H locs hX => ?_)
  have hX : XS D dA a s F5 [(z1, .inl (dA.1 0, 3, .inl (upd (fun _ => 0) 0 v3)))] H locs := hX
  refine xiast (q0 := 0) (z0 := 1) S hK hX rfl (by decide) (by decide) dX4_numbers_23 (fun H locs hX => ?_)
  have hX : XS D dA a s F5 [(z1, .inl (dA.1 0, 3, .inl (upd (upd (fun _ => 0) 0 v3) 1 v6)))] H locs := hX
  refine lv_iinc (v := (2 : Int32)) (lv' := [(3, .int (2 : Int32)), (2, .ref z1), (0, .ref (a (16, 0, 0))), (1, .ref (dA.2.2.2.1 1))]) hx hb dX4_numbers_24 hl (k := 0) rfl (by decide) (by decide) rfl (fun ls hl => ?_)
  refine lv_goto (tgt := 7) hx hb dX4_numbers_27 (by decide) ?_
  refine lv_iload_n hx hb dX4_numbers_7 rfl (lv_at hl 0 rfl) ?_
  refine lv_aload_n hx hb dX4_numbers_8 rfl (lv_at hl 1 rfl) ?_
  refine xlen (q0 := 0) (v := (3 : Int32)) S hK hX rfl (by decide) dX4_numbers_9 ?_
  refine lv_icmp_ge (tgt := 30) hx hb dX4_numbers_10 (by decide) (fun c => absurd c (by decide)) (fun _ => ?_)
  refine lv_aload_n hx hb dX4_numbers_13 rfl (lv_at hl 1 rfl) ?_
  refine lv_iload_n hx hb dX4_numbers_14 rfl (lv_at hl 0 rfl) ?_
  refine lv_aload_n hx hb dX4_numbers_15 rfl (lv_at hl 2 rfl) ?_
  refine lv_iconst (v := (0 : Int32)) hx hb dX4_numbers_16 (by decide) ?_
  refine lv_aload_n hx hb dX4_numbers_17 rfl (lv_at hl 3 rfl) ?_
  refine lv_iload_n hx hb dX4_numbers_18 rfl (lv_at hl 0 rfl) ?_
  refine kt_ald (k := 1) (z := 2) S hK hX.1 rfl (by decide) (by decide) dX4_numbers_19 ?_
  rw [rd1n] at h
  obtain ⟨F8, v9, hc10, h⟩ := obT_e h
  have hc10 : fn_X4_number F5 (0 : Int32) ((stv.getD 1 []).getD 2 0) = some (F8, v9) := hc10
  rcases v9 with _ | v9
  · have h : (some (F8, none) : Option (St × Option (Nat → Int32))) = some (Fz, ro) := h
    cases h
    exact W_lo (cells' := 3) (slots' := 17) (Nat.le_of_ble_eq_true rfl) (Nat.le_of_ble_eq_true rfl) (xk_t hne hlk (runVT (As := [.int (0 : Int32), .int ((stv.getD 1 []).getD 2 0)]) (rest := [.int (2 : Int32), .ref z1]) S (met_X4_number l hD hv0 hc10 H.size) (cwV 2 S.2.2.2.2 (lw_V q479 q481 qs6 q59 q482) rfl rfl rfl yd_X4_number ⟨Nat.le_of_ble_eq_true rfl, Nat.le_of_ble_eq_true rfl⟩) (xpreC hK hC hX hv0 rfl rfl _) rfl rfl hl.1 rfl (lv_room (Nat.le_of_ble_eq_true rfl)) dX4_numbers_20 ⟨Nat.le_of_ble_eq_true rfl, Nat.le_of_ble_eq_true rfl⟩) hX)
  dsimp only at h
  refine xk_i (va_runV (As := [.int (0 : Int32), .int ((stv.getD 1 []).getD 2 0)]) (rest := [.int (2 : Int32), .ref z1]) S (met_X4_number l hD hv0 hc10 H.size) (cwV 2 S.2.2.2.2 (lw_V q479 q481 qs6 q59 q482) rfl rfl rfl yd_X4_number ⟨Nat.le_of_ble_eq_true rfl, Nat.le_of_ble_eq_true rfl⟩) (xpreC hK hC hX hv0 rfl rfl _) rfl rfl hl.1 rfl (lv_room (Nat.le_of_ble_eq_true rfl)) dX4_numbers_20 ⟨Nat.le_of_ble_eq_true rfl, Nat.le_of_ble_eq_true rfl⟩) hX (fun H locs hX => ?_)
  have hX : XS D dA a s F8 [(z1, .inl (dA.1 0, 3, .inl (upd (upd (fun _ => 0) 0 v3) 1 v6)))] H locs := hX
  refine xiast (q0 := 0) (z0 := 2) S hK hX rfl (by decide) (by decide) dX4_numbers_23 (fun H locs hX => ?_)
  have hX : XS D dA a s F8 [(z1, .inl (dA.1 0, 3, .inl (upd (upd (upd (fun _ => 0) 0 v3) 1 v6) 2 v9)))] H locs := hX
  refine lv_iinc (v := (3 : Int32)) (lv' := [(3, .int (3 : Int32)), (2, .ref z1), (0, .ref (a (16, 0, 0))), (1, .ref (dA.2.2.2.1 1))]) hx hb dX4_numbers_24 hl (k := 0) rfl (by decide) (by decide) rfl (fun ls hl => ?_)
  refine lv_goto (tgt := 7) hx hb dX4_numbers_27 (by decide) ?_
  refine lv_iload_n hx hb dX4_numbers_7 rfl (lv_at hl 0 rfl) ?_
  refine lv_aload_n hx hb dX4_numbers_8 rfl (lv_at hl 1 rfl) ?_
  refine xlen (q0 := 0) (v := (3 : Int32)) S hK hX rfl (by decide) dX4_numbers_9 ?_
  refine lv_icmp_ge (tgt := 30) hx hb dX4_numbers_10 (by decide) (fun _ => ?_) (fun c => absurd c (by decide))
  refine lv_aload_n hx hb dX4_numbers_30 rfl (lv_at hl 1 rfl) ?_
  have h : (some (F8, some (upd (upd (upd (fun _ => 0) 0 v3) 1 v6) 2 v9)) : Option (St × Option (Nat → Int32))) = some (Fz, ro) := h
  cases h
  exact W_lo (cells' := 4) (slots' := 24) (Nat.le_of_ble_eq_true rfl) (Nat.le_of_ble_eq_true rfl) (W.aret S.1 S.2.1 hr (Or.inr ⟨_, rfl⟩) (Or.inr ⟨_, rfl⟩) (fun t ht _ => ⟨⟨(), z1, rfl, trivial, by rw [ht]; exact hX.1.1, by rw [ht]; exact hX.2.2.1, hX.2.2.2⟩, hX.1.2.1.F ht⟩) hX.1.2.1.2.2 dX4_numbers_31 hlk)
set_option maxHeartbeats 8000000 in
theorem met_X4_numbers_2 (l : Launch) {D : va_G} {dA : WK} {a : Ix → Nat} (hD : wD D dA a) {F : St} {Fz : St} {ro : Option (Nat → Int32)} (hv0 : wVd dA (16, 0, 0)) (h : rdN (fun k _ _ => (0, if k = 0 then 95 else 9)) 2 0 F (fun _ => 0) = some (Fz, ro)) (sz : Nat) : MetR l yX4_numbers (ws_ yX4_numbers cX4_numbers 4 (some (.array .int))) (rmC 6 127 3 16) (wPreC D dA a F sz [.ref (a (16, 0, 0)), .ref (dA.2.2.2.1 2)]) (fun r => wQn 2 D dA a sz Fz r) (wQt D dA a sz Fz) 3 16 (wA dA a sz) ro := by
  refine rst (Qc := fun sz r => wQn 2 D dA a sz Fz r) (Qt := fun sz => wQt D dA a sz Fz) (by decide) (Nat.le_of_ble_eq_true rfl) ?_ sz
  intro p e s m below meth c S hr hlk hne hK hC hW ls hl
  have hl : lv_has ls 4 [(0, .ref (a (16, 0, 0))), (1, .ref (dA.2.2.2.1 2))] := hl
  have hx := S.1
  have hb := S.2.1
  have hap : slAp D := hD.2
  generalize ([.ref (a (16, 0, 0)), .ref (dA.2.2.2.1 2)] : List Value).toArray = av at S ⊢
  have hX := XS_in hW
  obtain ⟨H, eH⟩ : ∃ z, z = s.heap := ⟨_, rfl⟩
  obtain ⟨locs, eL⟩ : ∃ z : List Loc, z = [] := ⟨_, rfl⟩
  have hX : XS D dA a s F [] H locs := by rw [eH, eL]; exact hX
  refine wr_in eH eL ?_
  clear eH eL
  refine lv_aload_n hx hb dX4_numbers_0 rfl (lv_at hl 1 rfl) ?_
  refine kt_len (k := 2) (v := (2 : Int32)) S hK hX.1 rfl (by decide) dX4_numbers_1 ?_
  obtain ⟨z1, hz1⟩ : ∃ z, H.size = z := ⟨_, rfl⟩
  refine xnewa (z := z1) (N := 2) S hK hX (by decide) (by decide) (by decide) hz1 (Nat.le_of_ble_eq_true rfl) (Nat.le_of_ble_eq_true rfl) dX4_numbers_2 (fun H _ hX => ?_)
  have hX : XS D dA a s F [(z1, .inl (dA.1 0, 2, .inl (fun _ => 0)))] H locs := hX
  refine lv_astore_n (lv' := [(2, .ref z1), (0, .ref (a (16, 0, 0))), (1, .ref (dA.2.2.2.1 2))]) hx hb dX4_numbers_4 rfl hl (by decide) rfl (fun ls hl => ?_)
  refine lv_iconst (v := (0 : Int32)) hx hb dX4_numbers_5 (by decide) ?_
  refine lv_istore_n (lv' := [(3, .int (0 : Int32)), (2, .ref z1), (0, .ref (a (16, 0, 0))), (1, .ref (dA.2.2.2.1 2))]) hx hb dX4_numbers_6 rfl hl (by decide) rfl (fun ls hl => ?_)
  refine lv_iload_n hx hb dX4_numbers_7 rfl (lv_at hl 0 rfl) ?_
  refine lv_aload_n hx hb dX4_numbers_8 rfl (lv_at hl 1 rfl) ?_
  refine xlen (q0 := 0) (v := (2 : Int32)) S hK hX rfl (by decide) dX4_numbers_9 ?_
  refine lv_icmp_ge (tgt := 30) hx hb dX4_numbers_10 (by decide) (fun c => absurd c (by decide)) (fun _ => ?_)
  refine lv_aload_n hx hb dX4_numbers_13 rfl (lv_at hl 1 rfl) ?_
  refine lv_iload_n hx hb dX4_numbers_14 rfl (lv_at hl 0 rfl) ?_
  refine lv_aload_n hx hb dX4_numbers_15 rfl (lv_at hl 2 rfl) ?_
  refine lv_iconst (v := (0 : Int32)) hx hb dX4_numbers_16 (by decide) ?_
  refine lv_aload_n hx hb dX4_numbers_17 rfl (lv_at hl 3 rfl) ?_
  refine lv_iload_n hx hb dX4_numbers_18 rfl (lv_at hl 0 rfl) ?_
  refine kt_ald (k := 2) (z := 0) S hK hX.1 rfl (by decide) (by decide) dX4_numbers_19 ?_
  rw [rd1n] at h
  obtain ⟨F2, v3, hc4, h⟩ := obT_e h
  have hc4 : fn_X4_number F (0 : Int32) ((stv.getD 2 []).getD 0 0) = some (F2, v3) := hc4
  rcases v3 with _ | v3
  · have h : (some (F2, none) : Option (St × Option (Nat → Int32))) = some (Fz, ro) := h
    cases h
    exact W_lo (cells' := 2) (slots' := 9) (Nat.le_of_ble_eq_true rfl) (Nat.le_of_ble_eq_true rfl) (xk_t hne hlk (runVT (As := [.int (0 : Int32), .int ((stv.getD 2 []).getD 0 0)]) (rest := [.int (0 : Int32), .ref z1]) S (met_X4_number l hD hv0 hc4 H.size) (cwV 2 S.2.2.2.2 (lw_V q479 q481 qs6 q59 q482) rfl rfl rfl yd_X4_number ⟨Nat.le_of_ble_eq_true rfl, Nat.le_of_ble_eq_true rfl⟩) (xpreC hK hC hX hv0 rfl rfl _) rfl rfl hl.1 rfl (lv_room (Nat.le_of_ble_eq_true rfl)) dX4_numbers_20 ⟨Nat.le_of_ble_eq_true rfl, Nat.le_of_ble_eq_true rfl⟩) hX)
  dsimp only at h
  refine xk_i (va_runV (As := [.int (0 : Int32), .int ((stv.getD 2 []).getD 0 0)]) (rest := [.int (0 : Int32), .ref z1]) S (met_X4_number l hD hv0 hc4 H.size) (cwV 2 S.2.2.2.2 (lw_V q479 q481 qs6 q59 q482) rfl rfl rfl yd_X4_number ⟨Nat.le_of_ble_eq_true rfl, Nat.le_of_ble_eq_true rfl⟩) (xpreC hK hC hX hv0 rfl rfl _) rfl rfl hl.1 rfl (lv_room (Nat.le_of_ble_eq_true rfl)) dX4_numbers_20 ⟨Nat.le_of_ble_eq_true rfl, Nat.le_of_ble_eq_true rfl⟩) hX (fun H locs hX => ?_)
  have hX : XS D dA a s F2 [(z1, .inl (dA.1 0, 2, .inl (fun _ => 0)))] H locs := hX
  refine xiast (q0 := 0) (z0 := 0) S hK hX rfl (by decide) (by decide) dX4_numbers_23 (fun H locs hX => ?_)
  have hX : XS D dA a s F2 [(z1, .inl (dA.1 0, 2, .inl (upd (fun _ => 0) 0 v3)))] H locs := hX
  refine lv_iinc (v := (1 : Int32)) (lv' := [(3, .int (1 : Int32)), (2, .ref z1), (0, .ref (a (16, 0, 0))), (1, .ref (dA.2.2.2.1 2))]) hx hb dX4_numbers_24 hl (k := 0) rfl (by decide) (by decide) rfl (fun ls hl => ?_)
  refine lv_goto (tgt := 7) hx hb dX4_numbers_27 (by decide) ?_
  refine lv_iload_n hx hb dX4_numbers_7 rfl (lv_at hl 0 rfl) ?_
  refine lv_aload_n hx hb dX4_numbers_8 rfl (lv_at hl 1 rfl) ?_
  refine xlen (q0 := 0) (v := (2 : Int32)) S hK hX rfl (by decide) dX4_numbers_9 ?_
  refine lv_icmp_ge (tgt := 30) hx hb dX4_numbers_10 (by decide) (fun c => absurd c (by decide)) (fun _ => ?_)
  refine lv_aload_n hx hb dX4_numbers_13 rfl (lv_at hl 1 rfl) ?_
  refine lv_iload_n hx hb dX4_numbers_14 rfl (lv_at hl 0 rfl) ?_
  refine lv_aload_n hx hb dX4_numbers_15 rfl (lv_at hl 2 rfl) ?_
  refine lv_iconst (v := (0 : Int32)) hx hb dX4_numbers_16 (by decide) ?_
  refine lv_aload_n hx hb dX4_numbers_17 rfl (lv_at hl 3 rfl) ?_
  refine lv_iload_n hx hb dX4_numbers_18 rfl (lv_at hl 0 rfl) ?_
  refine kt_ald (k := 2) (z := 1) S hK hX.1 rfl (by decide) (by decide) dX4_numbers_19 ?_
  rw [rd1n] at h
  obtain ⟨F5, v6, hc7, h⟩ := obT_e h
  have hc7 : fn_X4_number F2 (0 : Int32) ((stv.getD 2 []).getD 1 0) = some (F5, v6) := hc7
  rcases v6 with _ | v6
  · have h : (some (F5, none) : Option (St × Option (Nat → Int32))) = some (Fz, ro) := h
    cases h
    exact W_lo (cells' := 2) (slots' := 9) (Nat.le_of_ble_eq_true rfl) (Nat.le_of_ble_eq_true rfl) (xk_t hne hlk (runVT (As := [.int (0 : Int32), .int ((stv.getD 2 []).getD 1 0)]) (rest := [.int (1 : Int32), .ref z1]) S (met_X4_number l hD hv0 hc7 H.size) (cwV 2 S.2.2.2.2 (lw_V q479 q481 qs6 q59 q482) rfl rfl rfl yd_X4_number ⟨Nat.le_of_ble_eq_true rfl, Nat.le_of_ble_eq_true rfl⟩) (xpreC hK hC hX hv0 rfl rfl _) rfl rfl hl.1 rfl (lv_room (Nat.le_of_ble_eq_true rfl)) dX4_numbers_20 ⟨Nat.le_of_ble_eq_true rfl, Nat.le_of_ble_eq_true rfl⟩) hX)
  dsimp only at h
  refine xk_i (va_runV (As := [.int (0 : Int32), .int ((stv.getD 2 []).getD 1 0)]) (rest := [.int (1 : Int32), .ref z1]) S (met_X4_number l hD hv0 hc7 H.size) (cwV 2 S.2.2.2.2 (lw_V q479 q481 qs6 q59 q482) rfl rfl rfl yd_X4_number ⟨Nat.le_of_ble_eq_true rfl, Nat.le_of_ble_eq_true rfl⟩) (xpreC hK hC hX hv0 rfl rfl _) rfl rfl hl.1 rfl (lv_room (Nat.le_of_ble_eq_true rfl)) dX4_numbers_20 ⟨Nat.le_of_ble_eq_true rfl, Nat.le_of_ble_eq_true rfl⟩) hX (fun H locs hX => ?_)
  have hX : XS D dA a s F5 [(z1, .inl (dA.1 0, 2, .inl (upd (fun _ => 0) 0 v3)))] H locs := hX
  refine xiast (q0 := 0) (z0 := 1) S hK hX rfl (by decide) (by decide) dX4_numbers_23 (fun H locs hX => ?_)
  have hX : XS D dA a s F5 [(z1, .inl (dA.1 0, 2, .inl (upd (upd (fun _ => 0) 0 v3) 1 v6)))] H locs := hX
  refine lv_iinc (v := (2 : Int32)) (lv' := [(3, .int (2 : Int32)), (2, .ref z1), (0, .ref (a (16, 0, 0))), (1, .ref (dA.2.2.2.1 2))]) hx hb dX4_numbers_24 hl (k := 0) rfl (by decide) (by decide) rfl (fun ls hl => ?_)
  refine lv_goto (tgt := 7) hx hb dX4_numbers_27 (by decide) ?_
  refine lv_iload_n hx hb dX4_numbers_7 rfl (lv_at hl 0 rfl) ?_
  refine lv_aload_n hx hb dX4_numbers_8 rfl (lv_at hl 1 rfl) ?_
  refine xlen (q0 := 0) (v := (2 : Int32)) S hK hX rfl (by decide) dX4_numbers_9 ?_
  refine lv_icmp_ge (tgt := 30) hx hb dX4_numbers_10 (by decide) (fun _ => ?_) (fun c => absurd c (by decide))
  refine lv_aload_n hx hb dX4_numbers_30 rfl (lv_at hl 1 rfl) ?_
  have h : (some (F5, some (upd (upd (fun _ => 0) 0 v3) 1 v6)) : Option (St × Option (Nat → Int32))) = some (Fz, ro) := h
  cases h
  exact W_lo (cells' := 3) (slots' := 16) (Nat.le_of_ble_eq_true rfl) (Nat.le_of_ble_eq_true rfl) (W.aret S.1 S.2.1 hr (Or.inr ⟨_, rfl⟩) (Or.inr ⟨_, rfl⟩) (fun t ht _ => ⟨⟨(), z1, rfl, trivial, by rw [ht]; exact hX.1.1, by rw [ht]; exact hX.2.2.1, hX.2.2.2⟩, hX.1.2.1.F ht⟩) hX.1.2.1.2.2 dX4_numbers_31 hlk)
theorem yd_X4_ofBed : yX4_ofBed.cls = RX4 ∧ yX4_ofBed.cls ≠ "java/lang/invoke/MethodHandle" ∧ yX4_ofBed.cls ≠ "java/lang/invoke/VarHandle" ∧ (parseMethodDescriptor yX4_ofBed.desc).map (fun d => d.parameters.length) = some 0 := by decide +kernel
set_option maxHeartbeats 8000000 in
theorem met_X4_ofBed (l : Launch) {D : va_G} {dA : WK} {a : Ix → Nat} (hD : wD D dA a) {F : St} {Fz : St} {ro : Option Ln} (hv0 : wVd dA (16, 0, 0)) (h : fn_X4_ofBed F = some (Fz, ro)) (sz : Nat) : MetR l yX4_ofBed (ws_ yX4_ofBed cX4_ofBed 2 (some (.object "WaterGrounds$Line"))) (rmC 6 127 4 19) (wPreC D dA a F sz [.ref (a (16, 0, 0))]) (fun r => wQr D dA a sz Fz r) (wQt D dA a sz Fz) 4 19 (wA dA a sz) ro := by
  refine rst (Qc := fun sz r => wQr D dA a sz Fz r) (Qt := fun sz => wQt D dA a sz Fz) (by decide) (Nat.le_of_ble_eq_true rfl) ?_ sz
  intro p e s m below meth c S hr hlk hne hK hC hW ls hl
  have hl : lv_has ls 2 [(0, .ref (a (16, 0, 0)))] := hl
  have hx := S.1
  have hb := S.2.1
  have hap : slAp D := hD.2
  generalize ([.ref (a (16, 0, 0))] : List Value).toArray = av at S ⊢
  have hX := XS_in hW
  obtain ⟨H, eH⟩ : ∃ z, z = s.heap := ⟨_, rfl⟩
  obtain ⟨locs, eL⟩ : ∃ z : List Loc, z = [] := ⟨_, rfl⟩
  have hX : XS D dA a s F [] H locs := by rw [eH, eL]; exact hX
  refine wr_in eH eL ?_
  clear eH eL
  unfold fn_X4_ofBed at h
  refine lv_iconst (v := (2 : Int32)) hx hb dX4_ofBed_0 (by decide) ?_
  obtain ⟨z1, hz1⟩ : ∃ z, H.size = z := ⟨_, rfl⟩
  refine xnewa (z := z1) (N := 2) S hK hX (by decide) (by decide) (by decide) hz1 (Nat.le_of_ble_eq_true rfl) (Nat.le_of_ble_eq_true rfl) dX4_ofBed_1 (fun H _ hX => ?_)
  have hX : XS D dA a s F [(z1, .inl (dA.1 0, 2, .inl (fun _ => 0)))] H locs := hX
  refine lv_astore_n (lv' := [(1, .ref z1), (0, .ref (a (16, 0, 0)))]) hx hb dX4_ofBed_3 rfl hl (by decide) rfl (fun ls hl => ?_)
  refine lv_aload_n hx hb dX4_ofBed_4 rfl (lv_at hl 0 rfl) ?_
  refine lv_iconst (v := (0 : Int32)) hx hb dX4_ofBed_5 (by decide) ?_
  refine lv_aload_n hx hb dX4_ofBed_6 rfl (lv_at hl 1 rfl) ?_
  refine lv_iconst (v := (1 : Int32)) hx hb dX4_ofBed_7 (by decide) ?_
  refine lv_iconst (v := (4 : Int32)) hx hb dX4_ofBed_8 (by decide) ?_
  rw [rd1] at h
  obtain ⟨F2, v3, hc4, h⟩ := obT_e h
  have hc4 : fn_X4_number F (1 : Int32) (4 : Int32) = some (F2, v3) := hc4
  rcases v3 with _ | v3
  · have h : (some (F2, none) : Option (St × Option Ln)) = some (Fz, ro) := h
    cases h
    exact W_lo (cells' := 3) (slots' := 12) (Nat.le_of_ble_eq_true rfl) (Nat.le_of_ble_eq_true rfl) (xk_t hne hlk (runVT (As := [.int (1 : Int32), .int (4 : Int32)]) (rest := [.int (0 : Int32), .ref z1]) S (met_X4_number l hD hv0 hc4 H.size) (cwV 2 S.2.2.2.2 (lw_V q479 q481 qs6 q59 q482) rfl rfl rfl yd_X4_number ⟨Nat.le_of_ble_eq_true rfl, Nat.le_of_ble_eq_true rfl⟩) (xpreC hK hC hX hv0 rfl rfl _) rfl rfl hl.1 rfl (lv_room (Nat.le_of_ble_eq_true rfl)) dX4_ofBed_9 ⟨Nat.le_of_ble_eq_true rfl, Nat.le_of_ble_eq_true rfl⟩) hX)
  dsimp only at h
  refine xk_i (va_runV (As := [.int (1 : Int32), .int (4 : Int32)]) (rest := [.int (0 : Int32), .ref z1]) S (met_X4_number l hD hv0 hc4 H.size) (cwV 2 S.2.2.2.2 (lw_V q479 q481 qs6 q59 q482) rfl rfl rfl yd_X4_number ⟨Nat.le_of_ble_eq_true rfl, Nat.le_of_ble_eq_true rfl⟩) (xpreC hK hC hX hv0 rfl rfl _) rfl rfl hl.1 rfl (lv_room (Nat.le_of_ble_eq_true rfl)) dX4_ofBed_9 ⟨Nat.le_of_ble_eq_true rfl, Nat.le_of_ble_eq_true rfl⟩) hX (fun H locs hX => ?_)
  have hX : XS D dA a s F2 [(z1, .inl (dA.1 0, 2, .inl (fun _ => 0)))] H locs := hX
  refine xiast (q0 := 0) (z0 := 0) S hK hX rfl (by decide) (by decide) dX4_ofBed_12 (fun H locs hX => ?_)
  have hX : XS D dA a s F2 [(z1, .inl (dA.1 0, 2, .inl (upd (fun _ => 0) 0 v3)))] H locs := hX
  refine lv_aload_n hx hb dX4_ofBed_13 rfl (lv_at hl 0 rfl) ?_
  refine lv_iconst (v := (1 : Int32)) hx hb dX4_ofBed_14 (by decide) ?_
  refine lv_aload_n hx hb dX4_ofBed_15 rfl (lv_at hl 1 rfl) ?_
  refine lv_iconst (v := (1 : Int32)) hx hb dX4_ofBed_16 (by decide) ?_
  refine lv_iconst (v := (4 : Int32)) hx hb dX4_ofBed_17 (by decide) ?_
  rw [rd1] at h
  obtain ⟨F5, v6, hc7, h⟩ := obT_e h
  have hc7 : fn_X4_number F2 (1 : Int32) (4 : Int32) = some (F5, v6) := hc7
  rcases v6 with _ | v6
  · have h : (some (F5, none) : Option (St × Option Ln)) = some (Fz, ro) := h
    cases h
    exact W_lo (cells' := 3) (slots' := 12) (Nat.le_of_ble_eq_true rfl) (Nat.le_of_ble_eq_true rfl) (xk_t hne hlk (runVT (As := [.int (1 : Int32), .int (4 : Int32)]) (rest := [.int (1 : Int32), .ref z1]) S (met_X4_number l hD hv0 hc7 H.size) (cwV 2 S.2.2.2.2 (lw_V q479 q481 qs6 q59 q482) rfl rfl rfl yd_X4_number ⟨Nat.le_of_ble_eq_true rfl, Nat.le_of_ble_eq_true rfl⟩) (xpreC hK hC hX hv0 rfl rfl _) rfl rfl hl.1 rfl (lv_room (Nat.le_of_ble_eq_true rfl)) dX4_ofBed_18 ⟨Nat.le_of_ble_eq_true rfl, Nat.le_of_ble_eq_true rfl⟩) hX)
  dsimp only at h
  refine xk_i (va_runV (As := [.int (1 : Int32), .int (4 : Int32)]) (rest := [.int (1 : Int32), .ref z1]) S (met_X4_number l hD hv0 hc7 H.size) (cwV 2 S.2.2.2.2 (lw_V q479 q481 qs6 q59 q482) rfl rfl rfl yd_X4_number ⟨Nat.le_of_ble_eq_true rfl, Nat.le_of_ble_eq_true rfl⟩) (xpreC hK hC hX hv0 rfl rfl _) rfl rfl hl.1 rfl (lv_room (Nat.le_of_ble_eq_true rfl)) dX4_ofBed_18 ⟨Nat.le_of_ble_eq_true rfl, Nat.le_of_ble_eq_true rfl⟩) hX (fun H locs hX => ?_)
  have hX : XS D dA a s F5 [(z1, .inl (dA.1 0, 2, .inl (upd (fun _ => 0) 0 v3)))] H locs := hX
  refine xiast (q0 := 0) (z0 := 1) S hK hX rfl (by decide) (by decide) dX4_ofBed_21 (fun H locs hX => ?_)
  have hX : XS D dA a s F5 [(z1, .inl (dA.1 0, 2, .inl (upd (upd (fun _ => 0) 0 v3) 1 v6)))] H locs := hX
  refine lv_aload_n hx hb dX4_ofBed_22 rfl (lv_at hl 1 rfl) ?_
  refine lv_aload_n hx hb dX4_ofBed_23 rfl (lv_at hl 0 rfl) ?_
  refine lv_iconst (v := (0 : Int32)) hx hb dX4_ofBed_24 (by decide) ?_
  refine xiald (q0 := 0) (z0 := 0) S hK hX rfl (by decide) (by decide) dX4_ofBed_25 ?_
  refine xput (F1 := (fu F5 16 5 0 0 ((upd (upd (fun _ => 0) 0 v3) 1 v6) 0))) (ci := 4) S hK hD hX hv0 in_X4 rfl rfl 5 (by decide) q183 (fun _ h => h) rfl (tyX4_ok 5 (by decide)) rfl rfl (Nat.le_of_ble_eq_true rfl) rfl (fu_obj dA a _ _ rfl (by decide)) dX4_ofBed_26 (fun H locs _ hX => ?_)
  have hX : XS D dA a s (fu F5 16 5 0 0 ((upd (upd (fun _ => 0) 0 v3) 1 v6) 0)) [(z1, .inl (dA.1 0, 2, .inl (upd (upd (fun _ => 0) 0 v3) 1 v6)))] H locs := hX
  refine lv_aload_n hx hb dX4_ofBed_29 rfl (lv_at hl 1 rfl) ?_
  refine lv_aload_n hx hb dX4_ofBed_30 rfl (lv_at hl 0 rfl) ?_
  refine lv_iconst (v := (1 : Int32)) hx hb dX4_ofBed_31 (by decide) ?_
  refine xiald (q0 := 0) (z0 := 1) S hK hX rfl (by decide) (by decide) dX4_ofBed_32 ?_
  refine xput (F1 := (fu (fu F5 16 5 0 0 ((upd (upd (fun _ => 0) 0 v3) 1 v6) 0)) 16 6 0 0 ((upd (upd (fun _ => 0) 0 v3) 1 v6) 1))) (ci := 4) S hK hD hX hv0 in_X4 rfl rfl 6 (by decide) q184 (fun _ h => h) rfl (tyX4_ok 6 (by decide)) rfl rfl (Nat.le_of_ble_eq_true rfl) rfl (fu_obj dA a _ _ rfl (by decide)) dX4_ofBed_33 (fun H locs _ hX => ?_)
  have hX : XS D dA a s (fu (fu F5 16 5 0 0 ((upd (upd (fun _ => 0) 0 v3) 1 v6) 0)) 16 6 0 0 ((upd (upd (fun _ => 0) 0 v3) 1 v6) 1)) [(z1, .inl (dA.1 0, 2, .inl (upd (upd (fun _ => 0) 0 v3) 1 v6)))] H locs := hX
  obtain ⟨z8, hz8⟩ : ∃ z, H.size = z := ⟨_, rfl⟩
  refine xnew (ci := 11) (fs := [.null, .null, .null]) (z := z8) S in_X11 tyX11 tyX11_ok q551 q552 q72 hK hX rfl (by decide +kernel) hz8 (Nat.le_of_ble_eq_true rfl) (Nat.le_of_ble_eq_true rfl) dX4_ofBed_36 (fun H _ hX => ?_)
  have hX : XS D dA a s (fu (fu F5 16 5 0 0 ((upd (upd (fun _ => 0) 0 v3) 1 v6) 0)) 16 6 0 0 ((upd (upd (fun _ => 0) 0 v3) 1 v6) 1)) [(z1, .inl (dA.1 0, 2, .inl (upd (upd (fun _ => 0) 0 v3) 1 v6))), (z8, .inr (11, [.null, .null, .null]))] H locs := hX
  refine lv_dup hx hb dX4_ofBed_39 rfl ?_
  refine lv_aload_n hx hb dX4_ofBed_40 rfl (lv_at hl 1 rfl) ?_
  refine gf_16_7 S hK hX.1 hv0 q185 dX4_ofBed_41 ?_
  refine lv_aload_n hx hb dX4_ofBed_44 rfl (lv_at hl 0 rfl) ?_
  refine xck (q0 := 1) (x2 := .inr (11, [.ref z1, .ref (a (0, 0, 0)), .ref (a (0, 0, 0))])) (va_runI (As := [.ref (a (0, 0, 0)), .ref z1]) (rest := [.ref z8]) S (met_X11_init l hap z8 H.size (a (0, 0, 0)) z1) (cwI 2 S.2.2.2.2 (lw_meth q555) rfl rfl rfl (S.2.2.2.2 _ q72) (S.2.2.2.2 _ q553) (S.2.2.2.2 _ q554) rfl yd_X11_init.2 ⟨Nat.le_of_ble_eq_true rfl, Nat.le_of_ble_eq_true rfl⟩) (cpreS hC (hX.2.2.1.sub (ws' := [(z8, .inr (11, [.null, .null, .null]))]) [1] rfl) (hX.2.2.2.sub (ws' := [(z8, .inr (11, [.null, .null, .null]))]) [1] (by decide) rfl) rfl (.ref z8 :: [.ref (a (0, 0, 0)), .ref z1])) rfl rfl hl.1 rfl (lv_room (Nat.le_of_ble_eq_true rfl)) dX4_ofBed_45 ⟨Nat.le_of_ble_eq_true rfl, Nat.le_of_ble_eq_true rfl⟩) hX rfl (fun H locs _ hX => ?_)
  have hX : XS D dA a s (fu (fu F5 16 5 0 0 ((upd (upd (fun _ => 0) 0 v3) 1 v6) 0)) 16 6 0 0 ((upd (upd (fun _ => 0) 0 v3) 1 v6) 1)) [(z1, .inl (dA.1 0, 2, .inl (upd (upd (fun _ => 0) 0 v3) 1 v6))), (z8, .inr (11, [.ref z1, .ref (a (0, 0, 0)), .ref (a (0, 0, 0))]))] H locs := hX
  have h : (some ((fu (fu F5 16 5 0 0 ((upd (upd (fun _ => 0) 0 v3) 1 v6) 0)) 16 6 0 0 ((upd (upd (fun _ => 0) 0 v3) 1 v6) 1)), some (11, 0, 2, (upd (upd (fun _ => 0) 0 v3) 1 v6))) : Option (St × Option Ln)) = some (Fz, ro) := h
  cases h
  exact W_lo (cells' := 4) (slots' := 19) (Nat.le_of_ble_eq_true rfl) (Nat.le_of_ble_eq_true rfl) (W.aret S.1 S.2.1 hr (Or.inl ⟨_, rfl⟩) (Or.inr ⟨_, rfl⟩) (fun t ht _ => ⟨⟨z1, z8, rfl, trivial, by rw [ht]; exact hX.1.1, by rw [ht]; exact hX.2.2.1.sub [1, 0] rfl, hX.2.2.2.sub [1, 0] (by decide) rfl, fun q => absurd (show (2 : Nat) = 0 from q) (by decide), Nat.le_of_ble_eq_true rfl⟩, hX.1.2.1.F ht⟩) hX.1.2.1.2.2 dX4_ofBed_48 hlk)
theorem yd_X4_ofCell : yX4_ofCell.cls = RX4 ∧ yX4_ofCell.cls ≠ "java/lang/invoke/MethodHandle" ∧ yX4_ofCell.cls ≠ "java/lang/invoke/VarHandle" ∧ (parseMethodDescriptor yX4_ofCell.desc).map (fun d => d.parameters.length) = some 1 := by decide +kernel
set_option maxHeartbeats 8000000 in
theorem met_X4_ofCell (l : Launch) {D : va_G} {dA : WK} {a : Ix → Nat} (hD : wD D dA a) {F : St} {i0 : Int32} {Fz : St} {ro : Option Ln} (hv0 : wVd dA (16, 0, 0)) (h : fn_X4_ofCell i0 F = some (Fz, ro)) (sz : Nat) : MetR l yX4_ofCell (ws_ yX4_ofCell cX4_ofCell 3 (some (.object "WaterGrounds$Line"))) (rmC 6 127 5 28) (wPreC D dA a F sz [.ref (a (16, 0, 0)), .int i0]) (fun r => wQr D dA a sz Fz r) (wQt D dA a sz Fz) 5 28 (wA dA a sz) ro := by
  refine rst (Qc := fun sz r => wQr D dA a sz Fz r) (Qt := fun sz => wQt D dA a sz Fz) (by decide) (Nat.le_of_ble_eq_true rfl) ?_ sz
  intro p e s m below meth c S hr hlk hne hK hC hW ls hl
  have hl : lv_has ls 3 [(0, .ref (a (16, 0, 0))), (1, .int i0)] := hl
  have hx := S.1
  have hb := S.2.1
  have hap : slAp D := hD.2
  generalize ([.ref (a (16, 0, 0)), .int i0] : List Value).toArray = av at S ⊢
  have hX := XS_in hW
  obtain ⟨H, eH⟩ : ∃ z, z = s.heap := ⟨_, rfl⟩
  obtain ⟨locs, eL⟩ : ∃ z : List Loc, z = [] := ⟨_, rfl⟩
  have hX : XS D dA a s F [] H locs := by rw [eH, eL]; exact hX
  refine wr_in eH eL ?_
  clear eH eL
  unfold fn_X4_ofCell at h
  unfold lnR at h
  refine lv_iconst (v := (3 : Int32)) hx hb dX4_ofCell_0 (by decide) ?_
  obtain ⟨z1, hz1⟩ : ∃ z, H.size = z := ⟨_, rfl⟩
  refine xnewa (z := z1) (N := 3) S hK hX (by decide) (by decide) (by decide) hz1 (Nat.le_of_ble_eq_true rfl) (Nat.le_of_ble_eq_true rfl) dX4_ofCell_1 (fun H _ hX => ?_)
  have hX : XS D dA a s F [(z1, .inl (dA.1 0, 3, .inl (fun _ => 0)))] H locs := hX
  refine lv_astore_n (lv' := [(2, .ref z1), (0, .ref (a (16, 0, 0))), (1, .int i0)]) hx hb dX4_ofCell_3 rfl hl (by decide) rfl (fun ls hl => ?_)
  refine lv_aload_n hx hb dX4_ofCell_4 rfl (lv_at hl 0 rfl) ?_
  refine lv_iconst (v := (0 : Int32)) hx hb dX4_ofCell_5 (by decide) ?_
  refine lv_aload_n hx hb dX4_ofCell_6 rfl (lv_at hl 1 rfl) ?_
  refine lv_iconst (v := (0 : Int32)) hx hb dX4_ofCell_7 (by decide) ?_
  refine lv_aload_n hx hb dX4_ofCell_8 rfl (lv_at hl 1 rfl) ?_
  refine gf_16_5 S hK hX.1 hv0 q183 dX4_ofCell_9 ?_
  refine lv_iconst (v := (1 : Int32)) hx hb dX4_ofCell_12 (by decide) ?_
  refine lv_isub hx hb dX4_ofCell_13 ?_
  rw [rd1] at h
  obtain ⟨F2, v3, hc4, h⟩ := obT_e h
  have hc4 : fn_X4_number F (0 : Int32) ((F 16 5 0 0) - (1 : Int32)) = some (F2, v3) := hc4
  rcases v3 with _ | v3
  · have h : (some (F2, none) : Option (St × Option Ln)) = some (Fz, ro) := h
    cases h
    exact W_lo (cells' := 4) (slots' := 21) (Nat.le_of_ble_eq_true rfl) (Nat.le_of_ble_eq_true rfl) (xk_t hne hlk (runVT (As := [.int (0 : Int32), .int ((F 16 5 0 0) - (1 : Int32))]) (rest := [.int (0 : Int32), .ref z1]) S (met_X4_number l hD hv0 hc4 H.size) (cwV 2 S.2.2.2.2 (lw_V q479 q481 qs6 q59 q482) rfl rfl rfl yd_X4_number ⟨Nat.le_of_ble_eq_true rfl, Nat.le_of_ble_eq_true rfl⟩) (xpreC hK hC hX hv0 rfl rfl _) rfl rfl hl.1 rfl (lv_room (Nat.le_of_ble_eq_true rfl)) dX4_ofCell_14 ⟨Nat.le_of_ble_eq_true rfl, Nat.le_of_ble_eq_true rfl⟩) hX)
  dsimp only at h
  refine xk_i (va_runV (As := [.int (0 : Int32), .int ((F 16 5 0 0) - (1 : Int32))]) (rest := [.int (0 : Int32), .ref z1]) S (met_X4_number l hD hv0 hc4 H.size) (cwV 2 S.2.2.2.2 (lw_V q479 q481 qs6 q59 q482) rfl rfl rfl yd_X4_number ⟨Nat.le_of_ble_eq_true rfl, Nat.le_of_ble_eq_true rfl⟩) (xpreC hK hC hX hv0 rfl rfl _) rfl rfl hl.1 rfl (lv_room (Nat.le_of_ble_eq_true rfl)) dX4_ofCell_14 ⟨Nat.le_of_ble_eq_true rfl, Nat.le_of_ble_eq_true rfl⟩) hX (fun H locs hX => ?_)
  have hX : XS D dA a s F2 [(z1, .inl (dA.1 0, 3, .inl (fun _ => 0)))] H locs := hX
  refine xiast (q0 := 0) (z0 := 0) S hK hX rfl (by decide) (by decide) dX4_ofCell_17 (fun H locs hX => ?_)
  have hX : XS D dA a s F2 [(z1, .inl (dA.1 0, 3, .inl (upd (fun _ => 0) 0 v3)))] H locs := hX
  refine lv_aload_n hx hb dX4_ofCell_18 rfl (lv_at hl 0 rfl) ?_
  refine lv_iconst (v := (1 : Int32)) hx hb dX4_ofCell_19 (by decide) ?_
  refine lv_aload_n hx hb dX4_ofCell_20 rfl (lv_at hl 1 rfl) ?_
  refine lv_iconst (v := (0 : Int32)) hx hb dX4_ofCell_21 (by decide) ?_
  refine lv_aload_n hx hb dX4_ofCell_22 rfl (lv_at hl 1 rfl) ?_
  refine gf_16_6 S hK hX.1 hv0 q184 dX4_ofCell_23 ?_
  refine lv_iconst (v := (1 : Int32)) hx hb dX4_ofCell_26 (by decide) ?_
  refine lv_isub hx hb dX4_ofCell_27 ?_
  rw [rd1] at h
  obtain ⟨F5, v6, hc7, h⟩ := obT_e h
  have hc7 : fn_X4_number F2 (0 : Int32) ((F2 16 6 0 0) - (1 : Int32)) = some (F5, v6) := hc7
  rcases v6 with _ | v6
  · have h : (some (F5, none) : Option (St × Option Ln)) = some (Fz, ro) := h
    cases h
    exact W_lo (cells' := 4) (slots' := 21) (Nat.le_of_ble_eq_true rfl) (Nat.le_of_ble_eq_true rfl) (xk_t hne hlk (runVT (As := [.int (0 : Int32), .int ((F2 16 6 0 0) - (1 : Int32))]) (rest := [.int (1 : Int32), .ref z1]) S (met_X4_number l hD hv0 hc7 H.size) (cwV 2 S.2.2.2.2 (lw_V q479 q481 qs6 q59 q482) rfl rfl rfl yd_X4_number ⟨Nat.le_of_ble_eq_true rfl, Nat.le_of_ble_eq_true rfl⟩) (xpreC hK hC hX hv0 rfl rfl _) rfl rfl hl.1 rfl (lv_room (Nat.le_of_ble_eq_true rfl)) dX4_ofCell_28 ⟨Nat.le_of_ble_eq_true rfl, Nat.le_of_ble_eq_true rfl⟩) hX)
  dsimp only at h
  refine xk_i (va_runV (As := [.int (0 : Int32), .int ((F2 16 6 0 0) - (1 : Int32))]) (rest := [.int (1 : Int32), .ref z1]) S (met_X4_number l hD hv0 hc7 H.size) (cwV 2 S.2.2.2.2 (lw_V q479 q481 qs6 q59 q482) rfl rfl rfl yd_X4_number ⟨Nat.le_of_ble_eq_true rfl, Nat.le_of_ble_eq_true rfl⟩) (xpreC hK hC hX hv0 rfl rfl _) rfl rfl hl.1 rfl (lv_room (Nat.le_of_ble_eq_true rfl)) dX4_ofCell_28 ⟨Nat.le_of_ble_eq_true rfl, Nat.le_of_ble_eq_true rfl⟩) hX (fun H locs hX => ?_)
  have hX : XS D dA a s F5 [(z1, .inl (dA.1 0, 3, .inl (upd (fun _ => 0) 0 v3)))] H locs := hX
  refine xiast (q0 := 0) (z0 := 1) S hK hX rfl (by decide) (by decide) dX4_ofCell_31 (fun H locs hX => ?_)
  have hX : XS D dA a s F5 [(z1, .inl (dA.1 0, 3, .inl (upd (upd (fun _ => 0) 0 v3) 1 v6)))] H locs := hX
  refine lv_aload_n hx hb dX4_ofCell_32 rfl (lv_at hl 0 rfl) ?_
  refine lv_iconst (v := (2 : Int32)) hx hb dX4_ofCell_33 (by decide) ?_
  refine lv_aload_n hx hb dX4_ofCell_34 rfl (lv_at hl 1 rfl) ?_
  refine lv_iconst (v := (0 : Int32)) hx hb dX4_ofCell_35 (by decide) ?_
  refine lv_bipush (v := (50 : Int32)) hx hb dX4_ofCell_36 (by decide) ?_
  rw [rd1] at h
  obtain ⟨F8, v9, hc10, h⟩ := obT_e h
  have hc10 : fn_X4_number F5 (0 : Int32) (50 : Int32) = some (F8, v9) := hc10
  rcases v9 with _ | v9
  · have h : (some (F8, none) : Option (St × Option Ln)) = some (Fz, ro) := h
    cases h
    exact W_lo (cells' := 4) (slots' := 21) (Nat.le_of_ble_eq_true rfl) (Nat.le_of_ble_eq_true rfl) (xk_t hne hlk (runVT (As := [.int (0 : Int32), .int (50 : Int32)]) (rest := [.int (2 : Int32), .ref z1]) S (met_X4_number l hD hv0 hc10 H.size) (cwV 2 S.2.2.2.2 (lw_V q479 q481 qs6 q59 q482) rfl rfl rfl yd_X4_number ⟨Nat.le_of_ble_eq_true rfl, Nat.le_of_ble_eq_true rfl⟩) (xpreC hK hC hX hv0 rfl rfl _) rfl rfl hl.1 rfl (lv_room (Nat.le_of_ble_eq_true rfl)) dX4_ofCell_38 ⟨Nat.le_of_ble_eq_true rfl, Nat.le_of_ble_eq_true rfl⟩) hX)
  dsimp only at h
  refine xk_i (va_runV (As := [.int (0 : Int32), .int (50 : Int32)]) (rest := [.int (2 : Int32), .ref z1]) S (met_X4_number l hD hv0 hc10 H.size) (cwV 2 S.2.2.2.2 (lw_V q479 q481 qs6 q59 q482) rfl rfl rfl yd_X4_number ⟨Nat.le_of_ble_eq_true rfl, Nat.le_of_ble_eq_true rfl⟩) (xpreC hK hC hX hv0 rfl rfl _) rfl rfl hl.1 rfl (lv_room (Nat.le_of_ble_eq_true rfl)) dX4_ofCell_38 ⟨Nat.le_of_ble_eq_true rfl, Nat.le_of_ble_eq_true rfl⟩) hX (fun H locs hX => ?_)
  have hX : XS D dA a s F8 [(z1, .inl (dA.1 0, 3, .inl (upd (upd (fun _ => 0) 0 v3) 1 v6)))] H locs := hX
  refine xiast (q0 := 0) (z0 := 2) S hK hX rfl (by decide) (by decide) dX4_ofCell_41 (fun H locs hX => ?_)
  have hX : XS D dA a s F8 [(z1, .inl (dA.1 0, 3, .inl (upd (upd (upd (fun _ => 0) 0 v3) 1 v6) 2 v9)))] H locs := hX
  obtain ⟨z11, hz11⟩ : ∃ z, H.size = z := ⟨_, rfl⟩
  refine xnew (ci := 13) (fs := [.null, .null, .int (0 : Int32), .null]) (z := z11) S in_X13 tyX13 tyX13_ok q613 q614 q74 hK hX rfl (by decide +kernel) hz11 (Nat.le_of_ble_eq_true rfl) (Nat.le_of_ble_eq_true rfl) dX4_ofCell_42 (fun H _ hX => ?_)
  have hX : XS D dA a s F8 [(z1, .inl (dA.1 0, 3, .inl (upd (upd (upd (fun _ => 0) 0 v3) 1 v6) 2 v9))), (z11, .inr (13, [.null, .null, .int (0 : Int32), .null]))] H locs := hX
  refine lv_dup hx hb dX4_ofCell_45 rfl ?_
  refine lv_aload_n hx hb dX4_ofCell_46 rfl (lv_at hl 1 rfl) ?_
  refine gf_16_7 S hK hX.1 hv0 q185 dX4_ofCell_47 ?_
  refine lv_iload_n hx hb dX4_ofCell_50 rfl (lv_at hl 2 rfl) ?_
  refine lv_aload_n hx hb dX4_ofCell_51 rfl (lv_at hl 0 rfl) ?_
  refine xck (q0 := 1) (x2 := .inr (13, [.ref z1, .ref (a (0, 0, 0)), .int i0, .ref (a (0, 0, 0))])) (va_runI (As := [.ref (a (0, 0, 0)), .int i0, .ref z1]) (rest := [.ref z11]) S (met_X13_init l hap z11 H.size (a (0, 0, 0)) i0 z1) (cwI 3 S.2.2.2.2 (lw_meth q617) rfl rfl rfl (S.2.2.2.2 _ q74) (S.2.2.2.2 _ q615) (S.2.2.2.2 _ q616) rfl yd_X13_init.2 ⟨Nat.le_of_ble_eq_true rfl, Nat.le_of_ble_eq_true rfl⟩) (cpreS hC (hX.2.2.1.sub (ws' := [(z11, .inr (13, [.null, .null, .int (0 : Int32), .null]))]) [1] rfl) (hX.2.2.2.sub (ws' := [(z11, .inr (13, [.null, .null, .int (0 : Int32), .null]))]) [1] (by decide) rfl) rfl (.ref z11 :: [.ref (a (0, 0, 0)), .int i0, .ref z1])) rfl rfl hl.1 rfl (lv_room (Nat.le_of_ble_eq_true rfl)) dX4_ofCell_52 ⟨Nat.le_of_ble_eq_true rfl, Nat.le_of_ble_eq_true rfl⟩) hX rfl (fun H locs _ hX => ?_)
  have hX : XS D dA a s F8 [(z1, .inl (dA.1 0, 3, .inl (upd (upd (upd (fun _ => 0) 0 v3) 1 v6) 2 v9))), (z11, .inr (13, [.ref z1, .ref (a (0, 0, 0)), .int i0, .ref (a (0, 0, 0))]))] H locs := hX
  have h : (some (F8, some (13, i0, 3, (upd (upd (upd (fun _ => 0) 0 v3) 1 v6) 2 v9))) : Option (St × Option Ln)) = some (Fz, ro) := h
  cases h
  exact W_lo (cells' := 5) (slots' := 28) (Nat.le_of_ble_eq_true rfl) (Nat.le_of_ble_eq_true rfl) (W.aret S.1 S.2.1 hr (Or.inl ⟨_, rfl⟩) (Or.inr ⟨_, rfl⟩) (fun t ht _ => ⟨⟨z1, z11, rfl, trivial, by rw [ht]; exact hX.1.1, by rw [ht]; exact hX.2.2.1.sub [1, 0] rfl, hX.2.2.2.sub [1, 0] (by decide) rfl, fun q => absurd (show (3 : Nat) = 0 from q) (by decide), Nat.le_of_ble_eq_true rfl⟩, hX.1.2.1.F ht⟩) hX.1.2.1.2.2 dX4_ofCell_55 hlk)
theorem yd_X4_ofPour : yX4_ofPour.cls = RX4 ∧ yX4_ofPour.cls ≠ "java/lang/invoke/MethodHandle" ∧ yX4_ofPour.cls ≠ "java/lang/invoke/VarHandle" ∧ (parseMethodDescriptor yX4_ofPour.desc).map (fun d => d.parameters.length) = some 0 := by decide +kernel
set_option maxHeartbeats 8000000 in
theorem met_X4_ofPour (l : Launch) {D : va_G} {dA : WK} {a : Ix → Nat} (hD : wD D dA a) {F : St} {Fz : St} {ro : Option Ln} (hv0 : wVd dA (16, 0, 0)) (h : fn_X4_ofPour F = some (Fz, ro)) (sz : Nat) : MetR l yX4_ofPour (ws_ yX4_ofPour cX4_ofPour 2 (some (.object "WaterGrounds$Line"))) (rmC 6 127 5 27) (wPreC D dA a F sz [.ref (a (16, 0, 0))]) (fun r => wQr D dA a sz Fz r) (wQt D dA a sz Fz) 5 27 (wA dA a sz) ro := by
  refine rst (Qc := fun sz r => wQr D dA a sz Fz r) (Qt := fun sz => wQt D dA a sz Fz) (by decide) (Nat.le_of_ble_eq_true rfl) ?_ sz
  intro p e s m below meth c S hr hlk hne hK hC hW ls hl
  have hl : lv_has ls 2 [(0, .ref (a (16, 0, 0)))] := hl
  have hx := S.1
  have hb := S.2.1
  have hap : slAp D := hD.2
  generalize ([.ref (a (16, 0, 0))] : List Value).toArray = av at S ⊢
  have hX := XS_in hW
  obtain ⟨H, eH⟩ : ∃ z, z = s.heap := ⟨_, rfl⟩
  obtain ⟨locs, eL⟩ : ∃ z : List Loc, z = [] := ⟨_, rfl⟩
  have hX : XS D dA a s F [] H locs := by rw [eH, eL]; exact hX
  refine wr_in eH eL ?_
  clear eH eL
  unfold fn_X4_ofPour at h
  unfold lnR at h
  refine lv_iconst (v := (3 : Int32)) hx hb dX4_ofPour_0 (by decide) ?_
  obtain ⟨z1, hz1⟩ : ∃ z, H.size = z := ⟨_, rfl⟩
  refine xnewa (z := z1) (N := 3) S hK hX (by decide) (by decide) (by decide) hz1 (Nat.le_of_ble_eq_true rfl) (Nat.le_of_ble_eq_true rfl) dX4_ofPour_1 (fun H _ hX => ?_)
  have hX : XS D dA a s F [(z1, .inl (dA.1 0, 3, .inl (fun _ => 0)))] H locs := hX
  refine lv_astore_n (lv' := [(1, .ref z1), (0, .ref (a (16, 0, 0)))]) hx hb dX4_ofPour_3 rfl hl (by decide) rfl (fun ls hl => ?_)
  refine lv_aload_n hx hb dX4_ofPour_4 rfl (lv_at hl 0 rfl) ?_
  refine lv_iconst (v := (0 : Int32)) hx hb dX4_ofPour_5 (by decide) ?_
  refine lv_aload_n hx hb dX4_ofPour_6 rfl (lv_at hl 1 rfl) ?_
  refine lv_iconst (v := (0 : Int32)) hx hb dX4_ofPour_7 (by decide) ?_
  refine lv_bipush (v := (59 : Int32)) hx hb dX4_ofPour_8 (by decide) ?_
  rw [rd1] at h
  obtain ⟨F2, v3, hc4, h⟩ := obT_e h
  have hc4 : fn_X4_number F (0 : Int32) (59 : Int32) = some (F2, v3) := hc4
  rcases v3 with _ | v3
  · have h : (some (F2, none) : Option (St × Option Ln)) = some (Fz, ro) := h
    cases h
    exact W_lo (cells' := 4) (slots' := 20) (Nat.le_of_ble_eq_true rfl) (Nat.le_of_ble_eq_true rfl) (xk_t hne hlk (runVT (As := [.int (0 : Int32), .int (59 : Int32)]) (rest := [.int (0 : Int32), .ref z1]) S (met_X4_number l hD hv0 hc4 H.size) (cwV 2 S.2.2.2.2 (lw_V q479 q481 qs6 q59 q482) rfl rfl rfl yd_X4_number ⟨Nat.le_of_ble_eq_true rfl, Nat.le_of_ble_eq_true rfl⟩) (xpreC hK hC hX hv0 rfl rfl _) rfl rfl hl.1 rfl (lv_room (Nat.le_of_ble_eq_true rfl)) dX4_ofPour_10 ⟨Nat.le_of_ble_eq_true rfl, Nat.le_of_ble_eq_true rfl⟩) hX)
  dsimp only at h
  refine xk_i (va_runV (As := [.int (0 : Int32), .int (59 : Int32)]) (rest := [.int (0 : Int32), .ref z1]) S (met_X4_number l hD hv0 hc4 H.size) (cwV 2 S.2.2.2.2 (lw_V q479 q481 qs6 q59 q482) rfl rfl rfl yd_X4_number ⟨Nat.le_of_ble_eq_true rfl, Nat.le_of_ble_eq_true rfl⟩) (xpreC hK hC hX hv0 rfl rfl _) rfl rfl hl.1 rfl (lv_room (Nat.le_of_ble_eq_true rfl)) dX4_ofPour_10 ⟨Nat.le_of_ble_eq_true rfl, Nat.le_of_ble_eq_true rfl⟩) hX (fun H locs hX => ?_)
  have hX : XS D dA a s F2 [(z1, .inl (dA.1 0, 3, .inl (fun _ => 0)))] H locs := hX
  refine xiast (q0 := 0) (z0 := 0) S hK hX rfl (by decide) (by decide) dX4_ofPour_13 (fun H locs hX => ?_)
  have hX : XS D dA a s F2 [(z1, .inl (dA.1 0, 3, .inl (upd (fun _ => 0) 0 v3)))] H locs := hX
  refine lv_aload_n hx hb dX4_ofPour_14 rfl (lv_at hl 0 rfl) ?_
  refine lv_iconst (v := (1 : Int32)) hx hb dX4_ofPour_15 (by decide) ?_
  refine lv_aload_n hx hb dX4_ofPour_16 rfl (lv_at hl 1 rfl) ?_
  refine lv_iconst (v := (0 : Int32)) hx hb dX4_ofPour_17 (by decide) ?_
  refine lv_aload_n hx hb dX4_ofPour_18 rfl (lv_at hl 1 rfl) ?_
  refine gf_16_5 S hK hX.1 hv0 q183 dX4_ofPour_19 ?_
  refine lv_iconst (v := (1 : Int32)) hx hb dX4_ofPour_22 (by decide) ?_
  refine lv_isub hx hb dX4_ofPour_23 ?_
  rw [rd1] at h
  obtain ⟨F5, v6, hc7, h⟩ := obT_e h
  have hc7 : fn_X4_number F2 (0 : Int32) ((F2 16 5 0 0) - (1 : Int32)) = some (F5, v6) := hc7
  rcases v6 with _ | v6
  · have h : (some (F5, none) : Option (St × Option Ln)) = some (Fz, ro) := h
    cases h
    exact W_lo (cells' := 4) (slots' := 20) (Nat.le_of_ble_eq_true rfl) (Nat.le_of_ble_eq_true rfl) (xk_t hne hlk (runVT (As := [.int (0 : Int32), .int ((F2 16 5 0 0) - (1 : Int32))]) (rest := [.int (1 : Int32), .ref z1]) S (met_X4_number l hD hv0 hc7 H.size) (cwV 2 S.2.2.2.2 (lw_V q479 q481 qs6 q59 q482) rfl rfl rfl yd_X4_number ⟨Nat.le_of_ble_eq_true rfl, Nat.le_of_ble_eq_true rfl⟩) (xpreC hK hC hX hv0 rfl rfl _) rfl rfl hl.1 rfl (lv_room (Nat.le_of_ble_eq_true rfl)) dX4_ofPour_24 ⟨Nat.le_of_ble_eq_true rfl, Nat.le_of_ble_eq_true rfl⟩) hX)
  dsimp only at h
  refine xk_i (va_runV (As := [.int (0 : Int32), .int ((F2 16 5 0 0) - (1 : Int32))]) (rest := [.int (1 : Int32), .ref z1]) S (met_X4_number l hD hv0 hc7 H.size) (cwV 2 S.2.2.2.2 (lw_V q479 q481 qs6 q59 q482) rfl rfl rfl yd_X4_number ⟨Nat.le_of_ble_eq_true rfl, Nat.le_of_ble_eq_true rfl⟩) (xpreC hK hC hX hv0 rfl rfl _) rfl rfl hl.1 rfl (lv_room (Nat.le_of_ble_eq_true rfl)) dX4_ofPour_24 ⟨Nat.le_of_ble_eq_true rfl, Nat.le_of_ble_eq_true rfl⟩) hX (fun H locs hX => ?_)
  have hX : XS D dA a s F5 [(z1, .inl (dA.1 0, 3, .inl (upd (fun _ => 0) 0 v3)))] H locs := hX
  refine xiast (q0 := 0) (z0 := 1) S hK hX rfl (by decide) (by decide) dX4_ofPour_27 (fun H locs hX => ?_)
  have hX : XS D dA a s F5 [(z1, .inl (dA.1 0, 3, .inl (upd (upd (fun _ => 0) 0 v3) 1 v6)))] H locs := hX
  refine lv_aload_n hx hb dX4_ofPour_28 rfl (lv_at hl 0 rfl) ?_
  refine lv_iconst (v := (2 : Int32)) hx hb dX4_ofPour_29 (by decide) ?_
  refine lv_aload_n hx hb dX4_ofPour_30 rfl (lv_at hl 1 rfl) ?_
  refine lv_iconst (v := (1 : Int32)) hx hb dX4_ofPour_31 (by decide) ?_
  refine lv_sipush (v := (500 : Int32)) hx hb dX4_ofPour_32 (by decide) ?_
  rw [rd1] at h
  obtain ⟨F8, v9, hc10, h⟩ := obT_e h
  have hc10 : fn_X4_number F5 (1 : Int32) (500 : Int32) = some (F8, v9) := hc10
  rcases v9 with _ | v9
  · have h : (some (F8, none) : Option (St × Option Ln)) = some (Fz, ro) := h
    cases h
    exact W_lo (cells' := 4) (slots' := 20) (Nat.le_of_ble_eq_true rfl) (Nat.le_of_ble_eq_true rfl) (xk_t hne hlk (runVT (As := [.int (1 : Int32), .int (500 : Int32)]) (rest := [.int (2 : Int32), .ref z1]) S (met_X4_number l hD hv0 hc10 H.size) (cwV 2 S.2.2.2.2 (lw_V q479 q481 qs6 q59 q482) rfl rfl rfl yd_X4_number ⟨Nat.le_of_ble_eq_true rfl, Nat.le_of_ble_eq_true rfl⟩) (xpreC hK hC hX hv0 rfl rfl _) rfl rfl hl.1 rfl (lv_room (Nat.le_of_ble_eq_true rfl)) dX4_ofPour_35 ⟨Nat.le_of_ble_eq_true rfl, Nat.le_of_ble_eq_true rfl⟩) hX)
  dsimp only at h
  refine xk_i (va_runV (As := [.int (1 : Int32), .int (500 : Int32)]) (rest := [.int (2 : Int32), .ref z1]) S (met_X4_number l hD hv0 hc10 H.size) (cwV 2 S.2.2.2.2 (lw_V q479 q481 qs6 q59 q482) rfl rfl rfl yd_X4_number ⟨Nat.le_of_ble_eq_true rfl, Nat.le_of_ble_eq_true rfl⟩) (xpreC hK hC hX hv0 rfl rfl _) rfl rfl hl.1 rfl (lv_room (Nat.le_of_ble_eq_true rfl)) dX4_ofPour_35 ⟨Nat.le_of_ble_eq_true rfl, Nat.le_of_ble_eq_true rfl⟩) hX (fun H locs hX => ?_)
  have hX : XS D dA a s F8 [(z1, .inl (dA.1 0, 3, .inl (upd (upd (fun _ => 0) 0 v3) 1 v6)))] H locs := hX
  refine xiast (q0 := 0) (z0 := 2) S hK hX rfl (by decide) (by decide) dX4_ofPour_38 (fun H locs hX => ?_)
  have hX : XS D dA a s F8 [(z1, .inl (dA.1 0, 3, .inl (upd (upd (upd (fun _ => 0) 0 v3) 1 v6) 2 v9)))] H locs := hX
  obtain ⟨z11, hz11⟩ : ∃ z, H.size = z := ⟨_, rfl⟩
  refine xnew (ci := 14) (fs := [.null, .null, .null]) (z := z11) S in_X14 tyX14 tyX14_ok q634 q635 q75 hK hX rfl (by decide +kernel) hz11 (Nat.le_of_ble_eq_true rfl) (Nat.le_of_ble_eq_true rfl) dX4_ofPour_39 (fun H _ hX => ?_)
  have hX : XS D dA a s F8 [(z1, .inl (dA.1 0, 3, .inl (upd (upd (upd (fun _ => 0) 0 v3) 1 v6) 2 v9))), (z11, .inr (14, [.null, .null, .null]))] H locs := hX
  refine lv_dup hx hb dX4_ofPour_42 rfl ?_
  refine lv_aload_n hx hb dX4_ofPour_43 rfl (lv_at hl 1 rfl) ?_
  refine gf_16_7 S hK hX.1 hv0 q185 dX4_ofPour_44 ?_
  refine lv_aload_n hx hb dX4_ofPour_47 rfl (lv_at hl 0 rfl) ?_
  refine xck (q0 := 1) (x2 := .inr (14, [.ref z1, .ref (a (0, 0, 0)), .ref (a (0, 0, 0))])) (va_runI (As := [.ref (a (0, 0, 0)), .ref z1]) (rest := [.ref z11]) S (met_X14_init l hap z11 H.size (a (0, 0, 0)) z1) (cwI 2 S.2.2.2.2 (lw_meth q638) rfl rfl rfl (S.2.2.2.2 _ q75) (S.2.2.2.2 _ q636) (S.2.2.2.2 _ q637) rfl yd_X14_init.2 ⟨Nat.le_of_ble_eq_true rfl, Nat.le_of_ble_eq_true rfl⟩) (cpreS hC (hX.2.2.1.sub (ws' := [(z11, .inr (14, [.null, .null, .null]))]) [1] rfl) (hX.2.2.2.sub (ws' := [(z11, .inr (14, [.null, .null, .null]))]) [1] (by decide) rfl) rfl (.ref z11 :: [.ref (a (0, 0, 0)), .ref z1])) rfl rfl hl.1 rfl (lv_room (Nat.le_of_ble_eq_true rfl)) dX4_ofPour_48 ⟨Nat.le_of_ble_eq_true rfl, Nat.le_of_ble_eq_true rfl⟩) hX rfl (fun H locs _ hX => ?_)
  have hX : XS D dA a s F8 [(z1, .inl (dA.1 0, 3, .inl (upd (upd (upd (fun _ => 0) 0 v3) 1 v6) 2 v9))), (z11, .inr (14, [.ref z1, .ref (a (0, 0, 0)), .ref (a (0, 0, 0))]))] H locs := hX
  have h : (some (F8, some (14, 0, 3, (upd (upd (upd (fun _ => 0) 0 v3) 1 v6) 2 v9))) : Option (St × Option Ln)) = some (Fz, ro) := h
  cases h
  exact W_lo (cells' := 5) (slots' := 27) (Nat.le_of_ble_eq_true rfl) (Nat.le_of_ble_eq_true rfl) (W.aret S.1 S.2.1 hr (Or.inl ⟨_, rfl⟩) (Or.inr ⟨_, rfl⟩) (fun t ht _ => ⟨⟨z1, z11, rfl, trivial, by rw [ht]; exact hX.1.1, by rw [ht]; exact hX.2.2.1.sub [1, 0] rfl, hX.2.2.2.sub [1, 0] (by decide) rfl, fun q => absurd (show (3 : Nat) = 0 from q) (by decide), Nat.le_of_ble_eq_true rfl⟩, hX.1.2.1.F ht⟩) hX.1.2.1.2.2 dX4_ofPour_51 hlk)
theorem yd_X4_ofChart : yX4_ofChart.cls = RX4 ∧ yX4_ofChart.cls ≠ "java/lang/invoke/MethodHandle" ∧ yX4_ofChart.cls ≠ "java/lang/invoke/VarHandle" ∧ (parseMethodDescriptor yX4_ofChart.desc).map (fun d => d.parameters.length) = some 0 := by decide +kernel
set_option maxHeartbeats 8000000 in
theorem met_X4_ofChart (l : Launch) {D : va_G} {dA : WK} {a : Ix → Nat} (hD : wD D dA a) {F : St} {Fz : St} {ro : Option Ln} (hv0 : wVd dA (16, 0, 0)) (h : fn_X4_ofChart F = some (Fz, ro)) (sz : Nat) : MetR l yX4_ofChart (ws_ yX4_ofChart cX4_ofChart 3 (some (.object "WaterGrounds$Line"))) (rmC 6 127 7 44) (wPreC D dA a F sz [.ref (a (16, 0, 0))]) (fun r => wQr D dA a sz Fz r) (wQt D dA a sz Fz) 7 44 (wA dA a sz) ro := by
  refine rst (Qc := fun sz r => wQr D dA a sz Fz r) (Qt := fun sz => wQt D dA a sz Fz) (by decide) (Nat.le_of_ble_eq_true rfl) ?_ sz
  intro p e s m below meth c S hr hlk hne hK hC hW ls hl
  have hl : lv_has ls 3 [(0, .ref (a (16, 0, 0)))] := hl
  have hx := S.1
  have hb := S.2.1
  have hap : slAp D := hD.2
  generalize ([.ref (a (16, 0, 0))] : List Value).toArray = av at S ⊢
  have hX := XS_in hW
  obtain ⟨H, eH⟩ : ∃ z, z = s.heap := ⟨_, rfl⟩
  obtain ⟨locs, eL⟩ : ∃ z : List Loc, z = [] := ⟨_, rfl⟩
  have hX : XS D dA a s F [] H locs := by rw [eH, eL]; exact hX
  refine wr_in eH eL ?_
  clear eH eL
  unfold fn_X4_ofChart at h
  unfold lnR at h
  refine lv_iconst (v := (5 : Int32)) hx hb dX4_ofChart_0 (by decide) ?_
  obtain ⟨z1, hz1⟩ : ∃ z, H.size = z := ⟨_, rfl⟩
  refine xnewa (z := z1) (N := 5) S hK hX (by decide) (by decide) (by decide) hz1 (Nat.le_of_ble_eq_true rfl) (Nat.le_of_ble_eq_true rfl) dX4_ofChart_1 (fun H _ hX => ?_)
  have hX : XS D dA a s F [(z1, .inl (dA.1 0, 5, .inl (fun _ => 0)))] H locs := hX
  refine lv_astore_n (lv' := [(1, .ref z1), (0, .ref (a (16, 0, 0)))]) hx hb dX4_ofChart_3 rfl hl (by decide) rfl (fun ls hl => ?_)
  refine lv_iconst (v := (0 : Int32)) hx hb dX4_ofChart_4 (by decide) ?_
  refine lv_istore_n (lv' := [(2, .int (0 : Int32)), (1, .ref z1), (0, .ref (a (16, 0, 0)))]) hx hb dX4_ofChart_5 rfl hl (by decide) rfl (fun ls hl => ?_)
  refine lv_iload_n hx hb dX4_ofChart_6 rfl (lv_at hl 0 rfl) ?_
  refine lv_iconst (v := (5 : Int32)) hx hb dX4_ofChart_7 (by decide) ?_
  refine lv_icmp_ge (tgt := 46) hx hb dX4_ofChart_8 (by decide) (fun c => absurd c (by decide)) (fun _ => ?_)
  refine lv_aload_n hx hb dX4_ofChart_11 rfl (lv_at hl 1 rfl) ?_
  refine lv_iload_n hx hb dX4_ofChart_12 rfl (lv_at hl 0 rfl) ?_
  refine lv_aload_n hx hb dX4_ofChart_13 rfl (lv_at hl 2 rfl) ?_
  refine lv_iload_n hx hb dX4_ofChart_14 rfl (lv_at hl 0 rfl) ?_
  refine lv_iconst (v := (1 : Int32)) hx hb dX4_ofChart_15 (by decide) ?_
  refine lv_icmp_eq (tgt := 24) hx hb dX4_ofChart_16 (by decide) (fun c => absurd c (by decide)) (fun _ => ?_)
  refine lv_iload_n hx hb dX4_ofChart_19 rfl (lv_at hl 0 rfl) ?_
  refine lv_iconst (v := (3 : Int32)) hx hb dX4_ofChart_20 (by decide) ?_
  refine lv_icmp_ne (tgt := 32) hx hb dX4_ofChart_21 (by decide) (fun _ => ?_) (fun c => absurd c (by decide))
  refine lv_iconst (v := (0 : Int32)) hx hb dX4_ofChart_32 (by decide) ?_
  refine lv_sipush (v := (999 : Int32)) hx hb dX4_ofChart_33 (by decide) ?_
  rw [rd1] at h
  obtain ⟨F2, v3, hc4, h⟩ := obT_e h
  have hc4 : fn_X4_number F (0 : Int32) (999 : Int32) = some (F2, v3) := hc4
  rcases v3 with _ | v3
  · have h : (some (F2, none) : Option (St × Option Ln)) = some (Fz, ro) := h
    cases h
    exact W_lo (cells' := 6) (slots' := 37) (Nat.le_of_ble_eq_true rfl) (Nat.le_of_ble_eq_true rfl) (xk_t hne hlk (runVT (As := [.int (0 : Int32), .int (999 : Int32)]) (rest := [.int (0 : Int32), .ref z1]) S (met_X4_number l hD hv0 hc4 H.size) (cwV 2 S.2.2.2.2 (lw_V q479 q481 qs6 q59 q482) rfl rfl rfl yd_X4_number ⟨Nat.le_of_ble_eq_true rfl, Nat.le_of_ble_eq_true rfl⟩) (xpreC hK hC hX hv0 rfl rfl _) rfl rfl hl.1 rfl (lv_room (Nat.le_of_ble_eq_true rfl)) dX4_ofChart_36 ⟨Nat.le_of_ble_eq_true rfl, Nat.le_of_ble_eq_true rfl⟩) hX)
  dsimp only at h
  refine xk_i (va_runV (As := [.int (0 : Int32), .int (999 : Int32)]) (rest := [.int (0 : Int32), .ref z1]) S (met_X4_number l hD hv0 hc4 H.size) (cwV 2 S.2.2.2.2 (lw_V q479 q481 qs6 q59 q482) rfl rfl rfl yd_X4_number ⟨Nat.le_of_ble_eq_true rfl, Nat.le_of_ble_eq_true rfl⟩) (xpreC hK hC hX hv0 rfl rfl _) rfl rfl hl.1 rfl (lv_room (Nat.le_of_ble_eq_true rfl)) dX4_ofChart_36 ⟨Nat.le_of_ble_eq_true rfl, Nat.le_of_ble_eq_true rfl⟩) hX (fun H locs hX => ?_)
  have hX : XS D dA a s F2 [(z1, .inl (dA.1 0, 5, .inl (fun _ => 0)))] H locs := hX
  refine xiast (q0 := 0) (z0 := 0) S hK hX rfl (by decide) (by decide) dX4_ofChart_39 (fun H locs hX => ?_)
  have hX : XS D dA a s F2 [(z1, .inl (dA.1 0, 5, .inl (upd (fun _ => 0) 0 v3)))] H locs := hX
  refine lv_iinc (v := (1 : Int32)) (lv' := [(2, .int (1 : Int32)), (1, .ref z1), (0, .ref (a (16, 0, 0)))]) hx hb dX4_ofChart_40 hl (k := 0) rfl (by decide) (by decide) rfl (fun ls hl => ?_)
  refine lv_goto (tgt := 6) hx hb dX4_ofChart_43 (by decide) ?_
  refine lv_iload_n hx hb dX4_ofChart_6 rfl (lv_at hl 0 rfl) ?_
  refine lv_iconst (v := (5 : Int32)) hx hb dX4_ofChart_7 (by decide) ?_
  refine lv_icmp_ge (tgt := 46) hx hb dX4_ofChart_8 (by decide) (fun c => absurd c (by decide)) (fun _ => ?_)
  refine lv_aload_n hx hb dX4_ofChart_11 rfl (lv_at hl 1 rfl) ?_
  refine lv_iload_n hx hb dX4_ofChart_12 rfl (lv_at hl 0 rfl) ?_
  refine lv_aload_n hx hb dX4_ofChart_13 rfl (lv_at hl 2 rfl) ?_
  refine lv_iload_n hx hb dX4_ofChart_14 rfl (lv_at hl 0 rfl) ?_
  refine lv_iconst (v := (1 : Int32)) hx hb dX4_ofChart_15 (by decide) ?_
  refine lv_icmp_eq (tgt := 24) hx hb dX4_ofChart_16 (by decide) (fun _ => ?_) (fun c => absurd c (by decide))
  refine lv_aload_n hx hb dX4_ofChart_24 rfl (lv_at hl 1 rfl) ?_
  refine lv_iload_n hx hb dX4_ofChart_25 rfl (lv_at hl 0 rfl) ?_
  refine lv_iconst (v := (1 : Int32)) hx hb dX4_ofChart_26 (by decide) ?_
  refine lv_isub hx hb dX4_ofChart_27 ?_
  refine lv_nm (y := (0 : Int32)) (by decide) ?_
  refine xiald (q0 := 0) (z0 := 0) S hK hX rfl (by decide) (by decide) dX4_ofChart_28 ?_
  refine lv_goto (tgt := 33) hx hb dX4_ofChart_29 (by decide) ?_
  refine lv_sipush (v := (999 : Int32)) hx hb dX4_ofChart_33 (by decide) ?_
  rw [rd1] at h
  obtain ⟨F5, v6, hc7, h⟩ := obT_e h
  have hc7 : fn_X4_number F2 ((upd (fun _ => 0) 0 v3) 0) (999 : Int32) = some (F5, v6) := hc7
  rcases v6 with _ | v6
  · have h : (some (F5, none) : Option (St × Option Ln)) = some (Fz, ro) := h
    cases h
    exact W_lo (cells' := 6) (slots' := 37) (Nat.le_of_ble_eq_true rfl) (Nat.le_of_ble_eq_true rfl) (xk_t hne hlk (runVT (As := [.int ((upd (fun _ => 0) 0 v3) 0), .int (999 : Int32)]) (rest := [.int (1 : Int32), .ref z1]) S (met_X4_number l hD hv0 hc7 H.size) (cwV 2 S.2.2.2.2 (lw_V q479 q481 qs6 q59 q482) rfl rfl rfl yd_X4_number ⟨Nat.le_of_ble_eq_true rfl, Nat.le_of_ble_eq_true rfl⟩) (xpreC hK hC hX hv0 rfl rfl _) rfl rfl hl.1 rfl (lv_room (Nat.le_of_ble_eq_true rfl)) dX4_ofChart_36 ⟨Nat.le_of_ble_eq_true rfl, Nat.le_of_ble_eq_true rfl⟩) hX)
  dsimp only at h
  refine xk_i (va_runV (As := [.int ((upd (fun _ => 0) 0 v3) 0), .int (999 : Int32)]) (rest := [.int (1 : Int32), .ref z1]) S (met_X4_number l hD hv0 hc7 H.size) (cwV 2 S.2.2.2.2 (lw_V q479 q481 qs6 q59 q482) rfl rfl rfl yd_X4_number ⟨Nat.le_of_ble_eq_true rfl, Nat.le_of_ble_eq_true rfl⟩) (xpreC hK hC hX hv0 rfl rfl _) rfl rfl hl.1 rfl (lv_room (Nat.le_of_ble_eq_true rfl)) dX4_ofChart_36 ⟨Nat.le_of_ble_eq_true rfl, Nat.le_of_ble_eq_true rfl⟩) hX (fun H locs hX => ?_)
  have hX : XS D dA a s F5 [(z1, .inl (dA.1 0, 5, .inl (upd (fun _ => 0) 0 v3)))] H locs := hX
  refine xiast (q0 := 0) (z0 := 1) S hK hX rfl (by decide) (by decide) dX4_ofChart_39 (fun H locs hX => ?_)
  have hX : XS D dA a s F5 [(z1, .inl (dA.1 0, 5, .inl (upd (upd (fun _ => 0) 0 v3) 1 v6)))] H locs := hX
  refine lv_iinc (v := (2 : Int32)) (lv' := [(2, .int (2 : Int32)), (1, .ref z1), (0, .ref (a (16, 0, 0)))]) hx hb dX4_ofChart_40 hl (k := 0) rfl (by decide) (by decide) rfl (fun ls hl => ?_)
  refine lv_goto (tgt := 6) hx hb dX4_ofChart_43 (by decide) ?_
  refine lv_iload_n hx hb dX4_ofChart_6 rfl (lv_at hl 0 rfl) ?_
  refine lv_iconst (v := (5 : Int32)) hx hb dX4_ofChart_7 (by decide) ?_
  refine lv_icmp_ge (tgt := 46) hx hb dX4_ofChart_8 (by decide) (fun c => absurd c (by decide)) (fun _ => ?_)
  refine lv_aload_n hx hb dX4_ofChart_11 rfl (lv_at hl 1 rfl) ?_
  refine lv_iload_n hx hb dX4_ofChart_12 rfl (lv_at hl 0 rfl) ?_
  refine lv_aload_n hx hb dX4_ofChart_13 rfl (lv_at hl 2 rfl) ?_
  refine lv_iload_n hx hb dX4_ofChart_14 rfl (lv_at hl 0 rfl) ?_
  refine lv_iconst (v := (1 : Int32)) hx hb dX4_ofChart_15 (by decide) ?_
  refine lv_icmp_eq (tgt := 24) hx hb dX4_ofChart_16 (by decide) (fun c => absurd c (by decide)) (fun _ => ?_)
  refine lv_iload_n hx hb dX4_ofChart_19 rfl (lv_at hl 0 rfl) ?_
  refine lv_iconst (v := (3 : Int32)) hx hb dX4_ofChart_20 (by decide) ?_
  refine lv_icmp_ne (tgt := 32) hx hb dX4_ofChart_21 (by decide) (fun _ => ?_) (fun c => absurd c (by decide))
  refine lv_iconst (v := (0 : Int32)) hx hb dX4_ofChart_32 (by decide) ?_
  refine lv_sipush (v := (999 : Int32)) hx hb dX4_ofChart_33 (by decide) ?_
  rw [rd1] at h
  obtain ⟨F8, v9, hc10, h⟩ := obT_e h
  have hc10 : fn_X4_number F5 (0 : Int32) (999 : Int32) = some (F8, v9) := hc10
  rcases v9 with _ | v9
  · have h : (some (F8, none) : Option (St × Option Ln)) = some (Fz, ro) := h
    cases h
    exact W_lo (cells' := 6) (slots' := 37) (Nat.le_of_ble_eq_true rfl) (Nat.le_of_ble_eq_true rfl) (xk_t hne hlk (runVT (As := [.int (0 : Int32), .int (999 : Int32)]) (rest := [.int (2 : Int32), .ref z1]) S (met_X4_number l hD hv0 hc10 H.size) (cwV 2 S.2.2.2.2 (lw_V q479 q481 qs6 q59 q482) rfl rfl rfl yd_X4_number ⟨Nat.le_of_ble_eq_true rfl, Nat.le_of_ble_eq_true rfl⟩) (xpreC hK hC hX hv0 rfl rfl _) rfl rfl hl.1 rfl (lv_room (Nat.le_of_ble_eq_true rfl)) dX4_ofChart_36 ⟨Nat.le_of_ble_eq_true rfl, Nat.le_of_ble_eq_true rfl⟩) hX)
  dsimp only at h
  refine xk_i (va_runV (As := [.int (0 : Int32), .int (999 : Int32)]) (rest := [.int (2 : Int32), .ref z1]) S (met_X4_number l hD hv0 hc10 H.size) (cwV 2 S.2.2.2.2 (lw_V q479 q481 qs6 q59 q482) rfl rfl rfl yd_X4_number ⟨Nat.le_of_ble_eq_true rfl, Nat.le_of_ble_eq_true rfl⟩) (xpreC hK hC hX hv0 rfl rfl _) rfl rfl hl.1 rfl (lv_room (Nat.le_of_ble_eq_true rfl)) dX4_ofChart_36 ⟨Nat.le_of_ble_eq_true rfl, Nat.le_of_ble_eq_true rfl⟩) hX (fun H locs hX => ?_)
  have hX : XS D dA a s F8 [(z1, .inl (dA.1 0, 5, .inl (upd (upd (fun _ => 0) 0 v3) 1 v6)))] H locs := hX
  refine xiast (q0 := 0) (z0 := 2) S hK hX rfl (by decide) (by decide) dX4_ofChart_39 (fun H locs hX => ?_)
  have hX : XS D dA a s F8 [(z1, .inl (dA.1 0, 5, .inl (upd (upd (upd (fun _ => 0) 0 v3) 1 v6) 2 v9)))] H locs := hX
  refine lv_iinc (v := (3 : Int32)) (lv' := [(2, .int (3 : Int32)), (1, .ref z1), (0, .ref (a (16, 0, 0)))]) hx hb dX4_ofChart_40 hl (k := 0) rfl (by decide) (by decide) rfl (fun ls hl => ?_)
  refine lv_goto (tgt := 6) hx hb dX4_ofChart_43 (by decide) ?_
  refine lv_iload_n hx hb dX4_ofChart_6 rfl (lv_at hl 0 rfl) ?_
  refine lv_iconst (v := (5 : Int32)) hx hb dX4_ofChart_7 (by decide) ?_
  refine lv_icmp_ge (tgt := 46) hx hb dX4_ofChart_8 (by decide) (fun c => absurd c (by decide)) (fun _ => ?_)
  refine lv_aload_n hx hb dX4_ofChart_11 rfl (lv_at hl 1 rfl) ?_
  refine lv_iload_n hx hb dX4_ofChart_12 rfl (lv_at hl 0 rfl) ?_
  refine lv_aload_n hx hb dX4_ofChart_13 rfl (lv_at hl 2 rfl) ?_
  refine lv_iload_n hx hb dX4_ofChart_14 rfl (lv_at hl 0 rfl) ?_
  refine lv_iconst (v := (1 : Int32)) hx hb dX4_ofChart_15 (by decide) ?_
  refine lv_icmp_eq (tgt := 24) hx hb dX4_ofChart_16 (by decide) (fun c => absurd c (by decide)) (fun _ => ?_)
  refine lv_iload_n hx hb dX4_ofChart_19 rfl (lv_at hl 0 rfl) ?_
  refine lv_iconst (v := (3 : Int32)) hx hb dX4_ofChart_20 (by decide) ?_
  refine lv_icmp_ne (tgt := 32) hx hb dX4_ofChart_21 (by decide) (fun c => absurd c (by decide)) (fun _ => ?_)
  refine lv_aload_n hx hb dX4_ofChart_24 rfl (lv_at hl 1 rfl) ?_
  refine lv_iload_n hx hb dX4_ofChart_25 rfl (lv_at hl 0 rfl) ?_
  refine lv_iconst (v := (1 : Int32)) hx hb dX4_ofChart_26 (by decide) ?_
  refine lv_isub hx hb dX4_ofChart_27 ?_
  refine lv_nm (y := (2 : Int32)) (by decide) ?_
  refine xiald (q0 := 0) (z0 := 2) S hK hX rfl (by decide) (by decide) dX4_ofChart_28 ?_
  refine lv_goto (tgt := 33) hx hb dX4_ofChart_29 (by decide) ?_
  refine lv_sipush (v := (999 : Int32)) hx hb dX4_ofChart_33 (by decide) ?_
  rw [rd1] at h
  obtain ⟨F11, v12, hc13, h⟩ := obT_e h
  have hc13 : fn_X4_number F8 ((upd (upd (upd (fun _ => 0) 0 v3) 1 v6) 2 v9) 2) (999 : Int32) = some (F11, v12) := hc13
  rcases v12 with _ | v12
  · have h : (some (F11, none) : Option (St × Option Ln)) = some (Fz, ro) := h
    cases h
    exact W_lo (cells' := 6) (slots' := 37) (Nat.le_of_ble_eq_true rfl) (Nat.le_of_ble_eq_true rfl) (xk_t hne hlk (runVT (As := [.int ((upd (upd (upd (fun _ => 0) 0 v3) 1 v6) 2 v9) 2), .int (999 : Int32)]) (rest := [.int (3 : Int32), .ref z1]) S (met_X4_number l hD hv0 hc13 H.size) (cwV 2 S.2.2.2.2 (lw_V q479 q481 qs6 q59 q482) rfl rfl rfl yd_X4_number ⟨Nat.le_of_ble_eq_true rfl, Nat.le_of_ble_eq_true rfl⟩) (xpreC hK hC hX hv0 rfl rfl _) rfl rfl hl.1 rfl (lv_room (Nat.le_of_ble_eq_true rfl)) dX4_ofChart_36 ⟨Nat.le_of_ble_eq_true rfl, Nat.le_of_ble_eq_true rfl⟩) hX)
  dsimp only at h
  refine xk_i (va_runV (As := [.int ((upd (upd (upd (fun _ => 0) 0 v3) 1 v6) 2 v9) 2), .int (999 : Int32)]) (rest := [.int (3 : Int32), .ref z1]) S (met_X4_number l hD hv0 hc13 H.size) (cwV 2 S.2.2.2.2 (lw_V q479 q481 qs6 q59 q482) rfl rfl rfl yd_X4_number ⟨Nat.le_of_ble_eq_true rfl, Nat.le_of_ble_eq_true rfl⟩) (xpreC hK hC hX hv0 rfl rfl _) rfl rfl hl.1 rfl (lv_room (Nat.le_of_ble_eq_true rfl)) dX4_ofChart_36 ⟨Nat.le_of_ble_eq_true rfl, Nat.le_of_ble_eq_true rfl⟩) hX (fun H locs hX => ?_)
  have hX : XS D dA a s F11 [(z1, .inl (dA.1 0, 5, .inl (upd (upd (upd (fun _ => 0) 0 v3) 1 v6) 2 v9)))] H locs := hX
  refine xiast (q0 := 0) (z0 := 3) S hK hX rfl (by decide) (by decide) dX4_ofChart_39 (fun H locs hX => ?_)
  have hX : XS D dA a s F11 [(z1, .inl (dA.1 0, 5, .inl (upd (upd (upd (upd (fun _ => 0) 0 v3) 1 v6) 2 v9) 3 v12)))] H locs := hX
  refine lv_iinc (v := (4 : Int32)) (lv' := [(2, .int (4 : Int32)), (1, .ref z1), (0, .ref (a (16, 0, 0)))]) hx hb dX4_ofChart_40 hl (k := 0) rfl (by decide) (by decide) rfl (fun ls hl => ?_)
  refine lv_goto (tgt := 6) hx hb dX4_ofChart_43 (by decide) ?_
  refine lv_iload_n hx hb dX4_ofChart_6 rfl (lv_at hl 0 rfl) ?_
  refine lv_iconst (v := (5 : Int32)) hx hb dX4_ofChart_7 (by decide) ?_
  refine lv_icmp_ge (tgt := 46) hx hb dX4_ofChart_8 (by decide) (fun c => absurd c (by decide)) (fun _ => ?_)
  refine lv_aload_n hx hb dX4_ofChart_11 rfl (lv_at hl 1 rfl) ?_
  refine lv_iload_n hx hb dX4_ofChart_12 rfl (lv_at hl 0 rfl) ?_
  refine lv_aload_n hx hb dX4_ofChart_13 rfl (lv_at hl 2 rfl) ?_
  refine lv_iload_n hx hb dX4_ofChart_14 rfl (lv_at hl 0 rfl) ?_
  refine lv_iconst (v := (1 : Int32)) hx hb dX4_ofChart_15 (by decide) ?_
  refine lv_icmp_eq (tgt := 24) hx hb dX4_ofChart_16 (by decide) (fun c => absurd c (by decide)) (fun _ => ?_)
  refine lv_iload_n hx hb dX4_ofChart_19 rfl (lv_at hl 0 rfl) ?_
  refine lv_iconst (v := (3 : Int32)) hx hb dX4_ofChart_20 (by decide) ?_
  refine lv_icmp_ne (tgt := 32) hx hb dX4_ofChart_21 (by decide) (fun _ => ?_) (fun c => absurd c (by decide))
  refine lv_iconst (v := (0 : Int32)) hx hb dX4_ofChart_32 (by decide) ?_
  refine lv_sipush (v := (999 : Int32)) hx hb dX4_ofChart_33 (by decide) ?_
  rw [rd1] at h
  obtain ⟨F14, v15, hc16, h⟩ := obT_e h
  have hc16 : fn_X4_number F11 (0 : Int32) (999 : Int32) = some (F14, v15) := hc16
  rcases v15 with _ | v15
  · have h : (some (F14, none) : Option (St × Option Ln)) = some (Fz, ro) := h
    cases h
    exact W_lo (cells' := 6) (slots' := 37) (Nat.le_of_ble_eq_true rfl) (Nat.le_of_ble_eq_true rfl) (xk_t hne hlk (runVT (As := [.int (0 : Int32), .int (999 : Int32)]) (rest := [.int (4 : Int32), .ref z1]) S (met_X4_number l hD hv0 hc16 H.size) (cwV 2 S.2.2.2.2 (lw_V q479 q481 qs6 q59 q482) rfl rfl rfl yd_X4_number ⟨Nat.le_of_ble_eq_true rfl, Nat.le_of_ble_eq_true rfl⟩) (xpreC hK hC hX hv0 rfl rfl _) rfl rfl hl.1 rfl (lv_room (Nat.le_of_ble_eq_true rfl)) dX4_ofChart_36 ⟨Nat.le_of_ble_eq_true rfl, Nat.le_of_ble_eq_true rfl⟩) hX)
  dsimp only at h
  refine xk_i (va_runV (As := [.int (0 : Int32), .int (999 : Int32)]) (rest := [.int (4 : Int32), .ref z1]) S (met_X4_number l hD hv0 hc16 H.size) (cwV 2 S.2.2.2.2 (lw_V q479 q481 qs6 q59 q482) rfl rfl rfl yd_X4_number ⟨Nat.le_of_ble_eq_true rfl, Nat.le_of_ble_eq_true rfl⟩) (xpreC hK hC hX hv0 rfl rfl _) rfl rfl hl.1 rfl (lv_room (Nat.le_of_ble_eq_true rfl)) dX4_ofChart_36 ⟨Nat.le_of_ble_eq_true rfl, Nat.le_of_ble_eq_true rfl⟩) hX (fun H locs hX => ?_)
  have hX : XS D dA a s F14 [(z1, .inl (dA.1 0, 5, .inl (upd (upd (upd (upd (fun _ => 0) 0 v3) 1 v6) 2 v9) 3 v12)))] H locs := hX
  refine xiast (q0 := 0) (z0 := 4) S hK hX rfl (by decide) (by decide) dX4_ofChart_39 (fun H locs hX => ?_)
  have hX : XS D dA a s F14 [(z1, .inl (dA.1 0, 5, .inl (upd (upd (upd (upd (upd (fun _ => 0) 0 v3) 1 v6) 2 v9) 3 v12) 4 v15)))] H locs := hX
  refine lv_iinc (v := (5 : Int32)) (lv' := [(2, .int (5 : Int32)), (1, .ref z1), (0, .ref (a (16, 0, 0)))]) hx hb dX4_ofChart_40 hl (k := 0) rfl (by decide) (by decide) rfl (fun ls hl => ?_)
  refine lv_goto (tgt := 6) hx hb dX4_ofChart_43 (by decide) ?_
  refine lv_iload_n hx hb dX4_ofChart_6 rfl (lv_at hl 0 rfl) ?_
  refine lv_iconst (v := (5 : Int32)) hx hb dX4_ofChart_7 (by decide) ?_
  refine lv_icmp_ge (tgt := 46) hx hb dX4_ofChart_8 (by decide) (fun _ => ?_) (fun c => absurd c (by decide))
  obtain ⟨z17, hz17⟩ : ∃ z, H.size = z := ⟨_, rfl⟩
  refine xnew (ci := 12) (fs := [.null, .null, .int (0 : Int32), .null]) (z := z17) S in_X12 tyX12 tyX12_ok q581 q582 q73 hK hX rfl (by decide +kernel) hz17 (Nat.le_of_ble_eq_true rfl) (Nat.le_of_ble_eq_true rfl) dX4_ofChart_46 (fun H _ hX => ?_)
  have hX : XS D dA a s F14 [(z1, .inl (dA.1 0, 5, .inl (upd (upd (upd (upd (upd (fun _ => 0) 0 v3) 1 v6) 2 v9) 3 v12) 4 v15))), (z17, .inr (12, [.null, .null, .int (0 : Int32), .null]))] H locs := hX
  refine lv_dup hx hb dX4_ofChart_49 rfl ?_
  refine lv_aload_n hx hb dX4_ofChart_50 rfl (lv_at hl 2 rfl) ?_
  refine gf_16_7 S hK hX.1 hv0 q185 dX4_ofChart_51 ?_
  refine lv_iconst (v := (3 : Int32)) hx hb dX4_ofChart_54 (by decide) ?_
  refine lv_aload_n hx hb dX4_ofChart_55 rfl (lv_at hl 1 rfl) ?_
  refine xck (q0 := 1) (x2 := .inr (12, [.ref z1, .ref (a (0, 0, 0)), .int (3 : Int32), .ref (a (0, 0, 0))])) (va_runI (As := [.ref (a (0, 0, 0)), .int (3 : Int32), .ref z1]) (rest := [.ref z17]) S (met_X12_init l hap z17 H.size (a (0, 0, 0)) (3 : Int32) z1) (cwI 3 S.2.2.2.2 (lw_meth q591) rfl rfl rfl (S.2.2.2.2 _ q73) (S.2.2.2.2 _ q589) (S.2.2.2.2 _ q590) rfl yd_X12_init.2 ⟨Nat.le_of_ble_eq_true rfl, Nat.le_of_ble_eq_true rfl⟩) (cpreS hC (hX.2.2.1.sub (ws' := [(z17, .inr (12, [.null, .null, .int (0 : Int32), .null]))]) [1] rfl) (hX.2.2.2.sub (ws' := [(z17, .inr (12, [.null, .null, .int (0 : Int32), .null]))]) [1] (by decide) rfl) rfl (.ref z17 :: [.ref (a (0, 0, 0)), .int (3 : Int32), .ref z1])) rfl rfl hl.1 rfl (lv_room (Nat.le_of_ble_eq_true rfl)) dX4_ofChart_56 ⟨Nat.le_of_ble_eq_true rfl, Nat.le_of_ble_eq_true rfl⟩) hX rfl (fun H locs _ hX => ?_)
  have hX : XS D dA a s F14 [(z1, .inl (dA.1 0, 5, .inl (upd (upd (upd (upd (upd (fun _ => 0) 0 v3) 1 v6) 2 v9) 3 v12) 4 v15))), (z17, .inr (12, [.ref z1, .ref (a (0, 0, 0)), .int (3 : Int32), .ref (a (0, 0, 0))]))] H locs := hX
  have h : (some (F14, some (12, 3, 5, (upd (upd (upd (upd (upd (fun _ => 0) 0 v3) 1 v6) 2 v9) 3 v12) 4 v15))) : Option (St × Option Ln)) = some (Fz, ro) := h
  cases h
  exact W_lo (cells' := 7) (slots' := 44) (Nat.le_of_ble_eq_true rfl) (Nat.le_of_ble_eq_true rfl) (W.aret S.1 S.2.1 hr (Or.inl ⟨_, rfl⟩) (Or.inr ⟨_, rfl⟩) (fun t ht _ => ⟨⟨z1, z17, rfl, trivial, by rw [ht]; exact hX.1.1, by rw [ht]; exact hX.2.2.1.sub [1, 0] rfl, hX.2.2.2.sub [1, 0] (by decide) rfl, fun q => absurd (show (5 : Nat) = 0 from q) (by decide), Nat.le_of_ble_eq_true rfl⟩, hX.1.2.1.F ht⟩) hX.1.2.1.2.2 dX4_ofChart_59 hlk)
