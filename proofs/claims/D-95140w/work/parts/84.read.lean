/-! read: it reads the text, its lines become cells of the world -/
set_option maxRecDepth 100000
/-- the lines' classes are lines -/
def lC (U : State) : Prop := va_Nw (.castable "WaterGrounds$OfBed" "WaterGrounds$Line") U ∧ va_Nw (.castable "WaterGrounds$OfRow" "WaterGrounds$Line") U ∧ va_Nw (.castable "WaterGrounds$OfCell" "WaterGrounds$Line") U ∧ va_Nw (.castable "WaterGrounds$OfPour" "WaterGrounds$Line") U ∧ va_Nw (.castable "WaterGrounds$OfOne" "WaterGrounds$Line") U
theorem lC.warm {s U : State} (h : lC s) (hW : s.WarmedH U.vm) : lC U := ⟨va_Nw.warmC hW h.1, va_Nw.warmC hW h.2.1, va_Nw.warmC hW h.2.2.1, va_Nw.warmC hW h.2.2.2.1, va_Nw.warmC hW h.2.2.2.2⟩
theorem lC.same {s U : State} (h : lC s) (hv : s.vm = U.vm) : lC U := ⟨va_Nw.same rfl hv h.1, va_Nw.same rfl hv h.2.1, va_Nw.same rfl hv h.2.2.1, va_Nw.same rfl hv h.2.2.2.1, va_Nw.same rfl hv h.2.2.2.2⟩
abbrev wPreL (D : va_G) (dA : WK) (a : Ix → Nat) (F : St) (sz : Nat) (av : List Value) : Array Value → State → Prop := va_Pc av (fun U => U.heap.size = sz ∧ wP D dA a F U.heap ∧ KK D dA a U ∧ CK D dA U ∧ lC U)
/-- the world that has moved: other lines, other rows -/
def WM (D : va_G) (dA : WK) (a : Ix → Nat) (sz : Nat) (L : Nat → Nat → Prop) (a1 : Ix → Nat) (F1 : St) (H : Heap) : Prop := wD D (dL dA L) a1 ∧ (L 30 0 ↔ dA.2.2.2.2 30 0) ∧ (∀ x : Ix, (x.1 < 23 ∨ 29 ≤ x.1) → a1 x = a x) ∧ wP D (dL dA L) a1 F1 H ∧ ∀ q, wA (dL dA L) a1 H.size q → wA dA a sz q
abbrev wQM (D : va_G) (dA : WK) (a : Ix → Nat) (sz : Nat) (F1 : St) : Array Value → State → Outcome → State → Prop := va_Qv (S := (Nat → Nat → Prop) × (Ix → Nat)) (fun _ => True) (fun u t => WM D dA a sz u.1 u.2 F1 t.heap) (wA dA a sz)
abbrev wQMi (D : va_G) (dA : WK) (a : Ix → Nat) (sz : Nat) (F1 : St) (r1 : Int32) : Array Value → State → Outcome → State → Prop := va_Qi (S := (Nat → Nat → Prop) × (Ix → Nat)) (fun r _ => r = r1) (fun u t => WM D dA a sz u.1 u.2 F1 t.heap) (wA dA a sz)
abbrev wQtM (D : va_G) (dA : WK) (a : Ix → Nat) (sz : Nat) (F1 : St) : Array Value → State → Addr → State → Prop := fun _ st x t => (∃ L a1, WM D dA a sz L a1 F1 t.heap) ∧ sz ≤ x ∧ va_at D vwCl (x, .inr (9, fE dA (F1 16 3 0 0))) t.heap ∧ va_F (wA dA a sz) st t
/-- the moving part of such a method -/
def RS (D : va_G) (dA : WK) (a : Ix → Nat) (s : State) (L : Nat → Nat → Prop) (a1 : Ix → Nat) (F : St) (H : Heap) (locs : List Loc) : Prop := wD D (dL dA L) a1 ∧ (L 30 0 ↔ dA.2.2.2.2 30 0) ∧ (∀ x : Ix, (x.1 < 23 ∨ 29 ≤ x.1) → a1 x = a x) ∧ wSA (wA dA a s.heap.size) D (dL dA L) a1 s F H locs
theorem rstL {l : Launch} {y : MethodName} {cc : ByteArray} {L : Nat} {ret : Option FieldType} {rm : Room} {D : va_G} {dA : WK} {a : Ix → Nat} {F : St} {av : List Value} {ρ : Type} {Qc : Nat → ρ → Array Value → State → Outcome → State → Prop} {Qt : Nat → Array Value → State → Addr → State → Prop} {mc ms : Nat} {ro : Option ρ} (hy : plainName y.cls = true) (hn : (lg_sl av).length ≤ L)
    (body : ∀ (p : Program) (e : Env) (s : State) (m : MethodId) (below : List Frame) (meth : Method) (c : Code), CallFix p m c cc L s av.toArray lw_all y.cls → meth.sig.returnType = ret → meth.locks = false → c.exceptionTable.isEmpty = true → KK D dA a s → CK D dA s → lC s → wP D dA a F s.heap → ∀ ls : Array Slot, lv_has ls L (lv_args 0 av) →
      W p l e rm s m av.toArray below meth c s.heap [] 0 0 (MQR below (Qc s.heap.size) (Qt s.heap.size) av.toArray s mc ms (wA dA a s.heap.size) ro) (F0 m 0 ls [])) (sz : Nat) : MetR l y (ws_ y cc L ret) rm (wPreL D dA a F sz av) (Qc sz) (Qt sz) mc ms (wA dA a sz) ro := by
  refine MetR.ofW (cc := cc) (maxL := L) (ret := ret) hy rfl ?_
  intro p e s m args below meth c s₁ B hml hne hv
  obtain ⟨rfl, hsz, hP, hK, hC, hL⟩ := hv
  have hts := atoms_spec (ws := ws_ y cc L ret) B.pre
  have hts : ∀ w ∈ lw_all, w.before av.toArray s = true := fun w h => hts w (List.mem_cons_of_mem _ h)
  subst hsz
  rw [lg_entry_eq]
  exact body p e s m below meth c ⟨B.exec, B.bytes, hml, findClass_of_methodNamed B.named, hts⟩ B.returns B.notSynchronized hne hK hC hL hP _ (lv_entry av hn)
section RA
variable {p : Program} {l : Launch} {e : Env} {R : Room} {s : State} {m : MethodId} {args : Array Value} {below : List Frame} {meth : Method} {c : Code} {H : Heap} {locs : List Loc} {cells slots : Nat} {Q : State → Prop}
variable {cc : ByteArray} {nL pc : Nat} {ls : Array Slot} {rest st0 : List Value} {D : va_G} {dA : WK} {a a1 : Ix → Nat} {L : Nat → Nat → Prop} {F F1 : St} {own : String} {A : Nat → Prop}
theorem RS_in (hD : wD D dA a) (h : wP D dA a F s.heap) : RS D dA a s dA.2.2.2.2 a F s.heap [] := ⟨hD, Iff.rfl, fun _ _ => rfl, wS_in h⟩
theorem RS.kk (hK : KK D dA a s) (hR : RS D dA a s L a1 F H locs) : KK D (dL dA L) a1 s := ⟨hK.1, hK.2.1, hK.2.2.narrow (fun q hq => by
    rcases hq with hq | hq
    · exact hR.2.2.2.2.2 q (Or.inl hq)
    · exact Or.inr hq)⟩
theorem RS.wm (hR : RS D dA a s L a1 F H locs) : WM D dA a s.heap.size L a1 F H := ⟨hR.1, hR.2.1, hR.2.2.1, hR.2.2.2.1, hR.2.2.2.2.2⟩
theorem RS.to {H1 : Heap} {locs1 : List Loc} (hR : RS D dA a s L a1 F H locs) (hW : wSA (wA dA a s.heap.size) D (dL dA L) a1 s F1 H1 locs1) : RS D dA a s L a1 F1 H1 locs1 := ⟨hR.1, hR.2.1, hR.2.2.1, hW⟩
theorem RS.recv (hK : KK D dA a s) (hR : RS D dA a s L a1 F H locs) {k i j : Nat} (hv : wVd (dL dA L) (k, i, j)) {C : String} {T : u_T} {N ci : Nat} {fs : List Value} (he : wc (dL dA L) a1 F k i j = .inr (ci, fs)) (hc : vwCl[ci]? = some (C, T, N)) : ∃ cell : Cell, H[a1 (k, i, j)]? = some cell ∧ cell.vm.isStatics = false ∧ s.vm.findClass C = some cell.cls := by
  have h1 := hR.2.2.2.1 (k, i, j) hv.1 hv.2
  rw [he] at h1
  exact va_recv (ws := [(a1 (k, i, j), .inr (ci, fs))]) (q0 := 0) hK.1 (fun n x hx => by
    cases n with
    | zero => cases hx; exact h1
    | succ n => cases hx) hc rfl
theorem RS.preV (hK : KK D dA a s) (hR : RS D dA a s L a1 F H locs) {k i j : Nat} (hv : wVd (dL dA L) (k, i, j)) {C : String} {T : u_T} {N ci : Nat} {fs : List Value} (he : wc (dL dA L) a1 F k i j = .inr (ci, fs)) (hc : vwCl[ci]? = some (C, T, N)) (As : List Value) : PreV s H C (a1 (k, i, j)) (wPre D (dL dA L) a1 F H.size (.ref (a1 (k, i, j)) :: As)) As := ⟨wBlind, hR.recv hK hv he hc, fun U hU hWm => ⟨rfl, by rw [hU], by rw [hU]; exact hR.2.2.2.1, KK.go (dA := dL dA L) hK.1 hK.2.1 hK.2.2 hR.2.2.2.2.2 hWm hU hR.2.2.2.2.1⟩⟩
theorem RS.preC (hK : KK D dA a s) (hC : CK D dA s) (hR : RS D dA a s L a1 F H locs) {k i j : Nat} (hv : wVd (dL dA L) (k, i, j)) {C : String} {T : u_T} {N ci : Nat} {fs : List Value} (he : wc (dL dA L) a1 F k i j = .inr (ci, fs)) (hc : vwCl[ci]? = some (C, T, N)) (As : List Value) : PreV s H C (a1 (k, i, j)) (wPreC D (dL dA L) a1 F H.size (.ref (a1 (k, i, j)) :: As)) As := ⟨wCBlind, hR.recv hK hv he hc, fun U hU hWm => ⟨rfl, by rw [hU], by rw [hU]; exact hR.2.2.2.1, KK.go (dA := dL dA L) hK.1 hK.2.1 hK.2.2 hR.2.2.2.2.2 hWm hU hR.2.2.2.2.1, hC.warm hWm⟩⟩
theorem rk_i {mc ms : Nat} {r1 : Int32} {av : Array Value} (hr : va_Run p l e R s m args below meth c H locs cells slots mc ms (F0 m pc ls st0) rest (wQi D (dL dA L) a1 H.size F1 r1 av) (wA (dL dA L) a1 H.size)) (hR : RS D dA a s L a1 F H locs)
    (kk : ∀ (H1 : Heap) (locs1 : List Loc), RS D dA a s L a1 F1 H1 locs1 → W p l e R s m args below meth c H1 locs1 (cells + mc) (slots + ms) Q (F0 m (pc + 3) ls (.int r1 :: rest))) : W p l e R s m args below meth c H locs cells slots Q (F0 m pc ls st0) :=
  va_calli hr hR.2.2.2.2.1 (fun _ _ h => hR.2.2.2.2.2 _ h) (fun _ h => hR.2.2.2.2.2 _ h) (fun r u t H1 locs1 ht _ hp hB hz _ hS => by
    have hp : r = r1 := hp
    subst hp
    have hB : wP D (dL dA L) a1 F1 t.heap := hB
    rw [ht] at hB
    exact kk H1 locs1 (hR.to ⟨hB, hS, fun q h => hR.2.2.2.2.2 q (wA_mono hz h)⟩))
theorem rk_v {mc ms : Nat} {av : Array Value} (hr : va_Run p l e R s m args below meth c H locs cells slots mc ms (F0 m pc ls st0) rest (wQv D (dL dA L) a1 H.size F1 av) (wA (dL dA L) a1 H.size)) (hR : RS D dA a s L a1 F H locs)
    (kk : ∀ (H1 : Heap) (locs1 : List Loc), RS D dA a s L a1 F1 H1 locs1 → W p l e R s m args below meth c H1 locs1 (cells + mc) (slots + ms) Q (F0 m (pc + 3) ls rest)) : W p l e R s m args below meth c H locs cells slots Q (F0 m pc ls st0) :=
  va_callv hr hR.2.2.2.2.1 (fun _ _ h => hR.2.2.2.2.2 _ h) (fun _ h => hR.2.2.2.2.2 _ h) (fun u t H1 locs1 ht _ _ hB hz _ hS => by
    have hB : wP D (dL dA L) a1 F1 t.heap := hB
    rw [ht] at hB
    exact kk H1 locs1 (hR.to ⟨hB, hS, fun q h => hR.2.2.2.2.2 q (wA_mono hz h)⟩))
theorem rk_t {mc ms : Nat} {av : Array Value} (hne : c.exceptionTable.isEmpty = true) (hlk : meth.locks = false) (hr : RunT p l e R s m args below meth c H locs cells slots mc ms (F0 m pc ls st0) rest (wQt D (dL dA L) a1 H.size F1 av) (wA (dL dA L) a1 H.size)) (hR : RS D dA a s L a1 F H locs) :
    W p l e R s m args below meth c H locs cells slots (MQT below (wQtM D dA a s.heap.size F1) args s (cells + mc) (slots + ms) (wA dA a s.heap.size)) (F0 m pc ls st0) := by
  have hS := hR.2.2.2.2.1
  have hA := hR.2.2.2.2.2
  refine wkT (cc := c.code) hne hlk hr hS.2.2 (fun q h => hA q h) (fun x st₀ t u h0 hQ hu _ => ?_)
  obtain ⟨g1, g2, g3, g4⟩ := hQ
  have g4 : st₀.heap.size ≤ t.heap.size ∧ ∀ q : Nat, q < st₀.heap.size → ¬ wA (dL dA L) a1 H.size q → t.heap[q]? = st₀.heap[q]? := g4
  rw [h0] at g4
  refine ⟨⟨L, a1, hR.1, hR.2.1, hR.2.2.1, by rw [hu]; exact g1, fun q hq => hA q (wA_mono (by rw [hu]; exact g4.1) hq)⟩, Nat.le_trans hS.1 g2, by rw [hu]; exact g3, ?_⟩
  refine ⟨by rw [hu]; exact Nat.le_trans hS.1 g4.1, fun q h1 h2 => ?_⟩
  rw [hu, g4.2 q (Nat.lt_of_lt_of_le h1 hS.1) (fun h3 => h2 (hA q h3))]
  exact hS.2.1 q h1 h2
/-- a line's class -/
theorem ln_cls (hL : lC s) (o zt : Nat) (t v : Int32) : ∃ (ci : Nat) (fs : List Value) (C : String) (T : u_T) (N : Nat), lnE o zt t v = .inr (ci, fs) ∧ vwCl[ci]? = some (C, T, N) ∧ va_Nw (.castable C "WaterGrounds$Line") s := by
  unfold lnE
  by_cases h1 : t = 11
  · rw [if_pos h1]; exact ⟨11, _, _, _, _, rfl, rfl, hL.1⟩
  rw [if_neg h1]
  by_cases h2 : t = 12
  · rw [if_pos h2]; exact ⟨12, _, _, _, _, rfl, rfl, hL.2.1⟩
  rw [if_neg h2]
  by_cases h3 : t = 13
  · rw [if_pos h3]; exact ⟨13, _, _, _, _, rfl, rfl, hL.2.2.1⟩
  rw [if_neg h3]
  by_cases h4 : t = 14
  · rw [if_pos h4]; exact ⟨14, _, _, _, _, rfl, rfl, hL.2.2.2.1⟩
  rw [if_neg h4]
  exact ⟨15, _, _, _, _, rfl, rfl, hL.2.2.2.2⟩
/-- a line is laid into its row -/
theorem raast {ln : Ln} {z zt b i0 : Nat} {i : Int32} (S : CallFix p m c cc nL s args lw_all own) (hK : KK D dA a s) (hL : lC s) (hR : RS D dA a s L a1 F H locs) (hlb : ∀ x, wV x → wal (dL dA L) x → a1 x < b) (hsb : s.heap.size ≤ b) (hl : va_P D vwCl (lnC (dL dA L) (a1 (0, 0, 0)) ln z zt) H) (hd : va_D (fun q => b ≤ q) (lnC (dL dA L) (a1 (0, 0, 0)) ln z zt)) (hn : ln.2.2.1 ≤ 5) (hin : vpb i 10 = true) (hi : i.toNatClampNeg = i0) (hdg : decode cc pc = .ok (.aastore, 1))
    (kk : ∀ (H1 : Heap) (locs1 : List Loc), RS D dA a s (LR L i0 ln.2.2.1) (aR a1 i0 z zt) (pRow F i0 ln) H1 locs1 → W p l e R s m args below meth c H1 locs1 cells slots Q (F0 m (pc + 1) ls rest)) : W p l e R s m args below meth c H locs cells slots Q (F0 m pc ls (.ref z :: .int i :: .ref (a1 (17, 0, 0)) :: rest)) := by
  subst hi
  obtain ⟨hD, h30, hag, hP, hS, hA⟩ := hR
  have hv17 : wV (17, 0, 0) := ⟨by decide, by decide⟩
  have l17 : wal (dL dA L) (17, 0, 0) := wal_s rfl
  have h17 : H[a1 (17, 0, 0)]? = some (vp_cell (dA.1 8) (10, .inr (.inr (.inr (.inr (fun e => if F 17 0 0 e = 0 then none else some (a1 (27, e, 0)))))))) := hP (17, 0, 0) hv17 l17
  have hlt : i.toNatClampNeg < 10 := vpb_lt hin
  have h0 : ¬ i < 0 := fun q => vpb_in hin (Or.inl q)
  obtain ⟨ci, fs, C, T, N, q1, q2, q3⟩ := ln_cls hL (a1 (0, 0, 0)) zt ln.1 ln.2.1
  have g := hl 0 _ rfl
  rw [q1] at g
  obtain ⟨r', hr', cellV, g1, g2, g3, -⟩ := g
  have hcls := (hK.1.1 ci _ q2).2
  obtain ⟨kA, comp, k1, k2, k3, -⟩ := (hK.1.2 8 _ rfl).2
  obtain ⟨kE, hkE, -⟩ := Vm.findClass_spec k3
  obtain ⟨kC, hkC, -⟩ := hcls.2
  refine W.aast S.1 S.2.1 h17 (fun q h => by cases h) (fun h => by cases h) k1 k2 rfl hkE ⟨h0, by show _ < (arrV _ _ _).slots.size; rw [arrV_size]; exact hlt⟩ g1 (fun q h => by rw [g3] at h; cases h) (by rw [g2]; exact hkC) (by rw [g2]; exact vb_asgC q3 _ _ k3 hcls.1) rfl rfl hdg fun H1 e1 z1 oq => ?_
  have e4 : va_at D vwCl (a1 (17, 0, 0), .inl (dA.1 8, 10, .inr (.inr (.inr (.inr (va_up (fun e => if F 17 0 0 e = 0 then none else some (a1 (27, e, 0))) i.toNatClampNeg (some z))))))) H1 := by
    show H1[a1 (17, 0, 0)]? = some (vp_cell _ _)
    rw [e1, vp_cell_q, vp_cell_q, arrV_store]
    congr 2
    funext q
    by_cases hq : q = i.toNatClampNeg
    · subst hq
      simp [updV, va_up, va_rf]
    · simp [updV, va_up, hq]
  have hbA : ∀ q, b ≤ q → wA dA a s.heap.size q := fun q h => Or.inr (Nat.le_trans hsb h)
  refine kk H1 _ ⟨row_wD (dA := dL dA L) hD hlb hd, ?_, fun x hx => ?_, row_in (dA := dL dA L) hP hD hlb hl hd hn e4 oq, hS.put z1 oq (hA _ (Or.inl ⟨_, hv17, l17, rfl⟩)), by rw [z1]; exact row_wA (dA := dL dA L) hA hbA hd⟩
  · rw [LR30]; exact h30
  · obtain ⟨k, i2, j2⟩ := x
    rw [aRn (by have hx : k < 23 ∨ 29 ≤ k := hx; omega)]
    exact hag _ hx
end RA

theorem yd_X4_read : yX4_read.cls = RX4 ∧ yX4_read.cls ≠ "java/lang/invoke/MethodHandle" ∧ yX4_read.cls ≠ "java/lang/invoke/VarHandle" ∧ (parseMethodDescriptor yX4_read.desc).map (fun d => d.parameters.length) = some 0 := by decide +kernel
set_option maxHeartbeats 16000000 in
theorem met_X4_read (l : Launch) {D : va_G} {dA : WK} {a : Ix → Nat} (hD : wD D dA a) {F : St} {Fz : St} {ro : Option Unit} (h : fn_X4_read F = some (Fz, ro)) (sz : Nat) : MetR l yX4_read (ws_ yX4_read cX4_read 1 none) (rmC 8 172 2416 15402) (wPreL D dA a F sz [.ref (a (16, 0, 0))]) (fun _ => wQM D dA a sz Fz) (wQtM D dA a sz Fz) 2416 15402 (wA dA a sz) ro := by
  refine rstL (Qc := fun sz _ => wQM D dA a sz Fz) (Qt := fun sz => wQtM D dA a sz Fz) (by decide) (Nat.le_of_ble_eq_true rfl) ?_ sz
  intro p e s m below meth c S hr hlk hne hK hC hL hW ls hl
  have hl : lv_has ls 1 [(0, .ref (a (16, 0, 0)))] := hl
  have hx := S.1
  have hb := S.2.1
  generalize ([.ref (a (16, 0, 0))] : List Value).toArray = av at S ⊢
  have hR := RS_in hD hW
  clear hW
  -- the loop
  have LP : ∀ (n : Nat) (F : St), lp_X4_read n F = some (Fz, ro) → ∀ (L : Nat → Nat → Prop) (a1 : Ix → Nat) (H : Heap) (locs : List Loc) (ls : Array Slot) (cells slots : Nat), RS D dA a s L a1 F H locs → lv_has ls 1 [(0, .ref (a (16, 0, 0)))] → cells + 8 * n ≤ 2416 → slots + 51 * n ≤ 15402 → W p l e (rmC 8 172 2416 15402) s m av below meth c H locs cells slots (MQR below (fun (_ : Unit) => wQM D dA a s.heap.size Fz) (wQtM D dA a s.heap.size Fz) av s 2416 15402 (wA dA a s.heap.size) ro) (F0 m 59 ls []) := by
    intro n
    induction n with
    | zero => intro F h; cases h
    | succ n ih =>
      intro F h L a1 H locs ls cells slots hR hl hcc hss
      have hK1 := hR.kk hK
      have hv16 : wVd (dL dA L) (16, 0, 0) := ⟨⟨by decide, by decide⟩, wal_s rfl⟩
      have e16 : a (16, 0, 0) = a1 (16, 0, 0) := (hR.2.2.1 (16, 0, 0) (Or.inl (by decide))).symm
      have hl : lv_has ls 1 [(0, .ref (a1 (16, 0, 0)))] := by rw [← e16]; exact hl
      have hl16 : a (16, 0, 0) = a1 (16, 0, 0) := e16
      rw [lp_X4_read_s] at h
      refine lv_aload_n hx hb dX4_read_59 rfl (lv_at hl 0 rfl) ?_
      refine gf_16_3 S hK1 hR.2.2.2 hv16 q181 dX4_read_60 ?_
      refine lv_aload_n hx hb dX4_read_63 rfl (lv_at hl 0 rfl) ?_
      refine gf_16_7 S hK1 hR.2.2.2 hv16 q185 dX4_read_64 ?_
      refine gn_0_20 S hK1 hR.2.2.2 (vq_16_7 hv16) q324 dX4_read_67 ?_
      refine lv_icmp_ge (tgt := 126) hx hb dX4_read_70 (by decide) (fun c0 => ?_) (fun c0 => ?_)
      · have h := if_t h c0
        cases h
        exact W_lo (cells' := 2416) (slots' := 15402) (by omega) (by omega) (W.vret S.1 S.2.1 hr (fun t ht _ => ⟨⟨(L, a1), rfl, trivial, by show WM D dA a s.heap.size L a1 _ t.heap; rw [ht]; exact hR.wm⟩, hR.2.2.2.2.1.F ht⟩) hR.2.2.2.2.1.2.2 dX4_read_126 hlk)
      have h := if_f h c0
      refine lv_aload_n hx hb dX4_read_73 rfl (lv_at hl 0 rfl) ?_
      refine lv_aload_n hx hb dX4_read_74 rfl (lv_at hl 0 rfl) ?_
      refine gf_16_1 S hK1 hR.2.2.2 hv16 q179 dX4_read_75 ?_
      refine lv_bipush (v := (10 : Int32)) hx hb dX4_read_78 (by decide) ?_
      obtain ⟨F1, y1, hz1, h⟩ := ob2_e h
      have K1 : ∀ (H : Heap) (locs : List Loc) (ls : Array Slot), RS D dA a s L a1 F1 H locs → lv_has ls 1 [(0, .ref (a1 (16, 0, 0)))] → ∀ y : Int32, (y = 0 ↔ y1 = 0) → W p l e (rmC 8 172 2416 15402) s m av below meth c H locs cells slots (MQR below (fun (_ : Unit) => wQM D dA a s.heap.size Fz) (wQtM D dA a s.heap.size Fz) av s 2416 15402 (wA dA a s.heap.size) ro) (F0 m 97 ls [.int y, .ref (a1 (16, 0, 0))]) := by
        intro H locs ls hR hl y hyy
        by_cases c1 : y1 = 0
        · have h := if_t h c1
          cases h
          exact W_lo (cells' := 2415) (slots' := 15395) (by omega) (by omega) (rk_t hne hlk (runVT (As := [.int y]) (rest := []) S (met_X4_need_t l hR.1 (hyy.mpr c1) hv16 H.size) (cwV 1 S.2.2.2.2 (lw_V q483 q485 qs7 q59 q486) rfl rfl rfl yd_X4_need ⟨Nat.le_of_ble_eq_true rfl, Nat.le_of_ble_eq_true rfl⟩) (hR.preC hK hC hv16 rfl rfl _) rfl rfl hl.1 rfl (lv_room (Nat.le_of_ble_eq_true rfl)) dX4_read_97 ⟨Nat.le_of_ble_eq_true rfl, Nat.le_of_ble_eq_true rfl⟩) hR)
        have h := if_f h c1
        refine rk_v (va_runV (As := [.int y]) (rest := []) S (met_X4_need l hR.1 hv16 (show fn_X4_need F1 y = some () from if_neg (fun q => c1 (hyy.mp q))) H.size) (cwV 1 S.2.2.2.2 (lw_V q483 q485 qs7 q59 q486) rfl rfl rfl yd_X4_need ⟨Nat.le_of_ble_eq_true rfl, Nat.le_of_ble_eq_true rfl⟩) (hR.preV hK hv16 rfl rfl _) rfl rfl hl.1 rfl (lv_room (Nat.le_of_ble_eq_true rfl)) dX4_read_97 ⟨by show _ ≤ 2416; omega, by show _ ≤ 15402; omega⟩) hR (fun H locs hR => ?_)
        obtain ⟨g9, h⟩ := og_e h
        refine lv_aload_n hx hb dX4_read_100 rfl (lv_at hl 0 rfl) ?_
        refine gf_16_0 S hK1 hR.2.2.2 hv16 q176 dX4_read_101 ?_
        refine lv_aload_n hx hb dX4_read_104 rfl (lv_at hl 0 rfl) ?_
        refine gf_16_1 S hK1 hR.2.2.2 hv16 q179 dX4_read_105 ?_
        refine lv_aload_n hx hb dX4_read_108 rfl (lv_at hl 0 rfl) ?_
        obtain ⟨F2, lo, hc, h⟩ := obT_e h
        rcases lo with _ | ln
        · have h : (some (F2, none) : Option (St × Option Unit)) = some (Fz, ro) := h
          cases h
          exact W_lo (cells' := 2409) (slots' := 15358) (by omega) (by omega) (rk_t hne hlk (runVT (As := []) (rest := [.int (F1 16 1 0 0), .ref (a1 (17, 0, 0))]) S (met_X4_line l hR.1 hv16 hc H.size) (cwV 0 S.2.2.2.2 (lw_V q418 q420 qs3 q59 q421) rfl rfl rfl yd_X4_line ⟨Nat.le_of_ble_eq_true rfl, Nat.le_of_ble_eq_true rfl⟩) (hR.preC hK hC hv16 rfl rfl _) rfl rfl hl.1 rfl (lv_room (Nat.le_of_ble_eq_true rfl)) dX4_read_109 ⟨Nat.le_of_ble_eq_true rfl, Nat.le_of_ble_eq_true rfl⟩) hR)
        dsimp only at h
        have hlb : ∀ x, wV x → wal (dL dA L) x → a1 x < H.size := fun x hv hl2 => (hR.2.2.2.1 x hv hl2).lt
        have hsb : s.heap.size ≤ H.size := hR.2.2.2.2.1.1
        refine va_callr (va_runV (As := []) (rest := [.int (F1 16 1 0 0), .ref (a1 (17, 0, 0))]) S (met_X4_line l hR.1 hv16 hc H.size) (cwV 0 S.2.2.2.2 (lw_V q418 q420 qs3 q59 q421) rfl rfl rfl yd_X4_line ⟨Nat.le_of_ble_eq_true rfl, Nat.le_of_ble_eq_true rfl⟩) (hR.preC hK hC hv16 rfl rfl _) rfl rfl hl.1 rfl (lv_room (Nat.le_of_ble_eq_true rfl)) dX4_read_109 ⟨by show _ ≤ 2416; omega, by show _ ≤ 15402; omega⟩) hR.2.2.2.2.1 (fun _ _ h2 => hR.2.2.2.2.2 _ h2) (fun _ h2 => hR.2.2.2.2.2 _ h2) (fun zt z t H1 locs1 ht _ _ hB hz _ hS => ?_)
        obtain ⟨b1, b2, b3, -, b5⟩ := hB
        rw [ht] at b1 b2
        have hR : RS D dA a s L a1 F2 H1 locs1 := hR.to ⟨b1, hS, fun q h2 => hR.2.2.2.2.2 q (wA_mono hz h2)⟩
        refine raast S hK hL hR hlb hsb b2 b3 b5 g9 rfl dX4_read_112 (fun H locs hR => ?_)
        generalize LR L (F1 16 1 0 0).toNatClampNeg ln.2.2.1 = L at hR
        generalize aR a1 (F1 16 1 0 0).toNatClampNeg z zt = a1 at hR
        generalize hF3 : pRow F2 (F1 16 1 0 0).toNatClampNeg ln = F3 at hR h
        have hm1 : F2 16 1 0 0 = F3 16 1 0 0 := by rw [← hF3]; rfl
        rw [hm1] at h
        have hK1 := hR.kk hK
        have hv16 : wVd (dL dA L) (16, 0, 0) := ⟨⟨by decide, by decide⟩, wal_s rfl⟩
        have e16 : a (16, 0, 0) = a1 (16, 0, 0) := (hR.2.2.1 (16, 0, 0) (Or.inl (by decide))).symm
        have hl : lv_has ls 1 [(0, .ref (a1 (16, 0, 0)))] := by rw [← e16, hl16]; exact hl
        refine lv_aload_n hx hb dX4_read_113 rfl (lv_at hl 0 rfl) ?_
        refine lv_dup hx hb dX4_read_114 rfl ?_
        refine gf_16_1 S hK1 hR.2.2.2 hv16 q179 dX4_read_115 ?_
        refine lv_iconst (v := (1 : Int32)) hx hb dX4_read_118 (by decide) ?_
        refine lv_iadd hx hb dX4_read_119 ?_
        refine pf_16_1 S hK1 hR.1 hR.2.2.2 hv16 rfl q179 dX4_read_120 (fun H locs hW => ?_)
        have hR := hR.to hW
        refine lv_goto (tgt := 59) hx hb dX4_read_123 (by decide) ?_
        exact ih _ h L a1 H locs ls _ _ hR (by rw [e16]; exact hl) (by omega) (by omega)
      clear h
      refine lv_icmp_ge (tgt := 96) hx hb dX4_read_80 (by decide) (fun c2 => ?_) (fun c2 => ?_)
      · have h := if_t hz1 c2
        refine lv_iconst (v := (0 : Int32)) hx hb dX4_read_96 (by decide) ?_
        cases h
        exact K1 H locs ls hR hl 0 Iff.rfl
      have h := if_f hz1 c2
      refine lv_aload_n hx hb dX4_read_83 rfl (lv_at hl 0 rfl) ?_
      refine ks_ldc (i := 9) S hK1 rfl dX4_read_84 ?_
      refine rk_i (va_runV (As := [.ref (dA.2.1 9)]) (rest := [.ref (a1 (16, 0, 0))]) S (met_X4_skips l hR.1 hv16 (by decide) h H.size) (cwV 1 S.2.2.2.2 (lw_V q423 q425 qs4 q59 q426) rfl rfl rfl yd_X4_skips ⟨Nat.le_of_ble_eq_true rfl, Nat.le_of_ble_eq_true rfl⟩) (hR.preV hK hv16 rfl rfl _) rfl rfl hl.1 rfl (lv_room (Nat.le_of_ble_eq_true rfl)) dX4_read_86 ⟨by show _ ≤ 2416; omega, by show _ ≤ 15402; omega⟩) hR (fun H locs hR => ?_)
      refine lv_if_eq (tgt := 96) hx hb dX4_read_89 (by decide) (fun c3 => ?_) (fun c3 => ?_)
      · refine lv_iconst (v := (0 : Int32)) hx hb dX4_read_96 (by decide) ?_
        exact K1 H locs ls hR hl 0 ⟨fun _ => c3, fun _ => rfl⟩
      refine lv_iconst (v := (1 : Int32)) hx hb dX4_read_92 (by decide) ?_
      refine lv_goto (tgt := 97) hx hb dX4_read_93 (by decide) ?_
      exact K1 H locs ls hR hl 1 ⟨fun q => absurd q (by decide), fun q => absurd q c3⟩
  unfold fn_X4_read at h
  obtain ⟨H, eH⟩ : ∃ z, z = s.heap := ⟨_, rfl⟩
  obtain ⟨locs, eL⟩ : ∃ z : List Loc, z = [] := ⟨_, rfl⟩
  have hR : RS D dA a s dA.2.2.2.2 a F H locs := by rw [eH, eL]; exact hR
  refine wr_in eH eL ?_
  clear eH eL
  generalize dA.2.2.2.2 = L at hR
  obtain ⟨a1, ha1⟩ : ∃ b, b = a := ⟨_, rfl⟩
  rw [show RS D dA a s L a F H locs = RS D dA a s L a1 F H locs by rw [ha1]] at hR
  have hK1 := hR.kk hK
  have hv16 : wVd (dL dA L) (16, 0, 0) := ⟨⟨by decide, by decide⟩, wal_s rfl⟩
  have hl16 : a (16, 0, 0) = a1 (16, 0, 0) := by rw [ha1]
  have hl : lv_has ls 1 [(0, .ref (a1 (16, 0, 0)))] := by rw [← hl16]; exact hl
  refine lv_aload_n hx hb dX4_read_0 rfl (lv_at hl 0 rfl) ?_
  refine lv_iconst (v := (0 : Int32)) hx hb dX4_read_1 (by decide) ?_
  obtain ⟨G2, eG2, h⟩ := pl_e h
  refine pf_16_2 S hK1 hR.1 hR.2.2.2 hv16 eG2 q180 dX4_read_2 (fun H locs hW => ?_)
  have hR := hR.to hW
  refine lv_aload_n hx hb dX4_read_5 rfl (lv_at hl 0 rfl) ?_
  refine lv_iconst (v := (0 : Int32)) hx hb dX4_read_6 (by decide) ?_
  obtain ⟨G7, eG7, h⟩ := pl_e h
  refine pf_16_1 S hK1 hR.1 hR.2.2.2 hv16 eG7 q179 dX4_read_7 (fun H locs hW => ?_)
  have hR := hR.to hW
  refine lv_aload_n hx hb dX4_read_10 rfl (lv_at hl 0 rfl) ?_
  refine lv_aload_n hx hb dX4_read_11 rfl (lv_at hl 0 rfl) ?_
  refine gf_16_7 S hK1 hR.2.2.2 hv16 q185 dX4_read_12 ?_
  refine gn_0_0 S hK1 hR.2.2.2 (vq_16_7 hv16) q268 dX4_read_15 ?_
  obtain ⟨G18, eG18, h⟩ := pl_e h
  refine pf_16_5 S hK1 hR.1 hR.2.2.2 hv16 eG18 q183 dX4_read_18 (fun H locs hW => ?_)
  have hR := hR.to hW
  refine lv_aload_n hx hb dX4_read_21 rfl (lv_at hl 0 rfl) ?_
  refine lv_aload_n hx hb dX4_read_22 rfl (lv_at hl 0 rfl) ?_
  refine gf_16_7 S hK1 hR.2.2.2 hv16 q185 dX4_read_23 ?_
  refine gn_0_1 S hK1 hR.2.2.2 (vq_16_7 hv16) q272 dX4_read_26 ?_
  obtain ⟨G29, eG29, h⟩ := pl_e h
  refine pf_16_6 S hK1 hR.1 hR.2.2.2 hv16 eG29 q184 dX4_read_29 (fun H locs hW => ?_)
  have hR := hR.to hW
  refine lv_aload_n hx hb dX4_read_32 rfl (lv_at hl 0 rfl) ?_
  obtain ⟨F5, hc5, h⟩ := ob_e h
  refine rk_v (va_runV (As := []) (rest := []) S (met_X4_token l hR.1 hv16 hc5 H.size) (cwV 0 S.2.2.2.2 (lw_V q405 q407 qs1 q59 q408) rfl rfl rfl yd_X4_token ⟨Nat.le_of_ble_eq_true rfl, Nat.le_of_ble_eq_true rfl⟩) (hR.preV hK hv16 rfl rfl _) rfl rfl hl.1 rfl (lv_room (Nat.le_of_ble_eq_true rfl)) dX4_read_33 ⟨Nat.le_of_ble_eq_true rfl, Nat.le_of_ble_eq_true rfl⟩) hR (fun H locs hR => ?_)
  obtain ⟨g9, h⟩ := og_e h
  refine lv_aload_n hx hb dX4_read_36 rfl (lv_at hl 0 rfl) ?_
  refine gf_16_0 S hK1 hR.2.2.2 hv16 q176 dX4_read_37 ?_
  refine lv_aload_n hx hb dX4_read_40 rfl (lv_at hl 0 rfl) ?_
  refine gf_16_1 S hK1 hR.2.2.2 hv16 q179 dX4_read_41 ?_
  refine lv_aload_n hx hb dX4_read_44 rfl (lv_at hl 0 rfl) ?_
  obtain ⟨F2, lo, hc, h⟩ := obT_e h
  rcases lo with _ | ln
  · have h : (some (F2, none) : Option (St × Option Unit)) = some (Fz, ro) := h
    cases h
    exact W_lo (cells' := 2409) (slots' := 15358) (by omega) (by omega) (rk_t hne hlk (runVT (As := []) (rest := [.int (F5 16 1 0 0), .ref (a1 (17, 0, 0))]) S (met_X4_line l hR.1 hv16 hc H.size) (cwV 0 S.2.2.2.2 (lw_V q418 q420 qs3 q59 q421) rfl rfl rfl yd_X4_line ⟨Nat.le_of_ble_eq_true rfl, Nat.le_of_ble_eq_true rfl⟩) (hR.preC hK hC hv16 rfl rfl _) rfl rfl hl.1 rfl (lv_room (Nat.le_of_ble_eq_true rfl)) dX4_read_45 ⟨Nat.le_of_ble_eq_true rfl, Nat.le_of_ble_eq_true rfl⟩) hR)
  dsimp only at h
  have hlb : ∀ x, wV x → wal (dL dA L) x → a1 x < H.size := fun x hv hl2 => (hR.2.2.2.1 x hv hl2).lt
  have hsb : s.heap.size ≤ H.size := hR.2.2.2.2.1.1
  refine va_callr (va_runV (As := []) (rest := [.int (F5 16 1 0 0), .ref (a1 (17, 0, 0))]) S (met_X4_line l hR.1 hv16 hc H.size) (cwV 0 S.2.2.2.2 (lw_V q418 q420 qs3 q59 q421) rfl rfl rfl yd_X4_line ⟨Nat.le_of_ble_eq_true rfl, Nat.le_of_ble_eq_true rfl⟩) (hR.preC hK hC hv16 rfl rfl _) rfl rfl hl.1 rfl (lv_room (Nat.le_of_ble_eq_true rfl)) dX4_read_45 ⟨Nat.le_of_ble_eq_true rfl, Nat.le_of_ble_eq_true rfl⟩) hR.2.2.2.2.1 (fun _ _ h2 => hR.2.2.2.2.2 _ h2) (fun _ h2 => hR.2.2.2.2.2 _ h2) (fun zt z t H1 locs1 ht _ _ hB hz _ hS => ?_)
  obtain ⟨b1, b2, b3, -, b5⟩ := hB
  rw [ht] at b1 b2
  have hR : RS D dA a s L a1 F2 H1 locs1 := hR.to ⟨b1, hS, fun q h2 => hR.2.2.2.2.2 q (wA_mono hz h2)⟩
  refine raast S hK hL hR hlb hsb b2 b3 b5 g9 rfl dX4_read_48 (fun H locs hR => ?_)
  generalize LR L (F5 16 1 0 0).toNatClampNeg ln.2.2.1 = L at hR
  generalize aR a1 (F5 16 1 0 0).toNatClampNeg z zt = a1 at hR
  generalize hF3 : pRow F2 (F5 16 1 0 0).toNatClampNeg ln = F3 at hR h
  have hm1 : F2 16 1 0 0 = F3 16 1 0 0 := by rw [← hF3]; rfl
  rw [hm1] at h
  have hK1 := hR.kk hK
  have hv16 : wVd (dL dA L) (16, 0, 0) := ⟨⟨by decide, by decide⟩, wal_s rfl⟩
  have e16 : a (16, 0, 0) = a1 (16, 0, 0) := (hR.2.2.1 (16, 0, 0) (Or.inl (by decide))).symm
  have hl : lv_has ls 1 [(0, .ref (a1 (16, 0, 0)))] := by rw [← e16, hl16]; exact hl
  refine lv_aload_n hx hb dX4_read_49 rfl (lv_at hl 0 rfl) ?_
  refine lv_dup hx hb dX4_read_50 rfl ?_
  refine gf_16_1 S hK1 hR.2.2.2 hv16 q179 dX4_read_51 ?_
  refine lv_iconst (v := (1 : Int32)) hx hb dX4_read_54 (by decide) ?_
  refine lv_iadd hx hb dX4_read_55 ?_
  refine pf_16_1 S hK1 hR.1 hR.2.2.2 hv16 rfl q179 dX4_read_56 (fun H locs hW => ?_)
  have hR := hR.to hW
  exact LP 300 _ h L a1 H locs ls _ _ hR (by rw [e16]; exact hl) (Nat.le_of_ble_eq_true rfl) (Nat.le_of_ble_eq_true rfl)
