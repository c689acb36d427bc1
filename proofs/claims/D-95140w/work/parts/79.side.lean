/-! SIDE CELLS beside the world; methods that return or throw -/
set_option maxRecDepth 100000
theorem W_lo {p : Program} {l : Launch} {e : Env} {R : Room} {s : State} {m : MethodId} {args : Array Value} {below : List Frame} {meth : Method} {c : Code} {H : Heap} {locs : List Loc} {cells slots cells' slots' : Nat} {Q : State → Prop} {g : JFrame} (h1 : cells ≤ cells') (h2 : slots ≤ slots') (k : W p l e R s m args below meth c H locs cells' slots' Q g) : W p l e R s m args below meth c H locs cells slots Q g := fun T hT X => k T hT { X with same := X.same.mono h1 h2 }
/-- the world, and fresh cells X beside it -/
def XS (D : va_G) (dA : WK) (a : Ix → Nat) (s : State) (F : St) (X : va_W) (H : Heap) (locs : List Loc) : Prop := wS D dA a s F H locs ∧ (∀ x, wV x → wal dA x → a x < s.heap.size) ∧ va_P D vwCl X H ∧ va_D (fun q => s.heap.size ≤ q) X
abbrev wPreC (D : va_G) (dA : WK) (a : Ix → Nat) (F : St) (sz : Nat) (av : List Value) : Array Value → State → Prop := va_Pc av (fun U => U.heap.size = sz ∧ wP D dA a F U.heap ∧ KK D dA a U ∧ CK D dA U)
/-- it threw a fault, whose place is the reader's -/
abbrev wQt (D : va_G) (dA : WK) (a : Ix → Nat) (sz : Nat) (F1 : St) : Array Value → State → Addr → State → Prop := fun _ st x t => wP D dA a F1 t.heap ∧ sz ≤ x ∧ va_at D vwCl (x, .inr (9, fE dA (F1 16 3 0 0))) t.heap ∧ va_F (wA dA a sz) st t
def MetR (l : Launch) (y : MethodName) (ws : List Cond) (rm : Room) (Pc : Array Value → State → Prop) {ρ : Type} (Qc : ρ → Array Value → State → Outcome → State → Prop) (Qt : Array Value → State → Addr → State → Prop) (mc ms : Nat) (free : Addr → Prop) : Option ρ → Prop
  | some v => Met l y ws rm Pc (Qc v) mc ms free
  | none => MetT l y ws rm Pc Qt mc ms free
def MQR (below : List Frame) {ρ : Type} (Qc : ρ → Array Value → State → Outcome → State → Prop) (Qt : Array Value → State → Addr → State → Prop) (a : Array Value) (s : State) (mc ms : Nat) (free : Addr → Prop) : Option ρ → State → Prop
  | some v => MQ below (Qc v) a s mc ms free
  | none => MQT below Qt a s mc ms free
theorem MetR.ofW {l : Launch} {y : MethodName} {ws ws' : List Cond} {rm : Room} {Pc : Array Value → State → Prop} {ρ : Type} {Qc : ρ → Array Value → State → Outcome → State → Prop} {Qt : Array Value → State → Addr → State → Prop} {mc ms : Nat} {free : Addr → Prop} {cc : ByteArray} {maxL : Nat} {ret : Option FieldType} {ro : Option ρ}
    (hy : plainName y.cls = true) (hw : ws = Cond.code y cc maxL ret :: ws')
    (body : ∀ p e s m args below meth c s₁, BodyLoose p l y (headSpec ws rm) cc maxL ret e s m args below meth c s₁ → c.maxLocals = maxL → c.exceptionTable.isEmpty = true → Pc args s →
      W p l e (headSpec ws rm).room s m args below meth c s.heap [] 0 0 (MQR below Qc Qt args s mc ms free ro) (entryFrame m args maxL)) : MetR l y ws rm Pc Qc Qt mc ms free ro := by
  cases ro with
  | none => exact MetT.ofW hy hw body
  | some v => exact Met.ofW hy hw (fun p e s m args below meth c s₁ B hml hP => body p e s m args below meth c s₁ B hml (B.noHandlers (atoms_spec (ws := ws) B.pre _ (by rw [hw]; exact List.mem_cons_self))) hP)
theorem rst {l : Launch} {y : MethodName} {cc : ByteArray} {L : Nat} {ret : Option FieldType} {rm : Room} {D : va_G} {dA : WK} {a : Ix → Nat} {F : St} {av : List Value} {ρ : Type} {Qc : Nat → ρ → Array Value → State → Outcome → State → Prop} {Qt : Nat → Array Value → State → Addr → State → Prop} {mc ms : Nat} {ro : Option ρ} (hy : plainName y.cls = true) (hn : (lg_sl av).length ≤ L)
    (body : ∀ (p : Program) (e : Env) (s : State) (m : MethodId) (below : List Frame) (meth : Method) (c : Code), CallFix p m c cc L s av.toArray lw_all y.cls → meth.sig.returnType = ret → meth.locks = false → c.exceptionTable.isEmpty = true → KK D dA a s → CK D dA s → wP D dA a F s.heap → ∀ ls : Array Slot, lv_has ls L (lv_args 0 av) →
      W p l e rm s m av.toArray below meth c s.heap [] 0 0 (MQR below (Qc s.heap.size) (Qt s.heap.size) av.toArray s mc ms (wA dA a s.heap.size) ro) (F0 m 0 ls [])) (sz : Nat) : MetR l y (ws_ y cc L ret) rm (wPreC D dA a F sz av) (Qc sz) (Qt sz) mc ms (wA dA a sz) ro := by
  refine MetR.ofW (cc := cc) (maxL := L) (ret := ret) hy rfl ?_
  intro p e s m args below meth c s₁ B hml hne hv
  obtain ⟨rfl, hsz, hP, hK, hC⟩ := hv
  have hts := atoms_spec (ws := ws_ y cc L ret) B.pre
  have hts : ∀ w ∈ lw_all, w.before av.toArray s = true := fun w h => hts w (List.mem_cons_of_mem _ h)
  subst hsz
  rw [lg_entry_eq]
  exact body p e s m below meth c ⟨B.exec, B.bytes, hml, findClass_of_methodNamed B.named, hts⟩ B.returns B.notSynchronized hne hK hC hP _ (lv_entry av hn)
section XR
variable {p : Program} {l : Launch} {e : Env} {R : Room} {s : State} {m : MethodId} {args : Array Value} {below : List Frame} {meth : Method} {c : Code} {H : Heap} {locs : List Loc} {cells slots : Nat} {Q : State → Prop}
variable {cc : ByteArray} {nL pc : Nat} {ls : Array Slot} {rest st0 : List Value} {D : va_G} {dA : WK} {a : Ix → Nat} {F F1 : St} {own : String} {X : va_W}
theorem nilP : va_P D vwCl [] H := fun k q hk => by simp at hk
theorem nilD {A : Nat → Prop} : va_D A [] := ⟨fun i j x y hi => by simp at hi, fun k q hk => by simp at hk⟩
theorem XS_in (h : wP D dA a F s.heap) : XS D dA a s F [] s.heap [] := ⟨wS_in h, fun x hv hl => (h x hv hl).lt, nilP, nilD⟩
theorem XS.grow {z : Nat} {x : va_E} {H1 : Heap} (h : XS D dA a s F X H locs) (hz : H.size = z) (he : va_at D vwCl (z, x) H1) (h1 : H1.size = z + 1) (o1 : ∀ q, q < H.size → H1[q]? = H[q]?) : XS D dA a s F (X ++ [(z, x)]) H1 locs := by
  obtain ⟨⟨hW, hS, hA⟩, hlo, hP, hD⟩ := h
  have h0 := hS.1
  exact ⟨⟨fun y hv hl => (hW y hv hl).kept (o1 _ ((hW y hv hl).lt)), hS.grow (by omega) o1, fun q hq => hA q (wA_mono (by omega) hq)⟩, hlo, hP.grow hz he o1, hD.push hP hz.symm (show s.heap.size ≤ z by omega)⟩
theorem XS.set {q0 z k : Nat} {x x2 : va_E} {H1 : Heap} (h : XS D dA a s F X H locs) (he : X[q0]? = some (z, x)) (hx : va_at D vwCl (z, x2) H1) (e2 : H1.size = H.size) (e3 : ∀ q, q ≠ z → H1[q]? = H[q]?) : XS D dA a s F (X.set q0 (z, x2)) H1 (locs ++ [⟨z, k⟩]) := by
  obtain ⟨⟨hW, hS, hA⟩, hlo, hP, hD⟩ := h
  have hz : s.heap.size ≤ z := hD.2 q0 _ he
  exact ⟨⟨fun y hv hl => (hW y hv hl).kept (e3 _ (fun q => by have := hlo y hv hl; omega)), hS.put e2 e3 (Or.inr hz), by rw [e2]; exact hA⟩, hlo, hP.set hD he hx e3, hD.set he⟩
theorem XS.out (h : XS D dA a s F X H locs) {k : Nat} {x : Nat × va_E} (hx : X[k]? = some x) : x.1 < H.size ∧ ¬ wA dA a H.size x.1 := by
  have h1 := (h.2.2.1 k x hx).lt
  have h2 : s.heap.size ≤ x.1 := h.2.2.2.2 k x hx
  refine ⟨h1, ?_⟩
  rintro (⟨y, hv, hl, e⟩ | h3)
  · have := h.2.1 y hv hl
    omega
  · omega
/-- the world moves on, the side stays -/
theorem XS.go {H1 : Heap} {locs1 : List Loc} (h : XS D dA a s F X H locs) (hB : wP D dA a F1 H1) (hz : H.size ≤ H1.size) (hk : ∀ q, q < H.size → ¬ wA dA a H.size q → H1[q]? = H[q]?) (hS : va_S (wA dA a s.heap.size) s.heap H1 locs1) : XS D dA a s F1 X H1 locs1 := ⟨⟨hB, hS, fun q hq => h.1.2.2 q (wA_mono hz hq)⟩, h.2.1, h.2.2.1.kept (fun k x hx => hk _ (h.out hx).1 (h.out hx).2), h.2.2.2⟩
theorem xnewa {z N : Nat} {n : Int32} (S : CallFix p m c cc nL s args lw_all own) (hK : KK D dA a s) (hX : XS D dA a s F X H locs) (hn : ¬ n < 0) (hN : n.toNatClampNeg = N) (hbytes : N * 4 ≤ 536870912) (hz : H.size = z) (hcells : cells + 1 ≤ R.cells) (hslots : slots + N ≤ R.slots) (hdg : decode cc pc = .ok (.newarray .int, 2))
    (kk : ∀ H1 : Heap, H1.size = z + 1 → XS D dA a s F (X ++ [(z, .inl (dA.1 0, N, .inl (fun _ => 0)))]) H1 locs → W p l e R s m args below meth c H1 locs (cells + 1) (slots + N) Q (F0 m (pc + 2) ls (.ref z :: rest))) : W p l e R s m args below meth c H locs cells slots Q (F0 m pc ls (.int n :: rest)) := by
  refine va_newaK (atype := .int) S.1 S.2.1 (S.2.2.2.2 _ q123) rfl hdg rfl hn hN hbytes hcells hslots hz fun H1 cA e1 z1 o1 _ hNm => ?_
  have h2 : s.vm.findClass ("[" ++ FieldType.int.toString) = some (dA.1 0) := (hK.1.2 0 _ rfl).2
  have e2 : cA = dA.1 0 := Option.some.inj (hNm.symm.trans h2)
  subst e2
  exact kk H1 z1 (hX.grow hz (show H1[z]? = some (vp_cell _ _) from e1) z1 (by rw [hz]; exact o1))
theorem xiast {n z z0 q0 : Nat} {f : Nat → Int32} {i x : Int32} (S : CallFix p m c cc nL s args lw_all own) (hK : KK D dA a s) (hX : XS D dA a s F X H locs) (ha : X[q0]? = some (z, .inl (dA.1 0, n, .inl f))) (hin : vpb i n = true) (hz : i.toNatClampNeg = z0) (hdg : decode cc pc = .ok (.iastore, 1))
    (kk : ∀ (H1 : Heap) (locs1 : List Loc), XS D dA a s F (X.set q0 (z, .inl (dA.1 0, n, .inl (upd f z0 x)))) H1 locs1 → W p l e R s m args below meth c H1 locs1 cells slots Q (F0 m (pc + 1) ls rest)) : W p l e R s m args below meth c H locs cells slots Q (F0 m pc ls (.int x :: .int i :: .ref z :: rest)) := by
  subst hz
  refine W.iast S.1 S.2.1 (hX.2.2.1 q0 _ ha) ((hK.1.2 0 _ rfl).1 n (fun j => .int (f j))) (fun q => by cases q) (by show ¬ (i < 0 ∨ (arrV _ _ _).slots.size ≤ _); rw [arrV_size]; exact vpb_in hin) rfl rfl hdg fun H1 e1 z1 oq => ?_
  refine kk H1 _ (hX.set ha ?_ z1 oq)
  show H1[z]? = some (vp_cell _ _)
  rw [e1, vp_cell_i, vp_cell_i, arrV_store]
  congr 2
  funext q
  by_cases hq : q = i.toNatClampNeg
  · subst hq
    simp [updV, upd]
  · simp [updV, upd, hq]
theorem xiald {n z z0 q0 : Nat} {f : Nat → Int32} {i : Int32} (S : CallFix p m c cc nL s args lw_all own) (hK : KK D dA a s) (hX : XS D dA a s F X H locs) (ha : X[q0]? = some (z, .inl (dA.1 0, n, .inl f))) (hin : vpb i n = true) (hz : i.toNatClampNeg = z0) (hdg : decode cc pc = .ok (.iaload, 1))
    (kk : W p l e R s m args below meth c H locs cells slots Q (F0 m (pc + 1) ls (.int (f z0) :: rest))) : W p l e R s m args below meth c H locs cells slots Q (F0 m pc ls (.int i :: .ref z :: rest)) := by
  subst hz
  exact va_iald S.1 S.2.1 hK.1 hX.2.2.1 q0 0 ha rfl (vpb_in hin) hdg kk
theorem xlen {n z q0 : Nat} {f : Nat → Int32} {v : Int32} (S : CallFix p m c cc nL s args lw_all own) (hK : KK D dA a s) (hX : XS D dA a s F X H locs) (ha : X[q0]? = some (z, .inl (dA.1 0, n, .inl f))) (hv : Int32.ofNat n = v) (hdg : decode cc pc = .ok (.arraylength, 1))
    (kk : W p l e R s m args below meth c H locs cells slots Q (F0 m (pc + 1) ls (.int v :: rest))) : W p l e R s m args below meth c H locs cells slots Q (F0 m pc ls (.ref z :: rest)) := va_alen S.1 S.2.1 hK.1 hX.2.2.1 q0 0 ha rfl hv hdg kk
theorem xnew {C : String} {T : u_T} {N ci index z : Nat} (S : CallFix p m c cc nL s args lw_all own) (hin : ∀ w ∈ u_ws C T N, w ∈ lw_all) (ty : Nat → FieldType) (hty : ∀ k, k < N → parseFieldDescriptor (T k).2.2.1 = some (ty k)) (hcl : Cond.classLink own index C ∈ lw_all) (hinst : Cond.instantiable C N ∈ lw_all) (hini : Cond.initialized C ∈ lw_all)
    (hK : KK D dA a s) (hX : XS D dA a s F X H locs) (hc : vwCl[ci]? = some (C, T, N)) {fs : List Value} (hfs : ∀ j, j < N → defaultValue (ty j) = vp_V fs j) (hz : H.size = z) (hcells : cells + 1 ≤ R.cells) (hslots : slots + N ≤ R.slots) (hdg : decode cc pc = .ok (.new index, 3))
    (kk : ∀ H1 : Heap, H1.size = z + 1 → XS D dA a s F (X ++ [(z, .inr (ci, fs))]) H1 locs → W p l e R s m args below meth c H1 locs (cells + 1) (slots + N) Q (F0 m (pc + 3) ls (.ref z :: rest))) : W p l e R s m args below meth c H locs cells slots Q (F0 m pc ls rest) := by
  have hKn := hK.1.1 ci _ hc
  refine W.newcK S.1 S.2.1 S.2.2.2.1 (S.2.2.2.2 _ hcl) (S.2.2.2.2 _ hinst) (S.2.2.2.2 _ hini) rfl hdg hcells hslots hKn.2.1 rfl fun H1 kC hkC e1 z1 o1 => ?_
  rw [hz] at e1 z1 ⊢
  exact kk H1 z1 (hX.grow hz ⟨_, hc, (u_born ty S.2.2.2.2 hin hKn hkC e1 hty).to hfs⟩ z1 o1)
/-- a constructor's call on a side cell -/
theorem xck {q0 z : Nat} {x x2 : va_E} {av : Array Value} (hr : va_Run p l e R s m args below meth c H locs cells slots 0 0 (F0 m pc ls st0) rest (cQ D [(z, x)] [(z, x2)] H.size 0 av) (va_A [(z, x)] H.size)) (hX : XS D dA a s F X H locs) (he : X[q0]? = some (z, x))
    (kk : ∀ (H1 : Heap) (locs1 : List Loc), H1.size = H.size → XS D dA a s F (X.set q0 (z, x2)) H1 locs1 → W p l e R s m args below meth c H1 locs1 cells slots Q (F0 m (pc + 3) ls rest)) : W p l e R s m args below meth c H locs cells slots Q (F0 m pc ls st0) := by
  have hz : s.heap.size ≤ z := hX.2.2.2.2 q0 _ he
  have hin : ∀ q, va_A [(z, x)] H.size q → wA dA a s.heap.size q := by
    rintro q (⟨k, e2, hk⟩ | hk)
    · have h1 : k < 1 := (List.getElem?_eq_some_iff.mp hk).1
      rw [show k = 0 by omega] at hk
      injection hk with hk
      have h2 : z = q := congrArg Prod.fst hk
      exact Or.inr (by omega)
    · exact Or.inr (Nat.le_trans hX.1.2.1.1 hk)
  have hno : ∀ q, q ≠ z → q < H.size → ¬ va_A [(z, x)] H.size q := by
    rintro q h1 h2 (⟨k, e2, hk⟩ | hk)
    · have h3 : k < 1 := (List.getElem?_eq_some_iff.mp hk).1
      rw [show k = 0 by omega] at hk
      injection hk with hk
      exact h1 (congrArg Prod.fst hk).symm
    · omega
  refine va_callv hr hX.1.2.1 (fun q _ h => hin q h) hin (fun u t H1 locs1 ht _ _ hB hz1 hk1 hS1 => ?_)
  obtain ⟨g1, g2, -⟩ := hB
  rw [ht] at g1 g2
  have g1 : H1.size = H.size := g1
  refine kk H1 locs1 g1 ⟨⟨fun y hv hl => ?_, hS1, by rw [g1]; exact hX.1.2.2⟩, hX.2.1, fun k r hk => ?_, hX.2.2.2.set he⟩
  · have h1 := hX.1.1 y hv hl
    have h2 := hX.2.1 y hv hl
    exact h1.kept (hk1 _ h1.lt (hno _ (by omega) h1.lt))
  · by_cases hkq : k = q0
    · subst hkq
      rw [List.getElem?_set_self (List.getElem?_eq_some_iff.mp he).1] at hk
      injection hk with hk
      subst hk
      exact g2 0 _ rfl
    · rw [List.getElem?_set_ne (fun q => hkq q.symm)] at hk
      have h1 := hX.2.2.1 k r hk
      exact h1.kept (hk1 _ h1.lt (hno _ (fun q => hkq (hX.2.2.2.1 k q0 _ _ hk he q)) h1.lt))
/-- calls of methods of the world -/
theorem wCBlind {sz : Nat} {av : List Value} : FrameBlind (wPreC D dA a F sz av) := fun _ U g mk q => by
  obtain ⟨q0, q1, qP, qK, qC⟩ := q
  exact ⟨q0, q1, qP, KK.same (s := U) (U := U.calling g mk _) qK rfl rfl, CK.same (s := U) (U := U.calling g mk _) qC rfl⟩
theorem xpreV (hK : KK D dA a s) (hX : XS D dA a s F X H locs) {k i j : Nat} (hv : wVd dA (k, i, j)) {C : String} {T : u_T} {N ci : Nat} {fs : List Value} (he : wc dA a F k i j = .inr (ci, fs)) (hc : vwCl[ci]? = some (C, T, N)) (As : List Value) : PreV s H C (a (k, i, j)) (wPre D dA a F H.size (.ref (a (k, i, j)) :: As)) As := wpreV hK hX.1 hv he hc As
theorem xpreC (hK : KK D dA a s) (hC : CK D dA s) (hX : XS D dA a s F X H locs) {k i j : Nat} (hv : wVd dA (k, i, j)) {C : String} {T : u_T} {N ci : Nat} {fs : List Value} (he : wc dA a F k i j = .inr (ci, fs)) (hc : vwCl[ci]? = some (C, T, N)) (As : List Value) : PreV s H C (a (k, i, j)) (wPreC D dA a F H.size (.ref (a (k, i, j)) :: As)) As := ⟨wCBlind, wrecv hK hX.1 hv he hc, fun U hU hWm => ⟨rfl, by rw [hU], by rw [hU]; exact hX.1.1, KK.go hK.1 hK.2.1 hK.2.2 hX.1.2.2 hWm hU hX.1.2.1, hC.warm hWm⟩⟩
theorem xk_i {mc ms : Nat} {r1 : Int32} {av : Array Value} (hr : va_Run p l e R s m args below meth c H locs cells slots mc ms (F0 m pc ls st0) rest (wQi D dA a H.size F1 r1 av) (wA dA a H.size)) (hX : XS D dA a s F X H locs)
    (kk : ∀ (H1 : Heap) (locs1 : List Loc), XS D dA a s F1 X H1 locs1 → W p l e R s m args below meth c H1 locs1 (cells + mc) (slots + ms) Q (F0 m (pc + 3) ls (.int r1 :: rest))) : W p l e R s m args below meth c H locs cells slots Q (F0 m pc ls st0) :=
  va_calli hr hX.1.2.1 (fun _ _ h => hX.1.2.2 _ h) (fun _ h => hX.1.2.2 _ h) (fun r u t H1 locs1 ht _ hp hB hz hk hS => by
    have hp : r = r1 := hp
    subst hp
    have hB : wP D dA a F1 t.heap := hB
    rw [ht] at hB
    exact kk H1 locs1 (hX.go hB hz hk hS))
theorem xk_v {mc ms : Nat} {av : Array Value} (hr : va_Run p l e R s m args below meth c H locs cells slots mc ms (F0 m pc ls st0) rest (wQv D dA a H.size F1 av) (wA dA a H.size)) (hX : XS D dA a s F X H locs)
    (kk : ∀ (H1 : Heap) (locs1 : List Loc), XS D dA a s F1 X H1 locs1 → W p l e R s m args below meth c H1 locs1 (cells + mc) (slots + ms) Q (F0 m (pc + 3) ls rest)) : W p l e R s m args below meth c H locs cells slots Q (F0 m pc ls st0) :=
  va_callv hr hX.1.2.1 (fun _ _ h => hX.1.2.2 _ h) (fun _ h => hX.1.2.2 _ h) (fun u t H1 locs1 ht _ _ hB hz hk hS => by
    have hB : wP D dA a F1 t.heap := hB
    rw [ht] at hB
    exact kk H1 locs1 (hX.go hB hz hk hS))
/-- a call that throws ends the method -/
theorem xk_t {mc ms : Nat} {av : Array Value} (hne : c.exceptionTable.isEmpty = true) (hlk : meth.locks = false) (hr : RunT p l e R s m args below meth c H locs cells slots mc ms (F0 m pc ls st0) rest (wQt D dA a H.size F1 av) (wA dA a H.size)) (hX : XS D dA a s F X H locs) :
    W p l e R s m args below meth c H locs cells slots (MQT below (wQt D dA a s.heap.size F1) args s (cells + mc) (slots + ms) (wA dA a s.heap.size)) (F0 m pc ls st0) := by
  refine wkT (cc := c.code) hne hlk hr hX.1.2.1.2.2 (fun q h => hX.1.2.2 q h) (fun x st₀ t u h0 hQ hu _ => ?_)
  obtain ⟨g1, g2, g3, g4⟩ := hQ
  refine ⟨by rw [hu]; exact g1, Nat.le_trans hX.1.2.1.1 g2, by rw [hu]; exact g3, ?_⟩
  have hS := hX.1.2.1
  have g4 : st₀.heap.size ≤ t.heap.size ∧ ∀ q : Nat, q < st₀.heap.size → ¬ wA dA a H.size q → t.heap[q]? = st₀.heap[q]? := g4
  rw [h0] at g4
  refine ⟨by rw [hu]; exact Nat.le_trans hS.1 g4.1, fun q h1 h2 => ?_⟩
  rw [hu, g4.2 q (Nat.lt_of_lt_of_le h1 hS.1) (fun h3 => h2 (hX.1.2.2 q h3))]
  exact hS.2.1 q h1 h2
/-- a field of the world is written -/
theorem xput (S : CallFix p m c cc nL s args lw_all own) (hK : KK D dA a s) (hD : wD D dA a) (hX : XS D dA a s F X H locs) {k i j : Nat} (hv : wVd dA (k, i, j)) {ref C : String} {T : u_T} {N ci index : Nat} (hin : ∀ w ∈ u_ws C T N, w ∈ lw_all) {fs : List Value} (he : wc dA a F k i j = .inr (ci, fs)) (hc : vwCl[ci]? = some (C, T, N)) (q : Nat) (hq : q < N) (hlink : (Cond.fieldLink own index ref (T q).2.1 (T q).2.2.1) ∈ lw_all) (hsame : ∀ x, s.fieldFound? (T q).1 (T q).2.1 (T q).2.2.1 = some x → s.fieldFound? ref (T q).2.1 (T q).2.2.1 = some x) (hfin : (T q).2.2.2 = false) {ty : FieldType} {v : Value} (hd : parseFieldDescriptor (T q).2.2.1 = some ty) (hn : narrow ty v = v) (hfit : fits ty v = true) (hl : q < fs.length) (he1 : wc dA a F1 k i j = .inr (ci, fs.set q v)) (ho : ∀ k2 i2 j2, wV (k2, i2, j2) → (k2, i2, j2) ≠ (k, i, j) → wc dA a F1 k2 i2 j2 = wc dA a F k2 i2 j2) (hdg : decode cc pc = .ok (.putfield index, 3))
    (kk : ∀ (H1 : Heap) (locs1 : List Loc), H1.size = H.size → XS D dA a s F1 X H1 locs1 → W p l e R s m args below meth c H1 locs1 cells slots Q (F0 m (pc + 3) ls rest)) : W p l e R s m args below meth c H locs cells slots Q (F0 m pc ls (v :: .ref (a (k, i, j)) :: rest)) := by
  obtain ⟨cf, kf, fi, f, cell, hi, hst, h6, q1, q3, hlt, hend⟩ := wp_core S.2.2.2.2 hK hD hX.1 hv hin he hc q hq hfin hd hn hfit hl he1 ho
  refine W.putK S.1 S.2.1 (f := f) ⟨S.2.2.2.1, S.2.2.2.2 _ hlink, ⟨_, _, _, hsame _ hi⟩, hst⟩ h6 q1 q3 hlt rfl rfl hdg fun H' e1 e2 e3 => kk H' _ e2 ⟨hend H' e1 e2 e3, hX.2.1, hX.2.2.1.kept (fun k2 x hx => e3 _ (fun hq => ?_)), hX.2.2.2⟩
  have hq2 : @Eq Nat x.1 (a (k, i, j)) := hq
  have h1 : s.heap.size ≤ x.1 := hX.2.2.2.2 k2 x hx
  have h2 := hX.2.1 _ hv.1 hv.2
  omega
end XR
