/-! fault: it catches what read throws -/
set_option maxRecDepth 100000
section RVW
variable {p : Program} {l : Launch} {e : Env} {R : Room} {s : State} {m : MethodId} {args : Array Value} {below : List Frame} {meth : Method} {c : Code} {H : Heap} {locs : List Loc} {cells slots : Nat} {Q : State → Prop}
/-- what a call of a method with handlers asks -/
abbrev CallH (R : Room) (s : State) (args : Array Value) (own C : String) (index : Nat) (y : MethodName) (bytes : ByteArray) (maxL : Nat) (ret : Option FieldType) (hh : List (Nat × Nat × Nat × Nat)) (ws : List Cond) (rm : Room) (mc ms n : Nat) : Prop :=
  (rm.cells = mc ∧ rm.slots = ms ∧ rm.frames + 1 ≤ R.frames ∧ 8 + (maxL + 11) + rm.locals ≤ R.locals ∧ (∀ w ∈ ws, ∀ (a' : Array Value) (U : State), s.WarmedH U.vm → w.before a' U = true) ∧ Cond.codeWith y bytes maxL ret hh ∈ ws) ∧
  (Cond.codeWith y bytes maxL ret hh).before args s = true ∧ (Cond.initialized y.cls).before args s = true ∧ (y.cls ≠ "java/lang/invoke/MethodHandle" ∧ y.cls ≠ "java/lang/invoke/VarHandle") ∧ (∀ sig, parseMethodDescriptor y.desc = some sig → n = sig.parameters.length) ∧ (Cond.methodLink own index y).before args s = true ∧ (Cond.instanceMethod y).before args s = true ∧ (Cond.selects C y y).before args s = true
theorem cwH {own C : String} {index : Nat} {y : MethodName} {bytes : ByteArray} {maxL mc ms : Nat} {ret : Option FieldType} {hh : List (Nat × Nat × Nat × Nat)} {ws' : List Cond} {ws Ts : List Cond} {rm : Room} (n : Nat) (ht : ∀ w ∈ Ts, w.before args s = true) (hT : GoodIn Ts (wsV own index C y ws)) (hw : ws = Cond.codeWith y bytes maxL ret hh :: ws') (hrc : rm.cells = mc) (hrs : rm.slots = ms)
    (hd : y.cls = C ∧ y.cls ≠ "java/lang/invoke/MethodHandle" ∧ y.cls ≠ "java/lang/invoke/VarHandle" ∧ (parseMethodDescriptor y.desc).map (fun d => d.parameters.length) = some n) (hR : rm.frames + 1 ≤ R.frames ∧ 8 + (maxL + 11) + rm.locals ≤ R.locals) : CallH R s args own C index y bytes maxL ret hh ws rm mc ms n := by
  obtain ⟨hC, hd⟩ := hd
  subst hC
  have ok : ∀ w ∈ wsV own index y.cls y ws, w.before args s = true := fun w h => ht w (hT w h).1
  have hG : GoodIn Ts ws := fun w h => hT w (by unfold wsV; exact List.mem_append_right _ h)
  have hc : Cond.codeWith y bytes maxL ret hh ∈ ws := by rw [hw]; exact List.mem_cons_self
  refine ⟨⟨hrc, hrs, hR.1, hR.2, pay_in ht hG, hc⟩, ht _ (hG _ hc).1, ok _ (by simp [wsV]), ⟨hd.1, hd.2.1⟩, fun sig h => ?_, ok _ (by simp [wsV]), ok _ (by simp [wsV]), ok _ (by simp [wsV])⟩
  have h2 := hd.2.2
  rw [h] at h2
  exact (Option.some.inj h2).symm
theorem runVW {y : MethodName} {bytes cc : ByteArray} {maxL nL mc ms n index : Nat} {ret : Option FieldType} {hh : List (Nat × Nat × Nat × Nat)} {ws : List Cond} {rm : Room} {Pc : Array Value → State → Prop} {Qc : Array Value → State → Outcome → State → Prop} {free : Addr → Prop} {Ts : List Cond} {own C : String} {b : Addr} {As rest : List Value} {g : JFrame}
    (S : CallFix p m c cc nL s args Ts own) (hM : Met l y ws rm Pc Qc mc ms free) (cw : CallH R s args own C index y bytes maxL ret hh ws rm mc ms n) (hp : PreV s H C b Pc As)
    (hg : g.method = m) (hn : As.length = n) (hsize : g.locals.size = nL) (hstack : g.stack = As.reverse ++ .ref b :: rest) (hW : 2 * g.monitorRoom + (rest.map fun v => v.category).sum ≤ 8) (hdg : decode cc g.pc = .ok (.invokevirtual index, 3)) (hf : cells + mc ≤ R.cells ∧ slots + ms ≤ R.slots) :
    va_Run p l e R s m args below meth c H locs cells slots mc ms g rest (Qc (Value.ref b :: As).toArray) free := by
  obtain ⟨⟨hrc, hrs, hfr, hlo, hws, hcw⟩, hcode, hini, hy, hlen, hl, hin, hse⟩ := cw
  have hK : Back l R p e below s args y 3 8 (PreOf R mc ms Pc) (PostOf Qc mc ms free) := va_backW hM hp.1 hrc hrs hfr hlo hws hcw (fun a' U hW => word_at hW (Or.inl (by first | rfl | simp [Cond.onTables, Cond.keeps, Cond.steady])) hini)
  obtain ⟨hx, hb, hml, ho, -⟩ := S
  obtain ⟨-, ⟨cellB, hcB, hoB, hclB⟩, hPc⟩ := hp
  intro T hT X
  obtain ⟨mk, methM, hnamed, hmethM, hstM, habM⟩ := Cond.instanceMethod_spec hin
  obtain ⟨m9, methM', cM, hn9, hmethM', -, -, -, -, -, -, hsigM⟩ := Cond.codeWith_spec hcode
  cases hnamed.symm.trans hn9
  cases hmethM.symm.trans hmethM'
  obtain ⟨c2, r2, m2, q1, q2, q3, q4, kP, hkP, hkPi⟩ := Cond.selects_spec hse
  cases hclB.symm.trans q1
  cases (State.methodFound?_of_named hnamed hy).symm.trans q2
  cases hnamed.symm.trans q3
  have hselP : selectMethod e.platform s.vm cellB.cls mk = .method mk := by rw [Launch.admits_selectMethod X.admits]; exact q4
  obtain ⟨vm₁, X₁, hstep₁⟩ := X.invokevirtual hx ho hl hnamed hmethM hstM hkP hkPi hy (a := b) (cell := cellB) (by rw [hT]; exact hcB)
    (fun z h => by rw [h] at hoB; cases hoB) hselP hmethM habM hkP hkPi (g := g) hg (argsL := As) (rest := rest) (hn.trans (hlen _ hsigM)) hstack (by rw [hb]; exact hdg)
  obtain ⟨v, ⟨U', l2, c2', s2⟩, X', ⟨g', mk', t, L, e1, e2, hq, h1, hL, h2, h3⟩, hsteps⟩ := hK m meth c ⟨T.setVm vm₁, locs, cells, slots⟩ { g with stack := rest } (.invokevirtual index) mk (Value.ref b :: As).toArray X₁ hg (hsize.trans hml.symm) (by rw [hb]; exact hdg) hW (X₁.named hnamed) ⟨hf.1, hf.2, hPc (T.setVm vm₁) hT X₁.warmed⟩
  dsimp only [Pt.U, Pt.locs, Pt.cells, Pt.slots] at X' e1 e2 h1 h2 h3 hsteps
  subst h1; subst h2; subst h3
  exact ⟨v, (T.setVm vm₁).calling g' mk' (Value.ref b :: As).toArray, t, U', L, hT, X', hL, e1, e2, hq, fun target h => hstep₁ _ fun acts => by rw [doInvoke_state]; exact hsteps.trans h⟩
/-- the only handler of a method takes what was thrown; its class' entry may be cold or warm -/
theorem catch1 {T : State} (X : Stand p l e R s m args below meth c T locs cells slots) {x : Addr} {g : JFrame} (hg : g.method = m) {own name : String} (hown : s.vm.findClass own = some m.cls) {en : ExceptionTableEntry} (htab : c.exceptionTable.toList = [en]) (hcov : covers en g.pc = true) (h0 : en.catchType ≠ 0) (hlink : (Cond.classLink own en.catchType name).before args s = true) {cT : ClassId} (hcT : s.vm.findClass name = some cT) {cell : Cell} (hcell : T.heap[x]? = some cell) (hobj : cell.vm.isStatics = false) (hfit : s.vm.assignable cell.cls cT = true) :
    ∃ vm2, Stand p l e R s m args below meth c (T.setVm vm2) locs cells slots ∧ ∀ target, Steps p.tables e below ((T.setVm vm2).setTop { g with pc := en.handlerPc, stack := [.ref x] }) target → Steps p.tables e below ((T.setTop g).pushFrame (.throwing x)) target := by
  subst hg
  obtain ⟨cU, hcU, hcl⟩ := Cond.classLink_spec hown hlink e.platform (by rw [X.admits.platform])
  cases hcT.symm.trans hcU
  obtain ⟨dk, _, _, kt, hd, _, _, _, _, hkt, _, hopen⟩ := hcl.here
  have hal := X.warmed.alike
  have hW2 : s.WarmedH (T.vm.noted g.method.cls en.catchType (.cls cT)) := X.warmed.noted hd hopen (State.rightAt_cls hcl)
  have al2 := hW2.alike
  have hlkT := X.warmed.classLinks hcl
  generalize hvm2 : T.vm.noted g.method.cls en.catchType (.cls cT) = vm2 at hW2 al2
  obtain ⟨kx, hkx⟩ := Vm.classAt_of_assignable hfit ⟨kt, hkt⟩
  obtain ⟨kx2, hkx2, -⟩ := al2.2.2 _ _ hkx
  obtain ⟨kt2, hkt2, -⟩ := al2.2.2 _ _ hkt
  have hfit2 : vm2.assignable cell.cls cT = true := by rw [al2.assignable]; exact hfit
  refine ⟨vm2, X.noted hW2, fun target hrest => ?_⟩
  obtain ⟨hgo, hin⟩ := X.here.throwing x
  refine Steps.head hgo hin ?_
  have hmeth : ((T.setTop g).pushFrame (.throwing x)).vm.method? g.method = some meth := by rw [throwing_vm]; exact X.method'
  have hheap : ((T.setTop g).pushFrame (.throwing x)).heap[x]? = some cell := by rw [throwing_heap]; exact hcell
  have hvmS : ((T.setTop g).pushFrame (.throwing x)).vm = T.vm := throwing_vm T g x
  have hns : ∀ k, cell.vm ≠ .statics k := fun k => VmData.ne_statics_of hobj k
  rw [stepThread_throwing (frames_entered X.here.top _)]
  generalize hSS : (T.setTop g).pushFrame (.throwing x) = SS at hmeth hheap hvmS
  have hlkS : SS.vm.ClassLinks e.platform g.method.cls en.catchType cT := by rw [hvmS]; exact hlkT
  obtain ⟨hop, hst⟩ := (resolveClass_links e.toSetting hlkS).op (op := VmOp.resolveClass g.method.cls en.catchType) rfl
  rw [show SS.vm.noted g.method.cls en.catchType (.cls cT) = vm2 by rw [hvmS]; exact hvm2] at hst
  have hland := VmOp.lands_eq hst (by rw [← hvm2, Vm.size_noted, hvmS]; exact Nat.le_refl _)
  have hsearch : ∀ (Q' : Handler → Pre) (E : CtlPost) (d : Bool) (acts : List Action), Sem.wp (findHandler g x) Q' E e d acts SS ↔ Q' (.found en.handlerPc) d acts (SS.setVm vm2) := by
    intro Q' E d acts
    have hcov : (decide (en.startPc ≤ g.pc) && decide (g.pc < en.endPc)) = true := hcov
    rw [W.findHandler_eq hmeth X.code, htab]
    simp [findHandler.go, hcov, h0, hop, hland, hheap, hns, hkx2, hkt2, hfit2, VmOp.dirties, VmOp.acts]
  have hone : (stepThrowing e SS x (.java g :: T.frames.tail)).1 = (SS.setVm vm2).setFrames (.java { g with pc := en.handlerPc, stack := [.ref x] } :: T.frames.tail) := by
    simp only [stepThrowing, searchFrame, vmDo]
    generalize hgo2 : Sem.go _ e false [] SS = res
    obtain ⟨as, rfl, -⟩ := Sem.eq_ok_of hgo2 (a := Handler.found en.handlerPc) (s' := SS.setVm vm2) (acts' := []) (by simp [hsearch])
    rfl
  rw [hone, ← hSS]
  obtain ⟨g₀, hg0⟩ := Option.isSome_iff_exists.mp X.here.top
  obtain ⟨r, hr⟩ := State.topJava?_eq_some.mp hg0
  have hr2 : (T.setVm vm2).frames = .java g₀ :: r := hr
  rw [State.setTop_of_frames _ hr2] at hrest
  have key : ∀ (U : State) (A B C : List Frame), (((U.setFrames A).setFrames B).setVm vm2).setFrames C = (U.setVm vm2).setFrames C := fun U A B C => by
    rw [State.setFrames_setFrames]
    show ((U.setVm vm2).setFrames B).setFrames C = _
    rw [State.setFrames_setFrames]
  rw [hr, List.tail_cons, State.pushFrame, State.setTop_of_frames _ hr, key]
  exact hrest
/-- a call that throws, caught by the only handler -/
theorem wcatch {pc mc ms : Nat} {ls : Array Slot} {rest st0 : List Value} {Qa : State → Addr → State → Prop} {free : Addr → Prop} {own name : String} {cT : ClassId} {en : ExceptionTableEntry}
    (hr : RunT p l e R s m args below meth c H locs cells slots mc ms (F0 m pc ls st0) rest Qa free) (hown : s.vm.findClass own = some m.cls) (htab : ∀ X : meth.code = some c, c.exceptionTable.toList = [en]) (hcov : covers en pc = true) (h0 : en.catchType ≠ 0) (hlink : (Cond.classLink own en.catchType name).before args s = true) (hcT : s.vm.findClass name = some cT)
    (hq : ∀ (x : Addr) (st₀ t : State), st₀.heap = H → Qa st₀ x t → ∃ cell : Cell, t.heap[x]? = some cell ∧ cell.vm.isStatics = false ∧ s.vm.assignable cell.cls cT = true)
    (kk : ∀ (x : Addr) (st₀ t : State) (L : List Loc), st₀.heap = H → Qa st₀ x t → (∀ q ∈ L, free q.base) → W p l e R s m args below meth c t.heap (locs ++ L) (cells + mc) (slots + ms) Q (F0 m en.handlerPc ls [.ref x])) : W p l e R s m args below meth c H locs cells slots Q (F0 m pc ls st0) := by
  intro T hT X
  obtain ⟨x, st₀, t, B, L, g0, X', hL, e1, e2, hQ, st⟩ := hr T hT X
  obtain ⟨cell, c1, c2, c3⟩ := hq x st₀ t g0 hQ
  obtain ⟨vm', XV, st2⟩ := catch1 X' (x := x) (g := { F0 m pc ls st0 with stack := rest }) rfl hown (htab X.code) hcov h0 hlink hcT (cell := cell) (by rw [e1]; exact c1) c2 c3
  obtain ⟨t2, a1, b1⟩ := kk x st₀ t L g0 hQ hL (B.setVm vm') (by show B.heap = t.heap; exact e1) XV
  exact ⟨t2, st.trans (st2 _ a1), b1⟩
end RVW
theorem WM.lo {D : va_G} {dA : WK} {a a1 : Ix → Nat} {sz n : Nat} {L : Nat → Nat → Prop} {F : St} {H : Heap} (h : WM D dA a n L a1 F H) (hA : ∀ q, wA dA a n q → wA dA a sz q) : WM D dA a sz L a1 F H := ⟨h.1, h.2.1, h.2.2.1, h.2.2.2.1, fun q hq => hA q (h.2.2.2.2 q hq)⟩
theorem wLBlind {D : va_G} {dA : WK} {a : Ix → Nat} {F : St} {sz : Nat} {av : List Value} : FrameBlind (wPreL D dA a F sz av) := fun _ U g mk q => by
  obtain ⟨q0, q1, qP, qK, qC, qL⟩ := q
  exact ⟨q0, q1, qP, KK.same (s := U) (U := U.calling g mk _) qK rfl rfl, CK.same (s := U) (U := U.calling g mk _) qC rfl, lC.same (s := U) (U := U.calling g mk _) qL rfl⟩
theorem wpreL {s : State} {D : va_G} {dA : WK} {a : Ix → Nat} {F : St} {H : Heap} {locs : List Loc} (hK : KK D dA a s) (hC : CK D dA s) (hL : lC s) (hW : wS D dA a s F H locs) {k i j : Nat} (hv : wVd dA (k, i, j)) {C : String} {T : u_T} {N ci : Nat} {fs : List Value} (he : wc dA a F k i j = .inr (ci, fs)) (hc : vwCl[ci]? = some (C, T, N)) (As : List Value) : PreV s H C (a (k, i, j)) (wPreL D dA a F H.size (.ref (a (k, i, j)) :: As)) As := ⟨wLBlind, wrecv hK hW hv he hc, fun U hU hWm => ⟨rfl, by rw [hU], by rw [hU]; exact hW.1, KK.go hK.1 hK.2.1 hK.2.2 hW.2.2 hWm hU hW.2.1, hC.warm hWm, hL.warm hWm⟩⟩
abbrev hhF : List (Nat × Nat × Nat × Nat) := [(0, 8, 9, 119)]
theorem yd_X0_fault : yX0_fault.cls = RX0 ∧ yX0_fault.cls ≠ "java/lang/invoke/MethodHandle" ∧ yX0_fault.cls ≠ "java/lang/invoke/VarHandle" ∧ (parseMethodDescriptor yX0_fault.desc).map (fun d => d.parameters.length) = some 0 := by decide +kernel
set_option maxHeartbeats 8000000 in
theorem met_X0_fault (l : Launch) {D : va_G} {dA : WK} {a : Ix → Nat} (hD : wD D dA a) {F : St} {Fz : St} {rz : Int32} (h : fn_X0_fault F = some (Fz, rz)) (sz : Nat) : Met l yX0_fault (wsW_ yX0_fault cX0_fault 2 (some .int) hhF) (rmC 9 192 2416 15402) (wPreL D dA a F sz [.ref (a (0, 0, 0))]) (wQMi D dA a sz Fz rz) 2416 15402 (wA dA a sz) := by
  refine va_MetW (cc := cX0_fault) (maxL := 2) (ret := some .int) (hh := hhF) (by decide) rfl ?_
  intro p e s m args below meth c s₁ B hml hv
  obtain ⟨rfl, hsz, hP, hK, hC, hL⟩ := hv
  have hts0 := atoms_spec (ws := wsW_ yX0_fault cX0_fault 2 (some .int) hhF) B.pre
  have hts : ∀ w ∈ lw_all, w.before [Value.ref (a (0, 0, 0))].toArray s = true := fun w h => hts0 w (List.mem_cons_of_mem _ h)
  have htab : meth.code = some c → c.exceptionTable.toList = [{ startPc := 0, endPc := 8, handlerPc := 9, catchType := 119 }] := fun hcd => by
    obtain ⟨m9, meth9, c9, hn9, h1, h2, -, -, h3, -, -, -⟩ := Cond.codeWith_spec (hts0 _ List.mem_cons_self)
    cases B.named.symm.trans hn9
    cases B.method.symm.trans h1
    cases hcd.symm.trans h2
    have h4 := table_eq c.exceptionTable.toList
    rw [h3] at h4
    exact h4.symm
  subst hsz
  rw [lg_entry_eq]
  have S : CallFix p m c cX0_fault 2 s [Value.ref (a (0, 0, 0))].toArray lw_all "WaterGrounds" := ⟨B.exec, B.bytes, hml, findClass_of_methodNamed B.named, hts⟩
  have hr : meth.sig.returnType = some .int := B.returns
  have hlk : meth.locks = false := B.notSynchronized
  have hl := lv_entry (n := 2) [Value.ref (a (0, 0, 0))] (Nat.le_of_ble_eq_true rfl)
  generalize (lg_sl [Value.ref (a (0, 0, 0))] ++ List.replicate (2 - (lg_sl [Value.ref (a (0, 0, 0))]).length) Slot.unset).toArray = ls at hl ⊢
  have hl : lv_has ls 2 [(0, .ref (a (0, 0, 0)))] := hl
  have hx := S.1
  have hb := S.2.1
  generalize ([Value.ref (a (0, 0, 0))] : List Value).toArray = av at S ⊢
  have hv0 : wVd dA (0, 0, 0) := ⟨⟨by decide, by decide⟩, wal_s rfl⟩
  have hv16 : wVd dA (16, 0, 0) := ⟨⟨by decide, by decide⟩, wal_s rfl⟩
  have hW := wS_in hP
  show W p l e (rmC 9 192 2416 15402) s m av below meth c s.heap [] 0 0 (MQ below (wQMi D dA a s.heap.size Fz rz) av s 2416 15402 (wA dA a s.heap.size)) (F0 m 0 ls [])
  obtain ⟨H, eH⟩ : ∃ z, z = s.heap := ⟨_, rfl⟩
  obtain ⟨locs, eL⟩ : ∃ z : List Loc, z = [] := ⟨_, rfl⟩
  have hW : wS D dA a s F H locs := by rw [eH, eL]; exact hW
  refine wr_in eH eL ?_
  clear eH eL
  refine lv_aload_n hx hb dX0_fault_0 rfl (lv_at hl 0 rfl) ?_
  refine gf_0_21 S hK hW hv0 q326 dX0_fault_1 ?_
  unfold fn_X0_fault at h
  cases hf : fn_X4_read F with
  | none => rw [hf] at h; cases h
  | some y =>
    obtain ⟨F1, ro⟩ := y
    rw [hf] at h
    cases ro with
    | some u =>
      have h : some (F1, (-1 : Int32)) = some (Fz, rz) := h
      cases h
      refine va_callv (va_runV (As := []) (rest := []) S (met_X4_read l hD hf H.size) (cwV 0 S.2.2.2.2 (lw_V q401 q402 q403 q59 q404) rfl rfl rfl yd_X4_read ⟨Nat.le_of_ble_eq_true rfl, Nat.le_of_ble_eq_true rfl⟩) (wpreL hK hC hL hW hv16 rfl rfl _) rfl rfl hl.1 rfl (lv_room (Nat.le_of_ble_eq_true rfl)) dX0_fault_4 ⟨Nat.le_of_ble_eq_true rfl, Nat.le_of_ble_eq_true rfl⟩) hW.2.1 (fun _ _ h => hW.2.2 _ h) (fun _ h => hW.2.2 _ h) (fun u t H1 locs1 ht _ _ hB hz _ hS => ?_)
      have hB : WM D dA a H.size u.1 u.2 Fz t.heap := hB
      rw [ht] at hB
      refine lv_iconst (v := (-1 : Int32)) hx hb dX0_fault_7 (by decide) ?_
      exact W.iret S.1 S.2.1 hr (fun t2 ht2 _ => ⟨⟨-1, u, rfl, rfl, by show WM D dA a s.heap.size u.1 u.2 Fz t2.heap; rw [ht2]; exact hB.lo hW.2.2⟩, hS.F ht2⟩) hS.2.2 dX0_fault_8 hlk
    | none =>
      have h : some (F1, F1 16 3 0 0) = some (Fz, rz) := h
      cases h
      refine wcatch (en := { startPc := 0, endPc := 8, handlerPc := 9, catchType := 119 }) (cT := D.1 9) (runVT (As := []) (rest := []) S (met_X4_read l hD hf H.size) (cwV 0 S.2.2.2.2 (lw_V q401 q402 q403 q59 q404) rfl rfl rfl yd_X4_read ⟨Nat.le_of_ble_eq_true rfl, Nat.le_of_ble_eq_true rfl⟩) (wpreL hK hC hL hW hv16 rfl rfl _) rfl rfl hl.1 rfl (lv_room (Nat.le_of_ble_eq_true rfl)) dX0_fault_4 ⟨Nat.le_of_ble_eq_true rfl, Nat.le_of_ble_eq_true rfl⟩) S.2.2.2.1 htab rfl (by decide) (S.2.2.2.2 _ q400) (hK.1.1 9 _ rfl).2.1 (fun x st₀ t _ hQ => ?_) (fun x st₀ t L g0 hQ hL2 => ?_)
      · obtain ⟨r, hr', cell, q1, q2, q3, -⟩ := hQ.2.2.1
        refine ⟨cell, q1, by rw [q3]; rfl, ?_⟩
        rw [q2]
        exact va_asg _ _
      · obtain ⟨⟨L1, a1, hM⟩, g2, g3, g4⟩ := hQ
        have g4 : st₀.heap.size ≤ t.heap.size ∧ ∀ q : Nat, q < st₀.heap.size → ¬ wA dA a H.size q → t.heap[q]? = st₀.heap[q]? := g4
        rw [g0] at g4
        have hS : va_S (wA dA a s.heap.size) s.heap t.heap (locs ++ L) := ⟨Nat.le_trans hW.2.1.1 g4.1, fun q h1 h2 => (g4.2 q (Nat.lt_of_lt_of_le h1 hW.2.1.1) (fun h3 => h2 (hW.2.2 q h3))).trans (hW.2.1.2.1 q h1 h2), fun q hq => by
          rcases List.mem_append.mp hq with hq | hq
          · exact hW.2.1.2.2 q hq
          · exact hW.2.2 _ (hL2 q hq)⟩
        have hPx : va_P D vwCl [(x, .inr (9, fE dA (Fz 16 3 0 0)))] t.heap := fun n y hy => by
          cases n with
          | zero => cases hy; exact g3
          | succ n => cases hy
        refine lv_astore_n (lv' := [(1, .ref x), (0, .ref (a (0, 0, 0)))]) hx hb dX0_fault_9 rfl hl (by decide) rfl (fun ls hl => ?_)
        refine lv_aload_n hx hb dX0_fault_10 rfl (lv_at hl 0 rfl) ?_
        refine va_getN (ws := [(x, .inr (9, fE dA (Fz 16 3 0 0)))]) S.1 S.2.1 S.2.2.2.2 in_X9 S.2.2.2.1 hK.1 hPx 0 rfl rfl 6 (by decide) (hK.nw q535 rfl) (fun _ h => h) rfl dX0_fault_11 ?_
        exact W.iret S.1 S.2.1 hr (fun t2 ht2 _ => ⟨⟨Fz 16 3 0 0, (L1, a1), rfl, rfl, by show WM D dA a s.heap.size L1 a1 Fz t2.heap; rw [ht2]; exact hM.lo hW.2.2⟩, hS.F ht2⟩) hS.2.2 dX0_fault_14 hlk
