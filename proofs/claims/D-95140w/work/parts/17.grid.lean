/-! GRIDS: multianewarray of two dimensions, as one row -/
set_option maxRecDepth 100000
section MG
variable {p : Program} {l : Launch} {e : Env} {R : Room} {s : State} {m : MethodId} {args : Array Value} {below : List Frame} {meth : Method} {c : Code} {T : State} {locs : List Loc} {cells slots : Nat}
/-- what the outer array holds when i rows are laid -/
def gOut (h0 i : Nat) : Nat → Value := fun j => if j < i then .ref (h0 + 1 + j) else .null
theorem gOut_s (h0 i : Nat) : updV (gOut h0 i) i (.ref (h0 + 1 + i)) = gOut h0 (i + 1) := by
  funext j
  unfold updV gOut
  by_cases h : j = i
  · subst h; simp
  · by_cases h2 : j < i
    · rw [if_neg h, if_pos h2, if_pos (by omega)]
    · rw [if_neg h, if_neg h2, if_neg (by omega)]
/-- the point when i rows are laid -/
def gPt (p : Program) (l : Launch) (e : Env) (R : Room) (s : State) (m : MethodId) (args : Array Value) (below : List Frame) (meth : Method) (c : Code) (T : State) (locs : List Loc) (cells slots : Nat) (vm₁ : Vm) (cA comp : ClassId) (N M : Nat) (dv : Value) (i : Nat) (U : State) : Prop :=
  ∃ L : List Loc, (∀ q ∈ L, q.base = T.heap.size) ∧ Stand p l e R s m args below meth c U (locs ++ L) (cells + 1 + i) (slots + N + i * M) ∧ U.vm = vm₁ ∧ U.heap.size = T.heap.size + 1 + i ∧ U.heap[T.heap.size]? = some (arrV cA N (gOut T.heap.size i)) ∧ (∀ q, q < T.heap.size → U.heap[q]? = T.heap[q]?) ∧ ∀ j, j < i → U.heap[T.heap.size + 1 + j]? = some (arrV comp M (fun _ => dv))
theorem heapAt_push_lt {U : State} {x : Cell} {q : Nat} (h : q < U.heap.size) : (U.pushCell x).heap[q]? = U.heap[q]? := by
  show (U.heap.push x)[q]? = _
  rw [Array.getElem?_push, if_neg (Nat.ne_of_lt h)]
theorem heapAt_push_eq {U : State} {x : Cell} : (U.pushCell x).heap[U.heap.size]? = some x := by
  show (U.heap.push x)[U.heap.size]? = _
  rw [Array.getElem?_push_size]
/-- one row more -/
theorem gPt_next {vm₁ : Vm} {cA comp : ClassId} {N M : Nat} {dv : Value} {i : Nat} {U : State} (h : gPt p l e R s m args below meth c T locs cells slots vm₁ cA comp N M dv i U) :
    gPt p l e R s m args below meth c T locs cells slots vm₁ cA comp N M dv (i + 1) ((U.pushCell (arrV comp M (fun _ => dv))).setCell T.heap.size (arrV cA N (gOut T.heap.size (i + 1)))) := by
  obtain ⟨L, hL, X, hv, hz, ho, hq, hr⟩ := h
  have hlt : T.heap.size < U.heap.size := by omega
  have ho2 : (U.pushCell (arrV comp M (fun _ => dv))).heap[T.heap.size]? = some (arrV cA N (gOut T.heap.size i)) := by rw [heapAt_push_lt hlt]; exact ho
  have X2 := (X.pushed (arrV comp M (fun _ => dv))).stored ho2 i (.ref (T.heap.size + 1 + i))
  rw [arrV_store, gOut_s, arrV_size] at X2
  have hz2 : (U.pushCell (arrV comp M (fun _ => dv))).heap.size = U.heap.size + 1 := size_pushCell _ _
  have ne : ∀ q, q ≠ T.heap.size → ((U.pushCell (arrV comp M (fun _ => dv))).setCell T.heap.size (arrV cA N (gOut T.heap.size (i + 1)))).heap[q]? = (U.pushCell (arrV comp M (fun _ => dv))).heap[q]? := fun q hq => heapAt_setCell_ne _ (Ne.symm hq)
  refine ⟨L ++ [⟨T.heap.size, i⟩], ?_, ?_, hv, ?_, heapAt_setCell_self _ (Nat.lt_of_lt_of_le hlt (by rw [hz2]; exact Nat.le_succ _)), fun q g => ?_, fun j g => ?_⟩
  · intro q g
    rcases List.mem_append.mp g with g | g
    · exact hL q g
    · rw [List.mem_singleton.mp g]
  · rw [← List.append_assoc, show cells + 1 + (i + 1) = cells + 1 + i + 1 from rfl, show slots + N + (i + 1) * M = slots + N + i * M + M by rw [Nat.succ_mul]; omega]
    exact X2
  · rw [size_setCell, hz2, hz]; omega
  · rw [ne q (by omega), heapAt_push_lt (by omega)]
    exact hq q g
  · rw [ne _ (by omega)]
    by_cases hj : j < i
    · rw [heapAt_push_lt (by omega)]
      exact hr j hj
    · have e1 : T.heap.size + 1 + j = U.heap.size := by omega
      rw [e1]
      exact heapAt_push_eq
theorem ref_fits {t : FieldType} (h : t.isReference = true) {v : Value} (hv : v = .null ∨ ∃ a, v = .ref a) : fits t v = true := by
  rcases hv with rfl | ⟨a, rfl⟩ <;> cases t <;> first | rfl | (simp [FieldType.isReference] at h; done)
/-- the state when i rows are laid -/
def gSt (U0 : State) (h0 : Nat) (cA comp : ClassId) (N M : Nat) (dv : Value) : Nat → State
  | 0 => U0
  | i + 1 => ((gSt U0 h0 cA comp N M dv i).pushCell (arrV comp M (fun _ => dv))).setCell h0 (arrV cA N (gOut h0 (i + 1)))
theorem gSt_pt {vm₁ : Vm} {cA comp : ClassId} {N M : Nat} {dv : Value} {U0 : State} (h : gPt p l e R s m args below meth c T locs cells slots vm₁ cA comp N M dv 0 U0) : ∀ i, gPt p l e R s m args below meth c T locs cells slots vm₁ cA comp N M dv i (gSt U0 T.heap.size cA comp N M dv i)
  | 0 => h
  | i + 1 => gPt_next (gSt_pt h i)
/-- the rows one behind another, under a frame f that lies on top -/
theorem g_loop {E : CtlPost} {d : Bool} {acts : List Action} {f : JFrame} {vm₁ : Vm} {cA comp cc : ClassId} {kA kC : Class} {t0 ty : FieldType} {N : Nat} {mm : Int32} {U0 : State}
    (hkA : vm₁.classes[cA]? = some kA) (hkindA : kA.kind = .array comp t0) (href : t0.isReference = true) (hkC : vm₁.classes[comp]? = some kC) (hkindC : kC.kind = .array cc ty) (hm : ¬ mm < 0)
    (hl2 : ¬ mm.toNatClampNeg > e.platform.arrayLengthLimit) (hh2 : ¬ mm.toNatClampNeg * componentBytes ty > e.platform.maxHeapBytes) (hdf : fits ty (defaultValue ty) = true)
    (hcl : cells + (1 + N) ≤ R.cells) (hsl : slots + (N + N * mm.toNatClampNeg) ≤ R.slots)
    (h0 : gPt p l e R s m args below meth c T locs cells slots vm₁ cA comp N mm.toNatClampNeg (defaultValue ty) 0 U0)
    {Q : PUnit → Pre} (hq : ∀ d' acts', Q PUnit.unit d' acts' ((gSt U0 T.heap.size cA comp N mm.toNatClampNeg (defaultValue ty) N).setTop f)) :
    _root_.Jvm.Sem.wp (forIn (List.range' 0 N 1) PUnit.unit (fun i _ => do writeLoc T.heap.size i (.ref (← multianewarray.make comp [mm])); Pure.pure (ForInStep.yield PUnit.unit))) Q E e d acts (U0.setTop f) := by
  refine wp_forIn_inv (fun rest s' => ∃ i, i ≤ N ∧ rest = List.range' i (N - i) ∧ s' = (gSt U0 T.heap.size cA comp N mm.toNatClampNeg (defaultValue ty) i).setTop f) _ _ ⟨0, Nat.zero_le _, rfl, rfl⟩ ?_ ?_
  · rintro x rest s' d' acts' Q' ⟨i, hi, hl, rfl⟩ hnext
    have hlt : i < N := by
      rcases Nat.lt_or_ge i N with h | h
      · exact h
      · rw [show N - i = 0 by omega] at hl
        cases hl
    rw [show N - i = (N - (i + 1)) + 1 by omega, List.range'_succ] at hl
    obtain ⟨rfl, hrest⟩ := List.cons.inj hl
    obtain ⟨L, hL, X, hv, hz, ho, hold, hr⟩ := gSt_pt h0 x
    have hnx : (gSt U0 T.heap.size cA comp N mm.toNatClampNeg (defaultValue ty) (x + 1)) = ((gSt U0 T.heap.size cA comp N mm.toNatClampNeg (defaultValue ty) x).pushCell (arrV comp mm.toNatClampNeg (fun _ => defaultValue ty))).setCell T.heap.size (arrV cA N (gOut T.heap.size (x + 1))) := rfl
    generalize gSt U0 T.heap.size cA comp N mm.toNatClampNeg (defaultValue ty) x = U at X hv hz ho hold hr hnx
    have hmul : x * mm.toNatClampNeg + mm.toNatClampNeg ≤ N * mm.toNatClampNeg := by
      rw [← Nat.succ_mul]; exact Nat.mul_le_mul_right _ hlt
    obtain ⟨r1, r2⟩ := X.roomAbove (a := 1) (b := mm.toNatClampNeg) (by omega) (by omega)
    have e1 : (U.setTop f).pushCell (arrV comp mm.toNatClampNeg (fun _ => defaultValue ty)) = (U.pushCell (arrV comp mm.toNatClampNeg (fun _ => defaultValue ty))).setTop f := rfl
    have hlt0 : T.heap.size < U.heap.size := by omega
    rw [multianewarray.make]
    simp only [wp_bind', W.ite, hm, if_false, wp_pure', W.theClass, State.vm_setTop, hv, hkC, hkindC, Option.some.injEq, exists_eq_left']
    refine W.newArray_of (by rw [State.vm_setTop, hv]; exact hkC) hkindC hl2 hh2 (by show U.heap.size < _; omega) (by show U.slotsUsed + _ ≤ _; omega) hdf (fun acts2 => ?_)
    simp only [wp_bind', W.writeLoc, wp_pure']
    rw [arrV_new, e1]
    refine ⟨arrV cA N (gOut T.heap.size x), ?_, (by intro h; cases h), (by rw [arrV_size]; exact hlt), ?_, hnext _ _ _ ⟨x + 1, hlt, hrest, ?_⟩⟩
    · show (U.pushCell _).heap[T.heap.size]? = _
      rw [heapAt_push_lt hlt0]; exact ho
    · show State.fitsSlot _ cA .none _ _ = true
      have hc3 : U.vm.classes[cA]? = some kA := by rw [hv]; exact hkA
      have h9 := ref_fits href (v := .ref U.heap.size) (Or.inr ⟨_, rfl⟩)
      simp [State.fitsSlot, State.slotType?, hc3, hkindA, h9]
    · rw [hnx, arrV_store, State.setCell_setTop]
      have hz3 : (U.setTop f).heap.size = T.heap.size + 1 + x := hz
      rw [hz3, gOut_s]
  · rintro s' d' acts' ⟨i, hi, hl, rfl⟩
    have hiN : i = N := by
      rcases Nat.lt_or_ge i N with h | h
      · rw [show N - i = (N - (i + 1)) + 1 by omega, List.range'_succ] at hl
        cases hl
      · omega
    subst hiN
    exact hq d' acts'
/-- multianewarray of n rows of k places each -/
theorem multi2 (X : Stand p l e R s m args below meth c T locs cells slots) (hexec : p.tables.exec = Jvm.exec) {own nm : String} {index : Nat} {t0 ty : FieldType} {cA comp cc : ClassId} {kA kC : Class}
    (hown : s.vm.findClass own = some m.cls) (hclink : (Cond.classLink own index nm).before args s = true) (hfA : s.vm.findClass nm = some cA) (hkA : s.vm.classes[cA]? = some kA) (hkindA : kA.kind = .array comp t0) (href : t0.isReference = true) (hcb : componentBytes t0 = 4) (hkC : s.vm.classes[comp]? = some kC) (hkindC : kC.kind = .array cc ty)
    {g : JFrame} (hg : g.method = m) (hdg : decode c.code g.pc = .ok (.multianewarray index 2, 4)) {n k : Int32} {rest : List Value} (hstack : g.stack = .int k :: .int n :: rest) (hn : ¬ n < 0) (hk : ¬ k < 0) (hb1 : n.toNatClampNeg * 4 ≤ 536870912) (hb2 : k.toNatClampNeg * componentBytes ty ≤ 536870912) (hb3 : k.toNatClampNeg ≤ 536870912) (hdf : fits ty (defaultValue ty) = true)
    (hcl : cells + (1 + n.toNatClampNeg) ≤ R.cells) (hsl : slots + (n.toNatClampNeg + n.toNatClampNeg * k.toNatClampNeg) ≤ R.slots) {target : State → Prop}
    (kk : ∀ (vm₁ : Vm) (U : State), gPt p l e R s m args below meth c T locs cells slots vm₁ cA comp n.toNatClampNeg k.toNatClampNeg (defaultValue ty) n.toNatClampNeg U → ∃ t, Steps p.tables e below (U.setTop { g with pc := g.pc + 4, stack := .ref T.heap.size :: rest }) t ∧ target t) :
    ∃ t, Steps p.tables e below (T.setTop g) t ∧ target t := by
  subst hg
  have hpl : e.platform.magicAccessors = ({} : Platform).magicAccessors := by rw [X.admits.platform]
  obtain ⟨c0, hfc0, hcls⟩ := Cond.classLink_spec hown hclink e.platform hpl
  cases hfA.symm.trans hfc0
  obtain ⟨hg₁, hwarm₁, hready₁⟩ := State.classEntry (e := e) X.warmed hcls
  generalize T.vm.noted g.method.cls index (.cls cA) = vm₁ at hg₁ hwarm₁ hready₁
  have hal : s.vm.Alike vm₁ := hwarm₁.alike
  obtain ⟨kA₁, hkA₁, heA⟩ := hal.2.2 _ _ hkA
  obtain ⟨kC₁, hkC₁, heC⟩ := hal.2.2 _ _ hkC
  have hkindA₁ : kA₁.kind = .array comp t0 := by rw [heA]; exact hkindA
  have hkindC₁ : kC₁.kind = .array cc ty := by rw [heC]; exact hkindC
  have X₁ := X.noted hwarm₁
  obtain ⟨r1, r2⟩ := X.roomAbove (a := 1 + n.toNatClampNeg) (b := n.toNatClampNeg + n.toNatClampNeg * k.toNatClampNeg) hcl hsl
  have hl1 : ¬ n.toNatClampNeg > e.platform.arrayLengthLimit := by rw [Launch.admits_arrayLengthLimit X.admits]; omega
  have hh1 : ¬ n.toNatClampNeg * componentBytes t0 > e.platform.maxHeapBytes := by rw [Launch.admits_maxHeapBytes X.admits, hcb]; omega
  have hl2 : ¬ k.toNatClampNeg > e.platform.arrayLengthLimit := by rw [Launch.admits_arrayLengthLimit X.admits]; omega
  have hh2 : ¬ k.toNatClampNeg * componentBytes ty > e.platform.maxHeapBytes := by rw [Launch.admits_maxHeapBytes X.admits]; omega
  have X2 := X₁.pushed (arrV cA n.toNatClampNeg (gOut T.heap.size 0))
  rw [arrV_size] at X2
  have e0 : (fun _ => Value.null) = gOut T.heap.size 0 := by funext j; simp [gOut]
  have h0 : gPt p l e R s g.method args below meth c T locs cells slots vm₁ cA comp n.toNatClampNeg k.toNatClampNeg (defaultValue ty) 0 ((T.setVm vm₁).pushCell (arrV cA n.toNatClampNeg (gOut T.heap.size 0))) := by
    refine ⟨[], (fun q h => by cases h), ?_, rfl, size_pushCell _ _, heapAt_push_eq (U := T.setVm vm₁), fun q hq => heapAt_push_lt (U := T.setVm vm₁) hq, fun j h => absurd h (Nat.not_lt_zero _)⟩
    rw [List.append_nil, Nat.zero_mul, Nat.add_zero]
    exact X2
  obtain ⟨t, a1, b1⟩ := kk vm₁ _ (gSt_pt h0 n.toNatClampNeg)
  refine ⟨t, ?_, b1⟩
  have hfind : ([k].find? (· < 0)) = none := by simp [hk]
  jvm_step X.here [hexec, hdg]
  simp only [multianewarray.sem, wp_bind', W.resolveClassAt_links (State.method?_setTop g X.here.top) hg₁]
  rw [W.popN, if_neg (by decide)]
  refine ⟨g, State.topJava?_setTop' (s := T.setVm vm₁) g X.here.top, [.int n, .int k], rest, rfl, hstack, ?_⟩
  simp only [List.mapM_cons, List.mapM_nil, wp_bind', wp_pure']
  rw [multianewarray.make]
  have eS : ((T.setTop g).setVm vm₁).setTop { g with stack := rest } = (T.setVm vm₁).setTop { g with stack := rest } := by
    show ((T.setVm vm₁).setTop g).setTop _ = _
    rw [State.setTop_setTop]
  rw [eS]
  simp only [wp_bind', W.ite, hn, if_false, wp_pure', W.theClass, State.vm_setTop, State.vm_setVm, hkA₁, hkindA₁, Option.some.injEq, exists_eq_left']
  refine W.newArray_of (by rw [State.vm_setTop]; exact hkA₁) hkindA₁ hl1 hh1 (by show T.heap.size < _; omega) (by show T.slotsUsed + _ ≤ _; omega) (ref_fits href (Or.inl rfl)) (fun acts2 => ?_)
  simp only [hfind]
  rw [ite_self, wp_bind', Std.Legacy.Range.forIn_eq_forIn_range']
  have hsz : ([:n.toNatClampNeg] : Std.Legacy.Range).size = n.toNatClampNeg := by simp [Std.Legacy.Range.size]
  rw [hsz, arrV_new, e0]
  refine g_loop (U0 := (T.setVm vm₁).pushCell (arrV cA n.toNatClampNeg (gOut T.heap.size 0))) hkA₁ hkindA₁ href hkC₁ hkindC₁ hk hl2 hh2 hdf hcl hsl h0 (fun d' acts' => ?_)
  obtain ⟨L, hL, XF, -⟩ := gSt_pt h0 n.toNatClampNeg
  simp only [wp_bind', wp_pure', W.mark, W.pushRef, State.topJava?_setTop' _ XF.here.top, Option.some.injEq, exists_eq_left', State.setTop_setTop, State.heap_setTop]
  intro acts
  simp [jvm, XF.here.top]
  exact a1
end MG
