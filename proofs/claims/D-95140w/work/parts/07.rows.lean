/-! ROWS over the world: knowledge of the tables, a contract's start, getfield, putfield, arrays, calls -/
set_option maxRecDepth 100000
/-- the tables' words of a nest: they don't ride in lw_all -/
def isNw : Cond → Bool
  | .fieldLinkNest .. => true
  | .methodLinkNest .. => true
  | _ => false
def lw_nw : List Cond := lw_tbl.filter isNw
/-- the text constants: lengths, bytes, entries; the static arrays of numbers -/
def slen : List Nat := [3, 5, 4, 5, 5, 5, 4, 5, 5, 1, 4, 3, 4, 4, 5, 5, 0]
def sbyt : List (List Int32) := [[98, 101, 100], [115, 116, 117, 102, 102], [114, 97, 116, 101], [108, 111, 111, 115, 101], [115, 108, 97, 99, 107], [116, 105, 103, 104, 116], [112, 111, 117, 114], [115, 116, 105, 108, 108], [99, 104, 97, 114, 116], [59], [115, 105, 100, 101], [114, 117, 110], [109, 105, 108, 108], [119, 97, 114, 109], [103, 114, 97, 109, 115], [116, 105, 99, 107, 115], []]
def sref : List (String × Nat × String) := [("WaterGrounds$Reader", 105, "bed"), ("WaterGrounds$Reader", 111, "stuff"), ("WaterGrounds$Reader", 121, "rate"), ("WaterGrounds$Reader", 126, "loose"), ("WaterGrounds$Reader", 131, "slack"), ("WaterGrounds$Reader", 137, "tight"), ("WaterGrounds$Reader", 139, "pour"), ("WaterGrounds$Reader", 144, "still"), ("WaterGrounds$Reader", 149, "chart"), ("WaterGrounds$Reader", 183, ";"), ("WaterGrounds", 282, "side"), ("WaterGrounds", 283, "run"), ("WaterGrounds", 284, "mill"), ("WaterGrounds", 285, "warm"), ("WaterGrounds", 286, "grams"), ("WaterGrounds", 287, "ticks"), ("WaterGrounds$Fault", 1, "")]
def stn : List String := ["OF_STUFF", "OF_RATE", "OF_LOOSE", "OF_STILL", "LEAST", "MOST"]
def stlen : List Nat := [3, 3, 2, 0, 6, 6]
def stv : List (List Int32) := [[99, 99, 99], [100, 100, 100], [95, 9], [], [0, 0, 0, 0, 1, 1], [20, 999, 10, 100, 20, 60]]
/-- constants: what no cell in A holds, and nobody writes -/
def KT (A : Nat → Prop) (dA : WK) (U : State) (H : Heap) : Prop :=
  vk_S 17 slen sbyt dA.2.1 dA.2.2.1 A U H ∧ (∀ (i : Nat) (q : String × Nat × String), sref[i]? = some q → vk_R q.1 q.2.1 q.2.2 (dA.2.1 i) U) ∧
  va_Z "java/lang/String" "COMPACT_STRINGS" "Z" (.int 1) A U H ∧ va_Zq "jdk/internal/util/Preconditions" "SIOOBE_FORMATTER" "Ljava/util/function/BiFunction;" A U H ∧
  va_Zq "java/lang/Throwable" "UNASSIGNED_STACK" "[Ljava/lang/StackTraceElement;" A U H ∧ va_Zq "java/lang/Throwable" "SUPPRESSED_SENTINEL" "Ljava/util/List;" A U H ∧
  (∀ (i : Nat) (n : String), stn[i]? = some n → va_Z "WaterGrounds" n "[I" (.ref (dA.2.2.2.1 i)) A U H ∧ va_T .int (dA.2.2.2.1 i) (stlen.getD i 0) (fun j => .int ((stv.getD i []).getD j 0)) A U H) ∧
  va_Z "WaterGrounds" "ONES" "[Ljava/lang/String;" (.ref (dA.2.2.2.1 6)) A U H ∧ va_T (.object "java/lang/String") (dA.2.2.2.1 6) 6 (fun j => .ref (dA.2.1 (10 + j))) A U H
theorem KT.moved {A : Nat → Prop} {dA : WK} {u U : State} {H : Heap} (hvm : u.vm.Alike U.vm) (hR : ∀ (i : Nat) (q : String × Nat × String), sref[i]? = some q → vk_R q.1 q.2.1 q.2.2 (dA.2.1 i) U) (h : KT A dA u H) : KT A dA U H := by
  obtain ⟨h1, -, h3, h4, h5, h6, h7, h8, h9⟩ := h
  exact ⟨h1.moved hvm, hR, h3.moved hvm, h4.moved hvm, h5.moved hvm, h6.moved hvm, fun i n q => ⟨(h7 i n q).1.moved hvm, (h7 i n q).2.moved hvm⟩, h8.moved hvm, h9.moved hvm⟩
theorem KT.kept {A : Nat → Prop} {dA : WK} {U : State} {H H1 : Heap} (h : KT A dA U H) (hq : ∀ a : Nat, a < H.size → ¬ A a → H1[a]? = H[a]?) : KT A dA U H1 := by
  obtain ⟨h1, h2, h3, h4, h5, h6, h7, h8, h9⟩ := h
  exact ⟨h1.kept hq, h2, h3.kept hq, h4.kept hq, h5.kept hq, h6.kept hq, fun i n q => ⟨(h7 i n q).1.kept hq, (h7 i n q).2.kept hq⟩, h8.kept hq, h9.kept hq⟩
theorem KT.narrow {A B : Nat → Prop} {dA : WK} {U : State} {H : Heap} (h : KT A dA U H) (hAB : ∀ q, B q → A q) : KT B dA U H := by
  obtain ⟨h1, h2, h3, h4, h5, h6, h7, h8, h9⟩ := h
  exact ⟨h1.narrow hAB, h2, h3.narrow hAB, h4.narrow hAB, h5.narrow hAB, h6.narrow hAB, fun i n q => ⟨(h7 i n q).1.narrow hAB, (h7 i n q).2.narrow hAB⟩, h8.narrow hAB, h9.narrow hAB⟩
def KK (D : va_G) (dA : WK) (a : Ix → Nat) (U : State) : Prop := va_K D vwCl (tyl dA.1) U ∧ (∀ w ∈ lw_nw, va_Nw w U) ∧ KT (wA dA a U.heap.size) dA U U.heap
theorem isNw_warm {w : Cond} (h : isNw w = true) {s U : State} (hW : s.WarmedH U.vm) (hZ : va_Nw w s) : va_Nw w U := by
  cases w <;> first | exact va_Nw.warmF hW hZ | exact va_Nw.warmM hW hZ | (simp [isNw] at h; done)
theorem wA_mono {dA : WK} {a : Ix → Nat} {sz sz2 q : Nat} (h : sz ≤ sz2) (hq : wA dA a sz2 q) : wA dA a sz q := by
  rcases hq with h1 | h1
  · exact Or.inl h1
  · exact Or.inr (Nat.le_trans h h1)
/-- the knowledge at a callee's start -/
theorem KK.go {D : va_G} {dA : WK} {a : Ix → Nat} {A : Nat → Prop} {s U : State} {H : Heap} {locs : List Loc} (h : va_K D vwCl (tyl dA.1) s) (h2 : ∀ w ∈ lw_nw, va_Nw w s) (h3 : KT A dA s s.heap) (hA : ∀ q, wA dA a H.size q → A q) (hW : s.WarmedH U.vm) (hU : U.heap = H) (hS : va_S A s.heap H locs) : KK D dA a U := by
  refine ⟨va_K.moved hW.alike h, fun w hw => isNw_warm (List.mem_filter.mp hw).2 hW (h2 w hw), ?_⟩
  rw [hU]
  exact ((KT.moved hW.alike (fun i q hq => (h3.2.1 i q hq).warm hW) h3).kept hS.2.1).narrow hA
theorem KK.same {D : va_G} {dA : WK} {a : Ix → Nat} {s U : State} (h : KK D dA a s) (hv : s.vm = U.vm) (hh : s.heap = U.heap) : KK D dA a U := by
  refine ⟨va_K.moved (by rw [hv]; exact Vm.Alike.refl _) h.1, fun w hw => ?_, ?_⟩
  · have h1 := (List.mem_filter.mp hw).2
    have h2 := h.2.1 w hw
    cases w <;> first | (simp [isNw] at h1; done) | exact va_Nw.same rfl hv h2
  · rw [← hh]
    exact KT.moved (by rw [hv]; exact Vm.Alike.refl _) (fun i q hq => (h.2.2.2.1 i q hq).same hv.symm) h.2.2
theorem KK.nw {D : va_G} {dA : WK} {a : Ix → Nat} {s : State} (h : KK D dA a s) {args : Array Value} {w : Cond} (q : w ∈ lw_tbl) (g : isNw w = true) : w.before args s = true := by
  have h2 := h.2.1 w (List.mem_filter.mpr ⟨q, g⟩)
  cases w <;> first | (simp [isNw] at g; done) | exact va_Nw.use rfl h2
/-- contracts over the world that make no cells -/
abbrev wPre (D : va_G) (dA : WK) (a : Ix → Nat) (F : St) (sz : Nat) (av : List Value) : Array Value → State → Prop := va_Pc av (fun U => U.heap.size = sz ∧ wP D dA a F U.heap ∧ KK D dA a U)
abbrev wQi (D : va_G) (dA : WK) (a : Ix → Nat) (sz : Nat) (F1 : St) (r1 : Int32) : Array Value → State → Outcome → State → Prop := va_Qi (fun (r : Int32) (_ : Unit) => r = r1) (fun _ t => wP D dA a F1 t.heap) (wA dA a sz)
abbrev wQl (D : va_G) (dA : WK) (a : Ix → Nat) (sz : Nat) (F1 : St) (r1 : Int64) : Array Value → State → Outcome → State → Prop := va_Ql (fun (r : Int64) (_ : Unit) => r = r1) (fun _ t => wP D dA a F1 t.heap) (wA dA a sz)
abbrev wQv (D : va_G) (dA : WK) (a : Ix → Nat) (sz : Nat) (F1 : St) : Array Value → State → Outcome → State → Prop := va_Qv (fun (_ : Unit) => True) (fun _ t => wP D dA a F1 t.heap) (wA dA a sz)
abbrev rmL (f k : Nat) : Room := { frames := f, cells := 0, slots := 0, locals := k }
abbrev Mi (l : Launch) (y : MethodName) (b : ByteArray) (L : Nat) (ty : FieldType) (f k : Nat) (D : va_G) (dA : WK) (a : Ix → Nat) (F : St) (av : List Value) (F1 : St) (r1 : Int32) : Prop := ∀ sz : Nat, Met l y (ws_ y b L (some ty)) (rmL f k) (wPre D dA a F sz av) (wQi D dA a sz F1 r1) 0 0 (wA dA a sz)
abbrev Ml (l : Launch) (y : MethodName) (b : ByteArray) (L : Nat) (f k : Nat) (D : va_G) (dA : WK) (a : Ix → Nat) (F : St) (av : List Value) (F1 : St) (r1 : Int64) : Prop := ∀ sz : Nat, Met l y (ws_ y b L (some .long)) (rmL f k) (wPre D dA a F sz av) (wQl D dA a sz F1 r1) 0 0 (wA dA a sz)
abbrev Mv (l : Launch) (y : MethodName) (b : ByteArray) (L : Nat) (f k : Nat) (D : va_G) (dA : WK) (a : Ix → Nat) (F : St) (av : List Value) (F1 : St) : Prop := ∀ sz : Nat, Met l y (ws_ y b L none) (rmL f k) (wPre D dA a F sz av) (wQv D dA a sz F1) 0 0 (wA dA a sz)
/-- a contract's start -/
theorem mst {l : Launch} {y : MethodName} {cc : ByteArray} {L : Nat} {ret : Option FieldType} {rm : Room} {D : va_G} {dA : WK} {a : Ix → Nat} {F : St} {av : List Value} {Qc : Nat → Array Value → State → Outcome → State → Prop} (hy : plainName y.cls = true) (hn : (lg_sl av).length ≤ L)
    (body : ∀ (p : Program) (e : Env) (s : State) (m : MethodId) (below : List Frame) (meth : Method) (c : Code), CallFix p m c cc L s av.toArray lw_all y.cls → meth.sig.returnType = ret → meth.locks = false → KK D dA a s → wP D dA a F s.heap → ∀ ls : Array Slot, lv_has ls L (lv_args 0 av) →
      W p l e rm s m av.toArray below meth c s.heap [] 0 0 (MQ below (Qc s.heap.size) av.toArray s 0 0 (wA dA a s.heap.size)) (F0 m 0 ls [])) (sz : Nat) : Met l y (ws_ y cc L ret) rm (wPre D dA a F sz av) (Qc sz) 0 0 (wA dA a sz) := by
  refine Met.ofW (cc := cc) (maxL := L) (ret := ret) hy rfl ?_
  intro p e s m args below meth c s₁ B hml hv
  obtain ⟨rfl, hsz, hP, hK⟩ := hv
  have hts := atoms_spec (ws := ws_ y cc L ret) B.pre
  have hts : ∀ w ∈ lw_all, w.before av.toArray s = true := fun w h => hts w (List.mem_cons_of_mem _ h)
  subst hsz
  rw [lg_entry_eq]
  exact body p e s m below meth c ⟨B.exec, B.bytes, hml, findClass_of_methodNamed B.named, hts⟩ B.returns B.notSynchronized hK hP _ (lv_entry av hn)
/-- Option chains, as the pure functions have them -/
def pl {α β : Type} (x : α) (f : α → β) : β := f x
theorem pl_e {α β : Type} {x : α} {f : α → β} {r : β} (h : pl x f = r) : ∃ y, y = x ∧ f y = r := ⟨x, rfl, h⟩
def og {α : Type} (c : Bool) (x : Option α) : Option α := match c with
  | true => x
  | false => none
theorem og_e {α : Type} {c : Bool} {x : Option α} {r : α} (h : og c x = some r) : c = true ∧ x = some r := by
  cases c with
  | false => cases h
  | true => exact ⟨rfl, h⟩
def vpb (x : Int32) (n : Nat) : Bool := decide (¬ (x < 0 ∨ n ≤ x.toNatClampNeg))
theorem vpb_in {x : Int32} {n : Nat} (h : vpb x n = true) : vp_in x n := by
  have h2 : ¬ (x < 0 ∨ n ≤ x.toNatClampNeg) := of_decide_eq_true h
  exact h2
def nzb (x : Int32) : Bool := decide (¬ x = 0)
theorem nzb_e {x : Int32} (h : nzb x = true) : ¬ x = 0 := of_decide_eq_true h
def nzl (x : Int64) : Bool := decide (¬ x = 0)
theorem nzl_e {x : Int64} (h : nzl x = true) : ¬ x = 0 := of_decide_eq_true h
def ob {α β : Type} (x : Option α) (f : α → Option β) : Option β := match x with
  | some y => f y
  | none => none
theorem ob_e {α β : Type} {x : Option α} {f : α → Option β} {r : β} (h : ob x f = some r) : ∃ y, x = some y ∧ f y = some r := by
  cases x with
  | none => cases h
  | some y => exact ⟨y, rfl, h⟩
theorem if_t {α : Type} {c : Prop} [Decidable c] {x y r : α} (h : (if c then x else y) = r) (hc : c) : x = r := by rw [if_pos hc] at h; exact h
theorem if_f {α : Type} {c : Prop} [Decidable c] {x y r : α} (h : (if c then x else y) = r) (hc : ¬ c) : y = r := by rw [if_neg hc] at h; exact h
section WR
variable {p : Program} {l : Launch} {e : Env} {R : Room} {s : State} {m : MethodId} {args : Array Value} {below : List Frame} {meth : Method} {c : Code} {H : Heap} {locs : List Loc} {cells slots : Nat} {Q : State → Prop}
variable {cc : ByteArray} {nL pc : Nat} {ls : Array Slot} {rest : List Value} {D : va_G} {dA : WK} {a : Ix → Nat} {F F1 : St} {own : String} {A : Nat → Prop}
theorem lv_nm {x y : Int32} (h : y = x) (k : W p l e R s m args below meth c H locs cells slots Q (F0 m pc ls (.int y :: rest))) : W p l e R s m args below meth c H locs cells slots Q (F0 m pc ls (.int x :: rest)) := by rw [← h]; exact k
theorem lv_nml {x y : Int64} (h : y = x) (k : W p l e R s m args below meth c H locs cells slots Q (F0 m pc ls (.long y :: rest))) : W p l e R s m args below meth c H locs cells slots Q (F0 m pc ls (.long x :: rest)) := by rw [← h]; exact k
/-- the moving part: the world, and that nothing else has changed but in A -/
abbrev wSA (A : Nat → Prop) (D : va_G) (dA : WK) (a : Ix → Nat) (s : State) (F : St) (H : Heap) (locs : List Loc) : Prop := wP D dA a F H ∧ va_S A s.heap H locs ∧ ∀ q, wA dA a H.size q → A q
abbrev wS (D : va_G) (dA : WK) (a : Ix → Nat) (s : State) (F : St) (H : Heap) (locs : List Loc) : Prop := wSA (wA dA a s.heap.size) D dA a s F H locs
theorem wS_in (h : wP D dA a F s.heap) : wS D dA a s F s.heap [] := ⟨h, va_S.rf, fun _ h => h⟩
theorem wSA.put {H1 : Heap} {k2 i2 j2 z : Nat} (hW : wSA A D dA a s F H locs) (hv : wVd dA (k2, i2, j2)) (hP : wP D dA a F1 H1) (e2 : H1.size = H.size) (e3 : ∀ q, q ≠ a (k2, i2, j2) → H1[q]? = H[q]?) : wSA A D dA a s F1 H1 (locs ++ [⟨a (k2, i2, j2), z⟩]) := ⟨hP, hW.2.1.put e2 e3 (hW.2.2 _ (Or.inl ⟨_, hv.1, hv.2, rfl⟩)), by rw [e2]; exact hW.2.2⟩
theorem wg (S : CallFix p m c cc nL s args lw_all own) (hK : KK D dA a s) (hW : wSA A D dA a s F H locs) {k i j : Nat} (hv : wVd dA (k, i, j)) {ref C : String} {T : u_T} {N ci index : Nat} (hin : ∀ w ∈ u_ws C T N, w ∈ lw_all) {fs : List Value} (he : wc dA a F k i j = .inr (ci, fs)) (hc : vwCl[ci]? = some (C, T, N)) (q : Nat) (hq : q < N) (hlink : (Cond.fieldLink own index ref (T q).2.1 (T q).2.2.1) ∈ lw_all) (hsame : ∀ x, s.fieldFound? (T q).1 (T q).2.1 (T q).2.2.1 = some x → s.fieldFound? ref (T q).2.1 (T q).2.2.1 = some x) {v : Value} (hvv : fs[q]? = some v) (hdg : decode cc pc = .ok (.getfield index, 3))
    (kk : W p l e R s m args below meth c H locs cells slots Q (F0 m (pc + 3) ls (v :: rest))) : W p l e R s m args below meth c H locs cells slots Q (F0 m pc ls (.ref (a (k, i, j)) :: rest)) := by
  have h1 := hW.1 (k, i, j) hv.1 hv.2
  rw [he] at h1
  exact va_get (ws := [(a (k, i, j), .inr (ci, fs))]) S.1 S.2.1 S.2.2.2.2 hin S.2.2.2.1 hK.1 (fun n x hx => by
    cases n with
    | zero => cases hx; exact h1
    | succ n => cases hx) 0 rfl hc q hq (S.2.2.2.2 _ hlink) hsame hvv hdg kk
theorem wgN (S : CallFix p m c cc nL s args lw_all own) (hK : KK D dA a s) (hW : wSA A D dA a s F H locs) {k i j : Nat} (hv : wVd dA (k, i, j)) {ref C host : String} {T : u_T} {N ci index : Nat} (hin : ∀ w ∈ u_ws C T N, w ∈ lw_all) {fs : List Value} (he : wc dA a F k i j = .inr (ci, fs)) (hc : vwCl[ci]? = some (C, T, N)) (q : Nat) (hq : q < N) (hlink : (Cond.fieldLinkNest own index ref (T q).2.1 (T q).2.2.1 host) ∈ lw_tbl) (hsame : ∀ x, s.fieldFound? (T q).1 (T q).2.1 (T q).2.2.1 = some x → s.fieldFound? ref (T q).2.1 (T q).2.2.1 = some x) {v : Value} (hvv : fs[q]? = some v) (hdg : decode cc pc = .ok (.getfield index, 3))
    (kk : W p l e R s m args below meth c H locs cells slots Q (F0 m (pc + 3) ls (v :: rest))) : W p l e R s m args below meth c H locs cells slots Q (F0 m pc ls (.ref (a (k, i, j)) :: rest)) := by
  have h1 := hW.1 (k, i, j) hv.1 hv.2
  rw [he] at h1
  exact va_getN (ws := [(a (k, i, j), .inr (ci, fs))]) S.1 S.2.1 S.2.2.2.2 hin S.2.2.2.1 hK.1 (fun n x hx => by
    cases n with
    | zero => cases hx; exact h1
    | succ n => cases hx) 0 rfl hc q hq (hK.nw hlink rfl) hsame hvv hdg kk
theorem wp_core (hts : ∀ w ∈ lw_all, w.before args s = true) (hK : KK D dA a s) (hD : wD D dA a) (hW : wSA A D dA a s F H locs) {k i j : Nat} (hv : wVd dA (k, i, j)) {C : String} {T : u_T} {N ci : Nat} (hin : ∀ w ∈ u_ws C T N, w ∈ lw_all) {fs : List Value} (he : wc dA a F k i j = .inr (ci, fs)) (hc : vwCl[ci]? = some (C, T, N)) (q : Nat) (hq : q < N) (hfin : (T q).2.2.2 = false) {ty : FieldType} {v : Value} (hd : parseFieldDescriptor (T q).2.2.1 = some ty) (hn : narrow ty v = v) (hfit : fits ty v = true) (hl : q < fs.length) (he1 : wc dA a F1 k i j = .inr (ci, fs.set q v)) (ho : ∀ k2 i2 j2, wV (k2, i2, j2) → (k2, i2, j2) ≠ (k, i, j) → wc dA a F1 k2 i2 j2 = wc dA a F k2 i2 j2) :
    ∃ (cf : ClassId) (kf : Class) (fi : Nat) (f : Field) (cell : Cell), s.fieldFound? (T q).1 (T q).2.1 (T q).2.2.1 = some (cf, kf, fi, f) ∧ f.isStatic = false ∧ k2_Sd s f cell.cls v ∧ H[a (k, i, j)]? = some cell ∧ cell.vm = .none ∧ f.slot < cell.slots.size ∧ ∀ H' : Heap, H'[a (k, i, j)]? = some (cell.setSlot f.slot v) → H'.size = H.size → (∀ z, z ≠ a (k, i, j) → H'[z]? = H[z]?) → wSA A D dA a s F1 H' (locs ++ [⟨a (k, i, j), f.slot⟩]) := by
  have h1 := hW.1 (k, i, j) hv.1 hv.2
  rw [he] at h1
  obtain ⟨r, g1, cell, q1, q2, q3, q4⟩ := h1
  have hr : r = (C, T, N) := Option.some.inj (g1.symm.trans hc)
  subst hr
  obtain ⟨hS, hfc, kC, hkC, hkind⟩ := hK.1.1 ci _ hc
  obtain ⟨cf, kf, fi, f, hi, hsl⟩ := hS q hq
  have hlay := hts _ (hin _ (u_in_lay hq))
  unfold u_lay at hlay
  rw [if_neg (by rw [hfin]; decide)] at hlay
  have hst := (u_facts hfc hkC (u_lays hts hin hq) hi).1
  have h6 := u_store hfc hkC hkind hlay hi hd hn hfit
  refine ⟨cf, kf, fi, f, cell, hi, hst, by rw [q2]; exact h6, q1, q3, by rw [hsl]; exact k2_hasslot (q4 q hq), fun H' e1 e2 e3 => hW.put hv (wP_set hW.1 hD hv.1 hv.2 ?_ e3 ho) e2 e3⟩
  rw [he1]
  rw [hsl] at e1
  exact ⟨_, hc, t_OB.to (V := updV (vp_V fs) q v) ⟨_, e1, q2, q3, t_set q4 (hD.2 ci _ hc) hq v⟩ (fun j _ => vp_updV_set hl v j)⟩
theorem wp (S : CallFix p m c cc nL s args lw_all own) (hK : KK D dA a s) (hD : wD D dA a) (hW : wSA A D dA a s F H locs) {k i j : Nat} (hv : wVd dA (k, i, j)) {ref C : String} {T : u_T} {N ci index : Nat} (hin : ∀ w ∈ u_ws C T N, w ∈ lw_all) {fs : List Value} (he : wc dA a F k i j = .inr (ci, fs)) (hc : vwCl[ci]? = some (C, T, N)) (q : Nat) (hq : q < N) (hlink : (Cond.fieldLink own index ref (T q).2.1 (T q).2.2.1) ∈ lw_all) (hsame : ∀ x, s.fieldFound? (T q).1 (T q).2.1 (T q).2.2.1 = some x → s.fieldFound? ref (T q).2.1 (T q).2.2.1 = some x) (hfin : (T q).2.2.2 = false) {ty : FieldType} {v : Value} (hd : parseFieldDescriptor (T q).2.2.1 = some ty) (hn : narrow ty v = v) (hfit : fits ty v = true) (hl : q < fs.length) (he1 : wc dA a F1 k i j = .inr (ci, fs.set q v)) (ho : ∀ k2 i2 j2, wV (k2, i2, j2) → (k2, i2, j2) ≠ (k, i, j) → wc dA a F1 k2 i2 j2 = wc dA a F k2 i2 j2) (hdg : decode cc pc = .ok (.putfield index, 3))
    (kk : ∀ (H1 : Heap) (locs1 : List Loc), wSA A D dA a s F1 H1 locs1 → W p l e R s m args below meth c H1 locs1 cells slots Q (F0 m (pc + 3) ls rest)) : W p l e R s m args below meth c H locs cells slots Q (F0 m pc ls (v :: .ref (a (k, i, j)) :: rest)) := by
  obtain ⟨cf, kf, fi, f, cell, hi, hst, h6, q1, q3, hlt, hend⟩ := wp_core S.2.2.2.2 hK hD hW hv hin he hc q hq hfin hd hn hfit hl he1 ho
  exact W.putK S.1 S.2.1 (f := f) ⟨S.2.2.2.1, S.2.2.2.2 _ hlink, ⟨_, _, _, hsame _ hi⟩, hst⟩ h6 q1 q3 hlt rfl rfl hdg fun H' e1 e2 e3 => kk H' _ (hend H' e1 e2 e3)
theorem wpN (S : CallFix p m c cc nL s args lw_all own) (hK : KK D dA a s) (hD : wD D dA a) (hW : wSA A D dA a s F H locs) {k i j : Nat} (hv : wVd dA (k, i, j)) {ref C host : String} {T : u_T} {N ci index : Nat} (hin : ∀ w ∈ u_ws C T N, w ∈ lw_all) {fs : List Value} (he : wc dA a F k i j = .inr (ci, fs)) (hc : vwCl[ci]? = some (C, T, N)) (q : Nat) (hq : q < N) (hlink : (Cond.fieldLinkNest own index ref (T q).2.1 (T q).2.2.1 host) ∈ lw_tbl) (hsame : ∀ x, s.fieldFound? (T q).1 (T q).2.1 (T q).2.2.1 = some x → s.fieldFound? ref (T q).2.1 (T q).2.2.1 = some x) (hfin : (T q).2.2.2 = false) {ty : FieldType} {v : Value} (hd : parseFieldDescriptor (T q).2.2.1 = some ty) (hn : narrow ty v = v) (hfit : fits ty v = true) (hl : q < fs.length) (he1 : wc dA a F1 k i j = .inr (ci, fs.set q v)) (ho : ∀ k2 i2 j2, wV (k2, i2, j2) → (k2, i2, j2) ≠ (k, i, j) → wc dA a F1 k2 i2 j2 = wc dA a F k2 i2 j2) (hdg : decode cc pc = .ok (.putfield index, 3))
    (kk : ∀ (H1 : Heap) (locs1 : List Loc), wSA A D dA a s F1 H1 locs1 → W p l e R s m args below meth c H1 locs1 cells slots Q (F0 m (pc + 3) ls rest)) : W p l e R s m args below meth c H locs cells slots Q (F0 m pc ls (v :: .ref (a (k, i, j)) :: rest)) := by
  obtain ⟨cf, kf, fi, f, cell, hi, hst, h6, q1, q3, hlt, hend⟩ := wp_core S.2.2.2.2 hK hD hW hv hin he hc q hq hfin hd hn hfit hl he1 ho
  exact va_WputK S.1 S.2.1 (f := f) S.2.2.2.1 (hK.nw hlink rfl) (hsame _ hi) hst h6 q1 q3 hlt rfl rfl hdg fun H' e1 e2 e3 => kk H' _ (hend H' e1 e2 e3)
/-- arrays of numbers -/
theorem wald (S : CallFix p m c cc nL s args lw_all own) (hK : KK D dA a s) (hW : wSA A D dA a s F H locs) {k i : Nat} (hv : wVd dA (k, i, 0)) {n : Nat} (he : wc dA a F k i 0 = .inl (dA.1 0, n, .inl (fun e => F k 0 i e))) {x : Int32} {z : Nat} (hin : vp_in x n) (hz : x.toNatClampNeg = z) (hdg : decode cc pc = .ok (.iaload, 1))
    (kk : W p l e R s m args below meth c H locs cells slots Q (F0 m (pc + 1) ls (.int (F k 0 i z) :: rest))) : W p l e R s m args below meth c H locs cells slots Q (F0 m pc ls (.int x :: .ref (a (k, i, 0)) :: rest)) := by
  have h1 := hW.1 (k, i, 0) hv.1 hv.2
  rw [he] at h1
  subst hz
  exact va_iald (ws := [(a (k, i, 0), .inl (dA.1 0, n, .inl (fun e => F k 0 i e)))]) S.1 S.2.1 hK.1 (fun n x hx => by
    cases n with
    | zero => cases hx; exact h1
    | succ n => cases hx) 0 0 rfl rfl hin hdg kk
theorem wald1 (S : CallFix p m c cc nL s args lw_all own) (hK : KK D dA a s) (hW : wSA A D dA a s F H locs) {k i : Nat} (hv : wVd dA (k, i, 0)) {n : Nat} (he : wc dA a F k i 0 = .inl (dA.1 1, n, .inl (fun e => F k 0 i e))) {x : Int32} {z : Nat} (hin : vp_in x n) (hz : x.toNatClampNeg = z) (hdg : decode cc pc = .ok (.baload, 1))
    (kk : W p l e R s m args below meth c H locs cells slots Q (F0 m (pc + 1) ls (.int (F k 0 i z) :: rest))) : W p l e R s m args below meth c H locs cells slots Q (F0 m pc ls (.int x :: .ref (a (k, i, 0)) :: rest)) := by
  have h1 := hW.1 (k, i, 0) hv.1 hv.2
  rw [he] at h1
  subst hz
  exact va_bald (ws := [(a (k, i, 0), .inl (dA.1 1, n, .inl (fun e => F k 0 i e)))]) S.1 S.2.1 hK.1 (fun n x hx => by
    cases n with
    | zero => cases hx; exact h1
    | succ n => cases hx) 0 1 rfl rfl hin hdg kk
theorem wald2 (S : CallFix p m c cc nL s args lw_all own) (hK : KK D dA a s) (hW : wSA A D dA a s F H locs) {k i : Nat} (hv : wVd dA (k, i, 0)) {n : Nat} (he : wc dA a F k i 0 = .inl (dA.1 2, n, .inl (fun e => F k 0 i e))) {x : Int32} {z : Nat} (hin : vp_in x n) (hz : x.toNatClampNeg = z) (hdg : decode cc pc = .ok (.baload, 1))
    (kk : W p l e R s m args below meth c H locs cells slots Q (F0 m (pc + 1) ls (.int (F k 0 i z) :: rest))) : W p l e R s m args below meth c H locs cells slots Q (F0 m pc ls (.int x :: .ref (a (k, i, 0)) :: rest)) := by
  have h1 := hW.1 (k, i, 0) hv.1 hv.2
  rw [he] at h1
  subst hz
  exact va_zald (ws := [(a (k, i, 0), .inl (dA.1 2, n, .inl (fun e => F k 0 i e)))]) S.1 S.2.1 hK.1 (fun n x hx => by
    cases n with
    | zero => cases hx; exact h1
    | succ n => cases hx) 0 2 rfl rfl hin hdg kk
theorem walen (S : CallFix p m c cc nL s args lw_all own) (hK : KK D dA a s) (hW : wSA A D dA a s F H locs) {k i : Nat} (hv : wVd dA (k, i, 0)) {t n : Nat} {ty : FieldType} {u : (Nat → Int32) ⊕ (Nat → Int64) ⊕ (Nat → UInt32) ⊕ (Nat → UInt64) ⊕ (Nat → Option Nat)} (he : wc dA a F k i 0 = .inl (dA.1 t, n, u)) (ht : (tyl dA.1)[t]? = some (dA.1 t, ty)) {v : Int32} (hn : Int32.ofNat n = v) (hdg : decode cc pc = .ok (.arraylength, 1))
    (kk : W p l e R s m args below meth c H locs cells slots Q (F0 m (pc + 1) ls (.int v :: rest))) : W p l e R s m args below meth c H locs cells slots Q (F0 m pc ls (.ref (a (k, i, 0)) :: rest)) := by
  have h1 := hW.1 (k, i, 0) hv.1 hv.2
  rw [he] at h1
  exact va_alen (ws := [(a (k, i, 0), .inl (dA.1 t, n, u))]) S.1 S.2.1 hK.1 (fun n x hx => by
    cases n with
    | zero => cases hx; exact h1
    | succ n => cases hx) 0 t rfl ht hn hdg kk
/-- arrays of references -/
theorem waald (S : CallFix p m c cc nL s args lw_all own) (hK : KK D dA a s) (hW : wSA A D dA a s F H locs) {k i : Nat} (hv : wVd dA (k, i, 0)) {t n : Nat} {ty : FieldType} {f : Nat → Option Nat} (he : wc dA a F k i 0 = .inl (dA.1 t, n, .inr (.inr (.inr (.inr f))))) (ht : (tyl dA.1)[t]? = some (dA.1 t, ty)) (hty : ty.isReference = true) {x : Int32} {z y : Nat} (hin : vp_in x n) (hz : x.toNatClampNeg = z) (hy : f z = some y) (hdg : decode cc pc = .ok (.aaload, 1))
    (kk : W p l e R s m args below meth c H locs cells slots Q (F0 m (pc + 1) ls (.ref y :: rest))) : W p l e R s m args below meth c H locs cells slots Q (F0 m pc ls (.int x :: .ref (a (k, i, 0)) :: rest)) := by
  have h1 := hW.1 (k, i, 0) hv.1 hv.2
  rw [he] at h1
  subst hz
  have hlt : x.toNatClampNeg < n := Nat.not_le.mp fun q => hin (Or.inr q)
  exact W.aald (v := va_rf (f x.toNatClampNeg)) (ty := ty) S.1 S.2.1 h1 ((hK.1.2 t _ ht).1 n (fun j => va_rf (f j))) hty (fun q => by cases q) (by show ¬ (x < 0 ∨ (arrV _ _ _).slots.size ≤ _); rw [arrV_size]; exact hin) (by show (arrV _ _ _).slots[_]? = _; rw [arrV_read _ _ hlt]) rfl rfl hdg (by rw [hy]; exact kk)
/-- stores -/
theorem wast (S : CallFix p m c cc nL s args lw_all own) (hK : KK D dA a s) (hD : wD D dA a) (hW : wSA A D dA a s F H locs) {k i : Nat} (hv : wVd dA (k, i, 0)) {n : Nat} (he : ∀ G : St, wc dA a G k i 0 = .inl (dA.1 0, n, .inl (fun e => G k 0 i e))) (hr : wAr k = true ∧ wNj k = 1 ∧ ¬ 27 = k) {x v : Int32} {z : Nat} (hin : vp_in x n) (hz : x.toNatClampNeg = z) (hF : F1 = fu F k 0 i z v) (hdg : decode cc pc = .ok (.iastore, 1))
    (kk : ∀ (H1 : Heap) (locs1 : List Loc), wSA A D dA a s F1 H1 locs1 → W p l e R s m args below meth c H1 locs1 cells slots Q (F0 m (pc + 1) ls rest)) : W p l e R s m args below meth c H locs cells slots Q (F0 m pc ls (.int v :: .int x :: .ref (a (k, i, 0)) :: rest)) := by
  have h1 := hW.1 (k, i, 0) hv.1 hv.2
  rw [he] at h1
  subst hz
  refine W.iast S.1 S.2.1 h1 ((hK.1.2 0 _ rfl).1 n (fun j => .int (F k 0 i j))) (fun q => by cases q) (by show ¬ (x < 0 ∨ (arrV _ _ _).slots.size ≤ _); rw [arrV_size]; exact hin) rfl rfl hdg fun H1 e1 z1 oq => ?_
  refine kk H1 _ (hW.put hv (wP_set hW.1 hD hv.1 hv.2 ?_ oq (by rw [hF]; exact fu_arr dA a F v hr.1 hr.2.1 hr.2.2)) z1 oq)
  rw [he, hF]
  show H1[a (k, i, 0)]? = some (vp_cell _ _)
  rw [e1, vp_cell_i, vp_cell_i, arrV_store]
  congr 2
  funext q
  by_cases hq : q = x.toNatClampNeg
  · subst hq
    simp [updV, fu]
  · simp [updV, fu, hq]
theorem wast1 (S : CallFix p m c cc nL s args lw_all own) (hK : KK D dA a s) (hD : wD D dA a) (hW : wSA A D dA a s F H locs) {k i : Nat} (hv : wVd dA (k, i, 0)) {n : Nat} (he : ∀ G : St, wc dA a G k i 0 = .inl (dA.1 1, n, .inl (fun e => G k 0 i e))) (hr : wAr k = true ∧ wNj k = 1 ∧ ¬ 27 = k) {x v : Int32} {z : Nat} (hin : vp_in x n) (hz : x.toNatClampNeg = z) (hF : F1 = fu F k 0 i z (vp_nar .byte v)) (hdg : decode cc pc = .ok (.bastore, 1))
    (kk : ∀ (H1 : Heap) (locs1 : List Loc), wSA A D dA a s F1 H1 locs1 → W p l e R s m args below meth c H1 locs1 cells slots Q (F0 m (pc + 1) ls rest)) : W p l e R s m args below meth c H locs cells slots Q (F0 m pc ls (.int v :: .int x :: .ref (a (k, i, 0)) :: rest)) := by
  have h1 := hW.1 (k, i, 0) hv.1 hv.2
  rw [he] at h1
  subst hz
  refine W.bast S.1 S.2.1 h1 ((hK.1.2 1 _ rfl).1 n (fun j => .int (F k 0 i j))) (fun q => by cases q) (by show ¬ (x < 0 ∨ (arrV _ _ _).slots.size ≤ _); rw [arrV_size]; exact hin) rfl rfl hdg fun H1 e1 z1 oq => ?_
  refine kk H1 _ (hW.put hv (wP_set hW.1 hD hv.1 hv.2 ?_ oq (by rw [hF]; exact fu_arr dA a F _ hr.1 hr.2.1 hr.2.2)) z1 oq)
  rw [he, hF]
  show H1[a (k, i, 0)]? = some (vp_cell _ _)
  rw [e1, vp_cell_i, vp_cell_i, arrV_store]
  congr 2
  funext q
  by_cases hq : q = x.toNatClampNeg
  · subst hq
    simp [updV, fu, vp_nar]
    try rfl
  · simp [updV, fu, hq]
theorem wast2 (S : CallFix p m c cc nL s args lw_all own) (hK : KK D dA a s) (hD : wD D dA a) (hW : wSA A D dA a s F H locs) {k i : Nat} (hv : wVd dA (k, i, 0)) {n : Nat} (he : ∀ G : St, wc dA a G k i 0 = .inl (dA.1 2, n, .inl (fun e => G k 0 i e))) (hr : wAr k = true ∧ wNj k = 1 ∧ ¬ 27 = k) {x v : Int32} {z : Nat} (hin : vp_in x n) (hz : x.toNatClampNeg = z) (hF : F1 = fu F k 0 i z (vp_nar .boolean v)) (hdg : decode cc pc = .ok (.bastore, 1))
    (kk : ∀ (H1 : Heap) (locs1 : List Loc), wSA A D dA a s F1 H1 locs1 → W p l e R s m args below meth c H1 locs1 cells slots Q (F0 m (pc + 1) ls rest)) : W p l e R s m args below meth c H locs cells slots Q (F0 m pc ls (.int v :: .int x :: .ref (a (k, i, 0)) :: rest)) := by
  have h1 := hW.1 (k, i, 0) hv.1 hv.2
  rw [he] at h1
  subst hz
  refine W.zast S.1 S.2.1 h1 ((hK.1.2 2 _ rfl).1 n (fun j => .int (F k 0 i j))) (fun q => by cases q) (by show ¬ (x < 0 ∨ (arrV _ _ _).slots.size ≤ _); rw [arrV_size]; exact hin) rfl rfl hdg fun H1 e1 z1 oq => ?_
  refine kk H1 _ (hW.put hv (wP_set hW.1 hD hv.1 hv.2 ?_ oq (by rw [hF]; exact fu_arr dA a F _ hr.1 hr.2.1 hr.2.2)) z1 oq)
  rw [he, hF]
  show H1[a (k, i, 0)]? = some (vp_cell _ _)
  rw [e1, vp_cell_i, vp_cell_i, arrV_store]
  congr 2
  funext q
  by_cases hq : q = x.toNatClampNeg
  · subst hq
    simp [updV, fu, vp_nar]
    try rfl
  · simp [updV, fu, hq]
end WR
