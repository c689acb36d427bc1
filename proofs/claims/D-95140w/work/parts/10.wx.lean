/-! the goal of a walk that makes no cells, and loops with an early answer -/
abbrev WX (p : Program) (l : Launch) (e : Env) (R : Room) (s : State) (m : MethodId) (args : Array Value) (below : List Frame) (meth : Method) (c : Code) (Qc : Array Value → State → Outcome → State → Prop) (dA : WK) (a : Ix → Nat) (H : Heap) (locs : List Loc) (g : JFrame) : Prop := W p l e R s m args below meth c H locs 0 0 (MQ below Qc args s 0 0 (wA dA a s.heap.size)) g
theorem wx_in {p : Program} {l : Launch} {e : Env} {R : Room} {s : State} {m : MethodId} {args : Array Value} {below : List Frame} {meth : Method} {c : Code} {Qc : Array Value → State → Outcome → State → Prop} {dA : WK} {a : Ix → Nat} {H : Heap} {locs : List Loc} {g : JFrame} (eH : H = s.heap) (eL : locs = []) (k : WX p l e R s m args below meth c Qc dA a H locs g) : WX p l e R s m args below meth c Qc dA a s.heap [] g := by
  subst eH; subst eL; exact k
def obE1 {α β γ : Type} (x : Option (β ⊕ α)) (g : β → Option γ) (f : α → Option γ) : Option γ := match x with
  | some (.inl r) => g r
  | some (.inr y) => f y
  | none => none
theorem obE1_e {α β γ : Type} {x : Option (β ⊕ α)} {g : β → Option γ} {f : α → Option γ} {r : γ} (h : obE1 x g f = some r) : (∃ y, x = some (.inl y) ∧ g y = some r) ∨ (∃ y, x = some (.inr y) ∧ f y = some r) := by
  match x, h with
  | some (.inl y), h => exact Or.inl ⟨y, rfl, h⟩
  | some (.inr y), h => exact Or.inr ⟨y, rfl, h⟩
def obE2 {α β γ δ : Type} (x : Option (β ⊕ (α × δ))) (g : β → Option γ) (f : α → δ → Option γ) : Option γ := match x with
  | some (.inl r) => g r
  | some (.inr y) => f y.1 y.2
  | none => none
theorem obE2_e {α β γ δ : Type} {x : Option (β ⊕ (α × δ))} {g : β → Option γ} {f : α → δ → Option γ} {r : γ} (h : obE2 x g f = some r) : (∃ y, x = some (.inl y) ∧ g y = some r) ∨ (∃ y z, x = some (.inr (y, z)) ∧ f y z = some r) := by
  match x, h with
  | some (.inl y), h => exact Or.inl ⟨y, rfl, h⟩
  | some (.inr y), h => exact Or.inr ⟨y.1, y.2, rfl, h⟩
def obE3 {α β γ δ ε : Type} (x : Option (β ⊕ (α × δ × ε))) (g : β → Option γ) (f : α → δ → ε → Option γ) : Option γ := match x with
  | some (.inl r) => g r
  | some (.inr y) => f y.1 y.2.1 y.2.2
  | none => none
theorem obE3_e {α β γ δ ε : Type} {x : Option (β ⊕ (α × δ × ε))} {g : β → Option γ} {f : α → δ → ε → Option γ} {r : γ} (h : obE3 x g f = some r) : (∃ y, x = some (.inl y) ∧ g y = some r) ∨ (∃ y z w, x = some (.inr (y, z, w)) ∧ f y z w = some r) := by
  match x, h with
  | some (.inl y), h => exact Or.inl ⟨y, rfl, h⟩
  | some (.inr y), h => exact Or.inr ⟨y.1, y.2.1, y.2.2, rfl, h⟩
/-- what a call of an inherited, an overriding, a superclass's method asks -/
theorem lw_U {own : String} {idx : Nat} {C owner : String} {x y : MethodName} {b : ByteArray} {L : Nat} {r : Option FieldType} (h1 : Cond.methodLink own idx x ∈ lw_all) (h2 : Cond.sameMethod x.cls owner x.name x.desc ∈ lw_all) (h3 : Cond.selects C x y ∈ lw_all) (h4 : Cond.instanceMethod y ∈ lw_all) (h5 : Cond.initialized y.cls ∈ lw_all) (h6 : Cond.code y b L r ∈ lw_all) : GoodIn lw_all (va_wsU own idx C owner x y (ws_ y b L r)) := by
  refine lw_app ?_ (lw_meth h6)
  intro w hw
  simp only [List.mem_cons, List.not_mem_nil, or_false] at hw
  rcases hw with e | e | e | e | e
  · rw [e]; exact h1
  · rw [e]; exact h2
  · rw [e]; exact h3
  · rw [e]; exact h4
  · rw [e]; exact h5
theorem lw_O {own : String} {idx : Nat} {C owner : String} {x y : MethodName} {b : ByteArray} {L : Nat} {r : Option FieldType} (h1 : Cond.methodLink own idx x ∈ lw_all) (h2 : Cond.sameMethod x.cls owner x.name x.desc ∈ lw_all) (h7 : Cond.instanceMethod ⟨owner, x.name, x.desc⟩ ∈ lw_all) (h3 : Cond.selects C x y ∈ lw_all) (h4 : Cond.instanceMethod y ∈ lw_all) (h5 : Cond.initialized y.cls ∈ lw_all) (h6 : Cond.code y b L r ∈ lw_all) : GoodIn lw_all (va_wsO own idx C owner x y (ws_ y b L r)) := by
  refine lw_app ?_ (lw_meth h6)
  intro w hw
  simp only [List.mem_cons, List.not_mem_nil, or_false] at hw
  rcases hw with e | e | e | e | e | e
  · rw [e]; exact h1
  · rw [e]; exact h2
  · rw [e]; exact h7
  · rw [e]; exact h3
  · rw [e]; exact h4
  · rw [e]; exact h5
theorem lw_SU {own : String} {idx : Nat} {y : MethodName} {b : ByteArray} {L : Nat} {r : Option FieldType} (h1 : Cond.methodLink own idx y ∈ lw_all) (h2 : Cond.sameMethod y.cls y.cls y.name y.desc ∈ lw_all) (h3 : Cond.superclass own y.cls ∈ lw_all) (h4 : Cond.instanceMethod y ∈ lw_all) (h5 : Cond.initialized y.cls ∈ lw_all) (h6 : Cond.code y b L r ∈ lw_all) : GoodIn lw_all (va_wsSU own idx y (ws_ y b L r)) := by
  refine lw_app ?_ (lw_meth h6)
  intro w hw
  simp only [List.mem_cons, List.not_mem_nil, or_false] at hw
  rcases hw with e | e | e | e | e
  · rw [e]; exact h1
  · rw [e]; exact h2
  · rw [e]; exact h3
  · rw [e]; exact h4
  · rw [e]; exact h5
