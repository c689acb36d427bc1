/-! CALLS over the world -/
set_option maxRecDepth 100000
section WC
variable {p : Program} {l : Launch} {e : Env} {R : Room} {s : State} {m : MethodId} {args : Array Value} {below : List Frame} {meth : Method} {c : Code} {H : Heap} {locs : List Loc} {cells slots : Nat} {Q : State → Prop}
variable {cc : ByteArray} {nL pc : Nat} {ls : Array Slot} {rest st0 : List Value} {D : va_G} {dA : WK} {a : Ix → Nat} {F F1 : St} {own : String}
theorem wBlind {sz : Nat} {av : List Value} : FrameBlind (wPre D dA a F sz av) := fun _ U g mk q => by
  obtain ⟨q0, q1, qP, qK⟩ := q
  exact ⟨q0, q1, qP, KK.same (s := U) (U := U.calling g mk _) qK rfl rfl⟩
theorem wpreS (hK : KK D dA a s) (hW : wS D dA a s F H locs) (As : List Value) : PreS s H (wPre D dA a F H.size As) As := ⟨wBlind, fun U hU hWm => ⟨rfl, by rw [hU], by rw [hU]; exact hW.1, KK.go hK.1 hK.2.1 hK.2.2 hW.2.2 hWm hU hW.2.1⟩⟩
theorem wrecv (hK : KK D dA a s) (hW : wS D dA a s F H locs) {k i j : Nat} (hv : wVd dA (k, i, j)) {C : String} {T : u_T} {N ci : Nat} {fs : List Value} (he : wc dA a F k i j = .inr (ci, fs)) (hc : vwCl[ci]? = some (C, T, N)) : ∃ cell : Cell, H[a (k, i, j)]? = some cell ∧ cell.vm.isStatics = false ∧ s.vm.findClass C = some cell.cls := by
  have h1 := hW.1 (k, i, j) hv.1 hv.2
  rw [he] at h1
  exact va_recv (ws := [(a (k, i, j), .inr (ci, fs))]) (q0 := 0) hK.1 (fun n x hx => by
    cases n with
    | zero => cases hx; exact h1
    | succ n => cases hx) hc rfl
theorem wpreV (hK : KK D dA a s) (hW : wS D dA a s F H locs) {k i j : Nat} (hv : wVd dA (k, i, j)) {C : String} {T : u_T} {N ci : Nat} {fs : List Value} (he : wc dA a F k i j = .inr (ci, fs)) (hc : vwCl[ci]? = some (C, T, N)) (As : List Value) : PreV s H C (a (k, i, j)) (wPre D dA a F H.size (.ref (a (k, i, j)) :: As)) As := ⟨wBlind, wrecv hK hW hv he hc, fun U hU hWm => ⟨rfl, by rw [hU], by rw [hU]; exact hW.1, KK.go hK.1 hK.2.1 hK.2.2 hW.2.2 hWm hU hW.2.1⟩⟩
theorem wk_i {r1 : Int32} {av : Array Value} (hr : va_Run p l e R s m args below meth c H locs cells slots 0 0 (F0 m pc ls st0) rest (wQi D dA a H.size F1 r1 av) (wA dA a H.size)) (hW : wS D dA a s F H locs) (kk : ∀ (H1 : Heap) (locs1 : List Loc), wS D dA a s F1 H1 locs1 → W p l e R s m args below meth c H1 locs1 cells slots Q (F0 m (pc + 3) ls (.int r1 :: rest))) : W p l e R s m args below meth c H locs cells slots Q (F0 m pc ls st0) :=
  va_calli hr hW.2.1 (fun _ _ h => hW.2.2 _ h) (fun _ h => hW.2.2 _ h) (fun r u t H1 locs1 ht _ hp hB hz _ hS => by
    have hp : r = r1 := hp
    subst hp
    exact kk H1 locs1 ⟨by rw [← ht]; exact hB, hS, fun q h => hW.2.2 q (wA_mono hz h)⟩)
theorem wk_l {r1 : Int64} {av : Array Value} (hr : va_Run p l e R s m args below meth c H locs cells slots 0 0 (F0 m pc ls st0) rest (wQl D dA a H.size F1 r1 av) (wA dA a H.size)) (hW : wS D dA a s F H locs) (kk : ∀ (H1 : Heap) (locs1 : List Loc), wS D dA a s F1 H1 locs1 → W p l e R s m args below meth c H1 locs1 cells slots Q (F0 m (pc + 3) ls (.long r1 :: rest))) : W p l e R s m args below meth c H locs cells slots Q (F0 m pc ls st0) :=
  va_calll hr hW.2.1 (fun _ _ h => hW.2.2 _ h) (fun _ h => hW.2.2 _ h) (fun r u t H1 locs1 ht _ hp hB hz _ hS => by
    have hp : r = r1 := hp
    subst hp
    exact kk H1 locs1 ⟨by rw [← ht]; exact hB, hS, fun q h => hW.2.2 q (wA_mono hz h)⟩)
theorem wk_v {av : Array Value} (hr : va_Run p l e R s m args below meth c H locs cells slots 0 0 (F0 m pc ls st0) rest (wQv D dA a H.size F1 av) (wA dA a H.size)) (hW : wS D dA a s F H locs) (kk : ∀ (H1 : Heap) (locs1 : List Loc), wS D dA a s F1 H1 locs1 → W p l e R s m args below meth c H1 locs1 cells slots Q (F0 m (pc + 3) ls rest)) : W p l e R s m args below meth c H locs cells slots Q (F0 m pc ls st0) :=
  va_callv hr hW.2.1 (fun _ _ h => hW.2.2 _ h) (fun _ h => hW.2.2 _ h) (fun u t H1 locs1 ht _ hp hB hz _ hS => kk H1 locs1 ⟨by rw [← ht]; exact hB, hS, fun q h => hW.2.2 q (wA_mono hz h)⟩)
/-- ends -/
theorem we_i {r : Int32} (S : CallFix p m c cc nL s args lw_all own) (hr : meth.sig.returnType = some .int) (hlk : meth.locks = false) (hW : wS D dA a s F H locs) (hdg : decode cc pc = .ok (.ireturn, 1)) : W p l e R s m args below meth c H locs cells slots (MQ below (wQi D dA a s.heap.size F r) args s cells slots (wA dA a s.heap.size)) (F0 m pc ls [.int r]) :=
  W.iret S.1 S.2.1 hr (fun t ht _ => ⟨⟨r, (), rfl, rfl, by show wP D dA a F t.heap; rw [ht]; exact hW.1⟩, hW.2.1.F ht⟩) hW.2.1.2.2 hdg hlk
theorem we_z {r : Int32} (S : CallFix p m c cc nL s args lw_all own) (hr : meth.sig.returnType = some .boolean) (hlk : meth.locks = false) (hn : narrow .boolean (.int r) = .int r) (hW : wS D dA a s F H locs) (hdg : decode cc pc = .ok (.ireturn, 1)) : W p l e R s m args below meth c H locs cells slots (MQ below (wQi D dA a s.heap.size F r) args s cells slots (wA dA a s.heap.size)) (F0 m pc ls [.int r]) :=
  W.zret S.1 S.2.1 hr hn (fun t ht _ => ⟨⟨r, (), rfl, rfl, by show wP D dA a F t.heap; rw [ht]; exact hW.1⟩, hW.2.1.F ht⟩) hW.2.1.2.2 hdg hlk
theorem we_l {r : Int64} (S : CallFix p m c cc nL s args lw_all own) (hr : meth.sig.returnType = some .long) (hlk : meth.locks = false) (hW : wS D dA a s F H locs) (hdg : decode cc pc = .ok (.lreturn, 1)) : W p l e R s m args below meth c H locs cells slots (MQ below (wQl D dA a s.heap.size F r) args s cells slots (wA dA a s.heap.size)) (F0 m pc ls [.long r]) :=
  W.lret S.1 S.2.1 hr (fun t ht _ => ⟨⟨r, (), rfl, rfl, by show wP D dA a F t.heap; rw [ht]; exact hW.1⟩, hW.2.1.F ht⟩) hW.2.1.2.2 hdg hlk
theorem we_v (S : CallFix p m c cc nL s args lw_all own) (hr : meth.sig.returnType = none) (hlk : meth.locks = false) (hW : wS D dA a s F H locs) (hdg : decode cc pc = .ok (.return_, 1)) : W p l e R s m args below meth c H locs cells slots (MQ below (wQv D dA a s.heap.size F) args s cells slots (wA dA a s.heap.size)) (F0 m pc ls []) :=
  W.vret S.1 S.2.1 hr (fun t ht _ => ⟨⟨(), rfl, trivial, by show wP D dA a F t.heap; rw [ht]; exact hW.1⟩, hW.2.1.F ht⟩) hW.2.1.2.2 hdg hlk
/-- a boolean answer is 0 or 1 -/
def bzb (r : Int32) : Bool := decide (r = 0 ∨ r = 1)
theorem bzb_e {r : Int32} (h : bzb r = true) : narrow .boolean (.int r) = .int r := by
  have h2 : r = 0 ∨ r = 1 := of_decide_eq_true h
  rcases h2 with h2 | h2 <;> subst h2 <;> rfl
theorem vpb_lt {x : Int32} {n : Nat} (h : vpb x n = true) : x.toNatClampNeg < n := Nat.not_le.mp fun q => vpb_in h (Or.inr q)
theorem lv_sw {x v : Int32} (h : x = v) (k : W p l e R s m args below meth c H locs cells slots Q (F0 m pc ls (.int v :: rest))) : W p l e R s m args below meth c H locs cells slots Q (F0 m pc ls (.int x :: rest)) := by rw [h]; exact k
end WC
def ob2 {α β γ : Type} (x : Option (α × β)) (f : α → β → Option γ) : Option γ := match x with
  | some y => f y.1 y.2
  | none => none
theorem ob2_e {α β γ : Type} {x : Option (α × β)} {f : α → β → Option γ} {r : γ} (h : ob2 x f = some r) : ∃ y z, x = some (y, z) ∧ f y z = some r := by
  cases x with
  | none => cases h
  | some y => exact ⟨y.1, y.2, rfl, h⟩
def ob3 {α β γ δ : Type} (x : Option (α × β × γ)) (f : α → β → γ → Option δ) : Option δ := match x with
  | some y => f y.1 y.2.1 y.2.2
  | none => none
theorem ob3_e {α β γ δ : Type} {x : Option (α × β × γ)} {f : α → β → γ → Option δ} {r : δ} (h : ob3 x f = some r) : ∃ y z w, x = some (y, z, w) ∧ f y z w = some r := by
  cases x with
  | none => cases h
  | some y => exact ⟨y.1, y.2.1, y.2.2, rfl, h⟩
def ob4 {α β γ δ ε : Type} (x : Option (α × β × γ × δ)) (f : α → β → γ → δ → Option ε) : Option ε := match x with
  | some y => f y.1 y.2.1 y.2.2.1 y.2.2.2
  | none => none
theorem ob4_e {α β γ δ ε : Type} {x : Option (α × β × γ × δ)} {f : α → β → γ → δ → Option ε} {r : ε} (h : ob4 x f = some r) : ∃ y z w v, x = some (y, z, w, v) ∧ f y z w v = some r := by
  cases x with
  | none => cases h
  | some y => exact ⟨y.1, y.2.1, y.2.2.1, y.2.2.2, rfl, h⟩
def ob5 {α β γ δ ε ζ : Type} (x : Option (α × β × γ × δ × ε)) (f : α → β → γ → δ → ε → Option ζ) : Option ζ := match x with
  | some y => f y.1 y.2.1 y.2.2.1 y.2.2.2.1 y.2.2.2.2
  | none => none
theorem ob5_e {α β γ δ ε ζ : Type} {x : Option (α × β × γ × δ × ε)} {f : α → β → γ → δ → ε → Option ζ} {r : ζ} (h : ob5 x f = some r) : ∃ y z w v u, x = some (y, z, w, v, u) ∧ f y z w v u = some r := by
  cases x with
  | none => cases h
  | some y => exact ⟨y.1, y.2.1, y.2.2.1, y.2.2.2.1, y.2.2.2.2, rfl, h⟩
/-- a loop that may answer out of its midst -/
def obE {α β : Type} (x : Option (β ⊕ α)) (f : α → Option β) : Option β := match x with
  | some (.inl r) => some r
  | some (.inr y) => f y
  | none => none
