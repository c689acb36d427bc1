/-! MAKING CELLS: rows that tell the new cell's address (the heap's size), over lists of cells; the tables' knowledge that makers need -/
set_option maxRecDepth 100000
/-- a grid's class holds rows of that class -/
def gK (dA : WK) (U : State) : Prop := (∃ k, U.vm.classes[dA.1 6]? = some k ∧ k.kind = .array (dA.1 0) (.array .int)) ∧ ∃ k, U.vm.classes[dA.1 5]? = some k ∧ k.kind = .array (dA.1 4) (.array (.object "WaterGrounds$Ground"))
theorem gK.moved {dA : WK} {u U : State} (hvm : u.vm.Alike U.vm) (h : gK dA u) : gK dA U := by
  obtain ⟨⟨k, h1, h2⟩, k2, h3, h4⟩ := h
  obtain ⟨k', hk', he⟩ := hvm.2.2 _ _ h1
  obtain ⟨k2', hk2', he2⟩ := hvm.2.2 _ _ h3
  exact ⟨⟨k', hk', by rw [he]; exact h2⟩, k2', hk2', by rw [he2]; exact h4⟩
/-- what a maker knows -/
def CK (D : va_G) (dA : WK) (U : State) : Prop := va_K D vwCl (tyl dA.1) U ∧ (∀ w ∈ lw_nw, va_Nw w U) ∧ va_AO "WaterGrounds$Grain" U ∧ va_AO "WaterGrounds$Bed" U ∧ va_AO "WaterGrounds$Line" U ∧ gK dA U
theorem CK.warm {D : va_G} {dA : WK} {s U : State} (h : CK D dA s) (hW : s.WarmedH U.vm) : CK D dA U := ⟨va_K.moved hW.alike h.1, fun w hw => isNw_warm (List.mem_filter.mp hw).2 hW (h.2.1 w hw), va_AO.moved hW.alike h.2.2.1, va_AO.moved hW.alike h.2.2.2.1, va_AO.moved hW.alike h.2.2.2.2.1, gK.moved hW.alike h.2.2.2.2.2⟩
theorem CK.same {D : va_G} {dA : WK} {s U : State} (h : CK D dA s) (hv : s.vm = U.vm) : CK D dA U := by
  have al : s.vm.Alike U.vm := by rw [hv]; exact Vm.Alike.refl _
  refine ⟨va_K.moved al h.1, fun w hw => ?_, va_AO.moved al h.2.2.1, va_AO.moved al h.2.2.2.1, va_AO.moved al h.2.2.2.2.1, gK.moved al h.2.2.2.2.2⟩
  have h1 := (List.mem_filter.mp hw).2
  have h2 := h.2.1 w hw
  cases w <;> first | (simp [isNw] at h1; done) | exact va_Nw.same rfl hv h2
def slAp (D : va_G) : Prop := ∀ (ci : Nat) (q : vw_C), vwCl[ci]? = some q → ∀ x y, x < q.2.2 → y < q.2.2 → x ≠ y → D.2 ci x ≠ D.2 ci y
section MK
variable {p : Program} {l : Launch} {e : Env} {R : Room} {s : State} {m : MethodId} {args : Array Value} {below : List Frame} {meth : Method} {c : Code} {H : Heap} {locs : List Loc} {cells slots : Nat} {Q : State → Prop}
variable {cc : ByteArray} {nL pc : Nat} {ls : Array Slot} {rest : List Value} {D : va_G} {dA : WK} {A : Nat → Prop} {a : Nat} {ws : va_W} {own : String}
theorem va_P.grow {H1 : Heap} {z : Nat} {x : va_E} (hP : va_P D vwCl ws H) (hz : H.size = z) (he : va_at D vwCl (z, x) H1) (o1 : ∀ q, q < H.size → H1[q]? = H[q]?) : va_P D vwCl (ws ++ [(z, x)]) H1 := by
  refine (hP.kept (fun k y hy => o1 y.1 ((hP k y hy).lt))).app (fun k y hy => ?_)
  have hk : k < 1 := (List.getElem?_eq_some_iff.mp hy).1
  rw [show k = 0 by omega] at hy
  cases hy
  exact he
theorem va_S.grow {H0 H1 : Heap} (hS : va_S A H0 H locs) (h1 : H.size ≤ H1.size) (o1 : ∀ q, q < H.size → H1[q]? = H[q]?) : va_S A H0 H1 locs := ⟨Nat.le_trans hS.1 h1, fun x g1 g2 => (o1 x (Nat.lt_of_lt_of_le g1 hS.1)).trans (hS.2.1 x g1 g2), hS.2.2⟩
theorem hnew {H0 : Heap} {C : String} {T : u_T} {N ci index z : Nat} (S : CallFix p m c cc nL s args lw_all own) (hin : ∀ w ∈ u_ws C T N, w ∈ lw_all) (ty : Nat → FieldType) (hty : ∀ k, k < N → parseFieldDescriptor (T k).2.2.1 = some (ty k)) (hcl : Cond.classLink own index C ∈ lw_all) (hinst : Cond.instantiable C N ∈ lw_all) (hini : Cond.initialized C ∈ lw_all)
    (hK : CK D dA s) (hP : va_P D vwCl ws H) (hD : va_D A ws) (hS : va_S A H0 H locs) (hA : ∀ q, H0.size ≤ q → A q) (hc : vwCl[ci]? = some (C, T, N)) {fs : List Value} (hfs : ∀ j, j < N → defaultValue (ty j) = vp_V fs j) (hz : H.size = z) (hcells : cells + 1 ≤ R.cells) (hslots : slots + N ≤ R.slots) (hdg : decode cc pc = .ok (.new index, 3))
    (kk : ∀ H1 : Heap, H1.size = z + 1 → va_P D vwCl (ws ++ [(z, .inr (ci, fs))]) H1 → va_D A (ws ++ [(z, .inr (ci, fs))]) → va_S A H0 H1 locs → W p l e R s m args below meth c H1 locs (cells + 1) (slots + N) Q (F0 m (pc + 3) ls (.ref z :: rest))) : W p l e R s m args below meth c H locs cells slots Q (F0 m pc ls rest) := by
  have hKn := hK.1.1 ci _ hc
  refine W.newcK S.1 S.2.1 S.2.2.2.1 (S.2.2.2.2 _ hcl) (S.2.2.2.2 _ hinst) (S.2.2.2.2 _ hini) rfl hdg hcells hslots hKn.2.1 rfl fun H1 kC hkC e1 z1 o1 => ?_
  rw [hz] at e1 z1 ⊢
  exact kk H1 z1 (hP.grow hz ⟨_, hc, (u_born ty S.2.2.2.2 hin hKn hkC e1 hty).to hfs⟩ o1) (hD.push hP hz.symm (hA _ (hz ▸ hS.1))) (hS.grow (by omega) o1)
theorem hnewa {H0 : Heap} {atype : ArrayType} {ty : FieldType} {t z N : Nat} {a0 : vp_A} {n : Int32} (S : CallFix p m c cc nL s args lw_all own) (harr : Cond.arrayClass (newarray.typeOf atype) ∈ lw_all) (hty : newarray.typeOf atype = ty) (ht : (tyl dA.1)[t]? = some (dA.1 t, ty)) (hra : va_RA s (dA.1 t) ty = (s.vm.findClass ("[" ++ ty.toString) = some (dA.1 t)))
    (hK : CK D dA s) (hP : va_P D vwCl ws H) (hD : va_D A ws) (hS : va_S A H0 H locs) (hA : ∀ q, H0.size ≤ q → A q) (ha : ∀ cA : ClassId, vp_cell cA a0 = arrV cA N (fun _ => defaultValue ty)) (hn : ¬ n < 0) (hN : n.toNatClampNeg = N) (hbytes : N * componentBytes ty ≤ 536870912) (hz : H.size = z) (hcells : cells + 1 ≤ R.cells) (hslots : slots + N ≤ R.slots) (hdg : decode cc pc = .ok (.newarray atype, 2))
    (kk : ∀ H1 : Heap, H1.size = z + 1 → va_P D vwCl (ws ++ [(z, .inl (dA.1 t, a0))]) H1 → va_D A (ws ++ [(z, .inl (dA.1 t, a0))]) → va_S A H0 H1 locs → W p l e R s m args below meth c H1 locs (cells + 1) (slots + N) Q (F0 m (pc + 2) ls (.ref z :: rest))) : W p l e R s m args below meth c H locs cells slots Q (F0 m pc ls (.int n :: rest)) := by
  subst hty
  refine va_newaK S.1 S.2.1 (S.2.2.2.2 _ harr) rfl hdg rfl hn hN hbytes hcells hslots hz fun H1 cA e1 z1 o1 _ hNm => ?_
  have h2 := (hK.1.2 t _ ht).2
  rw [hra] at h2
  have e2 : cA = dA.1 t := Option.some.inj (hNm.symm.trans h2)
  subst e2
  exact kk H1 z1 (hP.grow hz (show H1[z]? = some (vp_cell _ _) by rw [ha]; exact e1) (by rw [hz]; exact o1)) (hD.push hP hz.symm (hA _ (hz ▸ hS.1))) (hS.grow (by omega) (by rw [hz]; exact o1))
theorem hnewq {H0 : Heap} {C : String} {index t z N : Nat} {n : Int32} (S : CallFix p m c cc nL s args lw_all own) (hcl : Cond.classLink own index C ∈ lw_all) (hover : va_AO C s) (ht : (tyl dA.1)[t]? = some (dA.1 t, .object C))
    (hK : CK D dA s) (hP : va_P D vwCl ws H) (hD : va_D A ws) (hS : va_S A H0 H locs) (hA : ∀ q, H0.size ≤ q → A q) (hn : ¬ n < 0) (hN : n.toNatClampNeg = N) (hbytes : N * 4 ≤ 536870912) (hz : H.size = z) (hcells : cells + 1 ≤ R.cells) (hslots : slots + N ≤ R.slots) (hdg : decode cc pc = .ok (.anewarray index, 3))
    (kk : ∀ H1 : Heap, H1.size = z + 1 → va_P D vwCl (ws ++ [(z, .inl (dA.1 t, N, .inr (.inr (.inr (.inr (fun _ => none))))))]) H1 → va_D A (ws ++ [(z, .inl (dA.1 t, N, .inr (.inr (.inr (.inr (fun _ => none))))))]) → va_S A H0 H1 locs → W p l e R s m args below meth c H1 locs (cells + 1) (slots + N) Q (F0 m (pc + 3) ls (.ref z :: rest))) : W p l e R s m args below meth c H locs cells slots Q (F0 m pc ls (.int n :: rest)) := by
  subst hN
  refine W.anew S.1 S.2.1 S.2.2.2.1 (S.2.2.2.2 _ hcl) (va_AO.use hover) rfl hdg rfl hn hbytes hcells hslots fun cA kA comp f1 f2 f3 f4 => ?_
  obtain ⟨kA2, comp2, g1, g2, g3, g4⟩ := (hK.1.2 t _ ht).2
  have e2 : cA = dA.1 t := Option.some.inj (f1.symm.trans g4)
  subst e2
  generalize hH1 : H.push ({ cls := dA.1 t, slots := Array.replicate n.toNatClampNeg .null, vm := .none } : Cell) = H1
  have z1 : H1.size = H.size + 1 := by rw [← hH1, Array.size_push]
  have e1 : H1[H.size]? = some (arrV (dA.1 t) n.toNatClampNeg (fun _ => .null)) := by rw [← hH1, Array.getElem?_push_size, ← arrV_new]
  have o1 : ∀ q : Nat, q < H.size → H1[q]? = H[q]? := fun q hq => by rw [← hH1, Array.getElem?_push, if_neg (Nat.ne_of_lt hq)]
  rw [hz] at e1 z1 ⊢
  exact kk H1 z1 (hP.grow hz (show H1[z]? = some (vp_cell _ _) by rw [vp_cell_q]; exact e1) o1) (hD.push hP hz.symm (hA _ (hz ▸ hS.1))) (hS.grow (by omega) o1)
/-- stores into an object under construction: the slots' apartness is a premise -/
theorem cput {H0 : Heap} {ref C : String} {T : u_T} {N ci index : Nat} (S : CallFix p m c cc nL s args lw_all own) (hin : ∀ w ∈ u_ws C T N, w ∈ lw_all) (hap : slAp D) (hK : CK D dA s) (hP : va_P D vwCl ws H) (hD : va_D A ws) (hS0 : va_S A H0 H locs) (q0 : Nat) {fs : List Value} (he : ws[q0]? = some (a, .inr (ci, fs))) (hc : vwCl[ci]? = some (C, T, N)) (k : Nat) (hk : k < N) (hlink : Cond.fieldLink own index ref (T k).2.1 (T k).2.2.1 ∈ lw_all) (hsame : ∀ x, s.fieldFound? (T k).1 (T k).2.1 (T k).2.2.1 = some x → s.fieldFound? ref (T k).2.1 (T k).2.2.1 = some x) (hfin : (T k).2.2.2 = false) {ty : FieldType} {v : Value} (hd : parseFieldDescriptor (T k).2.2.1 = some ty) (hn : narrow ty v = v) (hfit : fits ty v = true) (hl : k < fs.length)
    (hdg : decode cc pc = .ok (.putfield index, 3)) (kk : ∀ (H1 : Heap) (locs1 : List Loc), H1.size = H.size → va_P D vwCl (ws.set q0 (a, .inr (ci, fs.set k v))) H1 → va_D A (ws.set q0 (a, .inr (ci, fs.set k v))) → va_S A H0 H1 locs1 → W p l e R s m args below meth c H1 locs1 cells slots Q (F0 m (pc + 3) ls rest)) : W p l e R s m args below meth c H locs cells slots Q (F0 m pc ls (v :: .ref a :: rest)) := by
  obtain ⟨r, h1, cell, q1, q2, q3, q4⟩ := hP q0 _ he
  have hr : r = (C, T, N) := Option.some.inj (h1.symm.trans hc)
  subst hr
  obtain ⟨hS, hfc, kC, hkC, hkind⟩ := hK.1.1 ci _ hc
  obtain ⟨cf, kf, fi, f, hi, hsl⟩ := hS k hk
  have hlay := S.2.2.2.2 _ (hin _ (u_in_lay hk))
  unfold u_lay at hlay
  rw [if_neg (by rw [hfin]; decide)] at hlay
  have hst := (u_facts hfc hkC (u_lays S.2.2.2.2 hin hk) hi).1
  have h6 := u_store hfc hkC hkind hlay hi hd hn hfit
  refine W.putK S.1 S.2.1 (f := f) ⟨S.2.2.2.1, S.2.2.2.2 _ hlink, ⟨_, _, _, hsame _ hi⟩, hst⟩ (by rw [q2]; exact h6) q1 q3 (by rw [hsl]; exact k2_hasslot (q4 k hk)) rfl rfl hdg fun H' e1 e2 e3 => ?_
  rw [hsl] at e1 ⊢
  exact kk H' _ e2 (hP.set hD he ⟨_, hc, t_OB.to (V := updV (vp_V fs) k v) ⟨_, e1, q2, q3, t_set q4 (hap ci _ hc) hk v⟩ (fun j _ => vp_updV_set hl v j)⟩ e3) (hD.set he) (hS0.put e2 e3 (hD.2 q0 _ he))
theorem cputF {H0 : Heap} {ref C : String} {T : u_T} {N ci index : Nat} (S : CallFix p m c cc nL s args lw_all own) (hin : ∀ w ∈ u_ws C T N, w ∈ lw_all) (hap : slAp D) (hK : CK D dA s) (hP : va_P D vwCl ws H) (hD : va_D A ws) (hS0 : va_S A H0 H locs) (q0 : Nat) {fs : List Value} (he : ws[q0]? = some (a, .inr (ci, fs))) (hc : vwCl[ci]? = some (C, T, N)) (k : Nat) (hk : k < N) (hlink : Cond.fieldLink own index ref (T k).2.1 (T k).2.2.1 ∈ lw_all) (hsame : ∀ x, s.fieldFound? (T k).1 (T k).2.1 (T k).2.2.1 = some x → s.fieldFound? ref (T k).2.1 (T k).2.2.1 = some x) (hfin : (T k).2.2.2 = true) (hin2 : meth.name = "<init>") (hdecl : (T k).1 = own) {ty : FieldType} {v : Value} (hd : parseFieldDescriptor (T k).2.2.1 = some ty) (hn : narrow ty v = v) (hfit : fits ty v = true) (hl : k < fs.length)
    (hdg : decode cc pc = .ok (.putfield index, 3)) (kk : ∀ (H1 : Heap) (locs1 : List Loc), H1.size = H.size → va_P D vwCl (ws.set q0 (a, .inr (ci, fs.set k v))) H1 → va_D A (ws.set q0 (a, .inr (ci, fs.set k v))) → va_S A H0 H1 locs1 → W p l e R s m args below meth c H1 locs1 cells slots Q (F0 m (pc + 3) ls rest)) : W p l e R s m args below meth c H locs cells slots Q (F0 m pc ls (v :: .ref a :: rest)) := by
  obtain ⟨r, h1, cell, q1, q2, q3, q4⟩ := hP q0 _ he
  have hr : r = (C, T, N) := Option.some.inj (h1.symm.trans hc)
  subst hr
  obtain ⟨hS, hfc, kC, hkC, hkind⟩ := hK.1.1 ci _ hc
  obtain ⟨cf, kf, fi, f, hi, hsl⟩ := hS k hk
  have hlay := S.2.2.2.2 _ (hin _ (u_in_lay hk))
  unfold u_lay at hlay
  rw [if_pos hfin] at hlay
  have hst := (u_facts hfc hkC (u_lays S.2.2.2.2 hin hk) hi).1
  have hcf : m.cls = cf := by
    obtain ⟨_, _, c', _, _, _, -, -, hf', -, -, -, hown2, -⟩ := Cond.laysFinal_spec hlay
    have e1 : c' = cf := by have := hi.symm.trans hf'; simp at this; exact this.1.symm
    rw [hdecl] at hown2
    rw [← e1]; exact Option.some.inj (S.2.2.2.1.symm.trans hown2)
  have h6 := u_fits hfc hkC hkind (Or.inr hlay) hi hd hn hfit
  refine W.putFinK S.1 S.2.1 S.2.2.2.1 (S.2.2.2.2 _ hlink) (hsame _ hi) hst hcf hin2 (by rw [q2]; exact h6) q1 q3 (by rw [hsl]; exact k2_hasslot (q4 k hk)) rfl rfl hdg fun H' e1 e2 e3 => ?_
  rw [hsl] at e1 ⊢
  exact kk H' _ e2 (hP.set hD he ⟨_, hc, t_OB.to (V := updV (vp_V fs) k v) ⟨_, e1, q2, q3, t_set q4 (hap ci _ hc) hk v⟩ (fun j _ => vp_updV_set hl v j)⟩ e3) (hD.set he) (hS0.put e2 e3 (hD.2 q0 _ he))
theorem arrV_congr {cA : ClassId} {N : Nat} {f g : Nat → Value} (h : ∀ j, j < N → f j = g j) : arrV cA N f = arrV cA N g := by
  unfold arrV
  congr 1
  congr 1
  funext j
  exact h j.val j.isLt
/-- the rows of a grid as cells -/
def gRows (z : Nat) (x : va_E) (N : Nat) : va_W := (List.range N).map (fun j => (z + 1 + j, x))
theorem hmulti {H0 : Heap} {nm : String} {index t t2 z N M : Nat} {ty : FieldType} {a0 : vp_A} {n k : Int32} {kA : Class} (S : CallFix p m c cc nL s args lw_all own) (hcl : Cond.classLink own index nm ∈ lw_all) (hfA : s.vm.findClass nm = some (dA.1 t)) (hkA : s.vm.classes[dA.1 t]? = some kA) (hkindA : kA.kind = .array (dA.1 t2) (.array ty)) (ht2 : (tyl dA.1)[t2]? = some (dA.1 t2, ty))
    (hK : CK D dA s) (hP : va_P D vwCl ws H) (hD : va_D A ws) (hS : va_S A H0 H locs) (hA : ∀ q, H0.size ≤ q → A q) (ha : ∀ cA : ClassId, vp_cell cA a0 = arrV cA M (fun _ => defaultValue ty)) (hn : ¬ n < 0) (hN : n.toNatClampNeg = N) (hk : ¬ k < 0) (hM : k.toNatClampNeg = M) (hb1 : N * 4 ≤ 536870912) (hb2 : M * componentBytes ty ≤ 536870912) (hb3 : M ≤ 536870912) (hdf : fits ty (defaultValue ty) = true) (hz : H.size = z) (hcells : cells + (1 + N) ≤ R.cells) (hslots : slots + (N + N * M) ≤ R.slots) (hdg : decode cc pc = .ok (.multianewarray index 2, 4))
    (kk : ∀ (H1 : Heap) (locs1 : List Loc), H1.size = z + 1 + N → va_P D vwCl (ws ++ ((z, .inl (dA.1 t, N, .inr (.inr (.inr (.inr (fun j => some (z + 1 + j))))))) :: gRows z (.inl (dA.1 t2, a0)) N)) H1 → va_D A (ws ++ ((z, .inl (dA.1 t, N, .inr (.inr (.inr (.inr (fun j => some (z + 1 + j))))))) :: gRows z (.inl (dA.1 t2, a0)) N)) → va_S A H0 H1 locs1 → W p l e R s m args below meth c H1 locs1 (cells + 1 + N) (slots + N + N * M) Q (F0 m (pc + 4) ls (.ref z :: rest))) : W p l e R s m args below meth c H locs cells slots Q (F0 m pc ls (.int k :: .int n :: rest)) := by
  subst hN; subst hM
  intro T hT X
  obtain ⟨-, kC, hkC, ccc, hkindC⟩ := (hK.1.2 t2 _ ht2).1 0 (fun _ => .null)
  have hkC : s.vm.classes[dA.1 t2]? = some kC := hkC
  refine multi2 X S.1 S.2.2.2.1 (S.2.2.2.2 _ hcl) hfA hkA hkindA rfl rfl hkC hkindC (g := F0 m pc ls (.int k :: .int n :: rest)) rfl (by rw [S.2.1]; exact hdg) rfl hn hk hb1 hb2 hb3 hdf hcells hslots (target := Q) (fun vm₁ U hU => ?_)
  obtain ⟨L, hL, XF, -, hsz, ho, hold, hr⟩ := hU
  have hTz : T.heap.size = z := by rw [hT]; exact hz
  rw [hTz] at hL hsz ho hold hr ⊢
  rw [hT] at hold
  have hnew : ∀ (i : Nat) (x : Nat × va_E), ((z, .inl (dA.1 t, n.toNatClampNeg, .inr (.inr (.inr (.inr (fun j => some (z + 1 + j))))))) :: gRows z (.inl (dA.1 t2, a0)) n.toNatClampNeg)[i]? = some x → x.1 = z + i ∧ va_at D vwCl x U.heap := by
    intro i x hx
    cases i with
    | zero =>
      cases hx
      refine ⟨rfl, ?_⟩
      show U.heap[z]? = some (vp_cell _ _)
      rw [vp_cell_q, ho]
      congr 1
      exact arrV_congr (fun j hj => by simp [gOut, hj, va_rf])
    | succ i =>
      rw [List.getElem?_cons_succ] at hx
      unfold gRows at hx
      rw [List.getElem?_map] at hx
      cases hi : (List.range n.toNatClampNeg)[i]? with
      | none => rw [hi] at hx; cases hx
      | some j =>
        rw [hi] at hx
        have hj := List.getElem?_eq_some_iff.mp hi
        obtain ⟨hj1, hj2⟩ := hj
        rw [List.getElem_range] at hj2
        subst hj2
        cases hx
        refine ⟨by show z + 1 + i = z + (i + 1); omega, ?_⟩
        show U.heap[z + 1 + i]? = some (vp_cell _ _)
        rw [ha]
        exact hr i (by simpa using hj1)
  have hPo : va_P D vwCl ws U.heap := hP.kept (fun i x hx => hold x.1 (by have := (hP i x hx).lt; omega))
  refine kk U.heap _ hsz (hPo.app (fun i x hx => (hnew i x hx).2)) (va_D.app hD ⟨fun i j x y hx hy hxy => ?_, fun i x hx => ?_⟩ (fun i j x y hx hy hxy => ?_)) ⟨Nat.le_trans hS.1 (by omega), fun x h1 h2 => (hold x (by have := hS.1; omega)).trans (hS.2.1 x h1 h2), fun q hq => ?_⟩ U rfl XF
  · have h1 := (hnew i x hx).1
    have h2 := (hnew j y hy).1
    omega
  · rw [(hnew i x hx).1]
    exact hA _ (by have := hS.1; omega)
  · have h1 := (hP i x hx).lt
    have h2 := (hnew j y hy).1
    omega
  · rcases List.mem_append.mp hq with h | h
    · exact hS.2.2 q h
    · rw [hL q h]
      exact hA _ (by have := hS.1; omega)
end MK
