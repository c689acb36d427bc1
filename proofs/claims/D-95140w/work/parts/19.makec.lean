/-! MAKERS: contracts of constructors over lists of cells; stores that tell the heap's size; calls of constructors -/
set_option maxRecDepth 100000
abbrev cPre (D : va_G) (dA : WK) (ws0 : va_W) (sz : Nat) (av : List Value) : Array Value → State → Prop := va_Pc av (fun U => U.heap.size = sz ∧ va_P D vwCl ws0 U.heap ∧ CK D dA U ∧ va_D (fun _ => True) ws0)
abbrev cQ (D : va_G) (ws0 ws1 : va_W) (sz K : Nat) : Array Value → State → Outcome → State → Prop := va_Qv (fun (_ : Unit) => True) (fun _ t => t.heap.size = sz + K ∧ va_P D vwCl ws1 t.heap ∧ va_D (va_A ws0 sz) ws1) (va_A ws0 sz)
abbrev rmC (f k mc ms : Nat) : Room := { frames := f, cells := mc, slots := ms, locals := k }
abbrev Mc (l : Launch) (y : MethodName) (b : ByteArray) (L f k mc ms : Nat) (D : va_G) (dA : WK) (sz : Nat) (ws0 ws1 : va_W) (av : List Value) : Prop := Met l y (ws_ y b L none) (rmC f k mc ms) (cPre D dA ws0 sz av) (cQ D ws0 ws1 sz mc) mc ms (va_A ws0 sz)
theorem cst {l : Launch} {y : MethodName} {cc : ByteArray} {L : Nat} {rm : Room} {D : va_G} {dA : WK} {ws0 : va_W} {av : List Value} {Qc : Array Value → State → Outcome → State → Prop} {mc ms sz : Nat} (hy : plainName y.cls = true) (hn : (lg_sl av).length ≤ L)
    (body : ∀ (p : Program) (e : Env) (s : State) (m : MethodId) (below : List Frame) (meth : Method) (c : Code) (A : Nat → Prop), CallFix p m c cc L s av.toArray lw_all y.cls → meth.sig.returnType = none → meth.locks = false → meth.name = y.name → CK D dA s → s.heap.size = sz → va_P D vwCl ws0 s.heap → va_D A ws0 → (∀ q, sz ≤ q → A q) → A = va_A ws0 sz → ∀ ls : Array Slot, lv_has ls L (lv_args 0 av) →
      W p l e rm s m av.toArray below meth c s.heap [] 0 0 (MQ below Qc av.toArray s mc ms A) (F0 m 0 ls [])) : Met l y (ws_ y cc L none) rm (cPre D dA ws0 sz av) Qc mc ms (va_A ws0 sz) := by
  refine Met.ofW (cc := cc) (maxL := L) (ret := none) hy rfl ?_
  intro p e s m args below meth c s₁ B hml hv
  obtain ⟨rfl, hsz, hP, hK, hD0⟩ := hv
  have hts := atoms_spec (ws := ws_ y cc L none) B.pre
  have hts : ∀ w ∈ lw_all, w.before av.toArray s = true := fun w h => hts w (List.mem_cons_of_mem _ h)
  rw [lg_entry_eq]
  exact body p e s m below meth c _ ⟨B.exec, B.bytes, hml, findClass_of_methodNamed B.named, hts⟩ B.returns B.notSynchronized (name_of_methodNamed B.named B.method).1 hK hsz hP hD0.self (fun q h => Or.inr h) rfl _ (lv_entry av hn)
section MC
variable {p : Program} {l : Launch} {e : Env} {R : Room} {s : State} {m : MethodId} {args : Array Value} {below : List Frame} {meth : Method} {c : Code} {H : Heap} {locs : List Loc} {cells slots : Nat} {Q : State → Prop}
variable {cc : ByteArray} {nL pc : Nat} {ls : Array Slot} {rest st0 : List Value} {D : va_G} {dA : WK} {A : Nat → Prop} {a : Nat} {ws : va_W} {own : String}
theorem liast {H0 : Heap} {n z : Nat} {f : Nat → Int32} {i x : Int32} (S : CallFix p m c cc nL s args lw_all own) (hK : CK D dA s) (hP : va_P D vwCl ws H) (hD : va_D A ws) (hS : va_S A H0 H locs) (q0 : Nat) (ha : ws[q0]? = some (a, .inl (dA.1 0, n, .inl f))) (hin : vpb i n = true) (hz : i.toNatClampNeg = z) (hdg : decode cc pc = .ok (.iastore, 1))
    (kk : ∀ (H1 : Heap) (locs1 : List Loc), H1.size = H.size → va_P D vwCl (ws.set q0 (a, .inl (dA.1 0, n, .inl (upd f z x)))) H1 → va_D A (ws.set q0 (a, .inl (dA.1 0, n, .inl (upd f z x)))) → va_S A H0 H1 locs1 → W p l e R s m args below meth c H1 locs1 cells slots Q (F0 m (pc + 1) ls rest)) : W p l e R s m args below meth c H locs cells slots Q (F0 m pc ls (.int x :: .int i :: .ref a :: rest)) := by
  subst hz
  refine W.iast S.1 S.2.1 (hP q0 _ ha) ((hK.1.2 0 _ rfl).1 n (fun j => .int (f j))) (fun q => by cases q) (by show ¬ (i < 0 ∨ (arrV _ _ _).slots.size ≤ _); rw [arrV_size]; exact vpb_in hin) rfl rfl hdg fun H1 e1 z1 oq => ?_
  refine kk H1 _ z1 (hP.set hD ha ?_ oq) (hD.set ha) (hS.put z1 oq (hD.2 q0 _ ha))
  show H1[a]? = some (vp_cell _ _)
  rw [e1, vp_cell_i, vp_cell_i, arrV_store]
  congr 2
  funext q
  by_cases hq : q = i.toNatClampNeg
  · subst hq
    simp [updV, upd]
  · simp [updV, upd, hq]
theorem laast {H0 : Heap} {n z v t ci : Nat} {vs : List Value} {f : Nat → Option Nat} {i : Int32} {C : String} {T : u_T} {N : Nat} (S : CallFix p m c cc nL s args lw_all own) (hK : CK D dA s) (hP : va_P D vwCl ws H) (hD : va_D A ws) (hS : va_S A H0 H locs) (q0 qk : Nat) (ha : ws[q0]? = some (a, .inl (dA.1 t, n, .inr (.inr (.inr (.inr f)))))) (ht : (tyl dA.1)[t]? = some (dA.1 t, .object C)) (hv : ws[qk]? = some (v, .inr (ci, vs))) (hc : vwCl[ci]? = some (C, T, N)) (hin : vpb i n = true) (hz : i.toNatClampNeg = z) (hdg : decode cc pc = .ok (.aastore, 1))
    (kk : ∀ (H1 : Heap) (locs1 : List Loc), H1.size = H.size → va_P D vwCl (ws.set q0 (a, .inl (dA.1 t, n, .inr (.inr (.inr (.inr (va_up f z (some v)))))))) H1 → va_D A (ws.set q0 (a, .inl (dA.1 t, n, .inr (.inr (.inr (.inr (va_up f z (some v)))))))) → va_S A H0 H1 locs1 → W p l e R s m args below meth c H1 locs1 cells slots Q (F0 m (pc + 1) ls rest)) : W p l e R s m args below meth c H locs cells slots Q (F0 m pc ls (.ref v :: .int i :: .ref a :: rest)) := by
  subst hz
  have hlt : i.toNatClampNeg < n := vpb_lt hin
  have h0 : ¬ i < 0 := fun q => vpb_in hin (Or.inl q)
  obtain ⟨r', hr', cellV, g1, g2, g3, -⟩ := hP qk _ hv
  have hcls := (hK.1.1 ci _ hc).2
  obtain ⟨kA, comp, k1, k2, k3, -⟩ := (hK.1.2 t _ ht).2
  have hcomp : comp = D.1 ci := Option.some.inj (k3.symm.trans hcls.1)
  subst hcomp
  obtain ⟨kC, hkC, -⟩ := hcls.2
  refine W.aast S.1 S.2.1 (hP q0 _ ha) (fun q h => by cases h) (fun h => by cases h) k1 k2 rfl hkC ⟨h0, by show _ < (arrV _ _ _).slots.size; rw [arrV_size]; exact hlt⟩ g1 (fun q h => by rw [g3] at h; cases h) (by rw [g2]; exact hkC) (by rw [g2]; exact va_assign hcls) rfl rfl hdg fun H1 e1 z1 oq => ?_
  refine kk H1 _ z1 (hP.set hD ha ?_ oq) (hD.set ha) (hS.put z1 oq (hD.2 q0 _ ha))
  show H1[a]? = some (vp_cell _ _)
  rw [e1, vp_cell_q, vp_cell_q, arrV_store]
  congr 2
  funext q
  by_cases hq : q = i.toNatClampNeg
  · subst hq
    simp [updV, va_up, va_rf]
  · simp [updV, va_up, hq]
theorem laald {n z t y : Nat} {ty : FieldType} {f : Nat → Option Nat} {i : Int32} (S : CallFix p m c cc nL s args lw_all own) (hK : CK D dA s) (hP : va_P D vwCl ws H) (q0 : Nat) (ha : ws[q0]? = some (a, .inl (dA.1 t, n, .inr (.inr (.inr (.inr f)))))) (ht : (tyl dA.1)[t]? = some (dA.1 t, ty)) (hty : ty.isReference = true) (hin : vpb i n = true) (hz : i.toNatClampNeg = z) (hy : f z = some y) (hdg : decode cc pc = .ok (.aaload, 1))
    (kk : W p l e R s m args below meth c H locs cells slots Q (F0 m (pc + 1) ls (.ref y :: rest))) : W p l e R s m args below meth c H locs cells slots Q (F0 m pc ls (.int i :: .ref a :: rest)) := by
  subst hz
  have hlt : i.toNatClampNeg < n := vpb_lt hin
  exact W.aald (v := va_rf (f i.toNatClampNeg)) (ty := ty) S.1 S.2.1 (hP q0 _ ha) ((hK.1.2 t _ ht).1 n (fun j => va_rf (f j))) hty (fun q => by cases q) (by show ¬ (i < 0 ∨ (arrV _ _ _).slots.size ≤ _); rw [arrV_size]; exact vpb_in hin) (by show (arrV _ _ _).slots[_]? = _; rw [arrV_read _ _ hlt]) rfl rfl hdg (by rw [hy]; exact kk)
theorem cBlind {ws0 : va_W} {sz : Nat} {av : List Value} : FrameBlind (cPre D dA ws0 sz av) := fun _ U g mk q => by
  obtain ⟨q0, q1, qP, qK, qD⟩ := q
  exact ⟨q0, q1, qP, CK.same (s := U) (U := U.calling g mk _) qK rfl, qD⟩
theorem cpreS {wc : va_W} {z : Nat} (hK : CK D dA s) (hP : va_P D vwCl wc H) (hD : va_D A wc) (hz : H.size = z) (As : List Value) : PreS s H (cPre D dA wc z As) As := ⟨cBlind, fun U hU hWm => ⟨rfl, by rw [hU]; exact hz, by rw [hU]; exact hP, hK.warm hWm, hD.weaken (fun _ _ _ _ => trivial)⟩⟩
/-- behind a constructor's call: the rest, and what it made -/
theorem ck_v {H0 : Heap} {wc w1 wr : va_W} {z K ms : Nat} {av : Array Value} (hr : va_Run p l e R s m args below meth c H locs cells slots K ms (F0 m pc ls st0) rest (cQ D wc w1 z K av) (va_A wc z)) (hP : va_P D vwCl ws H) (hD : va_D A ws) (hS : va_S A H0 H locs) (hA : ∀ q, H0.size ≤ q → A q) (hz : H.size = z) (isC isR : List Nat) (hC : isC.map (fun i => ws[i]?) = wc.map some) (hR : isR.map (fun i => ws[i]?) = wr.map some) (hn : va_nd isR = true) (hdis : ∀ i ∈ isR, i ∉ isC)
    (kk : ∀ (H1 : Heap) (locs1 : List Loc), H1.size = z + K → va_P D vwCl (wr ++ w1) H1 → va_D A (wr ++ w1) → va_S A H0 H1 locs1 → W p l e R s m args below meth c H1 locs1 (cells + K) (slots + ms) Q (F0 m (pc + 3) ls rest)) : W p l e R s m args below meth c H locs cells slots Q (F0 m pc ls st0) := by
  subst hz
  have hF := va_free hD hS hA isC hC
  refine va_callv hr hS (fun q _ h => hF q h) hF (fun u t H1 locs1 ht _ _ hB _ hk1 hS1 => ?_)
  obtain ⟨h1, h2, h3⟩ := hB
  rw [ht] at h1 h2
  obtain ⟨hP2, hD2⟩ := va_join hP hD isC isR hC hR hn hdis hk1 hF h2 h3
  exact kk H1 locs1 h1 hP2 hD2 hS1
/-- a constructor's end -/
theorem ce_v {ws0 : va_W} {sz K ms : Nat} (S : CallFix p m c cc nL s args lw_all own) (hr : meth.sig.returnType = none) (hlk : meth.locks = false) (hP : va_P D vwCl ws H) (hD : va_D A ws) (hS : va_S A s.heap H locs) (hz : H.size = sz + K) (eA : A = va_A ws0 sz) (hdg : decode cc pc = .ok (.return_, 1)) : W p l e R s m args below meth c H locs K ms (MQ below (cQ D ws0 ws sz K) args s K ms A) (F0 m pc ls []) := by
  subst eA
  exact W.vret S.1 S.2.1 hr (fun t ht _ => ⟨⟨(), rfl, trivial, by rw [ht]; exact hz, by rw [ht]; exact hP, hD⟩, hS.F ht⟩) hS.2.2 hdg hlk
end MC
