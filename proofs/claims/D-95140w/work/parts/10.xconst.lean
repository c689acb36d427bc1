/-! ROWS for constants: texts, their bytes, static arrays -/
set_option maxRecDepth 100000
section WKT
variable {p : Program} {l : Launch} {e : Env} {R : Room} {s : State} {m : MethodId} {args : Array Value} {below : List Frame} {meth : Method} {c : Code} {H : Heap} {locs : List Loc} {cells slots : Nat} {Q : State → Prop}
variable {cc : ByteArray} {nL pc : Nat} {ls : Array Slot} {rest st0 : List Value} {D : va_G} {dA : WK} {a : Ix → Nat} {F F1 : St} {own : String} {index n : Nat}
theorem ks_value (S : CallFix p m c cc nL s args lw_all own) (hK : KK D dA a s) (hW : wS D dA a s F H locs) (hn : n < 17) (hlink : Cond.fieldLink own index "java/lang/String" "value" "[B" ∈ lw_all) (hdg : decode cc pc = .ok (.getfield index, 3))
    (kk : W p l e R s m args below meth c H locs cells slots Q (F0 m (pc + 3) ls (.ref (dA.2.2.1 n) :: rest))) : W p l e R s m args below meth c H locs cells slots Q (F0 m pc ls (.ref (dA.2.1 n) :: rest)) :=
  vk_getf S.1 S.2.1 (hK.2.2.1.1 n hn).2.2.1 hW.2.1 S.2.2.2.1 (S.2.2.2.2 _ hlink) (fun _ h => h) hdg kk
theorem ks_coder (S : CallFix p m c cc nL s args lw_all own) (hK : KK D dA a s) (hW : wS D dA a s F H locs) (hn : n < 17) (hlink : Cond.fieldLink own index "java/lang/String" "coder" "B" ∈ lw_all) (hdg : decode cc pc = .ok (.getfield index, 3))
    (kk : W p l e R s m args below meth c H locs cells slots Q (F0 m (pc + 3) ls (.int (0 : Int32) :: rest))) : W p l e R s m args below meth c H locs cells slots Q (F0 m pc ls (.ref (dA.2.1 n) :: rest)) :=
  vk_getf S.1 S.2.1 (hK.2.2.1.1 n hn).2.1 hW.2.1 S.2.2.2.1 (S.2.2.2.2 _ hlink) (fun _ h => h) hdg kk
theorem kb_len (S : CallFix p m c cc nL s args lw_all own) (hK : KK D dA a s) (hW : wS D dA a s F H locs) (hn : n < 17) (hdg : decode cc pc = .ok (.arraylength, 1))
    (kk : W p l e R s m args below meth c H locs cells slots Q (F0 m (pc + 1) ls (.int (Int32.ofNat (slen.getD n 0)) :: rest))) : W p l e R s m args below meth c H locs cells slots Q (F0 m pc ls (.ref (dA.2.2.1 n) :: rest)) :=
  va_tlen S.1 S.2.1 (hK.2.2.1.1 n hn).2.2.2 hW.2.1 rfl hdg kk
theorem kb_ald (S : CallFix p m c cc nL s args lw_all own) (hK : KK D dA a s) (hW : wS D dA a s F H locs) (hn : n < 17) {x : Int32} {z : Nat} (hin : vpb x (slen.getD n 0) = true) (hz : x.toNatClampNeg = z) (hdg : decode cc pc = .ok (.baload, 1))
    (kk : W p l e R s m args below meth c H locs cells slots Q (F0 m (pc + 1) ls (.int ((sbyt.getD n []).getD z 0) :: rest))) : W p l e R s m args below meth c H locs cells slots Q (F0 m pc ls (.int x :: .ref (dA.2.2.1 n) :: rest)) :=
  va_tb S.1 S.2.1 (hK.2.2.1.1 n hn).2.2.2 hW.2.1 (vpb_in hin) (by rw [hz]) hdg kk
theorem kz_compact (S : CallFix p m c cc nL s args lw_all own) (hK : KK D dA a s) (hW : wS D dA a s F H locs) (hlink : Cond.fieldLink own index "java/lang/String" "COMPACT_STRINGS" "Z" ∈ lw_all) (hdg : decode cc pc = .ok (.getstatic index, 3))
    (kk : W p l e R s m args below meth c H locs cells slots Q (F0 m (pc + 3) ls (.int (1 : Int32) :: rest))) : W p l e R s m args below meth c H locs cells slots Q (F0 m pc ls rest) :=
  va_gets S.1 S.2.1 hK.2.2.2.2.1 hW.2.1 S.2.2.2.1 (S.2.2.2.2 _ hlink) (fun _ h => h) hdg kk
theorem zq_rf {C n d : String} {A : Nat → Prop} {U : State} {H : Heap} (h : va_Zq C n d A U H) : ∃ r : Option Nat, va_Z C n d (va_rf r) A U H := by
  rcases h with h | ⟨t, h⟩
  · exact ⟨none, h⟩
  · exact ⟨some t, h⟩
/-- a static array of numbers, by a nest mate's link -/
theorem kt_get {host nm : String} {k : Nat} (S : CallFix p m c cc nL s args lw_all own) (hK : KK D dA a s) (hW : wS D dA a s F H locs) (hk : stn[k]? = some nm) (hlink : Cond.fieldLinkNest own index "WaterGrounds" nm "[I" host ∈ lw_tbl) (hdg : decode cc pc = .ok (.getstatic index, 3))
    (kk : W p l e R s m args below meth c H locs cells slots Q (F0 m (pc + 3) ls (.ref (dA.2.2.2.1 k) :: rest))) : W p l e R s m args below meth c H locs cells slots Q (F0 m pc ls rest) :=
  va_getsN S.1 S.2.1 (hK.2.2.2.2.2.2.2.2.1 k nm hk).1 hW.2.1 S.2.2.2.1 (hK.nw hlink rfl) (fun _ h => h) hdg kk
theorem kt_len {k : Nat} {nm : String} {v : Int32} (S : CallFix p m c cc nL s args lw_all own) (hK : KK D dA a s) (hW : wS D dA a s F H locs) (hk : stn[k]? = some nm) (hv : Int32.ofNat (stlen.getD k 0) = v) (hdg : decode cc pc = .ok (.arraylength, 1))
    (kk : W p l e R s m args below meth c H locs cells slots Q (F0 m (pc + 1) ls (.int v :: rest))) : W p l e R s m args below meth c H locs cells slots Q (F0 m pc ls (.ref (dA.2.2.2.1 k) :: rest)) :=
  va_tlen S.1 S.2.1 (hK.2.2.2.2.2.2.2.2.1 k nm hk).2 hW.2.1 hv hdg kk
theorem kt_ald {k : Nat} {nm : String} (S : CallFix p m c cc nL s args lw_all own) (hK : KK D dA a s) (hW : wS D dA a s F H locs) (hk : stn[k]? = some nm) {x : Int32} {z : Nat} (hin : vpb x (stlen.getD k 0) = true) (hz : x.toNatClampNeg = z) (hdg : decode cc pc = .ok (.iaload, 1))
    (kk : W p l e R s m args below meth c H locs cells slots Q (F0 m (pc + 1) ls (.int ((stv.getD k []).getD z 0) :: rest))) : W p l e R s m args below meth c H locs cells slots Q (F0 m pc ls (.int x :: .ref (dA.2.2.2.1 k) :: rest)) :=
  va_ti S.1 S.2.1 (hK.2.2.2.2.2.2.2.2.1 k nm hk).2 hW.2.1 (vpb_in hin) (by rw [hz]) hdg kk
/-- the row of texts -/
theorem ko_get {host : String} (S : CallFix p m c cc nL s args lw_all own) (hK : KK D dA a s) (hW : wS D dA a s F H locs) (hlink : Cond.fieldLinkNest own index "WaterGrounds" "ONES" "[Ljava/lang/String;" host ∈ lw_tbl) (hdg : decode cc pc = .ok (.getstatic index, 3))
    (kk : W p l e R s m args below meth c H locs cells slots Q (F0 m (pc + 3) ls (.ref (dA.2.2.2.1 6) :: rest))) : W p l e R s m args below meth c H locs cells slots Q (F0 m pc ls rest) :=
  va_getsN S.1 S.2.1 hK.2.2.2.2.2.2.2.2.2.1 hW.2.1 S.2.2.2.1 (hK.nw hlink rfl) (fun _ h => h) hdg kk
theorem ko_len (S : CallFix p m c cc nL s args lw_all own) (hK : KK D dA a s) (hW : wS D dA a s F H locs) (hdg : decode cc pc = .ok (.arraylength, 1))
    (kk : W p l e R s m args below meth c H locs cells slots Q (F0 m (pc + 1) ls (.int (6 : Int32) :: rest))) : W p l e R s m args below meth c H locs cells slots Q (F0 m pc ls (.ref (dA.2.2.2.1 6) :: rest)) :=
  va_tlen S.1 S.2.1 hK.2.2.2.2.2.2.2.2.2.2 hW.2.1 rfl hdg kk
theorem ko_ald (S : CallFix p m c cc nL s args lw_all own) (hK : KK D dA a s) (hW : wS D dA a s F H locs) {x : Int32} {z : Nat} (hin : vpb x 6 = true) (hz : x.toNatClampNeg = z) (hdg : decode cc pc = .ok (.aaload, 1))
    (kk : W p l e R s m args below meth c H locs cells slots Q (F0 m (pc + 1) ls (.ref (dA.2.1 (10 + z)) :: rest))) : W p l e R s m args below meth c H locs cells slots Q (F0 m pc ls (.int x :: .ref (dA.2.2.2.1 6) :: rest)) :=
  vb_tq S.1 S.2.1 hK.2.2.2.2.2.2.2.2.2.2 hW.2.1 (vpb_in hin) (by rw [hz]) hdg kk
theorem ks_ldc {tx : String} {i : Nat} (S : CallFix p m c cc nL s args lw_all own) (hK : KK D dA a s) (hi : sref[i]? = some (own, index, tx)) (hdg : decode cc pc = .ok (.ldc index, 2))
    (kk : W p l e R s m args below meth c H locs cells slots Q (F0 m (pc + 2) ls (.ref (dA.2.1 i) :: rest))) : W p l e R s m args below meth c H locs cells slots Q (F0 m pc ls rest) :=
  va_ldcS S.1 S.2.1 S.2.2.2.1 (hK.2.2.2.1 i _ hi) hdg kk
theorem wpreVs (hK : KK D dA a s) (hW : wS D dA a s F H locs) (hn : n < 17) (As : List Value) : PreV s H "java/lang/String" (dA.2.1 n) (wPre D dA a F H.size (.ref (dA.2.1 n) :: As)) As := ⟨wBlind, vk_recv hK.2.2.1 hn hW.2.1, (wpreS hK hW (.ref (dA.2.1 n) :: As)).2⟩
theorem we_n {r : Int32} {ty : FieldType} (S : CallFix p m c cc nL s args lw_all own) (hr : meth.sig.returnType = some ty) (hlk : meth.locks = false) (hn : narrow ty (.int r) = .int r) (hW : wS D dA a s F H locs) (hdg : decode cc pc = .ok (.ireturn, 1)) : W p l e R s m args below meth c H locs cells slots (MQ below (wQi D dA a s.heap.size F r) args s cells slots (wA dA a s.heap.size)) (F0 m pc ls [.int r]) :=
  W.zret S.1 S.2.1 hr hn (fun t ht _ => ⟨⟨r, (), rfl, rfl, by show wP D dA a F t.heap; rw [ht]; exact hW.1⟩, hW.2.1.F ht⟩) hW.2.1.2.2 hdg hlk
def chb (r : Int32) : Bool := decide ((r.toUInt32 % 65536).toInt32 = r)
theorem chb_e {r : Int32} (h : chb r = true) : narrow .char (.int r) = .int r := by
  have h2 : (r.toUInt32 % 65536).toInt32 = r := of_decide_eq_true h
  have h3 := pk_nc r
  rw [h2] at h3
  exact h3
end WKT
