/-! DECODE ROWS BY BYTES: one lemma an opcode; a method's code is cut into short pieces once, and a row reads its own piece alone. -/
set_option maxRecDepth 100000
/-- the code has just these bytes from pc on -/
def DkAt (code : ByteArray) (pc : Nat) (bs : List UInt8) : Prop := ∀ (j : Nat) (b : UInt8), bs[j]? = some b → code.data.toList[pc + j]? = some b
/-- the piece W has the bytes bs from its place j on -/
def dkIn (W : List UInt8) (j : Nat) (bs : List UInt8) : Bool := decide ((W.drop j).take bs.length = bs)
theorem dk_seg {l W T : List UInt8} {o o2 : Nat} (h : l.drop o = W ++ T) (n : Nat) (hn : W.length = n) (ho : o + n = o2) : l.drop o2 = T := by
  subst ho
  rw [← List.drop_drop, h, List.drop_left' hn]
theorem dk_at {code : ByteArray} {W T bs : List UInt8} {o pc : Nat} (h : code.data.toList.drop o = W ++ T) (j : Nat) (hp : o + j = pc) (hw : dkIn W j bs = true) : DkAt code pc bs := by
  subst hp
  intro i b e
  have h1 := of_decide_eq_true hw
  have h2 : i < bs.length := (List.getElem?_eq_some_iff.mp e).1
  have h3 : W[j + i]? = some b := by
    rw [← h1, List.getElem?_take, if_pos h2, List.getElem?_drop] at e
    exact e
  have h4 : j + i < W.length := (List.getElem?_eq_some_iff.mp h3).1
  have h5 : (code.data.toList.drop o)[j + i]? = some b := by
    rw [h, List.getElem?_append_left h4]
    exact h3
  rw [List.getElem?_drop, ← Nat.add_assoc] at h5
  exact h5
theorem dk_u1 {A : ByteArray} {p : Nat} {b : UInt8} (h : A.data.toList[p]? = some b) : (Reader.u1 : Reader DecodeError Nat) A p = .ok (b.toNat, p + 1) := by
  obtain ⟨h1, h2⟩ := List.getElem?_eq_some_iff.mp h
  have h3 : p < A.size := by simpa using h1
  have h4 : A[p]'h3 = b := h2
  have e : (Reader.u1 : Reader DecodeError Nat) A p = (if h : p < A.size then .ok (A[p].toNat, p + 1) else .error (HasTruncated.truncated p)) := by
    show (do if h : p < A.size then do set (p + 1); Pure.pure A[p].toNat else MonadExcept.throw (HasTruncated.truncated p) : Reader DecodeError Nat) A p = _
    by_cases hi : p < A.size
    · rw [dif_pos hi, dif_pos hi]; rfl
    · rw [dif_neg hi, dif_neg hi]; rfl
  rw [e, dif_pos h3, h4]
theorem dk_bind {α β : Type} {r : Reader DecodeError α} {f : α → Reader DecodeError β} {A : ByteArray} {p s : Nat} {a : α} (h : r A p = .ok (a, s)) : (r >>= f) A p = f a A s := by
  show (do let (a, s) ← r A p; f a A s : Except DecodeError (β × Nat)) = _
  rw [h]
  rfl
theorem dk_map {α β : Type} {r : Reader DecodeError α} {g : α → β} {A : ByteArray} {p s : Nat} {a : α} (h : r A p = .ok (a, s)) : (g <$> r) A p = .ok (g a, s) := by
  show (do let (a, s) ← r A p; .ok (g a, s) : Except DecodeError (β × Nat)) = _
  rw [h]
  rfl
theorem dk_u2 {A : ByteArray} {p : Nat} {a b : UInt8} (h : A.data.toList[p]? = some a) (h2 : A.data.toList[p + 1]? = some b) : (Reader.u2 : Reader DecodeError Nat) A p = .ok (a.toNat * 256 + b.toNat, p + 2) := by
  show (Reader.u1 >>= fun hi => Reader.u1 >>= fun lo => Pure.pure (hi * 256 + lo) : Reader DecodeError Nat) A p = _
  rw [dk_bind (dk_u1 h), dk_bind (dk_u1 h2)]
  rfl
theorem dk_of {code : ByteArray} {pc n : Nat} {i : Instr} (h : Decoder.instr pc code pc = .ok (i, pc + n)) : decode code pc = .ok (i, n) := by
  have e : decode code pc = (match Decoder.instr pc code pc with | .error x => .error x | .ok (j, s) => .ok (j, s - pc)) := by
    show (do let (j, s) ← Decoder.instr pc code pc; Pure.pure (j, s - pc) : Except DecodeError (Instr × Nat)) = _
    cases Decoder.instr pc code pc <;> rfl
  rw [e, h]
  show Except.ok (i, pc + n - pc) = _
  rw [Nat.add_sub_cancel_left]
theorem dk_1 {code : ByteArray} {pc : Nat} (h : DkAt code pc [1]) : decode code pc = .ok (.aconst_null, 1) := dk_of ((dk_bind (dk_u1 (h 0 _ rfl))).trans rfl)
theorem dk_2 {code : ByteArray} {pc : Nat} (h : DkAt code pc [2]) : decode code pc = .ok (.iconst (-1), 1) := dk_of ((dk_bind (dk_u1 (h 0 _ rfl))).trans rfl)
theorem dk_3 {code : ByteArray} {pc : Nat} (h : DkAt code pc [3]) : decode code pc = .ok (.iconst 0, 1) := dk_of ((dk_bind (dk_u1 (h 0 _ rfl))).trans rfl)
theorem dk_4 {code : ByteArray} {pc : Nat} (h : DkAt code pc [4]) : decode code pc = .ok (.iconst 1, 1) := dk_of ((dk_bind (dk_u1 (h 0 _ rfl))).trans rfl)
theorem dk_5 {code : ByteArray} {pc : Nat} (h : DkAt code pc [5]) : decode code pc = .ok (.iconst 2, 1) := dk_of ((dk_bind (dk_u1 (h 0 _ rfl))).trans rfl)
theorem dk_6 {code : ByteArray} {pc : Nat} (h : DkAt code pc [6]) : decode code pc = .ok (.iconst 3, 1) := dk_of ((dk_bind (dk_u1 (h 0 _ rfl))).trans rfl)
theorem dk_7 {code : ByteArray} {pc : Nat} (h : DkAt code pc [7]) : decode code pc = .ok (.iconst 4, 1) := dk_of ((dk_bind (dk_u1 (h 0 _ rfl))).trans rfl)
theorem dk_8 {code : ByteArray} {pc : Nat} (h : DkAt code pc [8]) : decode code pc = .ok (.iconst 5, 1) := dk_of ((dk_bind (dk_u1 (h 0 _ rfl))).trans rfl)
theorem dk_9 {code : ByteArray} {pc : Nat} (h : DkAt code pc [9]) : decode code pc = .ok (.lconst 0, 1) := dk_of ((dk_bind (dk_u1 (h 0 _ rfl))).trans rfl)
theorem dk_10 {code : ByteArray} {pc : Nat} (h : DkAt code pc [10]) : decode code pc = .ok (.lconst 1, 1) := dk_of ((dk_bind (dk_u1 (h 0 _ rfl))).trans rfl)
theorem dk_16 {code : ByteArray} {pc : Nat} (a : UInt8) (h : DkAt code pc [16, a]) : decode code pc = .ok (.bipush (Reader.signed 8 a.toNat), 2) := dk_of ((dk_bind (dk_u1 (h 0 _ rfl))).trans ((dk_bind (dk_map (dk_u1 (h 1 _ rfl)))).trans rfl))
theorem dk_17 {code : ByteArray} {pc : Nat} (a b : UInt8) (h : DkAt code pc [17, a, b]) : decode code pc = .ok (.sipush (Reader.signed 16 (a.toNat * 256 + b.toNat)), 3) := dk_of ((dk_bind (dk_u1 (h 0 _ rfl))).trans ((dk_bind (dk_map (dk_u2 (h 1 _ rfl) (h 2 _ rfl)))).trans rfl))
theorem dk_18 {code : ByteArray} {pc : Nat} (a : UInt8) (h : DkAt code pc [18, a]) : decode code pc = .ok (.ldc a.toNat, 2) := dk_of ((dk_bind (dk_u1 (h 0 _ rfl))).trans ((dk_bind (dk_u1 (h 1 _ rfl))).trans rfl))
theorem dk_20 {code : ByteArray} {pc : Nat} (a b : UInt8) (h : DkAt code pc [20, a, b]) : decode code pc = .ok (.ldc2_w (a.toNat * 256 + b.toNat), 3) := dk_of ((dk_bind (dk_u1 (h 0 _ rfl))).trans ((dk_bind (dk_u2 (h 1 _ rfl) (h 2 _ rfl))).trans rfl))
theorem dk_21 {code : ByteArray} {pc : Nat} (a : UInt8) (h : DkAt code pc [21, a]) : decode code pc = .ok (.iload a.toNat, 2) := dk_of ((dk_bind (dk_u1 (h 0 _ rfl))).trans ((dk_bind (dk_u1 (h 1 _ rfl))).trans rfl))
theorem dk_22 {code : ByteArray} {pc : Nat} (a : UInt8) (h : DkAt code pc [22, a]) : decode code pc = .ok (.lload a.toNat, 2) := dk_of ((dk_bind (dk_u1 (h 0 _ rfl))).trans ((dk_bind (dk_u1 (h 1 _ rfl))).trans rfl))
theorem dk_25 {code : ByteArray} {pc : Nat} (a : UInt8) (h : DkAt code pc [25, a]) : decode code pc = .ok (.aload a.toNat, 2) := dk_of ((dk_bind (dk_u1 (h 0 _ rfl))).trans ((dk_bind (dk_u1 (h 1 _ rfl))).trans rfl))
theorem dk_26 {code : ByteArray} {pc : Nat} (h : DkAt code pc [26]) : decode code pc = .ok (.iload_n 0, 1) := dk_of ((dk_bind (dk_u1 (h 0 _ rfl))).trans rfl)
theorem dk_27 {code : ByteArray} {pc : Nat} (h : DkAt code pc [27]) : decode code pc = .ok (.iload_n 1, 1) := dk_of ((dk_bind (dk_u1 (h 0 _ rfl))).trans rfl)
theorem dk_28 {code : ByteArray} {pc : Nat} (h : DkAt code pc [28]) : decode code pc = .ok (.iload_n 2, 1) := dk_of ((dk_bind (dk_u1 (h 0 _ rfl))).trans rfl)
theorem dk_29 {code : ByteArray} {pc : Nat} (h : DkAt code pc [29]) : decode code pc = .ok (.iload_n 3, 1) := dk_of ((dk_bind (dk_u1 (h 0 _ rfl))).trans rfl)
theorem dk_30 {code : ByteArray} {pc : Nat} (h : DkAt code pc [30]) : decode code pc = .ok (.lload_n 0, 1) := dk_of ((dk_bind (dk_u1 (h 0 _ rfl))).trans rfl)
theorem dk_31 {code : ByteArray} {pc : Nat} (h : DkAt code pc [31]) : decode code pc = .ok (.lload_n 1, 1) := dk_of ((dk_bind (dk_u1 (h 0 _ rfl))).trans rfl)
theorem dk_32 {code : ByteArray} {pc : Nat} (h : DkAt code pc [32]) : decode code pc = .ok (.lload_n 2, 1) := dk_of ((dk_bind (dk_u1 (h 0 _ rfl))).trans rfl)
theorem dk_42 {code : ByteArray} {pc : Nat} (h : DkAt code pc [42]) : decode code pc = .ok (.aload_n 0, 1) := dk_of ((dk_bind (dk_u1 (h 0 _ rfl))).trans rfl)
theorem dk_43 {code : ByteArray} {pc : Nat} (h : DkAt code pc [43]) : decode code pc = .ok (.aload_n 1, 1) := dk_of ((dk_bind (dk_u1 (h 0 _ rfl))).trans rfl)
theorem dk_44 {code : ByteArray} {pc : Nat} (h : DkAt code pc [44]) : decode code pc = .ok (.aload_n 2, 1) := dk_of ((dk_bind (dk_u1 (h 0 _ rfl))).trans rfl)
theorem dk_45 {code : ByteArray} {pc : Nat} (h : DkAt code pc [45]) : decode code pc = .ok (.aload_n 3, 1) := dk_of ((dk_bind (dk_u1 (h 0 _ rfl))).trans rfl)
theorem dk_46 {code : ByteArray} {pc : Nat} (h : DkAt code pc [46]) : decode code pc = .ok (.iaload, 1) := dk_of ((dk_bind (dk_u1 (h 0 _ rfl))).trans rfl)
theorem dk_50 {code : ByteArray} {pc : Nat} (h : DkAt code pc [50]) : decode code pc = .ok (.aaload, 1) := dk_of ((dk_bind (dk_u1 (h 0 _ rfl))).trans rfl)
theorem dk_51 {code : ByteArray} {pc : Nat} (h : DkAt code pc [51]) : decode code pc = .ok (.baload, 1) := dk_of ((dk_bind (dk_u1 (h 0 _ rfl))).trans rfl)
theorem dk_54 {code : ByteArray} {pc : Nat} (a : UInt8) (h : DkAt code pc [54, a]) : decode code pc = .ok (.istore a.toNat, 2) := dk_of ((dk_bind (dk_u1 (h 0 _ rfl))).trans ((dk_bind (dk_u1 (h 1 _ rfl))).trans rfl))
theorem dk_55 {code : ByteArray} {pc : Nat} (a : UInt8) (h : DkAt code pc [55, a]) : decode code pc = .ok (.lstore a.toNat, 2) := dk_of ((dk_bind (dk_u1 (h 0 _ rfl))).trans ((dk_bind (dk_u1 (h 1 _ rfl))).trans rfl))
theorem dk_58 {code : ByteArray} {pc : Nat} (a : UInt8) (h : DkAt code pc [58, a]) : decode code pc = .ok (.astore a.toNat, 2) := dk_of ((dk_bind (dk_u1 (h 0 _ rfl))).trans ((dk_bind (dk_u1 (h 1 _ rfl))).trans rfl))
theorem dk_60 {code : ByteArray} {pc : Nat} (h : DkAt code pc [60]) : decode code pc = .ok (.istore_n 1, 1) := dk_of ((dk_bind (dk_u1 (h 0 _ rfl))).trans rfl)
theorem dk_61 {code : ByteArray} {pc : Nat} (h : DkAt code pc [61]) : decode code pc = .ok (.istore_n 2, 1) := dk_of ((dk_bind (dk_u1 (h 0 _ rfl))).trans rfl)
theorem dk_62 {code : ByteArray} {pc : Nat} (h : DkAt code pc [62]) : decode code pc = .ok (.istore_n 3, 1) := dk_of ((dk_bind (dk_u1 (h 0 _ rfl))).trans rfl)
theorem dk_65 {code : ByteArray} {pc : Nat} (h : DkAt code pc [65]) : decode code pc = .ok (.lstore_n 2, 1) := dk_of ((dk_bind (dk_u1 (h 0 _ rfl))).trans rfl)
theorem dk_76 {code : ByteArray} {pc : Nat} (h : DkAt code pc [76]) : decode code pc = .ok (.astore_n 1, 1) := dk_of ((dk_bind (dk_u1 (h 0 _ rfl))).trans rfl)
theorem dk_77 {code : ByteArray} {pc : Nat} (h : DkAt code pc [77]) : decode code pc = .ok (.astore_n 2, 1) := dk_of ((dk_bind (dk_u1 (h 0 _ rfl))).trans rfl)
theorem dk_79 {code : ByteArray} {pc : Nat} (h : DkAt code pc [79]) : decode code pc = .ok (.iastore, 1) := dk_of ((dk_bind (dk_u1 (h 0 _ rfl))).trans rfl)
theorem dk_83 {code : ByteArray} {pc : Nat} (h : DkAt code pc [83]) : decode code pc = .ok (.aastore, 1) := dk_of ((dk_bind (dk_u1 (h 0 _ rfl))).trans rfl)
theorem dk_84 {code : ByteArray} {pc : Nat} (h : DkAt code pc [84]) : decode code pc = .ok (.bastore, 1) := dk_of ((dk_bind (dk_u1 (h 0 _ rfl))).trans rfl)
theorem dk_87 {code : ByteArray} {pc : Nat} (h : DkAt code pc [87]) : decode code pc = .ok (.pop, 1) := dk_of ((dk_bind (dk_u1 (h 0 _ rfl))).trans rfl)
theorem dk_89 {code : ByteArray} {pc : Nat} (h : DkAt code pc [89]) : decode code pc = .ok (.dup, 1) := dk_of ((dk_bind (dk_u1 (h 0 _ rfl))).trans rfl)
theorem dk_92 {code : ByteArray} {pc : Nat} (h : DkAt code pc [92]) : decode code pc = .ok (.dup2, 1) := dk_of ((dk_bind (dk_u1 (h 0 _ rfl))).trans rfl)
theorem dk_96 {code : ByteArray} {pc : Nat} (h : DkAt code pc [96]) : decode code pc = .ok (.iadd, 1) := dk_of ((dk_bind (dk_u1 (h 0 _ rfl))).trans rfl)
theorem dk_97 {code : ByteArray} {pc : Nat} (h : DkAt code pc [97]) : decode code pc = .ok (.ladd, 1) := dk_of ((dk_bind (dk_u1 (h 0 _ rfl))).trans rfl)
theorem dk_100 {code : ByteArray} {pc : Nat} (h : DkAt code pc [100]) : decode code pc = .ok (.isub, 1) := dk_of ((dk_bind (dk_u1 (h 0 _ rfl))).trans rfl)
theorem dk_101 {code : ByteArray} {pc : Nat} (h : DkAt code pc [101]) : decode code pc = .ok (.lsub, 1) := dk_of ((dk_bind (dk_u1 (h 0 _ rfl))).trans rfl)
theorem dk_104 {code : ByteArray} {pc : Nat} (h : DkAt code pc [104]) : decode code pc = .ok (.imul, 1) := dk_of ((dk_bind (dk_u1 (h 0 _ rfl))).trans rfl)
theorem dk_105 {code : ByteArray} {pc : Nat} (h : DkAt code pc [105]) : decode code pc = .ok (.lmul, 1) := dk_of ((dk_bind (dk_u1 (h 0 _ rfl))).trans rfl)
theorem dk_108 {code : ByteArray} {pc : Nat} (h : DkAt code pc [108]) : decode code pc = .ok (.idiv, 1) := dk_of ((dk_bind (dk_u1 (h 0 _ rfl))).trans rfl)
theorem dk_109 {code : ByteArray} {pc : Nat} (h : DkAt code pc [109]) : decode code pc = .ok (.ldiv, 1) := dk_of ((dk_bind (dk_u1 (h 0 _ rfl))).trans rfl)
theorem dk_112 {code : ByteArray} {pc : Nat} (h : DkAt code pc [112]) : decode code pc = .ok (.irem, 1) := dk_of ((dk_bind (dk_u1 (h 0 _ rfl))).trans rfl)
theorem dk_113 {code : ByteArray} {pc : Nat} (h : DkAt code pc [113]) : decode code pc = .ok (.lrem, 1) := dk_of ((dk_bind (dk_u1 (h 0 _ rfl))).trans rfl)
theorem dk_116 {code : ByteArray} {pc : Nat} (h : DkAt code pc [116]) : decode code pc = .ok (.ineg, 1) := dk_of ((dk_bind (dk_u1 (h 0 _ rfl))).trans rfl)
theorem dk_120 {code : ByteArray} {pc : Nat} (h : DkAt code pc [120]) : decode code pc = .ok (.ishl, 1) := dk_of ((dk_bind (dk_u1 (h 0 _ rfl))).trans rfl)
theorem dk_121 {code : ByteArray} {pc : Nat} (h : DkAt code pc [121]) : decode code pc = .ok (.lshl, 1) := dk_of ((dk_bind (dk_u1 (h 0 _ rfl))).trans rfl)
theorem dk_122 {code : ByteArray} {pc : Nat} (h : DkAt code pc [122]) : decode code pc = .ok (.ishr, 1) := dk_of ((dk_bind (dk_u1 (h 0 _ rfl))).trans rfl)
theorem dk_123 {code : ByteArray} {pc : Nat} (h : DkAt code pc [123]) : decode code pc = .ok (.lshr, 1) := dk_of ((dk_bind (dk_u1 (h 0 _ rfl))).trans rfl)
theorem dk_126 {code : ByteArray} {pc : Nat} (h : DkAt code pc [126]) : decode code pc = .ok (.iand, 1) := dk_of ((dk_bind (dk_u1 (h 0 _ rfl))).trans rfl)
theorem dk_127 {code : ByteArray} {pc : Nat} (h : DkAt code pc [127]) : decode code pc = .ok (.land, 1) := dk_of ((dk_bind (dk_u1 (h 0 _ rfl))).trans rfl)
theorem dk_128 {code : ByteArray} {pc : Nat} (h : DkAt code pc [128]) : decode code pc = .ok (.ior, 1) := dk_of ((dk_bind (dk_u1 (h 0 _ rfl))).trans rfl)
theorem dk_129 {code : ByteArray} {pc : Nat} (h : DkAt code pc [129]) : decode code pc = .ok (.lor, 1) := dk_of ((dk_bind (dk_u1 (h 0 _ rfl))).trans rfl)
theorem dk_132 {code : ByteArray} {pc : Nat} (a b : UInt8) (h : DkAt code pc [132, a, b]) : decode code pc = .ok (.iinc a.toNat (Reader.signed 8 b.toNat), 3) := dk_of ((dk_bind (dk_u1 (h 0 _ rfl))).trans ((dk_bind (dk_u1 (h 1 _ rfl))).trans ((dk_bind (dk_map (dk_u1 (h 2 _ rfl)))).trans rfl)))
theorem dk_133 {code : ByteArray} {pc : Nat} (h : DkAt code pc [133]) : decode code pc = .ok (.i2l, 1) := dk_of ((dk_bind (dk_u1 (h 0 _ rfl))).trans rfl)
theorem dk_136 {code : ByteArray} {pc : Nat} (h : DkAt code pc [136]) : decode code pc = .ok (.l2i, 1) := dk_of ((dk_bind (dk_u1 (h 0 _ rfl))).trans rfl)
theorem dk_145 {code : ByteArray} {pc : Nat} (h : DkAt code pc [145]) : decode code pc = .ok (.i2b, 1) := dk_of ((dk_bind (dk_u1 (h 0 _ rfl))).trans rfl)
theorem dk_146 {code : ByteArray} {pc : Nat} (h : DkAt code pc [146]) : decode code pc = .ok (.i2c, 1) := dk_of ((dk_bind (dk_u1 (h 0 _ rfl))).trans rfl)
theorem dk_148 {code : ByteArray} {pc : Nat} (h : DkAt code pc [148]) : decode code pc = .ok (.lcmp, 1) := dk_of ((dk_bind (dk_u1 (h 0 _ rfl))).trans rfl)
theorem dk_153 {code : ByteArray} {pc : Nat} (a b : UInt8) (h : DkAt code pc [153, a, b]) : decode code pc = .ok (.ifCond .eq (Reader.signed 16 (a.toNat * 256 + b.toNat)), 3) := dk_of ((dk_bind (dk_u1 (h 0 _ rfl))).trans ((dk_bind (dk_map (dk_u2 (h 1 _ rfl) (h 2 _ rfl)))).trans rfl))
theorem dk_154 {code : ByteArray} {pc : Nat} (a b : UInt8) (h : DkAt code pc [154, a, b]) : decode code pc = .ok (.ifCond .ne (Reader.signed 16 (a.toNat * 256 + b.toNat)), 3) := dk_of ((dk_bind (dk_u1 (h 0 _ rfl))).trans ((dk_bind (dk_map (dk_u2 (h 1 _ rfl) (h 2 _ rfl)))).trans rfl))
theorem dk_155 {code : ByteArray} {pc : Nat} (a b : UInt8) (h : DkAt code pc [155, a, b]) : decode code pc = .ok (.ifCond .lt (Reader.signed 16 (a.toNat * 256 + b.toNat)), 3) := dk_of ((dk_bind (dk_u1 (h 0 _ rfl))).trans ((dk_bind (dk_map (dk_u2 (h 1 _ rfl) (h 2 _ rfl)))).trans rfl))
theorem dk_156 {code : ByteArray} {pc : Nat} (a b : UInt8) (h : DkAt code pc [156, a, b]) : decode code pc = .ok (.ifCond .ge (Reader.signed 16 (a.toNat * 256 + b.toNat)), 3) := dk_of ((dk_bind (dk_u1 (h 0 _ rfl))).trans ((dk_bind (dk_map (dk_u2 (h 1 _ rfl) (h 2 _ rfl)))).trans rfl))
theorem dk_157 {code : ByteArray} {pc : Nat} (a b : UInt8) (h : DkAt code pc [157, a, b]) : decode code pc = .ok (.ifCond .gt (Reader.signed 16 (a.toNat * 256 + b.toNat)), 3) := dk_of ((dk_bind (dk_u1 (h 0 _ rfl))).trans ((dk_bind (dk_map (dk_u2 (h 1 _ rfl) (h 2 _ rfl)))).trans rfl))
theorem dk_158 {code : ByteArray} {pc : Nat} (a b : UInt8) (h : DkAt code pc [158, a, b]) : decode code pc = .ok (.ifCond .le (Reader.signed 16 (a.toNat * 256 + b.toNat)), 3) := dk_of ((dk_bind (dk_u1 (h 0 _ rfl))).trans ((dk_bind (dk_map (dk_u2 (h 1 _ rfl) (h 2 _ rfl)))).trans rfl))
theorem dk_159 {code : ByteArray} {pc : Nat} (a b : UInt8) (h : DkAt code pc [159, a, b]) : decode code pc = .ok (.if_icmp .eq (Reader.signed 16 (a.toNat * 256 + b.toNat)), 3) := dk_of ((dk_bind (dk_u1 (h 0 _ rfl))).trans ((dk_bind (dk_map (dk_u2 (h 1 _ rfl) (h 2 _ rfl)))).trans rfl))
theorem dk_160 {code : ByteArray} {pc : Nat} (a b : UInt8) (h : DkAt code pc [160, a, b]) : decode code pc = .ok (.if_icmp .ne (Reader.signed 16 (a.toNat * 256 + b.toNat)), 3) := dk_of ((dk_bind (dk_u1 (h 0 _ rfl))).trans ((dk_bind (dk_map (dk_u2 (h 1 _ rfl) (h 2 _ rfl)))).trans rfl))
theorem dk_161 {code : ByteArray} {pc : Nat} (a b : UInt8) (h : DkAt code pc [161, a, b]) : decode code pc = .ok (.if_icmp .lt (Reader.signed 16 (a.toNat * 256 + b.toNat)), 3) := dk_of ((dk_bind (dk_u1 (h 0 _ rfl))).trans ((dk_bind (dk_map (dk_u2 (h 1 _ rfl) (h 2 _ rfl)))).trans rfl))
theorem dk_162 {code : ByteArray} {pc : Nat} (a b : UInt8) (h : DkAt code pc [162, a, b]) : decode code pc = .ok (.if_icmp .ge (Reader.signed 16 (a.toNat * 256 + b.toNat)), 3) := dk_of ((dk_bind (dk_u1 (h 0 _ rfl))).trans ((dk_bind (dk_map (dk_u2 (h 1 _ rfl) (h 2 _ rfl)))).trans rfl))
theorem dk_163 {code : ByteArray} {pc : Nat} (a b : UInt8) (h : DkAt code pc [163, a, b]) : decode code pc = .ok (.if_icmp .gt (Reader.signed 16 (a.toNat * 256 + b.toNat)), 3) := dk_of ((dk_bind (dk_u1 (h 0 _ rfl))).trans ((dk_bind (dk_map (dk_u2 (h 1 _ rfl) (h 2 _ rfl)))).trans rfl))
theorem dk_164 {code : ByteArray} {pc : Nat} (a b : UInt8) (h : DkAt code pc [164, a, b]) : decode code pc = .ok (.if_icmp .le (Reader.signed 16 (a.toNat * 256 + b.toNat)), 3) := dk_of ((dk_bind (dk_u1 (h 0 _ rfl))).trans ((dk_bind (dk_map (dk_u2 (h 1 _ rfl) (h 2 _ rfl)))).trans rfl))
theorem dk_167 {code : ByteArray} {pc : Nat} (a b : UInt8) (h : DkAt code pc [167, a, b]) : decode code pc = .ok (.goto (Reader.signed 16 (a.toNat * 256 + b.toNat)), 3) := dk_of ((dk_bind (dk_u1 (h 0 _ rfl))).trans ((dk_bind (dk_map (dk_u2 (h 1 _ rfl) (h 2 _ rfl)))).trans rfl))
theorem dk_172 {code : ByteArray} {pc : Nat} (h : DkAt code pc [172]) : decode code pc = .ok (.ireturn, 1) := dk_of ((dk_bind (dk_u1 (h 0 _ rfl))).trans rfl)
theorem dk_173 {code : ByteArray} {pc : Nat} (h : DkAt code pc [173]) : decode code pc = .ok (.lreturn, 1) := dk_of ((dk_bind (dk_u1 (h 0 _ rfl))).trans rfl)
theorem dk_176 {code : ByteArray} {pc : Nat} (h : DkAt code pc [176]) : decode code pc = .ok (.areturn, 1) := dk_of ((dk_bind (dk_u1 (h 0 _ rfl))).trans rfl)
theorem dk_177 {code : ByteArray} {pc : Nat} (h : DkAt code pc [177]) : decode code pc = .ok (.return_, 1) := dk_of ((dk_bind (dk_u1 (h 0 _ rfl))).trans rfl)
theorem dk_178 {code : ByteArray} {pc : Nat} (a b : UInt8) (h : DkAt code pc [178, a, b]) : decode code pc = .ok (.getstatic (a.toNat * 256 + b.toNat), 3) := dk_of ((dk_bind (dk_u1 (h 0 _ rfl))).trans ((dk_bind (dk_u2 (h 1 _ rfl) (h 2 _ rfl))).trans rfl))
theorem dk_180 {code : ByteArray} {pc : Nat} (a b : UInt8) (h : DkAt code pc [180, a, b]) : decode code pc = .ok (.getfield (a.toNat * 256 + b.toNat), 3) := dk_of ((dk_bind (dk_u1 (h 0 _ rfl))).trans ((dk_bind (dk_u2 (h 1 _ rfl) (h 2 _ rfl))).trans rfl))
theorem dk_181 {code : ByteArray} {pc : Nat} (a b : UInt8) (h : DkAt code pc [181, a, b]) : decode code pc = .ok (.putfield (a.toNat * 256 + b.toNat), 3) := dk_of ((dk_bind (dk_u1 (h 0 _ rfl))).trans ((dk_bind (dk_u2 (h 1 _ rfl) (h 2 _ rfl))).trans rfl))
theorem dk_182 {code : ByteArray} {pc : Nat} (a b : UInt8) (h : DkAt code pc [182, a, b]) : decode code pc = .ok (.invokevirtual (a.toNat * 256 + b.toNat), 3) := dk_of ((dk_bind (dk_u1 (h 0 _ rfl))).trans ((dk_bind (dk_u2 (h 1 _ rfl) (h 2 _ rfl))).trans rfl))
theorem dk_183 {code : ByteArray} {pc : Nat} (a b : UInt8) (h : DkAt code pc [183, a, b]) : decode code pc = .ok (.invokespecial (a.toNat * 256 + b.toNat), 3) := dk_of ((dk_bind (dk_u1 (h 0 _ rfl))).trans ((dk_bind (dk_u2 (h 1 _ rfl) (h 2 _ rfl))).trans rfl))
theorem dk_184 {code : ByteArray} {pc : Nat} (a b : UInt8) (h : DkAt code pc [184, a, b]) : decode code pc = .ok (.invokestatic (a.toNat * 256 + b.toNat), 3) := dk_of ((dk_bind (dk_u1 (h 0 _ rfl))).trans ((dk_bind (dk_u2 (h 1 _ rfl) (h 2 _ rfl))).trans rfl))
theorem dk_187 {code : ByteArray} {pc : Nat} (a b : UInt8) (h : DkAt code pc [187, a, b]) : decode code pc = .ok (.new (a.toNat * 256 + b.toNat), 3) := dk_of ((dk_bind (dk_u1 (h 0 _ rfl))).trans ((dk_bind (dk_u2 (h 1 _ rfl) (h 2 _ rfl))).trans rfl))
theorem dk_188_4 {code : ByteArray} {pc : Nat} (h : DkAt code pc [188, 4]) : decode code pc = .ok (.newarray .boolean, 2) := dk_of ((dk_bind (dk_u1 (h 0 _ rfl))).trans ((dk_bind (dk_u1 (h 1 _ rfl))).trans rfl))
theorem dk_188_8 {code : ByteArray} {pc : Nat} (h : DkAt code pc [188, 8]) : decode code pc = .ok (.newarray .byte, 2) := dk_of ((dk_bind (dk_u1 (h 0 _ rfl))).trans ((dk_bind (dk_u1 (h 1 _ rfl))).trans rfl))
theorem dk_188_10 {code : ByteArray} {pc : Nat} (h : DkAt code pc [188, 10]) : decode code pc = .ok (.newarray .int, 2) := dk_of ((dk_bind (dk_u1 (h 0 _ rfl))).trans ((dk_bind (dk_u1 (h 1 _ rfl))).trans rfl))
theorem dk_189 {code : ByteArray} {pc : Nat} (a b : UInt8) (h : DkAt code pc [189, a, b]) : decode code pc = .ok (.anewarray (a.toNat * 256 + b.toNat), 3) := dk_of ((dk_bind (dk_u1 (h 0 _ rfl))).trans ((dk_bind (dk_u2 (h 1 _ rfl) (h 2 _ rfl))).trans rfl))
theorem dk_190 {code : ByteArray} {pc : Nat} (h : DkAt code pc [190]) : decode code pc = .ok (.arraylength, 1) := dk_of ((dk_bind (dk_u1 (h 0 _ rfl))).trans rfl)
theorem dk_191 {code : ByteArray} {pc : Nat} (h : DkAt code pc [191]) : decode code pc = .ok (.athrow, 1) := dk_of ((dk_bind (dk_u1 (h 0 _ rfl))).trans rfl)
/-! java/lang/String -/
set_option maxRecDepth 100000
def RJ0 : String := "java/lang/String"
abbrev cJ0_length : ByteArray := prog_20_method_54_code
def yJ0_length : MethodName := ⟨RJ0, "length", "()I"⟩
def dkwJ0_length_0 : List UInt8 := [42, 180, 0, 9, 190, 42, 182, 1, 79, 122, 172]
abbrev dktJ0_length_0 : List UInt8 := dkwJ0_length_0 ++ []
theorem dksJ0_length_0 : cJ0_length.data.toList.drop 0 = dktJ0_length_0 := by decide +kernel
theorem dJ0_length_0 : decode cJ0_length 0 = .ok (.aload_n 0, 1) := dk_42 (dk_at dksJ0_length_0 0 rfl rfl)
theorem dJ0_length_1 : decode cJ0_length 1 = .ok (.getfield 9, 3) := dk_180 0 9 (dk_at dksJ0_length_0 1 rfl rfl)
theorem dJ0_length_4 : decode cJ0_length 4 = .ok (.arraylength, 1) := dk_190 (dk_at dksJ0_length_0 4 rfl rfl)
theorem dJ0_length_5 : decode cJ0_length 5 = .ok (.aload_n 0, 1) := dk_42 (dk_at dksJ0_length_0 5 rfl rfl)
theorem dJ0_length_6 : decode cJ0_length 6 = .ok (.invokevirtual 335, 3) := dk_182 1 79 (dk_at dksJ0_length_0 6 rfl rfl)
theorem dJ0_length_9 : decode cJ0_length 9 = .ok (.ishr, 1) := dk_122 (dk_at dksJ0_length_0 9 rfl rfl)
theorem dJ0_length_10 : decode cJ0_length 10 = .ok (.ireturn, 1) := dk_172 (dk_at dksJ0_length_0 10 rfl rfl)
abbrev cJ0_coder : ByteArray := prog_20_method_152_code
def yJ0_coder : MethodName := ⟨RJ0, "coder", "()B"⟩
def dkwJ0_coder_0 : List UInt8 := [178, 0, 38, 153, 0, 10, 42, 180, 0, 15, 167, 0, 4, 4, 172]
abbrev dktJ0_coder_0 : List UInt8 := dkwJ0_coder_0 ++ []
theorem dksJ0_coder_0 : cJ0_coder.data.toList.drop 0 = dktJ0_coder_0 := by decide +kernel
theorem dJ0_coder_0 : decode cJ0_coder 0 = .ok (.getstatic 38, 3) := dk_178 0 38 (dk_at dksJ0_coder_0 0 rfl rfl)
theorem dJ0_coder_3 : decode cJ0_coder 3 = .ok (.ifCond .eq 10, 3) := dk_153 0 10 (dk_at dksJ0_coder_0 3 rfl rfl)
theorem dJ0_coder_6 : decode cJ0_coder 6 = .ok (.aload_n 0, 1) := dk_42 (dk_at dksJ0_coder_0 6 rfl rfl)
theorem dJ0_coder_7 : decode cJ0_coder 7 = .ok (.getfield 15, 3) := dk_180 0 15 (dk_at dksJ0_coder_0 7 rfl rfl)
theorem dJ0_coder_10 : decode cJ0_coder 10 = .ok (.goto 4, 3) := dk_167 0 4 (dk_at dksJ0_coder_0 10 rfl rfl)
theorem dJ0_coder_13 : decode cJ0_coder 13 = .ok (.iconst 1, 1) := dk_4 (dk_at dksJ0_coder_0 13 rfl rfl)
theorem dJ0_coder_14 : decode cJ0_coder 14 = .ok (.ireturn, 1) := dk_172 (dk_at dksJ0_coder_0 14 rfl rfl)
abbrev cJ0_charAt : ByteArray := prog_20_method_56_code
def yJ0_charAt : MethodName := ⟨RJ0, "charAt", "(I)C"⟩
def dkwJ0_charAt_1 : List UInt8 := [172]
abbrev dktJ0_charAt_1 : List UInt8 := dkwJ0_charAt_1 ++ []
def dkwJ0_charAt_0 : List UInt8 := [42, 182, 1, 236, 153, 0, 12, 42, 180, 0, 9, 27, 184, 1, 239, 172, 42, 180, 0, 9, 27, 184, 1, 242]
abbrev dktJ0_charAt_0 : List UInt8 := dkwJ0_charAt_0 ++ dktJ0_charAt_1
theorem dksJ0_charAt_0 : cJ0_charAt.data.toList.drop 0 = dktJ0_charAt_0 := by decide +kernel
theorem dksJ0_charAt_1 : cJ0_charAt.data.toList.drop 24 = dktJ0_charAt_1 := dk_seg dksJ0_charAt_0 24 rfl rfl
theorem dJ0_charAt_0 : decode cJ0_charAt 0 = .ok (.aload_n 0, 1) := dk_42 (dk_at dksJ0_charAt_0 0 rfl rfl)
theorem dJ0_charAt_1 : decode cJ0_charAt 1 = .ok (.invokevirtual 492, 3) := dk_182 1 236 (dk_at dksJ0_charAt_0 1 rfl rfl)
theorem dJ0_charAt_4 : decode cJ0_charAt 4 = .ok (.ifCond .eq 12, 3) := dk_153 0 12 (dk_at dksJ0_charAt_0 4 rfl rfl)
theorem dJ0_charAt_7 : decode cJ0_charAt 7 = .ok (.aload_n 0, 1) := dk_42 (dk_at dksJ0_charAt_0 7 rfl rfl)
theorem dJ0_charAt_8 : decode cJ0_charAt 8 = .ok (.getfield 9, 3) := dk_180 0 9 (dk_at dksJ0_charAt_0 8 rfl rfl)
theorem dJ0_charAt_11 : decode cJ0_charAt 11 = .ok (.iload_n 1, 1) := dk_27 (dk_at dksJ0_charAt_0 11 rfl rfl)
theorem dJ0_charAt_12 : decode cJ0_charAt 12 = .ok (.invokestatic 495, 3) := dk_184 1 239 (dk_at dksJ0_charAt_0 12 rfl rfl)
theorem dJ0_charAt_15 : decode cJ0_charAt 15 = .ok (.ireturn, 1) := dk_172 (dk_at dksJ0_charAt_0 15 rfl rfl)
theorem dJ0_charAt_16 : decode cJ0_charAt 16 = .ok (.aload_n 0, 1) := dk_42 (dk_at dksJ0_charAt_0 16 rfl rfl)
theorem dJ0_charAt_17 : decode cJ0_charAt 17 = .ok (.getfield 9, 3) := dk_180 0 9 (dk_at dksJ0_charAt_0 17 rfl rfl)
theorem dJ0_charAt_20 : decode cJ0_charAt 20 = .ok (.iload_n 1, 1) := dk_27 (dk_at dksJ0_charAt_0 20 rfl rfl)
theorem dJ0_charAt_21 : decode cJ0_charAt 21 = .ok (.invokestatic 498, 3) := dk_184 1 242 (dk_at dksJ0_charAt_0 21 rfl rfl)
theorem dJ0_charAt_24 : decode cJ0_charAt 24 = .ok (.ireturn, 1) := dk_172 (dk_at dksJ0_charAt_1 0 rfl rfl)
abbrev cJ0_isLatin1 : ByteArray := prog_20_method_154_code
def yJ0_isLatin1 : MethodName := ⟨RJ0, "isLatin1", "()Z"⟩
def dkwJ0_isLatin1_0 : List UInt8 := [178, 0, 38, 153, 0, 14, 42, 180, 0, 15, 154, 0, 7, 4, 167, 0, 4, 3, 172]
abbrev dktJ0_isLatin1_0 : List UInt8 := dkwJ0_isLatin1_0 ++ []
theorem dksJ0_isLatin1_0 : cJ0_isLatin1.data.toList.drop 0 = dktJ0_isLatin1_0 := by decide +kernel
theorem dJ0_isLatin1_0 : decode cJ0_isLatin1 0 = .ok (.getstatic 38, 3) := dk_178 0 38 (dk_at dksJ0_isLatin1_0 0 rfl rfl)
theorem dJ0_isLatin1_3 : decode cJ0_isLatin1 3 = .ok (.ifCond .eq 14, 3) := dk_153 0 14 (dk_at dksJ0_isLatin1_0 3 rfl rfl)
theorem dJ0_isLatin1_6 : decode cJ0_isLatin1 6 = .ok (.aload_n 0, 1) := dk_42 (dk_at dksJ0_isLatin1_0 6 rfl rfl)
theorem dJ0_isLatin1_7 : decode cJ0_isLatin1 7 = .ok (.getfield 15, 3) := dk_180 0 15 (dk_at dksJ0_isLatin1_0 7 rfl rfl)
theorem dJ0_isLatin1_10 : decode cJ0_isLatin1 10 = .ok (.ifCond .ne 7, 3) := dk_154 0 7 (dk_at dksJ0_isLatin1_0 10 rfl rfl)
theorem dJ0_isLatin1_13 : decode cJ0_isLatin1 13 = .ok (.iconst 1, 1) := dk_4 (dk_at dksJ0_isLatin1_0 13 rfl rfl)
theorem dJ0_isLatin1_14 : decode cJ0_isLatin1 14 = .ok (.goto 4, 3) := dk_167 0 4 (dk_at dksJ0_isLatin1_0 14 rfl rfl)
theorem dJ0_isLatin1_17 : decode cJ0_isLatin1 17 = .ok (.iconst 0, 1) := dk_3 (dk_at dksJ0_isLatin1_0 17 rfl rfl)
theorem dJ0_isLatin1_18 : decode cJ0_isLatin1 18 = .ok (.ireturn, 1) := dk_172 (dk_at dksJ0_isLatin1_0 18 rfl rfl)
abbrev cJ0_checkIndex : ByteArray := prog_20_method_155_code
def yJ0_checkIndex : MethodName := ⟨RJ0, "checkIndex", "(II)V"⟩
def dkwJ0_checkIndex_0 : List UInt8 := [26, 27, 178, 4, 29, 184, 4, 35, 87, 177]
abbrev dktJ0_checkIndex_0 : List UInt8 := dkwJ0_checkIndex_0 ++ []
theorem dksJ0_checkIndex_0 : cJ0_checkIndex.data.toList.drop 0 = dktJ0_checkIndex_0 := by decide +kernel
theorem dJ0_checkIndex_0 : decode cJ0_checkIndex 0 = .ok (.iload_n 0, 1) := dk_26 (dk_at dksJ0_checkIndex_0 0 rfl rfl)
theorem dJ0_checkIndex_1 : decode cJ0_checkIndex 1 = .ok (.iload_n 1, 1) := dk_27 (dk_at dksJ0_checkIndex_0 1 rfl rfl)
theorem dJ0_checkIndex_2 : decode cJ0_checkIndex 2 = .ok (.getstatic 1053, 3) := dk_178 4 29 (dk_at dksJ0_checkIndex_0 2 rfl rfl)
theorem dJ0_checkIndex_5 : decode cJ0_checkIndex 5 = .ok (.invokestatic 1059, 3) := dk_184 4 35 (dk_at dksJ0_checkIndex_0 5 rfl rfl)
theorem dJ0_checkIndex_8 : decode cJ0_checkIndex 8 = .ok (.pop, 1) := dk_87 (dk_at dksJ0_checkIndex_0 8 rfl rfl)
theorem dJ0_checkIndex_9 : decode cJ0_checkIndex 9 = .ok (.return_, 1) := dk_177 (dk_at dksJ0_checkIndex_0 9 rfl rfl)
theorem q64 : (Jvm.Cond.initialized "java/lang/String") ∈ lw_all := lw_g (lw_at lw_m1 10 rfl) rfl
theorem q428 : (Jvm.Cond.instanceMethod ({ cls := "java/lang/String", name := "length", desc := "()I" } : Jvm.MethodName)) ∈ lw_all := lw_g (lw_at lw_m2 134 rfl) rfl
theorem q429 : (Jvm.Cond.selects "java/lang/String" ({ cls := "java/lang/String", name := "length", desc := "()I" } : Jvm.MethodName) ({ cls := "java/lang/String", name := "length", desc := "()I" } : Jvm.MethodName)) ∈ lw_all := lw_g (lw_at lw_m2 135 rfl) rfl
theorem q430 : (Jvm.Cond.code ({ cls := "java/lang/String", name := "length", desc := "()I" } : Jvm.MethodName) prog_20_method_54_code (1 : Nat) (Option.some Jvm.ClassFile.FieldType.int)) ∈ lw_all := lw_g (lw_at lw_m2 136 rfl) rfl
theorem q431 : (Jvm.Cond.methodLink "java/lang/String" (335 : Nat) ({ cls := "java/lang/String", name := "coder", desc := "()B" } : Jvm.MethodName)) ∈ lw_all := lw_g (lw_at lw_m2 137 rfl) rfl
theorem q432 : (Jvm.Cond.instanceMethod ({ cls := "java/lang/String", name := "coder", desc := "()B" } : Jvm.MethodName)) ∈ lw_all := lw_g (lw_at lw_m2 138 rfl) rfl
theorem q433 : (Jvm.Cond.selects "java/lang/String" ({ cls := "java/lang/String", name := "coder", desc := "()B" } : Jvm.MethodName) ({ cls := "java/lang/String", name := "coder", desc := "()B" } : Jvm.MethodName)) ∈ lw_all := lw_g (lw_at lw_m2 139 rfl) rfl
theorem q434 : (Jvm.Cond.code ({ cls := "java/lang/String", name := "coder", desc := "()B" } : Jvm.MethodName) prog_20_method_152_code (1 : Nat) (Option.some Jvm.ClassFile.FieldType.byte)) ∈ lw_all := lw_g (lw_at lw_m2 140 rfl) rfl
theorem q435 : (Jvm.Cond.fieldLink "java/lang/String" (38 : Nat) "java/lang/String" "COMPACT_STRINGS" "Z") ∈ lw_all := lw_g (lw_at lw_m2 141 rfl) rfl
theorem q436 : (Jvm.Cond.laysStatic "java/lang/String" "COMPACT_STRINGS" "Z") ∈ lw_tbl := lw_at lw_m2 142 rfl
theorem q438 : (Jvm.Cond.instanceMethod ({ cls := "java/lang/String", name := "charAt", desc := "(I)C" } : Jvm.MethodName)) ∈ lw_all := lw_g (lw_at lw_m2 144 rfl) rfl
theorem q439 : (Jvm.Cond.selects "java/lang/String" ({ cls := "java/lang/String", name := "charAt", desc := "(I)C" } : Jvm.MethodName) ({ cls := "java/lang/String", name := "charAt", desc := "(I)C" } : Jvm.MethodName)) ∈ lw_all := lw_g (lw_at lw_m2 145 rfl) rfl
theorem q440 : (Jvm.Cond.code ({ cls := "java/lang/String", name := "charAt", desc := "(I)C" } : Jvm.MethodName) prog_20_method_56_code (2 : Nat) (Option.some Jvm.ClassFile.FieldType.char)) ∈ lw_all := lw_g (lw_at lw_m2 146 rfl) rfl
theorem q441 : (Jvm.Cond.methodLink "java/lang/String" (492 : Nat) ({ cls := "java/lang/String", name := "isLatin1", desc := "()Z" } : Jvm.MethodName)) ∈ lw_all := lw_g (lw_at lw_m2 147 rfl) rfl
theorem q442 : (Jvm.Cond.instanceMethod ({ cls := "java/lang/String", name := "isLatin1", desc := "()Z" } : Jvm.MethodName)) ∈ lw_all := lw_g (lw_at lw_m2 148 rfl) rfl
theorem q443 : (Jvm.Cond.selects "java/lang/String" ({ cls := "java/lang/String", name := "isLatin1", desc := "()Z" } : Jvm.MethodName) ({ cls := "java/lang/String", name := "isLatin1", desc := "()Z" } : Jvm.MethodName)) ∈ lw_all := lw_g (lw_at lw_m2 149 rfl) rfl
theorem q444 : (Jvm.Cond.code ({ cls := "java/lang/String", name := "isLatin1", desc := "()Z" } : Jvm.MethodName) prog_20_method_154_code (1 : Nat) (Option.some Jvm.ClassFile.FieldType.boolean)) ∈ lw_all := lw_g (lw_at lw_m2 150 rfl) rfl
theorem q445 : (Jvm.Cond.methodLink "java/lang/String" (495 : Nat) ({ cls := "java/lang/StringLatin1", name := "charAt", desc := "([BI)C" } : Jvm.MethodName)) ∈ lw_all := lw_g (lw_at lw_m2 151 rfl) rfl
theorem q449 : (Jvm.Cond.static ({ cls := "java/lang/String", name := "checkIndex", desc := "(II)V" } : Jvm.MethodName)) ∈ lw_all := lw_g (lw_at lw_m2 155 rfl) rfl
theorem q450 : (Jvm.Cond.code ({ cls := "java/lang/String", name := "checkIndex", desc := "(II)V" } : Jvm.MethodName) prog_20_method_155_code (2 : Nat) (Option.none : Option Jvm.ClassFile.FieldType)) ∈ lw_all := lw_g (lw_at lw_m2 156 rfl) rfl
theorem q451 : (Jvm.Cond.fieldLink "java/lang/String" (1053 : Nat) "jdk/internal/util/Preconditions" "SIOOBE_FORMATTER" "Ljava/util/function/BiFunction;") ∈ lw_all := lw_g (lw_at lw_m2 157 rfl) rfl
theorem q453 : (Jvm.Cond.methodLink "java/lang/String" (1059 : Nat) ({ cls := "jdk/internal/util/Preconditions", name := "checkIndex", desc := "(IILjava/util/function/BiFunction;)I" } : Jvm.MethodName)) ∈ lw_all := lw_g (lw_at lw_m2 159 rfl) rfl
theorem q456 : (Jvm.Cond.methodLink "java/lang/String" (498 : Nat) ({ cls := "java/lang/StringUTF16", name := "charAt", desc := "([BI)C" } : Jvm.MethodName)) ∈ lw_all := lw_g (lw_at lw_m2 162 rfl) rfl
theorem q1362 : (Jvm.Cond.fieldLink "java/lang/String" (9 : Nat) "java/lang/String" "value" "[B") ∈ lw_all := lw_g (lw_at lw_m6 108 rfl) rfl
theorem q1363 : (Jvm.Cond.fieldLink "java/lang/String" (15 : Nat) "java/lang/String" "coder" "B") ∈ lw_all := lw_g (lw_at lw_m6 109 rfl) rfl
/-! java/lang/StringLatin1 -/
set_option maxRecDepth 100000
def RJ1 : String := "java/lang/StringLatin1"
abbrev cJ1_charAt : ByteArray := prog_21_method_2_code
def yJ1_charAt : MethodName := ⟨RJ1, "charAt", "([BI)C"⟩
def dkwJ1_charAt_0 : List UInt8 := [27, 42, 190, 184, 0, 9, 42, 27, 51, 17, 0, 255, 126, 146, 172]
abbrev dktJ1_charAt_0 : List UInt8 := dkwJ1_charAt_0 ++ []
theorem dksJ1_charAt_0 : cJ1_charAt.data.toList.drop 0 = dktJ1_charAt_0 := by decide +kernel
theorem dJ1_charAt_0 : decode cJ1_charAt 0 = .ok (.iload_n 1, 1) := dk_27 (dk_at dksJ1_charAt_0 0 rfl rfl)
theorem dJ1_charAt_1 : decode cJ1_charAt 1 = .ok (.aload_n 0, 1) := dk_42 (dk_at dksJ1_charAt_0 1 rfl rfl)
theorem dJ1_charAt_2 : decode cJ1_charAt 2 = .ok (.arraylength, 1) := dk_190 (dk_at dksJ1_charAt_0 2 rfl rfl)
theorem dJ1_charAt_3 : decode cJ1_charAt 3 = .ok (.invokestatic 9, 3) := dk_184 0 9 (dk_at dksJ1_charAt_0 3 rfl rfl)
theorem dJ1_charAt_6 : decode cJ1_charAt 6 = .ok (.aload_n 0, 1) := dk_42 (dk_at dksJ1_charAt_0 6 rfl rfl)
theorem dJ1_charAt_7 : decode cJ1_charAt 7 = .ok (.iload_n 1, 1) := dk_27 (dk_at dksJ1_charAt_0 7 rfl rfl)
theorem dJ1_charAt_8 : decode cJ1_charAt 8 = .ok (.baload, 1) := dk_51 (dk_at dksJ1_charAt_0 8 rfl rfl)
theorem dJ1_charAt_9 : decode cJ1_charAt 9 = .ok (.sipush 255, 3) := dk_17 0 255 (dk_at dksJ1_charAt_0 9 rfl rfl)
theorem dJ1_charAt_12 : decode cJ1_charAt 12 = .ok (.iand, 1) := dk_126 (dk_at dksJ1_charAt_0 12 rfl rfl)
theorem dJ1_charAt_13 : decode cJ1_charAt 13 = .ok (.i2c, 1) := dk_146 (dk_at dksJ1_charAt_0 13 rfl rfl)
theorem dJ1_charAt_14 : decode cJ1_charAt 14 = .ok (.ireturn, 1) := dk_172 (dk_at dksJ1_charAt_0 14 rfl rfl)
theorem q65 : (Jvm.Cond.initialized "java/lang/StringLatin1") ∈ lw_all := lw_g (lw_at lw_m1 11 rfl) rfl
theorem q446 : (Jvm.Cond.static ({ cls := "java/lang/StringLatin1", name := "charAt", desc := "([BI)C" } : Jvm.MethodName)) ∈ lw_all := lw_g (lw_at lw_m2 152 rfl) rfl
theorem q447 : (Jvm.Cond.code ({ cls := "java/lang/StringLatin1", name := "charAt", desc := "([BI)C" } : Jvm.MethodName) prog_21_method_2_code (2 : Nat) (Option.some Jvm.ClassFile.FieldType.char)) ∈ lw_all := lw_g (lw_at lw_m2 153 rfl) rfl
theorem q448 : (Jvm.Cond.methodLink "java/lang/StringLatin1" (9 : Nat) ({ cls := "java/lang/String", name := "checkIndex", desc := "(II)V" } : Jvm.MethodName)) ∈ lw_all := lw_g (lw_at lw_m2 154 rfl) rfl
/-! jdk/internal/util/Preconditions -/
set_option maxRecDepth 100000
def RJ2 : String := "jdk/internal/util/Preconditions"
abbrev cJ2_checkIndex : ByteArray := prog_26_method_11_code
def yJ2_checkIndex : MethodName := ⟨RJ2, "checkIndex", "(IILjava/util/function/BiFunction;)I"⟩
def dkwJ2_checkIndex_0 : List UInt8 := [26, 155, 0, 8, 26, 27, 161, 0, 10, 44, 26, 27, 184, 0, 95, 191, 26, 172]
abbrev dktJ2_checkIndex_0 : List UInt8 := dkwJ2_checkIndex_0 ++ []
theorem dksJ2_checkIndex_0 : cJ2_checkIndex.data.toList.drop 0 = dktJ2_checkIndex_0 := by decide +kernel
theorem dJ2_checkIndex_0 : decode cJ2_checkIndex 0 = .ok (.iload_n 0, 1) := dk_26 (dk_at dksJ2_checkIndex_0 0 rfl rfl)
theorem dJ2_checkIndex_1 : decode cJ2_checkIndex 1 = .ok (.ifCond .lt 8, 3) := dk_155 0 8 (dk_at dksJ2_checkIndex_0 1 rfl rfl)
theorem dJ2_checkIndex_4 : decode cJ2_checkIndex 4 = .ok (.iload_n 0, 1) := dk_26 (dk_at dksJ2_checkIndex_0 4 rfl rfl)
theorem dJ2_checkIndex_5 : decode cJ2_checkIndex 5 = .ok (.iload_n 1, 1) := dk_27 (dk_at dksJ2_checkIndex_0 5 rfl rfl)
theorem dJ2_checkIndex_6 : decode cJ2_checkIndex 6 = .ok (.if_icmp .lt 10, 3) := dk_161 0 10 (dk_at dksJ2_checkIndex_0 6 rfl rfl)
theorem dJ2_checkIndex_9 : decode cJ2_checkIndex 9 = .ok (.aload_n 2, 1) := dk_44 (dk_at dksJ2_checkIndex_0 9 rfl rfl)
theorem dJ2_checkIndex_10 : decode cJ2_checkIndex 10 = .ok (.iload_n 0, 1) := dk_26 (dk_at dksJ2_checkIndex_0 10 rfl rfl)
theorem dJ2_checkIndex_11 : decode cJ2_checkIndex 11 = .ok (.iload_n 1, 1) := dk_27 (dk_at dksJ2_checkIndex_0 11 rfl rfl)
theorem dJ2_checkIndex_12 : decode cJ2_checkIndex 12 = .ok (.invokestatic 95, 3) := dk_184 0 95 (dk_at dksJ2_checkIndex_0 12 rfl rfl)
theorem dJ2_checkIndex_15 : decode cJ2_checkIndex 15 = .ok (.athrow, 1) := dk_191 (dk_at dksJ2_checkIndex_0 15 rfl rfl)
theorem dJ2_checkIndex_16 : decode cJ2_checkIndex 16 = .ok (.iload_n 0, 1) := dk_26 (dk_at dksJ2_checkIndex_0 16 rfl rfl)
theorem dJ2_checkIndex_17 : decode cJ2_checkIndex 17 = .ok (.ireturn, 1) := dk_172 (dk_at dksJ2_checkIndex_0 17 rfl rfl)
theorem q66 : (Jvm.Cond.initialized "jdk/internal/util/Preconditions") ∈ lw_all := lw_g (lw_at lw_m1 12 rfl) rfl
theorem q452 : (Jvm.Cond.laysStatic "jdk/internal/util/Preconditions" "SIOOBE_FORMATTER" "Ljava/util/function/BiFunction;") ∈ lw_tbl := lw_at lw_m2 158 rfl
theorem q454 : (Jvm.Cond.static ({ cls := "jdk/internal/util/Preconditions", name := "checkIndex", desc := "(IILjava/util/function/BiFunction;)I" } : Jvm.MethodName)) ∈ lw_all := lw_g (lw_at lw_m2 160 rfl) rfl
theorem q455 : (Jvm.Cond.code ({ cls := "jdk/internal/util/Preconditions", name := "checkIndex", desc := "(IILjava/util/function/BiFunction;)I" } : Jvm.MethodName) prog_26_method_11_code (3 : Nat) (Option.some Jvm.ClassFile.FieldType.int)) ∈ lw_all := lw_g (lw_at lw_m2 161 rfl) rfl
/-! java/lang/StringUTF16 -/
set_option maxRecDepth 100000
def RJ3 : String := "java/lang/StringUTF16"
abbrev cJ3_charAt : ByteArray := prog_22_method_83_code
def yJ3_charAt : MethodName := ⟨RJ3, "charAt", "([BI)C"⟩
def dkwJ3_charAt_0 : List UInt8 := [27, 42, 184, 0, 67, 42, 27, 184, 0, 71, 172]
abbrev dktJ3_charAt_0 : List UInt8 := dkwJ3_charAt_0 ++ []
theorem dksJ3_charAt_0 : cJ3_charAt.data.toList.drop 0 = dktJ3_charAt_0 := by decide +kernel
theorem dJ3_charAt_0 : decode cJ3_charAt 0 = .ok (.iload_n 1, 1) := dk_27 (dk_at dksJ3_charAt_0 0 rfl rfl)
theorem dJ3_charAt_1 : decode cJ3_charAt 1 = .ok (.aload_n 0, 1) := dk_42 (dk_at dksJ3_charAt_0 1 rfl rfl)
theorem dJ3_charAt_2 : decode cJ3_charAt 2 = .ok (.invokestatic 67, 3) := dk_184 0 67 (dk_at dksJ3_charAt_0 2 rfl rfl)
theorem dJ3_charAt_5 : decode cJ3_charAt 5 = .ok (.aload_n 0, 1) := dk_42 (dk_at dksJ3_charAt_0 5 rfl rfl)
theorem dJ3_charAt_6 : decode cJ3_charAt 6 = .ok (.iload_n 1, 1) := dk_27 (dk_at dksJ3_charAt_0 6 rfl rfl)
theorem dJ3_charAt_7 : decode cJ3_charAt 7 = .ok (.invokestatic 71, 3) := dk_184 0 71 (dk_at dksJ3_charAt_0 7 rfl rfl)
theorem dJ3_charAt_10 : decode cJ3_charAt 10 = .ok (.ireturn, 1) := dk_172 (dk_at dksJ3_charAt_0 10 rfl rfl)
abbrev cJ3_checkIndex : ByteArray := prog_22_method_91_code
def yJ3_checkIndex : MethodName := ⟨RJ3, "checkIndex", "(I[B)V"⟩
def dkwJ3_checkIndex_0 : List UInt8 := [26, 43, 184, 0, 48, 184, 1, 158, 177]
abbrev dktJ3_checkIndex_0 : List UInt8 := dkwJ3_checkIndex_0 ++ []
theorem dksJ3_checkIndex_0 : cJ3_checkIndex.data.toList.drop 0 = dktJ3_checkIndex_0 := by decide +kernel
theorem dJ3_checkIndex_0 : decode cJ3_checkIndex 0 = .ok (.iload_n 0, 1) := dk_26 (dk_at dksJ3_checkIndex_0 0 rfl rfl)
theorem dJ3_checkIndex_1 : decode cJ3_checkIndex 1 = .ok (.aload_n 1, 1) := dk_43 (dk_at dksJ3_checkIndex_0 1 rfl rfl)
theorem dJ3_checkIndex_2 : decode cJ3_checkIndex 2 = .ok (.invokestatic 48, 3) := dk_184 0 48 (dk_at dksJ3_checkIndex_0 2 rfl rfl)
theorem dJ3_checkIndex_5 : decode cJ3_checkIndex 5 = .ok (.invokestatic 414, 3) := dk_184 1 158 (dk_at dksJ3_checkIndex_0 5 rfl rfl)
theorem dJ3_checkIndex_8 : decode cJ3_checkIndex 8 = .ok (.return_, 1) := dk_177 (dk_at dksJ3_checkIndex_0 8 rfl rfl)
abbrev cJ3_length : ByteArray := prog_22_method_6_code
def yJ3_length : MethodName := ⟨RJ3, "length", "([B)I"⟩
def dkwJ3_length_0 : List UInt8 := [42, 190, 4, 122, 172]
abbrev dktJ3_length_0 : List UInt8 := dkwJ3_length_0 ++ []
theorem dksJ3_length_0 : cJ3_length.data.toList.drop 0 = dktJ3_length_0 := by decide +kernel
theorem dJ3_length_0 : decode cJ3_length 0 = .ok (.aload_n 0, 1) := dk_42 (dk_at dksJ3_length_0 0 rfl rfl)
theorem dJ3_length_1 : decode cJ3_length 1 = .ok (.arraylength, 1) := dk_190 (dk_at dksJ3_length_0 1 rfl rfl)
theorem dJ3_length_2 : decode cJ3_length 2 = .ok (.iconst 1, 1) := dk_4 (dk_at dksJ3_length_0 2 rfl rfl)
theorem dJ3_length_3 : decode cJ3_length 3 = .ok (.ishr, 1) := dk_122 (dk_at dksJ3_length_0 3 rfl rfl)
theorem dJ3_length_4 : decode cJ3_length 4 = .ok (.ireturn, 1) := dk_172 (dk_at dksJ3_length_0 4 rfl rfl)
abbrev cJ3_getChar : ByteArray := prog_22_method_5_code
def yJ3_getChar : MethodName := ⟨RJ3, "getChar", "([BI)C"⟩
def dkwJ3_getChar_2 : List UInt8 := [51, 17, 0, 255, 126, 178, 0, 63, 120, 128, 146, 172]
abbrev dktJ3_getChar_2 : List UInt8 := dkwJ3_getChar_2 ++ []
def dkwJ3_getChar_1 : List UInt8 := [183, 0, 56, 191, 27, 4, 120, 60, 42, 27, 132, 1, 1, 51, 17, 0, 255, 126, 178, 0, 59, 120, 42, 27]
abbrev dktJ3_getChar_1 : List UInt8 := dkwJ3_getChar_1 ++ dktJ3_getChar_2
def dkwJ3_getChar_0 : List UInt8 := [178, 0, 44, 154, 0, 25, 27, 155, 0, 11, 27, 42, 184, 0, 48, 161, 0, 13, 187, 0, 52, 89, 18, 54]
abbrev dktJ3_getChar_0 : List UInt8 := dkwJ3_getChar_0 ++ dktJ3_getChar_1
theorem dksJ3_getChar_0 : cJ3_getChar.data.toList.drop 0 = dktJ3_getChar_0 := by decide +kernel
theorem dksJ3_getChar_1 : cJ3_getChar.data.toList.drop 24 = dktJ3_getChar_1 := dk_seg dksJ3_getChar_0 24 rfl rfl
theorem dksJ3_getChar_2 : cJ3_getChar.data.toList.drop 48 = dktJ3_getChar_2 := dk_seg dksJ3_getChar_1 24 rfl rfl
theorem dJ3_getChar_0 : decode cJ3_getChar 0 = .ok (.getstatic 44, 3) := dk_178 0 44 (dk_at dksJ3_getChar_0 0 rfl rfl)
theorem dJ3_getChar_3 : decode cJ3_getChar 3 = .ok (.ifCond .ne 25, 3) := dk_154 0 25 (dk_at dksJ3_getChar_0 3 rfl rfl)
theorem dJ3_getChar_6 : decode cJ3_getChar 6 = .ok (.iload_n 1, 1) := dk_27 (dk_at dksJ3_getChar_0 6 rfl rfl)
theorem dJ3_getChar_7 : decode cJ3_getChar 7 = .ok (.ifCond .lt 11, 3) := dk_155 0 11 (dk_at dksJ3_getChar_0 7 rfl rfl)
theorem dJ3_getChar_10 : decode cJ3_getChar 10 = .ok (.iload_n 1, 1) := dk_27 (dk_at dksJ3_getChar_0 10 rfl rfl)
theorem dJ3_getChar_11 : decode cJ3_getChar 11 = .ok (.aload_n 0, 1) := dk_42 (dk_at dksJ3_getChar_0 11 rfl rfl)
theorem dJ3_getChar_12 : decode cJ3_getChar 12 = .ok (.invokestatic 48, 3) := dk_184 0 48 (dk_at dksJ3_getChar_0 12 rfl rfl)
theorem dJ3_getChar_15 : decode cJ3_getChar 15 = .ok (.if_icmp .lt 13, 3) := dk_161 0 13 (dk_at dksJ3_getChar_0 15 rfl rfl)
theorem dJ3_getChar_18 : decode cJ3_getChar 18 = .ok (.new 52, 3) := dk_187 0 52 (dk_at dksJ3_getChar_0 18 rfl rfl)
theorem dJ3_getChar_21 : decode cJ3_getChar 21 = .ok (.dup, 1) := dk_89 (dk_at dksJ3_getChar_0 21 rfl rfl)
theorem dJ3_getChar_22 : decode cJ3_getChar 22 = .ok (.ldc 54, 2) := dk_18 54 (dk_at dksJ3_getChar_0 22 rfl rfl)
theorem dJ3_getChar_24 : decode cJ3_getChar 24 = .ok (.invokespecial 56, 3) := dk_183 0 56 (dk_at dksJ3_getChar_1 0 rfl rfl)
theorem dJ3_getChar_27 : decode cJ3_getChar 27 = .ok (.athrow, 1) := dk_191 (dk_at dksJ3_getChar_1 3 rfl rfl)
theorem dJ3_getChar_28 : decode cJ3_getChar 28 = .ok (.iload_n 1, 1) := dk_27 (dk_at dksJ3_getChar_1 4 rfl rfl)
theorem dJ3_getChar_29 : decode cJ3_getChar 29 = .ok (.iconst 1, 1) := dk_4 (dk_at dksJ3_getChar_1 5 rfl rfl)
theorem dJ3_getChar_30 : decode cJ3_getChar 30 = .ok (.ishl, 1) := dk_120 (dk_at dksJ3_getChar_1 6 rfl rfl)
theorem dJ3_getChar_31 : decode cJ3_getChar 31 = .ok (.istore_n 1, 1) := dk_60 (dk_at dksJ3_getChar_1 7 rfl rfl)
theorem dJ3_getChar_32 : decode cJ3_getChar 32 = .ok (.aload_n 0, 1) := dk_42 (dk_at dksJ3_getChar_1 8 rfl rfl)
theorem dJ3_getChar_33 : decode cJ3_getChar 33 = .ok (.iload_n 1, 1) := dk_27 (dk_at dksJ3_getChar_1 9 rfl rfl)
theorem dJ3_getChar_34 : decode cJ3_getChar 34 = .ok (.iinc 1 1, 3) := dk_132 1 1 (dk_at dksJ3_getChar_1 10 rfl rfl)
theorem dJ3_getChar_37 : decode cJ3_getChar 37 = .ok (.baload, 1) := dk_51 (dk_at dksJ3_getChar_1 13 rfl rfl)
theorem dJ3_getChar_38 : decode cJ3_getChar 38 = .ok (.sipush 255, 3) := dk_17 0 255 (dk_at dksJ3_getChar_1 14 rfl rfl)
theorem dJ3_getChar_41 : decode cJ3_getChar 41 = .ok (.iand, 1) := dk_126 (dk_at dksJ3_getChar_1 17 rfl rfl)
theorem dJ3_getChar_42 : decode cJ3_getChar 42 = .ok (.getstatic 59, 3) := dk_178 0 59 (dk_at dksJ3_getChar_1 18 rfl rfl)
theorem dJ3_getChar_45 : decode cJ3_getChar 45 = .ok (.ishl, 1) := dk_120 (dk_at dksJ3_getChar_1 21 rfl rfl)
theorem dJ3_getChar_46 : decode cJ3_getChar 46 = .ok (.aload_n 0, 1) := dk_42 (dk_at dksJ3_getChar_1 22 rfl rfl)
theorem dJ3_getChar_47 : decode cJ3_getChar 47 = .ok (.iload_n 1, 1) := dk_27 (dk_at dksJ3_getChar_1 23 rfl rfl)
theorem dJ3_getChar_48 : decode cJ3_getChar 48 = .ok (.baload, 1) := dk_51 (dk_at dksJ3_getChar_2 0 rfl rfl)
theorem dJ3_getChar_49 : decode cJ3_getChar 49 = .ok (.sipush 255, 3) := dk_17 0 255 (dk_at dksJ3_getChar_2 1 rfl rfl)
theorem dJ3_getChar_52 : decode cJ3_getChar 52 = .ok (.iand, 1) := dk_126 (dk_at dksJ3_getChar_2 4 rfl rfl)
theorem dJ3_getChar_53 : decode cJ3_getChar 53 = .ok (.getstatic 63, 3) := dk_178 0 63 (dk_at dksJ3_getChar_2 5 rfl rfl)
theorem dJ3_getChar_56 : decode cJ3_getChar 56 = .ok (.ishl, 1) := dk_120 (dk_at dksJ3_getChar_2 8 rfl rfl)
theorem dJ3_getChar_57 : decode cJ3_getChar 57 = .ok (.ior, 1) := dk_128 (dk_at dksJ3_getChar_2 9 rfl rfl)
theorem dJ3_getChar_58 : decode cJ3_getChar 58 = .ok (.i2c, 1) := dk_146 (dk_at dksJ3_getChar_2 10 rfl rfl)
theorem dJ3_getChar_59 : decode cJ3_getChar 59 = .ok (.ireturn, 1) := dk_172 (dk_at dksJ3_getChar_2 11 rfl rfl)
theorem q67 : (Jvm.Cond.initialized "java/lang/StringUTF16") ∈ lw_all := lw_g (lw_at lw_m1 13 rfl) rfl
theorem q457 : (Jvm.Cond.static ({ cls := "java/lang/StringUTF16", name := "charAt", desc := "([BI)C" } : Jvm.MethodName)) ∈ lw_all := lw_g (lw_at lw_m2 163 rfl) rfl
theorem q458 : (Jvm.Cond.code ({ cls := "java/lang/StringUTF16", name := "charAt", desc := "([BI)C" } : Jvm.MethodName) prog_22_method_83_code (2 : Nat) (Option.some Jvm.ClassFile.FieldType.char)) ∈ lw_all := lw_g (lw_at lw_m2 164 rfl) rfl
theorem q459 : (Jvm.Cond.methodLink "java/lang/StringUTF16" (67 : Nat) ({ cls := "java/lang/StringUTF16", name := "checkIndex", desc := "(I[B)V" } : Jvm.MethodName)) ∈ lw_all := lw_g (lw_at lw_m2 165 rfl) rfl
theorem q460 : (Jvm.Cond.static ({ cls := "java/lang/StringUTF16", name := "checkIndex", desc := "(I[B)V" } : Jvm.MethodName)) ∈ lw_all := lw_g (lw_at lw_m2 166 rfl) rfl
theorem q461 : (Jvm.Cond.code ({ cls := "java/lang/StringUTF16", name := "checkIndex", desc := "(I[B)V" } : Jvm.MethodName) prog_22_method_91_code (2 : Nat) (Option.none : Option Jvm.ClassFile.FieldType)) ∈ lw_all := lw_g (lw_at lw_m2 167 rfl) rfl
theorem q462 : (Jvm.Cond.methodLink "java/lang/StringUTF16" (48 : Nat) ({ cls := "java/lang/StringUTF16", name := "length", desc := "([B)I" } : Jvm.MethodName)) ∈ lw_all := lw_g (lw_at lw_m2 168 rfl) rfl
theorem q463 : (Jvm.Cond.static ({ cls := "java/lang/StringUTF16", name := "length", desc := "([B)I" } : Jvm.MethodName)) ∈ lw_all := lw_g (lw_at lw_m2 169 rfl) rfl
theorem q464 : (Jvm.Cond.code ({ cls := "java/lang/StringUTF16", name := "length", desc := "([B)I" } : Jvm.MethodName) prog_22_method_6_code (1 : Nat) (Option.some Jvm.ClassFile.FieldType.int)) ∈ lw_all := lw_g (lw_at lw_m2 170 rfl) rfl
theorem q465 : (Jvm.Cond.methodLink "java/lang/StringUTF16" (414 : Nat) ({ cls := "java/lang/String", name := "checkIndex", desc := "(II)V" } : Jvm.MethodName)) ∈ lw_all := lw_g (lw_at lw_m2 171 rfl) rfl
theorem q466 : (Jvm.Cond.methodLink "java/lang/StringUTF16" (71 : Nat) ({ cls := "java/lang/StringUTF16", name := "getChar", desc := "([BI)C" } : Jvm.MethodName)) ∈ lw_all := lw_g (lw_at lw_m2 172 rfl) rfl
theorem q467 : (Jvm.Cond.static ({ cls := "java/lang/StringUTF16", name := "getChar", desc := "([BI)C" } : Jvm.MethodName)) ∈ lw_all := lw_g (lw_at lw_m2 173 rfl) rfl
theorem q468 : (Jvm.Cond.code ({ cls := "java/lang/StringUTF16", name := "getChar", desc := "([BI)C" } : Jvm.MethodName) prog_22_method_5_code (2 : Nat) (Option.some Jvm.ClassFile.FieldType.char)) ∈ lw_all := lw_g (lw_at lw_m2 174 rfl) rfl
theorem q469 : (Jvm.Cond.fieldLink "java/lang/StringUTF16" (44 : Nat) "java/lang/StringUTF16" "$assertionsDisabled" "Z") ∈ lw_all := lw_g (lw_at lw_m2 175 rfl) rfl
theorem q470 : (Jvm.Cond.laysStatic "java/lang/StringUTF16" "$assertionsDisabled" "Z") ∈ lw_tbl := lw_at lw_m2 176 rfl
theorem q471 : (Jvm.Cond.fieldLink "java/lang/StringUTF16" (59 : Nat) "java/lang/StringUTF16" "HI_BYTE_SHIFT" "I") ∈ lw_all := lw_g (lw_at lw_m2 177 rfl) rfl
theorem q472 : (Jvm.Cond.laysStatic "java/lang/StringUTF16" "HI_BYTE_SHIFT" "I") ∈ lw_tbl := lw_at lw_m2 178 rfl
theorem q473 : (Jvm.Cond.fieldLink "java/lang/StringUTF16" (63 : Nat) "java/lang/StringUTF16" "LO_BYTE_SHIFT" "I") ∈ lw_all := lw_g (lw_at lw_m2 179 rfl) rfl
theorem q474 : (Jvm.Cond.laysStatic "java/lang/StringUTF16" "LO_BYTE_SHIFT" "I") ∈ lw_tbl := lw_at lw_m2 180 rfl
/-! java/lang/Throwable -/
set_option maxRecDepth 100000
def RJ4 : String := "java/lang/Throwable"
def TJ4 : u_T := fun k => match k with
  | 0 => ("java/lang/Throwable", "cause", "Ljava/lang/Throwable;", false)
  | 1 => ("java/lang/Throwable", "stackTrace", "[Ljava/lang/StackTraceElement;", false)
  | 2 => ("java/lang/Throwable", "suppressedExceptions", "Ljava/util/List;", false)
  | 3 => ("java/lang/Throwable", "detailMessage", "Ljava/lang/String;", false)
  | _ => ("java/lang/Throwable", "backtrace", "Ljava/lang/Object;", false)
def tyJ4 : Nat → FieldType := fun k => match k with
  | 0 => .object "java/lang/Throwable"
  | 1 => .array (.object "java/lang/StackTraceElement")
  | 2 => .object "java/util/List"
  | 3 => .object "java/lang/String"
  | _ => .object "java/lang/Object"
abbrev wsJ40 : List Cond := u_ws RJ4 TJ4 5
theorem nmJ4 : ∀ a, a < 5 → ∀ b, b < 5 → a ≠ b → (TJ4 a).2.1 ≠ (TJ4 b).2.1 := by decide +kernel
theorem tyJ4_ok : ∀ k, k < 5 → parseFieldDescriptor (TJ4 k).2.2.1 = some (tyJ4 k) := by decide +kernel
abbrev cJ4_init : ByteArray := prog_24_method_1_code
def yJ4_init : MethodName := ⟨RJ4, "<init>", "()V"⟩
def dkwJ4_init_1 : List UInt8 := [182, 0, 27, 87, 177]
abbrev dktJ4_init_1 : List UInt8 := dkwJ4_init_1 ++ []
def dkwJ4_init_0 : List UInt8 := [42, 183, 0, 1, 42, 42, 181, 0, 7, 42, 178, 0, 13, 181, 0, 17, 42, 178, 0, 20, 181, 0, 24, 42]
abbrev dktJ4_init_0 : List UInt8 := dkwJ4_init_0 ++ dktJ4_init_1
theorem dksJ4_init_0 : cJ4_init.data.toList.drop 0 = dktJ4_init_0 := by decide +kernel
theorem dksJ4_init_1 : cJ4_init.data.toList.drop 24 = dktJ4_init_1 := dk_seg dksJ4_init_0 24 rfl rfl
theorem dJ4_init_0 : decode cJ4_init 0 = .ok (.aload_n 0, 1) := dk_42 (dk_at dksJ4_init_0 0 rfl rfl)
theorem dJ4_init_1 : decode cJ4_init 1 = .ok (.invokespecial 1, 3) := dk_183 0 1 (dk_at dksJ4_init_0 1 rfl rfl)
theorem dJ4_init_4 : decode cJ4_init 4 = .ok (.aload_n 0, 1) := dk_42 (dk_at dksJ4_init_0 4 rfl rfl)
theorem dJ4_init_5 : decode cJ4_init 5 = .ok (.aload_n 0, 1) := dk_42 (dk_at dksJ4_init_0 5 rfl rfl)
theorem dJ4_init_6 : decode cJ4_init 6 = .ok (.putfield 7, 3) := dk_181 0 7 (dk_at dksJ4_init_0 6 rfl rfl)
theorem dJ4_init_9 : decode cJ4_init 9 = .ok (.aload_n 0, 1) := dk_42 (dk_at dksJ4_init_0 9 rfl rfl)
theorem dJ4_init_10 : decode cJ4_init 10 = .ok (.getstatic 13, 3) := dk_178 0 13 (dk_at dksJ4_init_0 10 rfl rfl)
theorem dJ4_init_13 : decode cJ4_init 13 = .ok (.putfield 17, 3) := dk_181 0 17 (dk_at dksJ4_init_0 13 rfl rfl)
theorem dJ4_init_16 : decode cJ4_init 16 = .ok (.aload_n 0, 1) := dk_42 (dk_at dksJ4_init_0 16 rfl rfl)
theorem dJ4_init_17 : decode cJ4_init 17 = .ok (.getstatic 20, 3) := dk_178 0 20 (dk_at dksJ4_init_0 17 rfl rfl)
theorem dJ4_init_20 : decode cJ4_init 20 = .ok (.putfield 24, 3) := dk_181 0 24 (dk_at dksJ4_init_0 20 rfl rfl)
theorem dJ4_init_23 : decode cJ4_init 23 = .ok (.aload_n 0, 1) := dk_42 (dk_at dksJ4_init_0 23 rfl rfl)
theorem dJ4_init_24 : decode cJ4_init 24 = .ok (.invokevirtual 27, 3) := dk_182 0 27 (dk_at dksJ4_init_1 0 rfl rfl)
theorem dJ4_init_27 : decode cJ4_init 27 = .ok (.pop, 1) := dk_87 (dk_at dksJ4_init_1 3 rfl rfl)
theorem dJ4_init_28 : decode cJ4_init 28 = .ok (.return_, 1) := dk_177 (dk_at dksJ4_init_1 4 rfl rfl)
abbrev cJ4_init_2 : ByteArray := prog_24_method_5_code
def yJ4_init_2 : MethodName := ⟨RJ4, "<init>", "(Ljava/lang/String;Ljava/lang/Throwable;ZZ)V"⟩
def dkwJ4_init_2_2 : List UInt8 := [44, 181, 0, 7, 29, 154, 0, 8, 42, 1, 181, 0, 24, 177]
abbrev dktJ4_init_2_2 : List UInt8 := dkwJ4_init_2_2 ++ []
def dkwJ4_init_2_1 : List UInt8 := [21, 4, 153, 0, 11, 42, 182, 0, 27, 87, 167, 0, 8, 42, 1, 181, 0, 17, 42, 43, 181, 0, 31, 42]
abbrev dktJ4_init_2_1 : List UInt8 := dkwJ4_init_2_1 ++ dktJ4_init_2_2
def dkwJ4_init_2_0 : List UInt8 := [42, 183, 0, 1, 42, 42, 181, 0, 7, 42, 178, 0, 13, 181, 0, 17, 42, 178, 0, 20, 181, 0, 24]
abbrev dktJ4_init_2_0 : List UInt8 := dkwJ4_init_2_0 ++ dktJ4_init_2_1
theorem dksJ4_init_2_0 : cJ4_init_2.data.toList.drop 0 = dktJ4_init_2_0 := by decide +kernel
theorem dksJ4_init_2_1 : cJ4_init_2.data.toList.drop 23 = dktJ4_init_2_1 := dk_seg dksJ4_init_2_0 23 rfl rfl
theorem dksJ4_init_2_2 : cJ4_init_2.data.toList.drop 47 = dktJ4_init_2_2 := dk_seg dksJ4_init_2_1 24 rfl rfl
theorem dJ4_init_2_0 : decode cJ4_init_2 0 = .ok (.aload_n 0, 1) := dk_42 (dk_at dksJ4_init_2_0 0 rfl rfl)
theorem dJ4_init_2_1 : decode cJ4_init_2 1 = .ok (.invokespecial 1, 3) := dk_183 0 1 (dk_at dksJ4_init_2_0 1 rfl rfl)
theorem dJ4_init_2_4 : decode cJ4_init_2 4 = .ok (.aload_n 0, 1) := dk_42 (dk_at dksJ4_init_2_0 4 rfl rfl)
theorem dJ4_init_2_5 : decode cJ4_init_2 5 = .ok (.aload_n 0, 1) := dk_42 (dk_at dksJ4_init_2_0 5 rfl rfl)
theorem dJ4_init_2_6 : decode cJ4_init_2 6 = .ok (.putfield 7, 3) := dk_181 0 7 (dk_at dksJ4_init_2_0 6 rfl rfl)
theorem dJ4_init_2_9 : decode cJ4_init_2 9 = .ok (.aload_n 0, 1) := dk_42 (dk_at dksJ4_init_2_0 9 rfl rfl)
theorem dJ4_init_2_10 : decode cJ4_init_2 10 = .ok (.getstatic 13, 3) := dk_178 0 13 (dk_at dksJ4_init_2_0 10 rfl rfl)
theorem dJ4_init_2_13 : decode cJ4_init_2 13 = .ok (.putfield 17, 3) := dk_181 0 17 (dk_at dksJ4_init_2_0 13 rfl rfl)
theorem dJ4_init_2_16 : decode cJ4_init_2 16 = .ok (.aload_n 0, 1) := dk_42 (dk_at dksJ4_init_2_0 16 rfl rfl)
theorem dJ4_init_2_17 : decode cJ4_init_2 17 = .ok (.getstatic 20, 3) := dk_178 0 20 (dk_at dksJ4_init_2_0 17 rfl rfl)
theorem dJ4_init_2_20 : decode cJ4_init_2 20 = .ok (.putfield 24, 3) := dk_181 0 24 (dk_at dksJ4_init_2_0 20 rfl rfl)
theorem dJ4_init_2_23 : decode cJ4_init_2 23 = .ok (.iload 4, 2) := dk_21 4 (dk_at dksJ4_init_2_1 0 rfl rfl)
theorem dJ4_init_2_25 : decode cJ4_init_2 25 = .ok (.ifCond .eq 11, 3) := dk_153 0 11 (dk_at dksJ4_init_2_1 2 rfl rfl)
theorem dJ4_init_2_28 : decode cJ4_init_2 28 = .ok (.aload_n 0, 1) := dk_42 (dk_at dksJ4_init_2_1 5 rfl rfl)
theorem dJ4_init_2_29 : decode cJ4_init_2 29 = .ok (.invokevirtual 27, 3) := dk_182 0 27 (dk_at dksJ4_init_2_1 6 rfl rfl)
theorem dJ4_init_2_32 : decode cJ4_init_2 32 = .ok (.pop, 1) := dk_87 (dk_at dksJ4_init_2_1 9 rfl rfl)
theorem dJ4_init_2_33 : decode cJ4_init_2 33 = .ok (.goto 8, 3) := dk_167 0 8 (dk_at dksJ4_init_2_1 10 rfl rfl)
theorem dJ4_init_2_36 : decode cJ4_init_2 36 = .ok (.aload_n 0, 1) := dk_42 (dk_at dksJ4_init_2_1 13 rfl rfl)
theorem dJ4_init_2_37 : decode cJ4_init_2 37 = .ok (.aconst_null, 1) := dk_1 (dk_at dksJ4_init_2_1 14 rfl rfl)
theorem dJ4_init_2_38 : decode cJ4_init_2 38 = .ok (.putfield 17, 3) := dk_181 0 17 (dk_at dksJ4_init_2_1 15 rfl rfl)
theorem dJ4_init_2_41 : decode cJ4_init_2 41 = .ok (.aload_n 0, 1) := dk_42 (dk_at dksJ4_init_2_1 18 rfl rfl)
theorem dJ4_init_2_42 : decode cJ4_init_2 42 = .ok (.aload_n 1, 1) := dk_43 (dk_at dksJ4_init_2_1 19 rfl rfl)
theorem dJ4_init_2_43 : decode cJ4_init_2 43 = .ok (.putfield 31, 3) := dk_181 0 31 (dk_at dksJ4_init_2_1 20 rfl rfl)
theorem dJ4_init_2_46 : decode cJ4_init_2 46 = .ok (.aload_n 0, 1) := dk_42 (dk_at dksJ4_init_2_1 23 rfl rfl)
theorem dJ4_init_2_47 : decode cJ4_init_2 47 = .ok (.aload_n 2, 1) := dk_44 (dk_at dksJ4_init_2_2 0 rfl rfl)
theorem dJ4_init_2_48 : decode cJ4_init_2 48 = .ok (.putfield 7, 3) := dk_181 0 7 (dk_at dksJ4_init_2_2 1 rfl rfl)
theorem dJ4_init_2_51 : decode cJ4_init_2 51 = .ok (.iload_n 3, 1) := dk_29 (dk_at dksJ4_init_2_2 4 rfl rfl)
theorem dJ4_init_2_52 : decode cJ4_init_2 52 = .ok (.ifCond .ne 8, 3) := dk_154 0 8 (dk_at dksJ4_init_2_2 5 rfl rfl)
theorem dJ4_init_2_55 : decode cJ4_init_2 55 = .ok (.aload_n 0, 1) := dk_42 (dk_at dksJ4_init_2_2 8 rfl rfl)
theorem dJ4_init_2_56 : decode cJ4_init_2 56 = .ok (.aconst_null, 1) := dk_1 (dk_at dksJ4_init_2_2 9 rfl rfl)
theorem dJ4_init_2_57 : decode cJ4_init_2 57 = .ok (.putfield 24, 3) := dk_181 0 24 (dk_at dksJ4_init_2_2 10 rfl rfl)
theorem dJ4_init_2_60 : decode cJ4_init_2 60 = .ok (.return_, 1) := dk_177 (dk_at dksJ4_init_2_2 13 rfl rfl)
theorem q68 : (Jvm.Cond.initialized "java/lang/Throwable") ∈ lw_all := lw_g (lw_at lw_m1 14 rfl) rfl
theorem q492 : (Jvm.Cond.declares ({ cls := "java/lang/Throwable", name := "<init>", desc := "()V" } : Jvm.MethodName)) ∈ lw_tbl := lw_at lw_m2 198 rfl
theorem q493 : (Jvm.Cond.declares ({ cls := "java/lang/Throwable", name := "<init>", desc := "(Ljava/lang/String;)V" } : Jvm.MethodName)) ∈ lw_tbl := lw_at lw_m2 199 rfl
theorem q497 : (Jvm.Cond.lays "java/lang/Throwable" "java/lang/Throwable" "cause" "Ljava/lang/Throwable;") ∈ lw_all := lw_g (lw_at lw_m2 203 rfl) rfl
theorem q499 : (Jvm.Cond.lays "java/lang/Throwable" "java/lang/Throwable" "stackTrace" "[Ljava/lang/StackTraceElement;") ∈ lw_all := lw_g (lw_at lw_m2 205 rfl) rfl
theorem q501 : (Jvm.Cond.lays "java/lang/Throwable" "java/lang/Throwable" "suppressedExceptions" "Ljava/util/List;") ∈ lw_all := lw_g (lw_at lw_m2 207 rfl) rfl
theorem q503 : (Jvm.Cond.lays "java/lang/Throwable" "java/lang/Throwable" "detailMessage" "Ljava/lang/String;") ∈ lw_all := lw_g (lw_at lw_m2 209 rfl) rfl
theorem q505 : (Jvm.Cond.lays "java/lang/Throwable" "java/lang/Throwable" "backtrace" "Ljava/lang/Object;") ∈ lw_all := lw_g (lw_at lw_m2 211 rfl) rfl
theorem q506 : (Jvm.Cond.fieldLink "java/lang/Throwable" (198 : Nat) "java/lang/Throwable" "backtrace" "Ljava/lang/Object;") ∈ lw_all := lw_g (lw_at lw_m2 212 rfl) rfl
theorem q507 : (Jvm.Cond.superclass "java/lang/Throwable" "java/lang/Object") ∈ lw_all := lw_g (lw_at lw_m2 213 rfl) rfl
theorem q508 : (Jvm.Cond.instanceMethod ({ cls := "java/lang/Throwable", name := "<init>", desc := "()V" } : Jvm.MethodName)) ∈ lw_all := lw_g (lw_at lw_m2 214 rfl) rfl
theorem q509 : (Jvm.Cond.code ({ cls := "java/lang/Throwable", name := "<init>", desc := "()V" } : Jvm.MethodName) prog_24_method_1_code (1 : Nat) (Option.none : Option Jvm.ClassFile.FieldType)) ∈ lw_all := lw_g (lw_at lw_m2 215 rfl) rfl
theorem q510 : (Jvm.Cond.methodLink "java/lang/Throwable" (1 : Nat) ({ cls := "java/lang/Object", name := "<init>", desc := "()V" } : Jvm.MethodName)) ∈ lw_all := lw_g (lw_at lw_m2 216 rfl) rfl
theorem q511 : (Jvm.Cond.fieldLink "java/lang/Throwable" (13 : Nat) "java/lang/Throwable" "UNASSIGNED_STACK" "[Ljava/lang/StackTraceElement;") ∈ lw_all := lw_g (lw_at lw_m2 217 rfl) rfl
theorem q512 : (Jvm.Cond.laysStatic "java/lang/Throwable" "UNASSIGNED_STACK" "[Ljava/lang/StackTraceElement;") ∈ lw_tbl := lw_at lw_m2 218 rfl
theorem q513 : (Jvm.Cond.fieldLink "java/lang/Throwable" (20 : Nat) "java/lang/Throwable" "SUPPRESSED_SENTINEL" "Ljava/util/List;") ∈ lw_all := lw_g (lw_at lw_m2 219 rfl) rfl
theorem q514 : (Jvm.Cond.laysStatic "java/lang/Throwable" "SUPPRESSED_SENTINEL" "Ljava/util/List;") ∈ lw_tbl := lw_at lw_m2 220 rfl
theorem q515 : (Jvm.Cond.methodLink "java/lang/Throwable" (27 : Nat) ({ cls := "java/lang/Throwable", name := "fillInStackTrace", desc := "()Ljava/lang/Throwable;" } : Jvm.MethodName)) ∈ lw_all := lw_g (lw_at lw_m2 221 rfl) rfl
theorem q516 : (Jvm.Cond.instanceMethod ({ cls := "java/lang/Throwable", name := "fillInStackTrace", desc := "()Ljava/lang/Throwable;" } : Jvm.MethodName)) ∈ lw_all := lw_g (lw_at lw_m2 222 rfl) rfl
theorem q517 : (Jvm.Cond.sameMethod "java/lang/Throwable" "java/lang/Throwable" "fillInStackTrace" "()Ljava/lang/Throwable;") ∈ lw_all := lw_g (lw_at lw_m2 223 rfl) rfl
theorem q518 : (Jvm.Cond.codeSync ({ cls := "java/lang/Throwable", name := "fillInStackTrace", desc := "()Ljava/lang/Throwable;" } : Jvm.MethodName) prog_24_method_18_code (1 : Nat) (Option.some (Jvm.ClassFile.FieldType.object "java/lang/Throwable"))) ∈ lw_all := lw_g (lw_at lw_m2 224 rfl) rfl
theorem q519 : (Jvm.Cond.methodLink "java/lang/Throwable" (202 : Nat) ({ cls := "java/lang/Throwable", name := "fillInStackTrace", desc := "(I)Ljava/lang/Throwable;" } : Jvm.MethodName)) ∈ lw_all := lw_g (lw_at lw_m2 225 rfl) rfl
theorem q520 : (Jvm.Cond.privateMethod ({ cls := "java/lang/Throwable", name := "fillInStackTrace", desc := "(I)Ljava/lang/Throwable;" } : Jvm.MethodName)) ∈ lw_tbl := lw_at lw_m2 226 rfl
theorem q521 : (Jvm.Cond.instanceMethod ({ cls := "java/lang/Throwable", name := "fillInStackTrace", desc := "(I)Ljava/lang/Throwable;" } : Jvm.MethodName)) ∈ lw_all := lw_g (lw_at lw_m2 227 rfl) rfl
theorem q522 : (Jvm.Cond.instantiable "java/lang/Throwable" (6 : Nat)) ∈ lw_all := lw_g (lw_at lw_m2 228 rfl) rfl
theorem q523 : (Jvm.Cond.native ({ cls := "java/lang/Throwable", name := "fillInStackTrace", desc := "(I)Ljava/lang/Throwable;" } : Jvm.MethodName)) ∈ lw_all := lw_g (lw_at lw_m2 229 rfl) rfl
theorem q532 : (Jvm.Cond.instanceMethod ({ cls := "java/lang/Throwable", name := "<init>", desc := "(Ljava/lang/String;Ljava/lang/Throwable;ZZ)V" } : Jvm.MethodName)) ∈ lw_all := lw_g (lw_at lw_m2 238 rfl) rfl
theorem q533 : (Jvm.Cond.code ({ cls := "java/lang/Throwable", name := "<init>", desc := "(Ljava/lang/String;Ljava/lang/Throwable;ZZ)V" } : Jvm.MethodName) prog_24_method_5_code (5 : Nat) (Option.none : Option Jvm.ClassFile.FieldType)) ∈ lw_all := lw_g (lw_at lw_m2 239 rfl) rfl
theorem q536 : (Jvm.Cond.fieldLink "java/lang/Throwable" (198 : Nat) "java/lang/Throwable" "backtrace" "Ljava/lang/Object;") ∈ lw_all := lw_g (lw_at lw_m3 2 rfl) rfl
theorem q537 : (Jvm.Cond.fieldLink "java/lang/Throwable" (31 : Nat) "java/lang/Throwable" "detailMessage" "Ljava/lang/String;") ∈ lw_all := lw_g (lw_at lw_m3 3 rfl) rfl
theorem q538 : (Jvm.Cond.fieldLink "java/lang/Throwable" (7 : Nat) "java/lang/Throwable" "cause" "Ljava/lang/Throwable;") ∈ lw_all := lw_g (lw_at lw_m3 4 rfl) rfl
theorem q539 : (Jvm.Cond.fieldLink "java/lang/Throwable" (17 : Nat) "java/lang/Throwable" "stackTrace" "[Ljava/lang/StackTraceElement;") ∈ lw_all := lw_g (lw_at lw_m3 5 rfl) rfl
theorem q540 : (Jvm.Cond.fieldLink "java/lang/Throwable" (24 : Nat) "java/lang/Throwable" "suppressedExceptions" "Ljava/util/List;") ∈ lw_all := lw_g (lw_at lw_m3 6 rfl) rfl
theorem q543 : (Jvm.Cond.soleField "java/lang/Throwable" "backtrace") ∈ lw_all := lw_g (lw_at lw_m3 9 rfl) rfl
theorem q544 : (Jvm.Cond.soleField "java/lang/Throwable" "detailMessage") ∈ lw_all := lw_g (lw_at lw_m3 10 rfl) rfl
theorem q545 : (Jvm.Cond.soleField "java/lang/Throwable" "cause") ∈ lw_all := lw_g (lw_at lw_m3 11 rfl) rfl
theorem q546 : (Jvm.Cond.soleField "java/lang/Throwable" "stackTrace") ∈ lw_all := lw_g (lw_at lw_m3 12 rfl) rfl
theorem q548 : (Jvm.Cond.soleField "java/lang/Throwable" "depth") ∈ lw_all := lw_g (lw_at lw_m3 14 rfl) rfl
theorem q549 : (Jvm.Cond.soleField "java/lang/Throwable" "suppressedExceptions") ∈ lw_all := lw_g (lw_at lw_m3 15 rfl) rfl
theorem q1353 : (Jvm.Cond.sameMethod "java/lang/Throwable" "java/lang/Throwable" "fillInStackTrace" "(I)Ljava/lang/Throwable;") ∈ lw_all := lw_g (lw_at lw_m6 99 rfl) rfl
theorem in_J4 : ∀ w ∈ wsJ40, w ∈ lw_all := lw_in wsJ40 [497, 499, 501, 503, 505] (by decide +kernel) (by decide +kernel)
/-! java/lang/Exception -/
set_option maxRecDepth 100000
def RJ5 : String := "java/lang/Exception"
abbrev cJ5_init : ByteArray := prog_18_method_5_code
def yJ5_init : MethodName := ⟨RJ5, "<init>", "(Ljava/lang/String;Ljava/lang/Throwable;ZZ)V"⟩
def dkwJ5_init_0 : List UInt8 := [42, 43, 44, 29, 21, 4, 183, 0, 16, 177]
abbrev dktJ5_init_0 : List UInt8 := dkwJ5_init_0 ++ []
theorem dksJ5_init_0 : cJ5_init.data.toList.drop 0 = dktJ5_init_0 := by decide +kernel
theorem dJ5_init_0 : decode cJ5_init 0 = .ok (.aload_n 0, 1) := dk_42 (dk_at dksJ5_init_0 0 rfl rfl)
theorem dJ5_init_1 : decode cJ5_init 1 = .ok (.aload_n 1, 1) := dk_43 (dk_at dksJ5_init_0 1 rfl rfl)
theorem dJ5_init_2 : decode cJ5_init 2 = .ok (.aload_n 2, 1) := dk_44 (dk_at dksJ5_init_0 2 rfl rfl)
theorem dJ5_init_3 : decode cJ5_init 3 = .ok (.iload_n 3, 1) := dk_29 (dk_at dksJ5_init_0 3 rfl rfl)
theorem dJ5_init_4 : decode cJ5_init 4 = .ok (.iload 4, 2) := dk_21 4 (dk_at dksJ5_init_0 4 rfl rfl)
theorem dJ5_init_6 : decode cJ5_init 6 = .ok (.invokespecial 16, 3) := dk_183 0 16 (dk_at dksJ5_init_0 6 rfl rfl)
theorem dJ5_init_9 : decode cJ5_init 9 = .ok (.return_, 1) := dk_177 (dk_at dksJ5_init_0 9 rfl rfl)
theorem q69 : (Jvm.Cond.initialized "java/lang/Exception") ∈ lw_all := lw_g (lw_at lw_m1 15 rfl) rfl
theorem q490 : (Jvm.Cond.declares ({ cls := "java/lang/Exception", name := "<init>", desc := "()V" } : Jvm.MethodName)) ∈ lw_tbl := lw_at lw_m2 196 rfl
theorem q491 : (Jvm.Cond.declares ({ cls := "java/lang/Exception", name := "<init>", desc := "(Ljava/lang/String;)V" } : Jvm.MethodName)) ∈ lw_tbl := lw_at lw_m2 197 rfl
theorem q529 : (Jvm.Cond.instanceMethod ({ cls := "java/lang/Exception", name := "<init>", desc := "(Ljava/lang/String;Ljava/lang/Throwable;ZZ)V" } : Jvm.MethodName)) ∈ lw_all := lw_g (lw_at lw_m2 235 rfl) rfl
theorem q530 : (Jvm.Cond.code ({ cls := "java/lang/Exception", name := "<init>", desc := "(Ljava/lang/String;Ljava/lang/Throwable;ZZ)V" } : Jvm.MethodName) prog_18_method_5_code (5 : Nat) (Option.none : Option Jvm.ClassFile.FieldType)) ∈ lw_all := lw_g (lw_at lw_m2 236 rfl) rfl
theorem q531 : (Jvm.Cond.methodLink "java/lang/Exception" (16 : Nat) ({ cls := "java/lang/Throwable", name := "<init>", desc := "(Ljava/lang/String;Ljava/lang/Throwable;ZZ)V" } : Jvm.MethodName)) ∈ lw_all := lw_g (lw_at lw_m2 237 rfl) rfl
/-! java/util/Arrays -/
set_option maxRecDepth 100000
def RJ6 : String := "java/util/Arrays"
abbrev cJ6_fill : ByteArray := prog_25_method_103_code
def yJ6_fill : MethodName := ⟨RJ6, "fill", "([II)V"⟩
def dkwJ6_fill_0 : List UInt8 := [3, 61, 42, 190, 62, 28, 29, 162, 0, 13, 42, 28, 27, 79, 132, 2, 1, 167, 255, 244, 177]
abbrev dktJ6_fill_0 : List UInt8 := dkwJ6_fill_0 ++ []
theorem dksJ6_fill_0 : cJ6_fill.data.toList.drop 0 = dktJ6_fill_0 := by decide +kernel
theorem dJ6_fill_0 : decode cJ6_fill 0 = .ok (.iconst 0, 1) := dk_3 (dk_at dksJ6_fill_0 0 rfl rfl)
theorem dJ6_fill_1 : decode cJ6_fill 1 = .ok (.istore_n 2, 1) := dk_61 (dk_at dksJ6_fill_0 1 rfl rfl)
theorem dJ6_fill_2 : decode cJ6_fill 2 = .ok (.aload_n 0, 1) := dk_42 (dk_at dksJ6_fill_0 2 rfl rfl)
theorem dJ6_fill_3 : decode cJ6_fill 3 = .ok (.arraylength, 1) := dk_190 (dk_at dksJ6_fill_0 3 rfl rfl)
theorem dJ6_fill_4 : decode cJ6_fill 4 = .ok (.istore_n 3, 1) := dk_62 (dk_at dksJ6_fill_0 4 rfl rfl)
theorem dJ6_fill_5 : decode cJ6_fill 5 = .ok (.iload_n 2, 1) := dk_28 (dk_at dksJ6_fill_0 5 rfl rfl)
theorem dJ6_fill_6 : decode cJ6_fill 6 = .ok (.iload_n 3, 1) := dk_29 (dk_at dksJ6_fill_0 6 rfl rfl)
theorem dJ6_fill_7 : decode cJ6_fill 7 = .ok (.if_icmp .ge 13, 3) := dk_162 0 13 (dk_at dksJ6_fill_0 7 rfl rfl)
theorem dJ6_fill_10 : decode cJ6_fill 10 = .ok (.aload_n 0, 1) := dk_42 (dk_at dksJ6_fill_0 10 rfl rfl)
theorem dJ6_fill_11 : decode cJ6_fill 11 = .ok (.iload_n 2, 1) := dk_28 (dk_at dksJ6_fill_0 11 rfl rfl)
theorem dJ6_fill_12 : decode cJ6_fill 12 = .ok (.iload_n 1, 1) := dk_27 (dk_at dksJ6_fill_0 12 rfl rfl)
theorem dJ6_fill_13 : decode cJ6_fill 13 = .ok (.iastore, 1) := dk_79 (dk_at dksJ6_fill_0 13 rfl rfl)
theorem dJ6_fill_14 : decode cJ6_fill 14 = .ok (.iinc 2 1, 3) := dk_132 2 1 (dk_at dksJ6_fill_0 14 rfl rfl)
theorem dJ6_fill_17 : decode cJ6_fill 17 = .ok (.goto (-12), 3) := dk_167 255 244 (dk_at dksJ6_fill_0 17 rfl rfl)
theorem dJ6_fill_20 : decode cJ6_fill 20 = .ok (.return_, 1) := dk_177 (dk_at dksJ6_fill_0 20 rfl rfl)
theorem q77 : (Jvm.Cond.initialized "java/util/Arrays") ∈ lw_all := lw_g (lw_at lw_m1 23 rfl) rfl
theorem q692 : (Jvm.Cond.static ({ cls := "java/util/Arrays", name := "fill", desc := "([II)V" } : Jvm.MethodName)) ∈ lw_all := lw_g (lw_at lw_m3 158 rfl) rfl
theorem q693 : (Jvm.Cond.code ({ cls := "java/util/Arrays", name := "fill", desc := "([II)V" } : Jvm.MethodName) prog_25_method_103_code (4 : Nat) (Option.none : Option Jvm.ClassFile.FieldType)) ∈ lw_all := lw_g (lw_at lw_m3 159 rfl) rfl
/-! java/lang/Math -/
set_option maxRecDepth 100000
def RJ7 : String := "java/lang/Math"
abbrev cJ7_min : ByteArray := prog_19_method_69_code
def yJ7_min : MethodName := ⟨RJ7, "min", "(II)I"⟩
def dkwJ7_min_0 : List UInt8 := [26, 27, 163, 0, 7, 26, 167, 0, 4, 27, 172]
abbrev dktJ7_min_0 : List UInt8 := dkwJ7_min_0 ++ []
theorem dksJ7_min_0 : cJ7_min.data.toList.drop 0 = dktJ7_min_0 := by decide +kernel
theorem dJ7_min_0 : decode cJ7_min 0 = .ok (.iload_n 0, 1) := dk_26 (dk_at dksJ7_min_0 0 rfl rfl)
theorem dJ7_min_1 : decode cJ7_min 1 = .ok (.iload_n 1, 1) := dk_27 (dk_at dksJ7_min_0 1 rfl rfl)
theorem dJ7_min_2 : decode cJ7_min 2 = .ok (.if_icmp .gt 7, 3) := dk_163 0 7 (dk_at dksJ7_min_0 2 rfl rfl)
theorem dJ7_min_5 : decode cJ7_min 5 = .ok (.iload_n 0, 1) := dk_26 (dk_at dksJ7_min_0 5 rfl rfl)
theorem dJ7_min_6 : decode cJ7_min 6 = .ok (.goto 4, 3) := dk_167 0 4 (dk_at dksJ7_min_0 6 rfl rfl)
theorem dJ7_min_9 : decode cJ7_min 9 = .ok (.iload_n 1, 1) := dk_27 (dk_at dksJ7_min_0 9 rfl rfl)
theorem dJ7_min_10 : decode cJ7_min 10 = .ok (.ireturn, 1) := dk_172 (dk_at dksJ7_min_0 10 rfl rfl)
abbrev cJ7_max : ByteArray := prog_19_method_65_code
def yJ7_max : MethodName := ⟨RJ7, "max", "(II)I"⟩
def dkwJ7_max_0 : List UInt8 := [26, 27, 161, 0, 7, 26, 167, 0, 4, 27, 172]
abbrev dktJ7_max_0 : List UInt8 := dkwJ7_max_0 ++ []
theorem dksJ7_max_0 : cJ7_max.data.toList.drop 0 = dktJ7_max_0 := by decide +kernel
theorem dJ7_max_0 : decode cJ7_max 0 = .ok (.iload_n 0, 1) := dk_26 (dk_at dksJ7_max_0 0 rfl rfl)
theorem dJ7_max_1 : decode cJ7_max 1 = .ok (.iload_n 1, 1) := dk_27 (dk_at dksJ7_max_0 1 rfl rfl)
theorem dJ7_max_2 : decode cJ7_max 2 = .ok (.if_icmp .lt 7, 3) := dk_161 0 7 (dk_at dksJ7_max_0 2 rfl rfl)
theorem dJ7_max_5 : decode cJ7_max 5 = .ok (.iload_n 0, 1) := dk_26 (dk_at dksJ7_max_0 5 rfl rfl)
theorem dJ7_max_6 : decode cJ7_max 6 = .ok (.goto 4, 3) := dk_167 0 4 (dk_at dksJ7_max_0 6 rfl rfl)
theorem dJ7_max_9 : decode cJ7_max 9 = .ok (.iload_n 1, 1) := dk_27 (dk_at dksJ7_max_0 9 rfl rfl)
theorem dJ7_max_10 : decode cJ7_max 10 = .ok (.ireturn, 1) := dk_172 (dk_at dksJ7_max_0 10 rfl rfl)
theorem q79 : (Jvm.Cond.initialized "java/lang/Math") ∈ lw_all := lw_g (lw_at lw_m1 25 rfl) rfl
theorem q736 : (Jvm.Cond.static ({ cls := "java/lang/Math", name := "min", desc := "(II)I" } : Jvm.MethodName)) ∈ lw_all := lw_g (lw_at lw_m3 202 rfl) rfl
theorem q737 : (Jvm.Cond.code ({ cls := "java/lang/Math", name := "min", desc := "(II)I" } : Jvm.MethodName) prog_19_method_69_code (2 : Nat) (Option.some Jvm.ClassFile.FieldType.int)) ∈ lw_all := lw_g (lw_at lw_m3 203 rfl) rfl
theorem q769 : (Jvm.Cond.static ({ cls := "java/lang/Math", name := "max", desc := "(II)I" } : Jvm.MethodName)) ∈ lw_all := lw_g (lw_at lw_m3 235 rfl) rfl
theorem q770 : (Jvm.Cond.code ({ cls := "java/lang/Math", name := "max", desc := "(II)I" } : Jvm.MethodName) prog_19_method_65_code (2 : Nat) (Option.some Jvm.ClassFile.FieldType.int)) ∈ lw_all := lw_g (lw_at lw_m3 236 rfl) rfl
/-! java/lang/Object -/
set_option maxRecDepth 100000
def RJ8 : String := "java/lang/Object"
abbrev cJ8_init : ByteArray := object_method_1_code
def yJ8_init : MethodName := ⟨RJ8, "<init>", "()V"⟩
theorem dJ8_init_0 : decode cJ8_init 0 = .ok (.return_, 1) := by decide +kernel
theorem q86 : (Jvm.Cond.instanceMethod ({ cls := "java/lang/Object", name := "<init>", desc := "()V" } : Jvm.MethodName)) ∈ lw_all := lw_g (lw_at lw_m1 32 rfl) rfl
theorem q87 : (Jvm.Cond.code ({ cls := "java/lang/Object", name := "<init>", desc := "()V" } : Jvm.MethodName) object_method_1_code (1 : Nat) (Option.none : Option Jvm.ClassFile.FieldType)) ∈ lw_all := lw_g (lw_at lw_m1 33 rfl) rfl
theorem q54 : (Jvm.Cond.initialized "WaterGroundsLaw") ∈ lw_all := lw_g (lw_at lw_m1 0 rfl) rfl
set_option maxRecDepth 100000
theorem q80 : (Jvm.Cond.classLink "WaterGroundsLaw" (7 : Nat) "WaterGrounds") ∈ lw_all := lw_g (lw_at lw_m1 26 rfl) rfl
theorem q82 : (Jvm.Cond.methodLink "WaterGroundsLaw" (9 : Nat) ({ cls := "WaterGrounds", name := "<init>", desc := "()V" } : Jvm.MethodName)) ∈ lw_all := lw_g (lw_at lw_m1 28 rfl) rfl
theorem q384 : (Jvm.Cond.methodLink "WaterGroundsLaw" (15 : Nat) ({ cls := "WaterGrounds", name := "write", desc := "(JI)I" } : Jvm.MethodName)) ∈ lw_all := lw_g (lw_at lw_m2 90 rfl) rfl
theorem q392 : (Jvm.Cond.methodLink "WaterGroundsLaw" (20 : Nat) ({ cls := "WaterGrounds", name := "erase", desc := "()I" } : Jvm.MethodName)) ∈ lw_all := lw_g (lw_at lw_m2 98 rfl) rfl
theorem q396 : (Jvm.Cond.methodLink "WaterGroundsLaw" (25 : Nat) ({ cls := "WaterGrounds", name := "fault", desc := "()I" } : Jvm.MethodName)) ∈ lw_all := lw_g (lw_at lw_m2 102 rfl) rfl
theorem q680 : (Jvm.Cond.methodLink "WaterGroundsLaw" (29 : Nat) ({ cls := "WaterGrounds", name := "plan", desc := "()I" } : Jvm.MethodName)) ∈ lw_all := lw_g (lw_at lw_m3 146 rfl) rfl
theorem q709 : (Jvm.Cond.methodLink "WaterGroundsLaw" (33 : Nat) ({ cls := "WaterGrounds", name := "stuff", desc := "(II)I" } : Jvm.MethodName)) ∈ lw_all := lw_g (lw_at lw_m3 175 rfl) rfl
theorem q714 : (Jvm.Cond.methodLink "WaterGroundsLaw" (38 : Nat) ({ cls := "WaterGrounds", name := "pour", desc := "(II)I" } : Jvm.MethodName)) ∈ lw_all := lw_g (lw_at lw_m3 180 rfl) rfl
theorem q718 : (Jvm.Cond.methodLink "WaterGroundsLaw" (42 : Nat) ({ cls := "WaterGrounds", name := "brew", desc := "(I)I" } : Jvm.MethodName)) ∈ lw_all := lw_g (lw_at lw_m3 184 rfl) rfl
theorem q771 : (Jvm.Cond.methodLink "WaterGroundsLaw" (47 : Nat) ({ cls := "WaterGrounds", name := "again", desc := "()I" } : Jvm.MethodName)) ∈ lw_all := lw_g (lw_at lw_m3 237 rfl) rfl
theorem q775 : (Jvm.Cond.methodLink "WaterGroundsLaw" (51 : Nat) ({ cls := "WaterGrounds", name := "cell", desc := "(III)I" } : Jvm.MethodName)) ∈ lw_all := lw_g (lw_at lw_m4 1 rfl) rfl
theorem q781 : (Jvm.Cond.methodLink "WaterGroundsLaw" (56 : Nat) ({ cls := "WaterGrounds", name := "cup", desc := "(I)I" } : Jvm.MethodName)) ∈ lw_all := lw_g (lw_at lw_m4 7 rfl) rfl
theorem q809 : (Jvm.Cond.methodLink "WaterGroundsLaw" (60 : Nat) ({ cls := "WaterGrounds", name := "keep", desc := "(I)I" } : Jvm.MethodName)) ∈ lw_all := lw_g (lw_at lw_m4 35 rfl) rfl
theorem q821 : (Jvm.Cond.methodLink "WaterGroundsLaw" (64 : Nat) ({ cls := "WaterGrounds", name := "back", desc := "(I)I" } : Jvm.MethodName)) ∈ lw_all := lw_g (lw_at lw_m4 47 rfl) rfl
theorem q825 : (Jvm.Cond.methodLink "WaterGroundsLaw" (68 : Nat) ({ cls := "WaterGrounds", name := "taste", desc := "(I)I" } : Jvm.MethodName)) ∈ lw_all := lw_g (lw_at lw_m4 51 rfl) rfl
theorem q884 : (Jvm.Cond.methodLink "WaterGroundsLaw" (72 : Nat) ({ cls := "WaterGrounds", name := "knob", desc := "(I)I" } : Jvm.MethodName)) ∈ lw_all := lw_g (lw_at lw_m4 110 rfl) rfl
theorem q908 : (Jvm.Cond.methodLink "WaterGroundsLaw" (76 : Nat) ({ cls := "WaterGrounds", name := "right", desc := "(I)I" } : Jvm.MethodName)) ∈ lw_all := lw_g (lw_at lw_m4 134 rfl) rfl
theorem q920 : (Jvm.Cond.methodLink "WaterGroundsLaw" (80 : Nat) ({ cls := "WaterGrounds", name := "broad", desc := "(I)I" } : Jvm.MethodName)) ∈ lw_all := lw_g (lw_at lw_m4 146 rfl) rfl
theorem q936 : (Jvm.Cond.methodLink "WaterGroundsLaw" (84 : Nat) ({ cls := "WaterGrounds", name := "takes", desc := "(II)I" } : Jvm.MethodName)) ∈ lw_all := lw_g (lw_at lw_m4 162 rfl) rfl
theorem q942 : (Jvm.Cond.methodLink "WaterGroundsLaw" (88 : Nat) ({ cls := "WaterGrounds", name := "little", desc := "()I" } : Jvm.MethodName)) ∈ lw_all := lw_g (lw_at lw_m4 168 rfl) rfl
theorem q946 : (Jvm.Cond.methodLink "WaterGroundsLaw" (92 : Nat) ({ cls := "WaterGrounds", name := "ran", desc := "()I" } : Jvm.MethodName)) ∈ lw_all := lw_g (lw_at lw_m4 172 rfl) rfl
theorem q952 : (Jvm.Cond.methodLink "WaterGroundsLaw" (96 : Nat) ({ cls := "WaterGrounds", name := "runs", desc := "()I" } : Jvm.MethodName)) ∈ lw_all := lw_g (lw_at lw_m4 178 rfl) rfl
theorem q956 : (Jvm.Cond.methodLink "WaterGroundsLaw" (100 : Nat) ({ cls := "WaterGrounds", name := "blind", desc := "(IIII)J" } : Jvm.MethodName)) ∈ lw_all := lw_g (lw_at lw_m4 182 rfl) rfl
theorem q967 : (Jvm.Cond.methodLink "WaterGroundsLaw" (105 : Nat) ({ cls := "WaterGrounds", name := "count", desc := "(I)I" } : Jvm.MethodName)) ∈ lw_all := lw_g (lw_at lw_m4 193 rfl) rfl
theorem q971 : (Jvm.Cond.classLink "WaterGroundsLaw" (10 : Nat) "WaterGroundsModel") ∈ lw_all := lw_g (lw_at lw_m4 197 rfl) rfl
theorem q973 : (Jvm.Cond.methodLink "WaterGroundsLaw" (12 : Nat) ({ cls := "WaterGroundsModel", name := "<init>", desc := "()V" } : Jvm.MethodName)) ∈ lw_all := lw_g (lw_at lw_m4 199 rfl) rfl
theorem q1113 : (Jvm.Cond.methodLink "WaterGroundsLaw" (19 : Nat) ({ cls := "WaterGroundsModel", name := "write", desc := "(JI)I" } : Jvm.MethodName)) ∈ lw_all := lw_g (lw_at lw_m5 99 rfl) rfl
theorem q1121 : (Jvm.Cond.methodLink "WaterGroundsLaw" (24 : Nat) ({ cls := "WaterGroundsModel", name := "erase", desc := "()I" } : Jvm.MethodName)) ∈ lw_all := lw_g (lw_at lw_m5 107 rfl) rfl
theorem q1125 : (Jvm.Cond.methodLink "WaterGroundsLaw" (28 : Nat) ({ cls := "WaterGroundsModel", name := "fault", desc := "()I" } : Jvm.MethodName)) ∈ lw_all := lw_g (lw_at lw_m5 111 rfl) rfl
theorem q1182 : (Jvm.Cond.methodLink "WaterGroundsLaw" (32 : Nat) ({ cls := "WaterGroundsModel", name := "plan", desc := "()I" } : Jvm.MethodName)) ∈ lw_all := lw_g (lw_at lw_m5 168 rfl) rfl
theorem q1198 : (Jvm.Cond.methodLink "WaterGroundsLaw" (37 : Nat) ({ cls := "WaterGroundsModel", name := "stuff", desc := "(II)I" } : Jvm.MethodName)) ∈ lw_all := lw_g (lw_at lw_m5 184 rfl) rfl
theorem q1202 : (Jvm.Cond.methodLink "WaterGroundsLaw" (41 : Nat) ({ cls := "WaterGroundsModel", name := "pour", desc := "(II)I" } : Jvm.MethodName)) ∈ lw_all := lw_g (lw_at lw_m5 188 rfl) rfl
theorem q1206 : (Jvm.Cond.methodLink "WaterGroundsLaw" (46 : Nat) ({ cls := "WaterGroundsModel", name := "brew", desc := "(I)I" } : Jvm.MethodName)) ∈ lw_all := lw_g (lw_at lw_m5 192 rfl) rfl
theorem q1243 : (Jvm.Cond.methodLink "WaterGroundsLaw" (50 : Nat) ({ cls := "WaterGroundsModel", name := "again", desc := "()I" } : Jvm.MethodName)) ∈ lw_all := lw_g (lw_at lw_m5 229 rfl) rfl
theorem q1247 : (Jvm.Cond.methodLink "WaterGroundsLaw" (55 : Nat) ({ cls := "WaterGroundsModel", name := "cell", desc := "(III)I" } : Jvm.MethodName)) ∈ lw_all := lw_g (lw_at lw_m5 233 rfl) rfl
theorem q1251 : (Jvm.Cond.methodLink "WaterGroundsLaw" (59 : Nat) ({ cls := "WaterGroundsModel", name := "cup", desc := "(I)I" } : Jvm.MethodName)) ∈ lw_all := lw_g (lw_at lw_m5 237 rfl) rfl
theorem q1276 : (Jvm.Cond.methodLink "WaterGroundsLaw" (63 : Nat) ({ cls := "WaterGroundsModel", name := "keep", desc := "(I)I" } : Jvm.MethodName)) ∈ lw_all := lw_g (lw_at lw_m6 22 rfl) rfl
theorem q1283 : (Jvm.Cond.methodLink "WaterGroundsLaw" (67 : Nat) ({ cls := "WaterGroundsModel", name := "back", desc := "(I)I" } : Jvm.MethodName)) ∈ lw_all := lw_g (lw_at lw_m6 29 rfl) rfl
theorem q1287 : (Jvm.Cond.methodLink "WaterGroundsLaw" (71 : Nat) ({ cls := "WaterGroundsModel", name := "taste", desc := "(I)I" } : Jvm.MethodName)) ∈ lw_all := lw_g (lw_at lw_m6 33 rfl) rfl
theorem q1303 : (Jvm.Cond.methodLink "WaterGroundsLaw" (75 : Nat) ({ cls := "WaterGroundsModel", name := "knob", desc := "(I)I" } : Jvm.MethodName)) ∈ lw_all := lw_g (lw_at lw_m6 49 rfl) rfl
theorem q1311 : (Jvm.Cond.methodLink "WaterGroundsLaw" (79 : Nat) ({ cls := "WaterGroundsModel", name := "right", desc := "(I)I" } : Jvm.MethodName)) ∈ lw_all := lw_g (lw_at lw_m6 57 rfl) rfl
theorem q1319 : (Jvm.Cond.methodLink "WaterGroundsLaw" (83 : Nat) ({ cls := "WaterGroundsModel", name := "broad", desc := "(I)I" } : Jvm.MethodName)) ∈ lw_all := lw_g (lw_at lw_m6 65 rfl) rfl
theorem q1327 : (Jvm.Cond.methodLink "WaterGroundsLaw" (87 : Nat) ({ cls := "WaterGroundsModel", name := "takes", desc := "(II)I" } : Jvm.MethodName)) ∈ lw_all := lw_g (lw_at lw_m6 73 rfl) rfl
theorem q1331 : (Jvm.Cond.methodLink "WaterGroundsLaw" (91 : Nat) ({ cls := "WaterGroundsModel", name := "little", desc := "()I" } : Jvm.MethodName)) ∈ lw_all := lw_g (lw_at lw_m6 77 rfl) rfl
theorem q1335 : (Jvm.Cond.methodLink "WaterGroundsLaw" (95 : Nat) ({ cls := "WaterGroundsModel", name := "ran", desc := "()I" } : Jvm.MethodName)) ∈ lw_all := lw_g (lw_at lw_m6 81 rfl) rfl
theorem q1339 : (Jvm.Cond.methodLink "WaterGroundsLaw" (99 : Nat) ({ cls := "WaterGroundsModel", name := "runs", desc := "()I" } : Jvm.MethodName)) ∈ lw_all := lw_g (lw_at lw_m6 85 rfl) rfl
theorem q1343 : (Jvm.Cond.methodLink "WaterGroundsLaw" (104 : Nat) ({ cls := "WaterGroundsModel", name := "blind", desc := "(IIII)J" } : Jvm.MethodName)) ∈ lw_all := lw_g (lw_at lw_m6 89 rfl) rfl
theorem q1348 : (Jvm.Cond.methodLink "WaterGroundsLaw" (108 : Nat) ({ cls := "WaterGroundsModel", name := "count", desc := "(I)I" } : Jvm.MethodName)) ∈ lw_all := lw_g (lw_at lw_m6 94 rfl) rfl
theorem q1352 : (Jvm.Cond.constantLong "WaterGroundsLaw" (13 : Nat) (4294967295 : Int64)) ∈ lw_all := lw_g (lw_at lw_m6 98 rfl) rfl
theorem q78 : (Jvm.Cond.initialized "java/lang/System") ∈ lw_all := lw_g (lw_at lw_m1 24 rfl) rfl
set_option maxRecDepth 100000
theorem q704 : (Jvm.Cond.static ({ cls := "java/lang/System", name := "arraycopy", desc := "(Ljava/lang/Object;ILjava/lang/Object;II)V" } : Jvm.MethodName)) ∈ lw_all := lw_g (lw_at lw_m3 170 rfl) rfl
theorem q705 : (Jvm.Cond.native ({ cls := "java/lang/System", name := "arraycopy", desc := "(Ljava/lang/Object;ILjava/lang/Object;II)V" } : Jvm.MethodName)) ∈ lw_all := lw_g (lw_at lw_m3 171 rfl) rfl
theorem q89 : (Jvm.Cond.arrayOver (Jvm.ClassFile.FieldType.array Jvm.ClassFile.FieldType.int)) ∈ lw_tbl := lw_at lw_m1 35 rfl
set_option maxRecDepth 100000
theorem q97 : (Jvm.Cond.arrayOver (Jvm.ClassFile.FieldType.array (Jvm.ClassFile.FieldType.object "WaterGrounds$Ground"))) ∈ lw_tbl := lw_at lw_m1 43 rfl
theorem q98 : (Jvm.Cond.arrayOver (Jvm.ClassFile.FieldType.object "WaterGrounds$Ground")) ∈ lw_tbl := lw_at lw_m1 44 rfl
theorem q106 : (Jvm.Cond.arrayOver (Jvm.ClassFile.FieldType.object "WaterGrounds$Grain")) ∈ lw_tbl := lw_at lw_m1 52 rfl
theorem q123 : (Jvm.Cond.arrayClass Jvm.ClassFile.FieldType.int) ∈ lw_all := lw_g (lw_at lw_m1 69 rfl) rfl
theorem q167 : (Jvm.Cond.arrayOver (Jvm.ClassFile.FieldType.object "WaterGrounds$Bed")) ∈ lw_tbl := lw_at lw_m1 113 rfl
theorem q175 : (Jvm.Cond.arrayOver (Jvm.ClassFile.FieldType.object "WaterGrounds$Line")) ∈ lw_tbl := lw_at lw_m1 121 rfl
theorem q203 : (Jvm.Cond.arrayClass Jvm.ClassFile.FieldType.byte) ∈ lw_all := lw_g (lw_at lw_m1 149 rfl) rfl
theorem q1112 : (Jvm.Cond.arrayClass Jvm.ClassFile.FieldType.boolean) ∈ lw_all := lw_g (lw_at lw_m5 98 rfl) rfl
theorem q1370 : (Jvm.Cond.arrayOver (Jvm.ClassFile.FieldType.object "java/lang/String")) ∈ lw_tbl := lw_at lw_m6 116 rfl
