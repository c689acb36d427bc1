/-! THE WORLD of class and reference in one: kinds of cells (kind, i, j); F kind place i j holds every number; a gives the addresses -/
set_option maxRecDepth 100000
abbrev Ix : Type := Nat × Nat × Nat
abbrev St : Type := Nat → Nat → Nat → Nat → Int32
def fu (F : St) (k p i j : Nat) (v : Int32) : St := fun k2 p2 i2 j2 => if k2 = k ∧ p2 = p ∧ i2 = i ∧ j2 = j then v else F k2 p2 i2 j2
theorem fu_s (F : St) (k p i j : Nat) (v : Int32) : fu F k p i j v k p i j = v := by simp [fu]
theorem fu_n (F : St) (k p i j : Nat) (v : Int32) {k2 p2 i2 j2 : Nat} (h : ¬ (k2 = k ∧ p2 = p ∧ i2 = i ∧ j2 = j)) : fu F k p i j v k2 p2 i2 j2 = F k2 p2 i2 j2 := by simp only [fu, if_neg h]
/-- a long out of two halves -/
def jn (h l : Int32) : Int64 := ⟨⟨h.toBitVec ++ l.toBitVec⟩⟩
def jhi (v : Int64) : Int32 := ⟨⟨v.toBitVec.extractLsb' 32 32⟩⟩
def jlo (v : Int64) : Int32 := ⟨⟨v.toBitVec.extractLsb' 0 32⟩⟩
theorem jn_eta (v : Int64) : jn (jhi v) (jlo v) = v := by
  apply Int64.toBitVec_inj.mp
  show (v.toBitVec.extractLsb' 32 32 ++ v.toBitVec.extractLsb' 0 32 : BitVec 64) = v.toBitVec
  ext i hi
  simp only [BitVec.getElem_append, BitVec.getElem_extractLsb']
  split
  · simp [BitVec.getLsbD_eq_getElem, hi]
  · rename_i h
    have : 32 + (i - 32) = i := by omega
    simp [this, BitVec.getLsbD_eq_getElem, hi]
/-- array classes; the addresses of the text constants, of their byte arrays, of the static arrays; which lines (27) and told rows (28) live -/
abbrev WK : Type := (Nat → ClassId) × (Nat → Nat) × (Nat → Nat) × (Nat → Nat) × (Nat → Nat → Prop)
abbrev vwCl : List vw_C := [(RX0, TX0, 26), (RX1, TX1, 5), (RX2, TX2, 5), (RX3, TX3, 2), (RX4, TX4, 8), (RX5, TX5, 1), (RX6, TX6, 5), (RX7, TX7, 5), (RX8, TX8, 42), (RX9, TX9, 7), (RX3, TX3, 2), (RX11, TX11, 3), (RX12, TX12, 4), (RX13, TX13, 4), (RX14, TX14, 3), (RX15, TX15, 4)]
abbrev tyl (dA : Nat → ClassId) : List (ClassId × FieldType) := [(dA 0, .int), (dA 1, .byte), (dA 2, .boolean), (dA 3, .object "WaterGrounds$Grain"), (dA 4, .object "WaterGrounds$Ground"), (dA 5, .array (.object "WaterGrounds$Ground")), (dA 6, .array .int), (dA 7, .object "WaterGrounds$Bed"), (dA 8, .object "WaterGrounds$Line")]
def wNi : Nat → Nat
  | 0 => 1
  | 1 => 4
  | 2 => 68
  | 3 => 68
  | 4 => 68
  | 5 => 68
  | 6 => 4
  | 7 => 16
  | 8 => 4
  | 9 => 16
  | 10 => 1
  | 11 => 4
  | 12 => 1
  | 13 => 12
  | 14 => 1
  | 15 => 1
  | 16 => 1
  | 17 => 1
  | 18 => 1
  | 19 => 1
  | 20 => 1
  | 21 => 1
  | 22 => 11
  | 23 => 1
  | 24 => 1
  | 25 => 1
  | 26 => 1
  | 27 => 10
  | 28 => 10
  | 30 => 1
  | 31 => 1
  | 32 => 1
  | 33 => 1
  | 34 => 1
  | 35 => 1
  | 36 => 1
  | 37 => 1
  | 38 => 1
  | 39 => 1
  | 40 => 1
  | 41 => 1
  | 42 => 1
  | 43 => 1
  | 44 => 1
  | 45 => 1
  | 46 => 1
  | _ => 0
def wNj : Nat → Nat
  | 0 => 1
  | 1 => 1
  | 2 => 1
  | 3 => 1
  | 4 => 3
  | 5 => 1
  | 6 => 1
  | 7 => 1
  | 8 => 1
  | 9 => 1
  | 10 => 1
  | 11 => 1
  | 12 => 1
  | 13 => 1
  | 14 => 1
  | 15 => 1
  | 16 => 1
  | 17 => 1
  | 18 => 1
  | 19 => 1
  | 20 => 1
  | 21 => 1
  | 22 => 1
  | 23 => 1
  | 24 => 1
  | 25 => 1
  | 26 => 1
  | 27 => 1
  | 28 => 1
  | 30 => 1
  | 31 => 1
  | 32 => 1
  | 33 => 1
  | 34 => 1
  | 35 => 1
  | 36 => 1
  | 37 => 1
  | 38 => 1
  | 39 => 1
  | 40 => 1
  | 41 => 1
  | 42 => 1
  | 43 => 1
  | 44 => 1
  | 45 => 1
  | 46 => 1
  | _ => 0
def wV (x : Ix) : Prop := x.2.1 < wNi x.1 ∧ x.2.2 < wNj x.1
/-- a kind is an array (its numbers are F kind 0 i e) or an object (F kind place i j) -/
def wAr : Nat → Bool
  | 3 => true
  | 5 => true
  | 6 => true
  | 7 => true
  | 8 => true
  | 9 => true
  | 10 => true
  | 11 => true
  | 12 => true
  | 13 => true
  | 14 => true
  | 15 => true
  | 17 => true
  | 21 => true
  | 22 => true
  | 23 => true
  | 24 => true
  | 25 => true
  | 26 => true
  | 28 => true
  | 31 => true
  | 32 => true
  | 33 => true
  | 34 => true
  | 35 => true
  | 36 => true
  | 37 => true
  | 38 => true
  | 39 => true
  | 40 => true
  | 41 => true
  | 42 => true
  | 43 => true
  | 44 => true
  | 45 => true
  | 46 => true
  | _ => false
def wln (a : Ix → Nat) (t v : Int32) (i : Nat) : va_E := if t = 11 then .inr (11, [.ref (a (28, i, 0)), .ref (a (0, 0, 0)), .ref (a (0, 0, 0))]) else if t = 12 then .inr (12, [.ref (a (28, i, 0)), .ref (a (0, 0, 0)), .int v, .ref (a (0, 0, 0))]) else if t = 13 then .inr (13, [.ref (a (28, i, 0)), .ref (a (0, 0, 0)), .int v, .ref (a (0, 0, 0))]) else if t = 14 then .inr (14, [.ref (a (28, i, 0)), .ref (a (0, 0, 0)), .ref (a (0, 0, 0))]) else .inr (15, [.ref (a (28, i, 0)), .ref (a (0, 0, 0)), .int v, .ref (a (0, 0, 0))])
def wc (dA : WK) (a : Ix → Nat) (F : St) : Nat → Nat → Nat → va_E
  | 0, i, j => .inr (0, [.int (F 0 0 i j), .int (F 0 1 i j), .ref (a (23, 0, 0)), .ref (a (24, 0, 0)), .ref (a (25, 0, 0)), .ref (a (10, 0, 0)), .int (F 0 6 i j), .int (F 0 7 i j), .int (F 0 8 i j), .int (F 0 9 i j), .int (F 0 10 i j), .int (F 0 11 i j), .ref (a (26, 0, 0)), .ref (a (12, 0, 0)), .int (F 0 14 i j), .ref (a (1, 0, 0)), .ref (a (14, 0, 0)), .int (F 0 17 i j), .ref (a (1, 3, 0)), .ref (a (15, 0, 0)), .int (F 0 20 i j), .ref (a (16, 0, 0)), .ref (a (18, 0, 0)), .ref (a (19, 0, 0)), .ref (a (20, 0, 0)), .ref (a (21, 0, 0))])
  | 1, i, j => .inr (1, [.ref (a (6, i, 0)), .ref (a (2, 64 + i, 0)), .int (F 1 2 i j), .ref (a (8, i, 0)), .ref (a (0, 0, 0))])
  | 2, i, j => .inr (2, [.ref (a (3, i, 0)), .int (F 2 1 i j), .int (F 2 2 i j), .int (F 2 3 i j), .ref (a (5, i, 0))])
  | 3, i, j => .inl (dA.1 3, 3, .inr (.inr (.inr (.inr (fun e => some (a (4, i, e)))))))
  | 4, i, j => .inr (3, [.int (F 4 0 i j), .int (F 4 1 i j)])
  | 5, i, j => .inl (dA.1 0, 3, .inl (fun e => F 5 0 i e))
  | 6, i, j => .inl (dA.1 5, 4, .inr (.inr (.inr (.inr (fun e => some (a (7, 4 * i + e, 0)))))))
  | 7, i, j => .inl (dA.1 4, 4, .inr (.inr (.inr (.inr (fun e => some (a (2, 4 * i + e, 0)))))))
  | 8, i, j => .inl (dA.1 6, 4, .inr (.inr (.inr (.inr (fun e => some (a (9, 4 * i + e, 0)))))))
  | 9, i, j => .inl (dA.1 0, 4, .inl (fun e => F 9 0 i e))
  | 10, i, j => .inl (dA.1 6, 4, .inr (.inr (.inr (.inr (fun e => some (a (11, e, 0)))))))
  | 11, i, j => .inl (dA.1 0, 4, .inl (fun e => F 11 0 i e))
  | 12, i, j => .inl (dA.1 6, 12, .inr (.inr (.inr (.inr (fun e => some (a (13, e, 0)))))))
  | 13, i, j => .inl (dA.1 0, 3, .inl (fun e => F 13 0 i e))
  | 14, i, j => .inl (dA.1 7, 2, .inr (.inr (.inr (.inr (fun e => some (a (1, 1 + e, 0)))))))
  | 15, i, j => .inl (dA.1 1, 200, .inl (fun e => F 15 0 i e))
  | 16, i, j => .inr (4, [.ref (a (17, 0, 0)), .int (F 16 1 i j), .int (F 16 2 i j), .int (F 16 3 i j), .int (F 16 4 i j), .int (F 16 5 i j), .int (F 16 6 i j), .ref (a (0, 0, 0))])
  | 17, i, j => .inl (dA.1 8, 10, .inr (.inr (.inr (.inr (fun e => if F 17 0 i e = 0 then none else some (a (27, e, 0)))))))
  | 18, i, j => .inr (5, [.ref (a (0, 0, 0))])
  | 19, i, j => .inr (6, [.ref (a (0, 0, 0)), .int (F 19 1 i j), .int (F 19 2 i j), .int (F 19 3 i j), .ref (a (0, 0, 0))])
  | 20, i, j => .inr (7, [.ref (a (0, 0, 0)), .int (F 20 1 i j), .int (F 20 2 i j), .int (F 20 3 i j), .ref (a (0, 0, 0))])
  | 21, i, j => .inl (dA.1 6, 11, .inr (.inr (.inr (.inr (fun e => some (a (22, e, 0)))))))
  | 22, i, j => .inl (dA.1 0, 11, .inl (fun e => F 22 0 i e))
  | 23, i, j => .inl (dA.1 0, 3, .inl (fun e => F 23 0 i e))
  | 24, i, j => .inl (dA.1 0, 3, .inl (fun e => F 24 0 i e))
  | 25, i, j => .inl (dA.1 0, 2, .inl (fun e => F 25 0 i e))
  | 26, i, j => .inl (dA.1 0, 5, .inl (fun e => F 26 0 i e))
  | 27, i, j => wln a (F 27 2 i j) (F 27 3 i j) i
  | 28, i, j => .inl (dA.1 0, (F 27 5 i 0).toNatClampNeg, .inl (fun e => F 28 0 i e))
  | 30, i, j => .inr (8, [.int (F 30 0 i j), .int (F 30 1 i j), .ref (a (31, 0, 0)), .ref (a (32, 0, 0)), .int (F 30 4 i j), .int (F 30 5 i j), .int (F 30 6 i j), .ref (a (33, 0, 0)), .int (F 30 8 i j), .int (F 30 9 i j), .int (F 30 10 i j), .int (F 30 11 i j), .int (F 30 12 i j), .ref (a (34, 0, 0)), .ref (a (35, 0, 0)), .ref (a (36, 0, 0)), .int (F 30 16 i j), .ref (a (37, 0, 0)), .int (F 30 18 i j), .ref (a (38, 0, 0)), .int (F 30 20 i j), .int (F 30 21 i j), .long (jn (F 30 22 i j) (F 30 64 i j)), .int (F 30 23 i j), .int (F 30 24 i j), .int (F 30 25 i j), .int (F 30 26 i j), .ref (a (39, 0, 0)), .int (F 30 28 i j), .int (F 30 29 i j), .ref (a (40, 0, 0)), .ref (a (41, 0, 0)), .ref (a (42, 0, 0)), .ref (a (43, 0, 0)), .ref (a (44, 0, 0)), .ref (a (45, 0, 0)), .ref (a (46, 0, 0)), .int (F 30 37 i j), .int (F 30 38 i j), .int (F 30 39 i j), .int (F 30 40 i j), .int (F 30 41 i j)])
  | 31, i, j => .inl (dA.1 0, 3, .inl (fun e => F 31 0 i e))
  | 32, i, j => .inl (dA.1 0, 3, .inl (fun e => F 32 0 i e))
  | 33, i, j => .inl (dA.1 0, 16, .inl (fun e => F 33 0 i e))
  | 34, i, j => .inl (dA.1 0, 12, .inl (fun e => F 34 0 i e))
  | 35, i, j => .inl (dA.1 0, 12, .inl (fun e => F 35 0 i e))
  | 36, i, j => .inl (dA.1 0, 12, .inl (fun e => F 36 0 i e))
  | 37, i, j => .inl (dA.1 0, 5, .inl (fun e => F 37 0 i e))
  | 38, i, j => .inl (dA.1 0, 200, .inl (fun e => F 38 0 i e))
  | 39, i, j => .inl (dA.1 0, 60, .inl (fun e => F 39 0 i e))
  | 40, i, j => .inl (dA.1 0, 138, .inl (fun e => F 40 0 i e))
  | 41, i, j => .inl (dA.1 0, 138, .inl (fun e => F 41 0 i e))
  | 42, i, j => .inl (dA.1 0, 276, .inl (fun e => F 42 0 i e))
  | 43, i, j => .inl (dA.1 2, 2, .inl (fun e => F 43 0 i e))
  | 44, i, j => .inl (dA.1 0, 64, .inl (fun e => F 44 0 i e))
  | 45, i, j => .inl (dA.1 0, 3, .inl (fun e => F 45 0 i e))
  | 46, i, j => .inl (dA.1 0, 121, .inl (fun e => F 46 0 i e))
  | _, _, _ => .inr (3, [])
theorem wc_obj (dA : WK) (a : Ix → Nat) {F F2 : St} {k i j : Nat} (h : ∀ p, F k p i j = F2 k p i j) (ha : wAr k = false) : wc dA a F k i j = wc dA a F2 k i j := by
  unfold wc
  split <;> first | (simp only [h]; done) | (exact absurd ha (by decide))
theorem wc_arr (dA : WK) (a : Ix → Nat) {F F2 : St} {k i j : Nat} (h : ∀ e, F k 0 i e = F2 k 0 i e) (h2 : ∀ i, F 27 5 i 0 = F2 27 5 i 0) (ha : wAr k = true) : wc dA a F k i j = wc dA a F2 k i j := by
  unfold wc
  split <;> first | (simp only [h, h2]; done) | (simp only [h]; done) | (exact absurd ha (by decide)) | rfl
/-- a cell of these two kinds may be dead -/
def wal (dA : WK) (x : Ix) : Prop := ((x.1 = 27 ∨ x.1 = 28) → dA.2.2.2.2 x.1 x.2.1) ∧ (30 ≤ x.1 → dA.2.2.2.2 30 0)
theorem wal_s {dA : WK} {k i j : Nat} (h : (decide (k < 27) || k == 29) = true) : wal dA (k, i, j) := by
  simp only [Bool.or_eq_true, decide_eq_true_eq, beq_iff_eq] at h
  refine ⟨fun q => ?_, fun q => ?_⟩
  · rcases q with q | q <;> (have q2 : k = _ := q; omega)
  · have q2 : 30 ≤ k := q; omega
theorem wal_m {dA : WK} {k i j k2 i2 j2 : Nat} (h : wal dA (k, i, j)) (hk : 30 ≤ k) (hk2 : 30 ≤ k2) : wal dA (k2, i2, j2) := by
  refine ⟨fun q => ?_, fun _ => h.2 hk⟩
  rcases q with q | q <;> (have q2 : k2 = _ := q; omega)
/-- a valid, living index -/
def wVd (dA : WK) (x : Ix) : Prop := wV x ∧ wal dA x
/-- the world: every living cell holds what F says -/
def wP (D : va_G) (dA : WK) (a : Ix → Nat) (F : St) (H : Heap) : Prop := ∀ x : Ix, wV x → wal dA x → va_at D vwCl (a x, wc dA a F x.1 x.2.1 x.2.2) H
/-- the addresses differ; the fields of a class lie apart -/
def wD (D : va_G) (dA : WK) (a : Ix → Nat) : Prop := (∀ x y : Ix, wV x → wV y → wal dA x → wal dA y → a x = a y → x = y) ∧ ∀ (ci : Nat) (q : vw_C), vwCl[ci]? = some q → ∀ x y, x < q.2.2 → y < q.2.2 → x ≠ y → D.2 ci x ≠ D.2 ci y
def wA (dA : WK) (a : Ix → Nat) (sz : Nat) : Nat → Prop := fun q => (∃ x : Ix, wV x ∧ wal dA x ∧ a x = q) ∨ sz ≤ q
theorem wP_set {D : va_G} {dA : WK} {a : Ix → Nat} {F F2 : St} {H H1 : Heap} {k i j : Nat} (h : wP D dA a F H) (hD : wD D dA a) (hx : wV (k, i, j)) (hl : wal dA (k, i, j)) (he : va_at D vwCl (a (k, i, j), wc dA a F2 k i j) H1) (oq : ∀ q : Nat, q ≠ a (k, i, j) → H1[q]? = H[q]?) (ho : ∀ k2 i2 j2, wV (k2, i2, j2) → (k2, i2, j2) ≠ (k, i, j) → wc dA a F2 k2 i2 j2 = wc dA a F k2 i2 j2) : wP D dA a F2 H1 := by
  rintro ⟨k2, i2, j2⟩ hy hyl
  by_cases hk : (k2, i2, j2) = (k, i, j)
  · cases hk; exact he
  · show va_at D vwCl (a (k2, i2, j2), wc dA a F2 k2 i2 j2) H1
    rw [ho k2 i2 j2 hy hk]
    exact (h (k2, i2, j2) hy hyl).kept (oq _ (fun z => hk (hD.1 _ _ hy hx hyl hl z)))
theorem fu_obj (dA : WK) (a : Ix → Nat) (F : St) {k p i j : Nat} (v : Int32) (ha : wAr k = false) (h27 : ¬ 27 = k) : ∀ k2 i2 j2, wV (k2, i2, j2) → (k2, i2, j2) ≠ (k, i, j) → wc dA a (fu F k p i j v) k2 i2 j2 = wc dA a F k2 i2 j2 := by
  intro k2 i2 j2 _ hne
  cases hb : wAr k2 with
  | false => exact wc_obj dA a (fun p2 => fu_n F k p i j v (fun h => hne (by rw [h.1, h.2.2.1, h.2.2.2]))) hb
  | true => exact wc_arr dA a (fun e => fu_n F k p i j v (fun h => by rw [h.1] at hb; rw [ha] at hb; cases hb)) (fun i => fu_n F k p _ j v (fun h => h27 h.1)) hb
theorem fu_arr (dA : WK) (a : Ix → Nat) (F : St) {k i e : Nat} (v : Int32) (ha : wAr k = true) (hj : wNj k = 1) (h27 : ¬ 27 = k) : ∀ k2 i2 j2, wV (k2, i2, j2) → (k2, i2, j2) ≠ (k, i, 0) → wc dA a (fu F k 0 i e v) k2 i2 j2 = wc dA a F k2 i2 j2 := by
  intro k2 i2 j2 hv hne
  cases hb : wAr k2 with
  | false => exact wc_obj dA a (fun p2 => fu_n F k 0 i e v (fun h => by rw [h.1, ha] at hb; cases hb)) hb
  | true => exact wc_arr dA a (fun e2 => fu_n F k 0 i e v (fun h => hne (by
      have h2 : j2 < wNj k2 := hv.2
      rw [h.1, hj] at h2
      rw [h.1, h.2.2.1, show j2 = 0 by omega]))) (fun i => fu_n F k 0 _ e v (fun h => h27 h.1)) hb
