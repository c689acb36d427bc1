/-! PURE: numbers, loops, updates -/
set_option maxRecDepth 100000
abbrev oN (n : Nat) : Int32 := Int32.ofNat n
theorem oN_add (a b : Nat) : oN a + oN b = oN (a + b) := (Int32.ofNat_add a b).symm
theorem oN_1 (a : Nat) : oN a + 1 = oN (a + 1) := (Int32.ofNat_add a 1).symm
theorem oN_i {a : Nat} (h : a < 2147483648) : (oN a).toInt = a := Int32.toInt_ofNat_of_lt h
theorem oN_n {a : Nat} (h : a < 2147483648) : (oN a).toNatClampNeg = a := Int32.toNatClampNeg_ofNat_of_lt h
theorem oN_le {a b : Nat} (ha : a < 2147483648) (hb : b < 2147483648) : (oN a ≤ oN b) ↔ a ≤ b := Int32.ofNat_le_iff_le ha hb
theorem oN_lt {a b : Nat} (ha : a < 2147483648) (hb : b < 2147483648) : (oN a < oN b) ↔ a < b := Int32.ofNat_lt_iff_lt ha hb
theorem oN_eq {a b : Nat} (ha : a < 2147483648) (hb : b < 2147483648) : (oN a = oN b) ↔ a = b := ⟨fun h => by
  have h2 := congrArg Int32.toNatClampNeg h
  rwa [oN_n ha, oN_n hb] at h2, fun h => by rw [h]⟩
theorem vpb_t {x : Int32} {n : Nat} (h0 : 0 ≤ x.toInt) (h : x.toInt < n) : vpb x n = true := by
  unfold vpb
  refine decide_eq_true ?_
  rintro (h1 | h1)
  · have h2 := Int32.lt_iff_toInt_lt.mp h1
    have h3 : (0 : Int32).toInt = 0 := rfl
    omega
  · have h2 : x.toNatClampNeg = x.toInt.toNat := rfl
    omega
theorem oN_vp {a n : Nat} (h : a < n) (hn : n < 2147483648) : vpb (oN a) n = true := vpb_t (by rw [oN_i (by omega)]; omega) (by rw [oN_i (by omega)]; omega)
theorem oN_of {x : Int32} (h : 0 ≤ x.toInt) : x = oN x.toNatClampNeg := (Int32.ofNat_toNatClampNeg x (Int32.le_iff_toInt_le.mpr (by rw [show (0 : Int32).toInt = 0 from rfl]; exact h))).symm
theorem cn_i {x : Int32} (h : 0 ≤ x.toInt) : (x.toNatClampNeg : Int) = x.toInt := Int.toNat_of_nonneg h
/-- evaluation of the chains -/
theorem ob_s {α β : Type} (y : α) (f : α → Option β) : ob (some y) f = f y := rfl
theorem ob2_s {α β γ : Type} (y : α) (z : β) (f : α → β → Option γ) : ob2 (some (y, z)) f = f y z := rfl
theorem ob3_s {α β γ δ : Type} (y : α) (z : β) (w : γ) (f : α → β → γ → Option δ) : ob3 (some (y, z, w)) f = f y z w := rfl
theorem ob4_s {α β γ δ ε : Type} (y : α) (z : β) (w : γ) (v : δ) (f : α → β → γ → δ → Option ε) : ob4 (some (y, z, w, v)) f = f y z w v := rfl
theorem og_t {α : Type} {c : Bool} {x : Option α} (h : c = true) : og c x = x := by rw [h]; rfl
theorem pl_s {α β : Type} (x : α) (f : α → β) : pl x f = f x := rfl
theorem ob_ite {α β : Type} {c : Prop} [Decidable c] (a b : α) (f : α → Option β) : ob (if c then some a else some b) f = f (if c then a else b) := by split <;> rfl
theorem le_nlt {a b : Int32} : a ≤ b ↔ ¬ b < a := Int32.not_lt.symm
/-- loops -/
theorem loopG {σ ρ : Type} {lp : Nat → σ → Option ρ} {I : Nat → σ → Prop} {Q : ρ → Prop} (B : Nat) (hs : ∀ n k s, k < B → I k s → (∃ s', I (k + 1) s' ∧ lp (n + 1) s = lp n s') ∨ ∃ r, Q r ∧ lp (n + 1) s = some r) (he : ∀ n s, I B s → ∃ r, Q r ∧ lp (n + 1) s = some r) : ∀ d n k s, k + d = B → d < n → I k s → ∃ r, Q r ∧ lp n s = some r := by
  intro d
  induction d with
  | zero =>
    intro n k s hk hn hI
    obtain ⟨m, rfl⟩ : ∃ m, n = m + 1 := ⟨n - 1, by omega⟩
    rw [show k = B by omega] at hI
    exact he m s hI
  | succ d ih =>
    intro n k s hk hn hI
    obtain ⟨m, rfl⟩ : ∃ m, n = m + 1 := ⟨n - 1, by omega⟩
    rcases hs m k s (by omega) hI with ⟨s', h1, h2⟩ | h
    · rw [h2]
      exact ih m (k + 1) s' (by omega) (by omega) h1
    · exact h
theorem loopF {lp : Nat → St → Int32 → Option (St × Int32)} (I : Nat → St → Prop) (B : Nat) (hB : B < 300) (hs : ∀ n k F, k < B → I k F → ∃ F', I (k + 1) F' ∧ lp (n + 1) F (oN k) = lp n F' (oN k + 1)) (he : ∀ n F, I B F → lp (n + 1) F (oN B) = some (F, oN B)) {F : St} (h0 : I 0 F) : ∃ F', I B F' ∧ lp 300 F 0 = some (F', oN B) := by
  have h := loopG (lp := fun n (s : St × Int32) => lp n s.1 s.2) (I := fun k s => s.2 = oN k ∧ I k s.1) (Q := fun r => ∃ F', I B F' ∧ r = (F', oN B)) B
    (fun n k s hk hI => by
      obtain ⟨F, x⟩ := s
      obtain ⟨hx, hI⟩ := hI
      have hx : x = oN k := hx
      subst hx
      obtain ⟨F', h1, h2⟩ := hs n k F hk hI
      exact Or.inl ⟨(F', oN k + 1), ⟨oN_1 k, h1⟩, h2⟩)
    (fun n s hI => by
      obtain ⟨F, x⟩ := s
      obtain ⟨hx, hI⟩ := hI
      have hx : x = oN B := hx
      subst hx
      exact ⟨_, ⟨F, hI, rfl⟩, he n F hI⟩) B 300 0 (F, 0) (by omega) hB ⟨rfl, h0⟩
  obtain ⟨r, ⟨F', h1, h2⟩, h3⟩ := h
  exact ⟨F', h1, by rw [← h2]; exact h3⟩
theorem l4 (k : Nat) : (4 : Int32) + oN k = oN (4 + k) := oN_add 4 k
theorem l16 (k : Nat) : (16 : Int32) + oN k = oN (16 + k) := oN_add 16 k
theorem l32 (k : Nat) : (32 : Int32) + oN k = oN (32 + k) := oN_add 32 k
theorem l48 (k : Nat) : (48 : Int32) + oN k = oN (48 + k) := oN_add 48 k
theorem l64 (k : Nat) : (64 : Int32) + oN k = oN (64 + k) := oN_add 64 k
theorem l80 (k : Nat) : (80 : Int32) + oN k = oN (80 + k) := oN_add 80 k
theorem l96 (k : Nat) : (96 : Int32) + oN k = oN (96 + k) := oN_add 96 k
theorem l112 (k : Nat) : (112 : Int32) + oN k = oN (112 + k) := oN_add 112 k
theorem l134 (k : Nat) : (134 : Int32) + oN k = oN (134 + k) := oN_add 134 k
theorem fu_a (F : St) (k p i j : Nat) (v : Int32) (k2 p2 i2 j2 : Nat) : fu F k p i j v k2 p2 i2 j2 = if k2 = k ∧ p2 = p ∧ i2 = i ∧ j2 = j then v else F k2 p2 i2 j2 := rfl
theorem dm4 : ∀ k, k < 16 → oN k - oN k / 4 * 4 = oN (k % 4) ∧ oN k / 4 = oN (k / 4) := by decide
/-- a chain ends, with Q -/
def Ok {ρ : Type} (o : Option ρ) (Q : ρ → Prop) : Prop := ∃ r, o = some r ∧ Q r
section OKR
variable {α β γ δ ε ρ : Type} {Q : ρ → Prop}
theorem ok_some {r : ρ} (h : Q r) : Ok (some r) Q := ⟨r, rfl, h⟩
theorem ok_mono {o : Option ρ} {P : ρ → Prop} (h : Ok o P) (k : ∀ r, P r → Q r) : Ok o Q := by
  obtain ⟨r, h1, h2⟩ := h
  exact ⟨r, h1, k r h2⟩
theorem ok_pl {x : α} {f : α → Option ρ} (h : Ok (f x) Q) : Ok (pl x f) Q := h
theorem ok_og {c : Bool} {x : Option ρ} (hc : c = true) (h : Ok x Q) : Ok (og c x) Q := by rw [og_t hc]; exact h
theorem ok_ob {x : Option α} {P : α → Prop} {f : α → Option ρ} (h : Ok x P) (k : ∀ y, P y → Ok (f y) Q) : Ok (ob x f) Q := by
  obtain ⟨y, rfl, h2⟩ := h
  exact k y h2
theorem ok_ob2 {x : Option (α × β)} {P : α × β → Prop} {f : α → β → Option ρ} (h : Ok x P) (k : ∀ y z, P (y, z) → Ok (f y z) Q) : Ok (ob2 x f) Q := by
  obtain ⟨⟨y, z⟩, rfl, h2⟩ := h
  exact k y z h2
theorem ok_ob3 {x : Option (α × β × γ)} {P : α × β × γ → Prop} {f : α → β → γ → Option ρ} (h : Ok x P) (k : ∀ y z w, P (y, z, w) → Ok (f y z w) Q) : Ok (ob3 x f) Q := by
  obtain ⟨⟨y, z, w⟩, rfl, h2⟩ := h
  exact k y z w h2
theorem ok_ob4 {x : Option (α × β × γ × δ)} {P : α × β × γ × δ → Prop} {f : α → β → γ → δ → Option ρ} (h : Ok x P) (k : ∀ y z w v, P (y, z, w, v) → Ok (f y z w v) Q) : Ok (ob4 x f) Q := by
  obtain ⟨⟨y, z, w, v⟩, rfl, h2⟩ := h
  exact k y z w v h2
theorem ok_obi {c : Prop} [Decidable c] {a b : α} {f : α → Option ρ} (h : Ok (f (if c then a else b)) Q) : Ok (ob (if c then some a else some b) f) Q := by rw [ob_ite]; exact h
theorem ok_ite {c : Prop} [Decidable c] {x y : Option ρ} (h1 : c → Ok x Q) (h2 : ¬ c → Ok y Q) : Ok (if c then x else y) Q := by
  split
  · exact h1 ‹_›
  · exact h2 ‹_›
theorem ok_itp {c : Prop} [Decidable c] {x y : Option ρ} (hc : c) (h1 : Ok x Q) : Ok (if c then x else y) Q := by rw [if_pos hc]; exact h1
theorem ok_itn {c : Prop} [Decidable c] {x y : Option ρ} (hc : ¬ c) (h1 : Ok y Q) : Ok (if c then x else y) Q := by rw [if_neg hc]; exact h1
theorem ok_eqv {o : Option ρ} {r : ρ} (h : Ok o (fun z => z = r)) : o = some r := by
  obtain ⟨z, h1, h2⟩ := h
  rw [h1, h2]
theorem ok_ofe {o : Option ρ} {r : ρ} (h : o = some r) (hq : Q r) : Ok o Q := ⟨r, h, hq⟩
end OKR
theorem ok_ple {α ρ : Type} {Q : ρ → Prop} {x y : α} {f : α → Option ρ} (e : x = y) (h : Ok (f y) Q) : Ok (pl x f) Q := by rw [e]; exact h
theorem nle {a k : Nat} (h : k < a) (ha : a < 2147483648) : ¬ (oN a ≤ oN k) := by rw [oN_le ha (by omega)]; omega
theorem yle {a k : Nat} (h : a ≤ k) (ha : k < 2147483648) : oN a ≤ oN k := by rw [oN_le (by omega) ha]; exact h
theorem nlt0 {k : Nat} (h : k < 2147483648) : ¬ (oN k < 0) := fun q => by
  have h2 : oN k < oN 0 := q
  rw [oN_lt h (by omega)] at h2
  omega
theorem og_T {α : Type} {x : Option α} : og true x = x := rfl
theorem nzl_t {x : Int32} (h : x ≠ 0) : nzl x.toInt64 = true := by
  unfold nzl
  refine decide_eq_true (fun q => h ?_)
  have h2 := congrArg Int64.toInt q
  rw [Int32.toInt_toInt64] at h2
  exact Int32.toInt_inj.mp h2
theorem nzb_t {x : Int32} (h : x ≠ 0) : nzb x = true := decide_eq_true h
/-- loops: walk one round, take the rest for granted -/
theorem ok_lpG {σ ρ : Type} {lp : Nat → σ → Option ρ} {Q : ρ → Prop} (I : Nat → σ → Prop) (B : Nat) (hs : ∀ n k s, k < B → I k s → (∀ s', I (k + 1) s' → Ok (lp n s') Q) → Ok (lp (n + 1) s) Q) (he : ∀ n s, I B s → Ok (lp (n + 1) s) Q) : ∀ d n k s, k + d = B → d < n → I k s → Ok (lp n s) Q := by
  intro d
  induction d with
  | zero =>
    intro n k s hk hn hI
    obtain ⟨m, rfl⟩ : ∃ m, n = m + 1 := ⟨n - 1, by omega⟩
    rw [show k = B by omega] at hI
    exact he m s hI
  | succ d ih =>
    intro n k s hk hn hI
    obtain ⟨m, rfl⟩ : ∃ m, n = m + 1 := ⟨n - 1, by omega⟩
    exact hs m k s (by omega) hI (fun s' h => ih m (k + 1) s' (by omega) (by omega) h)
theorem ok_lpF {ρ : Type} {lp : Nat → St → Int32 → Option ρ} {Q : ρ → Prop} (I : Nat → St → Prop) (B : Nat) (hB : B < 300) (hs : ∀ n k F, k < B → I k F → (∀ F', I (k + 1) F' → Ok (lp n F' (oN k + 1)) Q) → Ok (lp (n + 1) F (oN k)) Q) (he : ∀ n F, I B F → Ok (lp (n + 1) F (oN B)) Q) {F : St} (h0 : I 0 F) : Ok (lp 300 F 0) Q :=
  ok_lpG (lp := fun n (s : St × Int32) => lp n s.1 s.2) (fun k s => s.2 = oN k ∧ I k s.1) B
    (fun n k s hk hI ih => by
      obtain ⟨F, x⟩ := s
      obtain ⟨hx, hI⟩ := hI
      have hx : x = oN k := hx
      subst hx
      exact hs n k F hk hI (fun F' h => ih (F', oN k + 1) ⟨oN_1 k, h⟩))
    (fun n s hI => by
      obtain ⟨F, x⟩ := s
      obtain ⟨hx, hI⟩ := hI
      have hx : x = oN B := hx
      subst hx
      exact he n F hI) B 300 0 (F, 0) (by omega) hB ⟨rfl, h0⟩
