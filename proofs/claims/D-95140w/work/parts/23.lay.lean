/-! LAYING: what the class' constructor has made, as the world; addresses by arithmetic -/
set_option maxRecDepth 100000
section LY
variable {D : va_G} {dA : WK} {H : Heap} {z q sz n : Nat} {cA : ClassId}
theorem atQ {f g : Nat → Option Nat} (h : ∀ e, e < n → f e = g e) (hh : va_at D vwCl (z, .inl (cA, n, .inr (.inr (.inr (.inr f))))) H) : va_at D vwCl (z, .inl (cA, n, .inr (.inr (.inr (.inr g))))) H := by
  have h1 : H[z]? = some (vp_cell cA (n, .inr (.inr (.inr (.inr f))))) := hh
  show H[z]? = some (vp_cell cA (n, .inr (.inr (.inr (.inr g)))))
  rw [vp_cell_q] at h1 ⊢
  rw [h1, arrV_congr (fun j hj => by rw [h j hj])]
theorem atI {f g : Nat → Int32} (h : ∀ e, e < n → f e = g e) (hh : va_at D vwCl (z, .inl (cA, n, .inl f)) H) : va_at D vwCl (z, .inl (cA, n, .inl g)) H := by
  have h1 : H[z]? = some (vp_cell cA (n, .inl f)) := hh
  show H[z]? = some (vp_cell cA (n, .inl g))
  rw [vp_cell_i] at h1 ⊢
  rw [h1, arrV_congr (fun j hj => by rw [h j hj])]
theorem va_P.left {a b : va_W} (h : va_P D vwCl (a ++ b) H) : va_P D vwCl a H := fun k x hx => h k x (by rw [List.getElem?_append_left (List.getElem?_eq_some_iff.mp hx).1]; exact hx)
theorem va_P.right {a b : va_W} (h : va_P D vwCl (a ++ b) H) : va_P D vwCl b H := fun k x hx => h (a.length + k) x (by rw [List.getElem?_append_right (by omega), Nat.add_sub_cancel_left]; exact hx)
/-- a cell of the bed, laid -/
def GL (D : va_G) (dA : WK) (H : Heap) (z : Nat) : Prop :=
  (va_at D vwCl (z, .inr (2, [.ref (z + 1), .int 0, .int 0, .int 0, .ref (z + 5)])) H) ∧
  (va_at D vwCl (z + 1, .inl (dA.1 3, 3, .inr (.inr (.inr (.inr (fun e => some (z + 2 + e))))))) H) ∧
  (∀ j, j < 3 → va_at D vwCl (z + 2 + j, .inr (3, [.int 0, .int 0])) H) ∧
  (va_at D vwCl (z + 5, .inl (dA.1 0, 3, .inl (fun _ => 0))) H)
theorem lt3 {P : Nat → Prop} (h0 : P 0) (h1 : P 1) (h2 : P 2) : ∀ j, j < 3 → P j
  | 0, _ => h0
  | 1, _ => h1
  | 2, _ => h2
  | n + 3, h => absurd h (by omega)
theorem lt4 {P : Nat → Prop} (h0 : P 0) (h1 : P 1) (h2 : P 2) (h3 : P 3) : ∀ j, j < 4 → P j
  | 0, _ => h0
  | 1, _ => h1
  | 2, _ => h2
  | 3, _ => h3
  | n + 4, h => absurd h (by omega)
theorem gw_lay (h : va_P D vwCl (gw dA z (z + 1)) H) : GL D dA H z :=
  ⟨h 0 _ rfl, atQ (lt3 rfl rfl rfl) (h 1 _ rfl), lt3 (h 2 _ rfl) (h 3 _ rfl) (h 4 _ rfl), h 5 _ rfl⟩
/-- a bed, laid -/
def BL (D : va_G) (dA : WK) (H : Heap) (z q : Nat) : Prop :=
  (va_at D vwCl (z, .inr (1, [.ref (z + 1), .ref (z + 6), .int 0, .ref (z + 12), .ref q])) H) ∧
  (va_at D vwCl (z + 1, .inl (dA.1 5, 4, .inr (.inr (.inr (.inr (fun e => some (z + 2 + e))))))) H) ∧
  (∀ c, c < 4 → va_at D vwCl (z + 2 + c, .inl (dA.1 4, 4, .inr (.inr (.inr (.inr (fun e => some (z + 17 + 6 * (4 * c + e)))))))) H) ∧
  (va_at D vwCl (z + 12, .inl (dA.1 6, 4, .inr (.inr (.inr (.inr (fun e => some (z + 13 + e))))))) H) ∧
  (∀ c, c < 4 → va_at D vwCl (z + 13 + c, .inl (dA.1 0, 4, .inl (fun _ => 0))) H) ∧
  (GL D dA H (z + 6)) ∧
  (∀ c, c < 4 → ∀ e, e < 4 → GL D dA H (z + 17 + 6 * (4 * c + e)))
theorem bw_lay (h : va_P D vwCl (bw dA z (z + 1) q) H) : BL D dA H z q := by
  have h0 := h.left
  have k0 := h.right
  have k1 := k0.right
  have k2 := k1.right
  have k3 := k2.right
  have k4 := k3.right
  have k5 := k4.right
  have k6 := k5.right
  have k7 := k6.right
  have k8 := k7.right
  have k9 := k8.right
  have k10 := k9.right
  have k11 := k10.right
  have k12 := k11.right
  have k13 := k12.right
  have k14 := k13.right
  have k15 := k14.right
  have k16 := k15.right
  exact ⟨h0 0 _ rfl, atQ (lt4 rfl rfl rfl rfl) (h0 1 _ rfl), lt4 (atQ (lt4 rfl rfl rfl rfl) (h0 2 _ rfl)) (atQ (lt4 rfl rfl rfl rfl) (h0 3 _ rfl)) (atQ (lt4 rfl rfl rfl rfl) (h0 4 _ rfl)) (atQ (lt4 rfl rfl rfl rfl) (h0 5 _ rfl)), atQ (lt4 rfl rfl rfl rfl) (h0 6 _ rfl), lt4 (h0 7 _ rfl) (h0 8 _ rfl) (h0 9 _ rfl) (h0 10 _ rfl), gw_lay k16.left,
    lt4 (lt4 (gw_lay k15.left) (gw_lay k14.left) (gw_lay k13.left) (gw_lay k12.left)) (lt4 (gw_lay k11.left) (gw_lay k10.left) (gw_lay k9.left) (gw_lay k8.left)) (lt4 (gw_lay k7.left) (gw_lay k6.left) (gw_lay k5.left) (gw_lay k4.left)) (lt4 (gw_lay k3.left) (gw_lay k2.left) (gw_lay k1.left) (gw_lay k0.left))⟩
end LY
