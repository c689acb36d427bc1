/-! LISTS IN TWO PARTS: the cells in hand X, and those laid behind, pl -/
set_option maxRecDepth 100000
section FB
variable {p : Program} {l : Launch} {e : Env} {R : Room} {s : State} {m : MethodId} {args : Array Value} {below : List Frame} {meth : Method} {c : Code} {H : Heap} {locs : List Loc} {cells slots : Nat} {Q : State → Prop}
variable {cc : ByteArray} {nL pc : Nat} {ls : Array Slot} {rest st0 : List Value} {D : va_G} {dA : WK} {A : Nat → Prop} {a : Nat} {ws : va_W} {own : String}
theorem ck_f {H0 : Heap} {X pl wc w1 wr : va_W} {z K ms : Nat} {av : Array Value} (hr : va_Run p l e R s m args below meth c H locs cells slots K ms (F0 m pc ls st0) rest (cQ D wc w1 z K av) (va_A wc z)) (hP : va_P D vwCl (X ++ pl) H) (hD : va_D A (X ++ pl)) (hS : va_S A H0 H locs) (hA : ∀ q, H0.size ≤ q → A q) (hz : H.size = z) (isC isR : List Nat) (hC : isC.map (fun i => X[i]?) = wc.map some) (hR : isR.map (fun i => X[i]?) = wr.map some) (hn : va_nd isR = true) (hdis : ∀ i ∈ isR, i ∉ isC)
    (kk : ∀ (H1 : Heap) (locs1 : List Loc), H1.size = z + K → va_P D vwCl ((wr ++ w1) ++ pl) H1 → va_D A ((wr ++ w1) ++ pl) → va_S A H0 H1 locs1 → W p l e R s m args below meth c H1 locs1 (cells + K) (slots + ms) Q (F0 m (pc + 3) ls rest)) : W p l e R s m args below meth c H locs cells slots Q (F0 m pc ls st0) := by
  subst hz
  have hF : ∀ q, va_A wc H.size q → A q := fun q h => va_freeP hD hS hA isC hC q (by
    rcases h with ⟨k, e, h⟩ | h
    · exact Or.inl ⟨k, e, by rw [List.getElem?_append_left (List.getElem?_eq_some_iff.mp h).1]; exact h⟩
    · exact Or.inr h)
  refine va_callv hr hS (fun q _ h => hF q h) hF (fun u t H1 locs1 ht _ _ hB _ hk1 hS1 => ?_)
  obtain ⟨h1, h2, h3⟩ := hB
  rw [ht] at h1 h2
  obtain ⟨hP2, hD2⟩ := va_joinQ hP hD isC isR hC hR hn hdis hk1 hF h2 h3
  exact kk H1 locs1 h1 hP2 hD2 hS1
theorem va_P.assoc {a b c : va_W} (h : va_P D vwCl ((a ++ b) ++ c) H) : va_P D vwCl (a ++ (b ++ c)) H := by rw [← List.append_assoc]; exact h
theorem va_D.assoc {a b c : va_W} (h : va_D A ((a ++ b) ++ c)) : va_D A (a ++ (b ++ c)) := by rw [← List.append_assoc]; exact h
end FB
