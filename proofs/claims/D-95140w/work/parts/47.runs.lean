/-! PURE: many ticks -/
set_option maxRecDepth 100000
def itS (F : St) (st wm : Int32) : Nat → Bt → Bt
  | 0, b => b
  | n + 1, b => tickS F st wm (itS F st wm n b)
def runS (F : St) (st wm mu : Int32) (n : Nat) : Bt := itS F st wm n (begS F mu)
/-- the numbers that a tick looks at -/
def nf (F : St) : St := fun k p i j => if 30 ≤ k ∧ k ≤ 36 ∧ ¬ (k = 30 ∧ (p = 4 ∨ p = 10 ∨ p = 11 ∨ 16 ≤ p)) then F k p i j else 0
def agr (F F1 : St) : Prop := ∀ k p i j, 30 ≤ k → k ≤ 36 → ¬ (k = 30 ∧ (p = 4 ∨ p = 10 ∨ p = 11 ∨ 16 ≤ p)) → F1 k p i j = F k p i j
theorem nf_e {F F1 : St} (h : agr F F1) : nf F1 = nf F := by
  funext k p i j
  unfold nf
  split
  · rename_i q
    exact h k p i j q.1 q.2.1 q.2.2
  · rfl
theorem nf_cel (F : St) : cel (nf F) = cel F := rfl
theorem nf_pS (F : St) (t : Int32) (w : Nat → Int32) : ∀ n, pS (nf F) t n w = pS F t n w
  | 0 => rfl
  | n + 1 => by
    funext x
    show (if x = (nf F 35 0 0 n).toNatClampNeg then pS (nf F) t n w x + (if nf F 34 0 0 n = t then nf F 36 0 0 n else 0) else pS (nf F) t n w x) = _
    rw [nf_pS F t w n]
    rfl
theorem nf_pour (F : St) (b : Bt) : pourS (nf F) b = pourS F b := by
  funext g x
  unfold pourS
  rw [nf_pS]
  rfl
theorem nf_by (F : St) (wm : Int32) (b : Bt) (s x : Nat) : byS (nf F) wm b s x = byS F wm b s x := rfl
theorem nf_take (F : St) (wm : Int32) (b : Bt) : takeS (nf F) wm b = takeS F wm b := by
  funext g x
  unfold takeS
  rw [nf_cel, nf_by, nf_by]
theorem nf_o (F : St) (b : Bt) (g x y : Nat) : oS (nf F) b g x y = oS F b g x y := by
  unfold oS
  rw [nf_cel]
  rfl
theorem nf_side (F : St) (b : Bt) : sideS (nf F) b = sideS F b := by
  have e : mS (nf F) b = mS F b := by
    funext g z
    unfold mS tS
    rw [nf_o, nf_o, nf_o, nf_o]
  unfold sideS
  rw [e]
  funext g x
  unfold addS
  rw [nf_cel]
theorem nf_lo (F : St) (st : Int32) (x : Nat) (k : Int32) : loS (nf F) st x k = loS F st x k := rfl
theorem nf_mu (F : St) (st : Int32) (b : Bt) (x : Nat) : muS (nf F) st b x = muS F st b x := by
  unfold muS
  rw [nf_lo]
theorem nf_d (F : St) (st : Int32) (b : Bt) (g x : Nat) : dS (nf F) st b g x = dS F st b g x := by
  unfold dS
  rw [nf_cel, nf_mu]
theorem nf_ly (F : St) : Ly (nf F) = Ly F := rfl
theorem nf_rg (F : St) : Rg (nf F) = Rg F := rfl
theorem nf_cS (F : St) (st : Int32) (b : Bt) (g : Nat) : ∀ n, cS (nf F) st b g n = cS F st b g n
  | 0 => rfl
  | n + 1 => by
    show cS (nf F) st b g n + dS (nf F) st b g (4 * (Ly (nf F) - 1) + n) = cS F st b g n + dS F st b g (4 * (Ly F - 1) + n)
    rw [nf_cS F st b g n, nf_d, nf_ly]
theorem nf_cr (F : St) (m : Int32) : crS (nf F) m = crS F m := rfl
theorem nf_down (F : St) (st : Int32) (b : Bt) : downS (nf F) st b = downS F st b := by
  have e : tD (nf F) st b (fun _ => true) = tD F st b (fun _ => true) := by
    funext g z
    unfold tD
    rw [nf_d, nf_d, nf_cel]
  funext g x
  unfold downS
  rw [nf_cS, nf_rg, nf_mu, nf_cr, nf_cel, e]
  unfold addS
  rw [nf_cel]
theorem nf_tick (F : St) (st wm : Int32) (b : Bt) : tickS (nf F) st wm b = tickS F st wm b := by
  unfold tickS
  rw [nf_pour, nf_take, nf_side, nf_down]
theorem nf_it (F : St) (st wm : Int32) (b : Bt) : ∀ n, itS (nf F) st wm n b = itS F st wm n b
  | 0 => rfl
  | n + 1 => by
    show tickS (nf F) st wm (itS (nf F) st wm n b) = tickS F st wm (itS F st wm n b)
    rw [nf_it F st wm b n, nf_tick]
theorem nf_beg (F : St) (mu : Int32) : begS (nf F) mu = begS F mu := by
  have e : sumS (nf F) mu = sumS F mu := rfl
  funext g x
  unfold begS
  rw [nf_cel, e, nf_rg]
  by_cases h1 : cel F x = true ∧ 2 ≤ g ∧ g < 5
  · rw [if_pos h1, if_pos h1]
    rfl
  · rw [if_neg h1, if_neg h1]
    rfl
theorem PB_c {F F1 : St} (h : agr F F1) (hp : PB F) : PB F1 := by
  have a : ∀ k p i j, 30 ≤ k → k ≤ 36 → ¬ (k = 30 ∧ (p = 4 ∨ p = 10 ∨ p = 11 ∨ 16 ≤ p)) → F1 k p i j = F k p i j := h
  have r : Rg F1 = Rg F := by unfold Rg; rw [a 30 0 0 0 (by omega) (by omega) (by omega)]
  have l : Ly F1 = Ly F := by unfold Ly; rw [a 30 1 0 0 (by omega) (by omega) (by omega)]
  unfold PB
  rw [r, l, a 30 0 0 0 (by omega) (by omega) (by omega), a 30 1 0 0 (by omega) (by omega) (by omega), a 30 8 0 0 (by omega) (by omega) (by omega), a 30 12 0 0 (by omega) (by omega) (by omega)]
  obtain ⟨h1, h2, h3, ⟨n, h4, h5, h6⟩, h7, h8⟩ := hp
  exact ⟨h1, h2, h3, ⟨n, h4, h5, fun k hk => by rw [a 35 0 0 k (by omega) (by omega) (by omega), a 36 0 0 k (by omega) (by omega) (by omega)]; exact h6 k hk⟩, fun s hs => by rw [a 31 0 0 s (by omega) (by omega) (by omega)]; exact h7 s hs, fun s hs => by rw [a 32 0 0 s (by omega) (by omega) (by omega)]; exact h8 s hs⟩
theorem it_c {F F1 : St} (h : agr F F1) (st wm : Int32) (n : Nat) (b : Bt) : itS F1 st wm n b = itS F st wm n b := by rw [← nf_it F1, nf_e h, nf_it]
theorem run_c {F F1 : St} (h : agr F F1) (st wm mu : Int32) (n : Nat) : runS F1 st wm mu n = runS F st wm mu n := by
  unfold runS
  rw [it_c h, ← nf_beg F1, nf_e h, nf_beg]
theorem it_inv {F : St} (hp : PB F) {mu st wm : Int32} (hmu : 0 ≤ mu.toInt ∧ mu.toInt ≤ 20) (hwm : 0 ≤ wm.toInt ∧ wm.toInt ≤ 100) {t : Nat} {b : Bt} (h : Inv F mu t b) : ∀ n, t + n ≤ 60 → Inv F mu (t + n) (itS F st wm n b)
  | 0, _ => h
  | n + 1, hn => (tick_inv (st := st) hp hmu hwm (it_inv hp hmu hwm h n (by omega)) (by omega)).1
theorem run_inv {F : St} (hp : PB F) {mu st wm : Int32} (hmu : 0 ≤ mu.toInt ∧ mu.toInt ≤ 20) (hwm : 0 ≤ wm.toInt ∧ wm.toInt ≤ 100) (n : Nat) (hn : n ≤ 60) : Inv F mu n (runS F st wm mu n) := by
  have := it_inv (st := st) hp hmu hwm (beg_inv hp hmu) n (by omega)
  rw [Nat.zero_add] at this
  exact this
section RN
variable {F F' : St} {b m : Bt} {mu st wm : Int32} {t T i : Nat}
/-- the class' whole brews -/
theorem c_runlp (hp : PB F) (hq : Par F) (hmu : 0 ≤ mu.toInt ∧ mu.toInt ≤ 20) (hwm : 0 ≤ wm.toInt ∧ wm.toInt ≤ 100) (hT : F 0 11 0 0 = oN T) (hT2 : T ≤ 60) {lp : Nat → St → Option St} {sp wp : St → Option Int32}
    (hlp : ∀ n F', lp (n + 1) F' = if F' 0 11 0 0 ≤ F' 1 2 3 0 then some F' else ob (sp F') (fun r10 => ob (wp F') (fun r12 => ob (fn_X1_go F' 3 r10 r12) (fun F14 => lp n F14))))
    (hsp : ∀ F', Fr 3 F F' → sp F' = some st) (hwp : ∀ F', Fr 3 F F' → wp F' = some wm) (h : RB 3 F F' (begS F mu)) : Ok (lp 300 F') (fun r => RB 3 F r (runS F st wm mu T)) := by
  refine ok_lpG (lp := lp) (fun k F' => RB 3 F F' (runS F st wm mu k)) T ?_ ?_ T 300 0 F' (by omega) (by omega) h
  · intro n k F' hk h ih
    have hv := run_inv (st := st) hp hmu hwm k (by omega)
    rw [hlp, h.o (k := 0) (by decide), hT, h.rb 8 4 rfl (Or.inr (Or.inl ⟨rfl, by omega⟩)) (by decide), hv.2.1.1, hsp F' h.fr, ob_s, hwp F' h.fr, ob_s]
    exact ok_itn (nle hk (by omega)) (ok_ob (h.tick (by omega) hp hq hmu hwm hv (by omega)) (fun F2 h2 => ih F2 h2))
  · intro n F' h
    have hv := run_inv (st := st) hp hmu hwm T (by omega)
    rw [hlp, h.o (k := 0) (by decide), hT, h.rb 8 4 rfl (Or.inr (Or.inl ⟨rfl, by omega⟩)) (by decide), hv.2.1.1]
    exact ok_itp (yle (Nat.le_refl _) (by omega)) (ok_some h)
/-- the model goes on -/
theorem m_goOn (hp : PB F) (hmu : 0 ≤ mu.toInt ∧ mu.toInt ≤ 20) (hwm : 0 ≤ (F 30 10 0 0).toInt ∧ (F 30 10 0 0).toInt ≤ 100) (hT : F 30 16 0 0 = oN T) (hT2 : T ≤ 60) (hv : Inv F mu t b) (h : Mh F F' b m) {n : Nat} (hn : n ≤ 60) : Ok (fn_X8_goOn F' (oN n)) (fun r => (∃ m', Mh F r.1 (itS F (F 30 4 0 0) (F 30 10 0 0) (min n (T - t)) b) m') ∧ r.2 = oN (min n (T - t))) := by
  have ht := hv.2.1.2
  unfold fn_X8_goOn
  refine ok_ob2 (ok_lpA (lp := lp_X8_goOn_2 (oN n)) (I := fun k F' => ∃ m', Mh F F' (itS F (F 30 4 0 0) (F 30 10 0 0) k b) m') (Q := fun r => (∃ m', Mh F r.1 (itS F (F 30 4 0 0) (F 30 10 0 0) (min n (T - t)) b) m') ∧ r.2 = oN (min n (T - t))) 0 (min n (T - t)) (by omega) (by omega) ?_ ?_ ⟨m, h⟩) (fun y z hy => ok_some hy)
  · intro q k F' hk _ hI ih
    obtain ⟨m', h⟩ := hI
    have hv2 := it_inv (st := F 30 4 0 0) hp hmu hwm hv k (by omega)
    rw [lp_X8_goOn_2_s, h.1 30 16 0 0 (by decide) (by decide), hT, h.rb 8 4 (by omega) ⟨by omega, by omega⟩, hv2.2.1.1]
    refine ok_itn (nle (by omega) (by omega)) (ok_itn (nle (by omega) (by omega)) (ok_ob (m_tick hp (fun x hx => ((tick_inv (st := F 30 4 0 0) hp hmu hwm hv2 (by omega)).2.1 x hx).1) h) (fun F2 h2 => ih F2 h2)))
  · intro q F' hI
    obtain ⟨m', h⟩ := hI
    have hv2 := it_inv (st := F 30 4 0 0) hp hmu hwm hv (min n (T - t)) (by omega)
    rw [lp_X8_goOn_2_s, h.1 30 16 0 0 (by decide) (by decide), hT, h.rb 8 4 (by omega) ⟨by omega, by omega⟩, hv2.2.1.1]
    by_cases hle : n ≤ min n (T - t)
    · exact ok_itp (yle hle (by omega)) (ok_some ⟨⟨m', h⟩, rfl⟩)
    · exact ok_itn (nle (by omega) (by omega)) (ok_itp (yle (by omega) (by omega)) (ok_some ⟨⟨m', h⟩, rfl⟩))
theorem c_brew (hp : PB F) (hq : Par F) (hmu : 0 ≤ mu.toInt ∧ mu.toInt ≤ 20) (hwm : 0 ≤ (F 0 9 0 0).toInt ∧ (F 0 9 0 0).toInt ≤ 100) (hT : F 0 11 0 0 = oN T) (hT2 : T ≤ 60) (hv : Inv F mu t b) (h : RB 0 F F' b) {n : Nat} (hn : n ≤ 60) : Ok (lp_X0_brew_17 (oN n) 300 F' 0) (fun r => RB 0 F r.1 (itS F (F 0 8 0 0) (F 0 9 0 0) (min n (T - t)) b) ∧ r.2 = oN (min n (T - t))) := by
  have ht := hv.2.1.2
  refine ok_lpA (lp := lp_X0_brew_17 (oN n)) (I := fun k F' => RB 0 F F' (itS F (F 0 8 0 0) (F 0 9 0 0) k b)) 0 (min n (T - t)) (by omega) (by omega) ?_ ?_ h
  · intro q k F' hk _ h ih
    have hv2 := it_inv (st := F 0 8 0 0) hp hmu hwm hv k (by omega)
    rw [lp_X0_brew_17_s, h.o (k := 0) (p := 11) (by decide), h.o (k := 0) (p := 8) (by decide), h.o (k := 0) (p := 9) (by decide), hT, h.rb 8 4 rfl (Or.inr (Or.inl ⟨rfl, by omega⟩)) (by decide), hv2.2.1.1]
    exact ok_itn (nle (by omega) (by omega)) (ok_itn (nle (by omega) (by omega)) (ok_ob (h.tick (by omega) hp hq hmu hwm hv2 (by omega)) (fun F2 h2 => ih F2 h2)))
  · intro q F' h
    have hv2 := it_inv (st := F 0 8 0 0) hp hmu hwm hv (min n (T - t)) (by omega)
    rw [lp_X0_brew_17_s, h.o (k := 0) (p := 11) (by decide), hT, h.rb 8 4 rfl (Or.inr (Or.inl ⟨rfl, by omega⟩)) (by decide), hv2.2.1.1]
    by_cases hle : n ≤ min n (T - t)
    · exact ok_itp (yle hle (by omega)) (ok_some ⟨h, rfl⟩)
    · exact ok_itn (nle (by omega) (by omega)) (ok_itp (yle (by omega) (by omega)) (ok_some ⟨h, rfl⟩))
end RN
