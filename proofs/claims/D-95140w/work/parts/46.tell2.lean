/-! PURE: both tell the same of a bed -/
set_option maxRecDepth 100000
/-- bed i of the class holds b, and nothing is going -/
def RB (i : Nat) (F F' : St) (b : Bt) : Prop := ∃ b', Ch i F F' b' (fun _ _ => 0) ∧ ∀ g, g ≠ 9 → b' g = b g
section T2
variable {F F' : St} {b m : Bt} {mu : Int32} {t i : Nat}
theorem RB.o (h : RB i F F' b) {k p y j : Nat} (hk : (decide (k = 1) || decide (k = 2) || decide (k = 4) || decide (k = 5) || decide (k = 9)) = false) : F' k p y j = F k p y j := by
  obtain ⟨b', h1, -⟩ := h
  exact h1.o hk
theorem RB.fr (h : RB i F F' b) : Fr i F F' := by
  obtain ⟨b', h1, -⟩ := h
  exact h1.1
theorem RB.rb (h : RB i F F' b) {k p y j : Nat} (g x : Nat) (e : lb i g x = (k, p, y, j)) (hv : vb F g x) (hg : g ≠ 9) : F' k p y j = b g x := by
  obtain ⟨b', h1, h2⟩ := h
  rw [h1.rb g x e hv, h2 g hg]
theorem RB.begin (hi : i < 4) (hp : PB F) (hq : Par F) (h : RB i F F' b) (mu : Int32) : Ok (fn_X1_begin F' i mu) (fun r => RB i F r (begS F mu)) := by
  obtain ⟨b', h1, -⟩ := h
  exact ok_mono (c_begin hi hp hq h1 mu) (fun r hr => ⟨_, hr, fun g hg => by funext x; rw [if_neg hg]⟩)
theorem RB.tick (hi : i < 4) (hp : PB F) (hq : Par F) {st wm : Int32} (hmu : 0 ≤ mu.toInt ∧ mu.toInt ≤ 20) (hwm : 0 ≤ wm.toInt ∧ wm.toInt ≤ 100) (hv : Inv F mu t b) (ht : t < 60) (h : RB i F F' b) : Ok (fn_X1_go F' i st wm) (fun r => RB i F r (tickS F st wm b)) := by
  obtain ⟨b', h1, h2⟩ := h
  obtain ⟨-, w1, w2⟩ := tick_inv (st := st) hp hmu hwm hv ht
  have e1 : WB F (pourS F b') := fun x hx => by
    have e : pourS F b' 0 x = pourS F b 0 x := by
      unfold pourS
      rw [h2 0 (by decide), h2 8 (by decide)]
    rw [e]
    exact w1 x hx
  have e2 : WB F (sideS F (takeS F wm (pourS F b'))) := fun x hx => by
    rw [side_c h2 0 (by decide)]
    exact w2 x hx
  refine ok_mono (c_tick hi hp hq e1 e2 h1) (fun r hr => ?_)
  obtain ⟨k, hk⟩ := hr
  exact ⟨_, hk, fun g hg => by
    rw [← tick_c h2 g hg]
    funext x
    rw [if_neg hg]⟩
theorem c_inCup (h : RB i F F' b) : fn_X1_inCup F' i = some (inS b) := by
  unfold fn_X1_inCup
  rw [h.rb 8 1 rfl (Or.inr (Or.inl ⟨rfl, by omega⟩)) (by decide), h.rb 8 2 rfl (Or.inr (Or.inl ⟨rfl, by omega⟩)) (by decide), h.rb 8 3 rfl (Or.inr (Or.inl ⟨rfl, by omega⟩)) (by decide)]
  rfl
theorem c_ofRing (hq : Par F) (h : RB i F F' b) (mu : Int32) : fn_X1_ofRing F' i mu = some (sumS F mu * F 30 1 0 0) := by
  obtain ⟨-, q1, -, -, -, q23, -⟩ := hq
  unfold fn_X1_ofRing
  rw [h.o (k := 23) (j := 0) (by decide), h.o (k := 23) (j := 1) (by decide), h.o (k := 23) (j := 2) (by decide), h.o (k := 0) (by decide), q1, q23 0 (by omega), q23 1 (by omega), q23 2 (by omega)]
  rfl
theorem c_strong (h : RB i F F' b) : fn_X1_strong F' i = some (strS b) := by
  unfold fn_X1_strong
  rw [c_inCup h, ob_s, pl_s, ob_s, h.rb 8 0 rfl (Or.inr (Or.inl ⟨rfl, by omega⟩)) (by decide)]
  unfold strS
  by_cases h0 : b 8 0 + inS b = 0
  · rw [if_pos h0, if_pos h0]
  · rw [if_neg h0, if_neg h0, og_t (nzb_t h0)]
theorem c_out (hq : Par F) (h : RB i F F' b) (mu : Int32) : fn_X1_out F' i mu = some (outS F mu b) := by
  unfold fn_X1_out
  rw [c_ofRing hq h, ob_s, pl_s, c_inCup h, ob_s, h.o (k := 0) (by decide), hq.1]
  unfold outS
  by_cases h0 : sumS F mu * F 30 1 0 0 * F 30 0 0 0 = 0
  · rw [if_pos h0, if_pos h0]
  · rw [if_neg h0, if_neg h0, og_t (nzb_t h0)]
theorem c_leftIn (hp : PB F) (hq : Par F) (h : RB i F F' b) {c : Nat} (hc : c < Rg F) : fn_X1_leftIn F' i (oN c) = some (lfS b c (Ly F)) := by
  obtain ⟨⟨r1, r2, r3⟩, ⟨l1, l2, l3⟩, -⟩ := id hp
  refine ok_eqv ?_
  unfold fn_X1_leftIn
  refine ok_ob2 (ok_lpA (lp := lp_X1_leftIn_4 F' i (oN c)) (I := fun n a => a = lfS b c n) (Q := fun r => r.1 = lfS b c (Ly F)) 0 (Ly F) (by omega) (by omega) ?_ ?_ rfl) (fun y z hy => ok_some hy)
  · intro n l a hl _ ha ih
    have hcc : cel F (4 * l + c) = true := (cel_c (by omega)).mpr ⟨hc, hl⟩
    have hv : ∀ g, g < 8 → vb F g (4 * l + c) := fun g hg => Or.inl ⟨hg, hcc, by omega⟩
    rw [lp_X1_leftIn_4_s, h.o (k := 0) (by decide), hq.2.1, l1, oN_n (show c < 2147483648 by omega), oN_n (show l < 2147483648 by omega), hx_e (show c < 4 by omega), h.rb 2 (4 * l + c) rfl (hv 2 (by omega)) (by decide), h.rb 3 (4 * l + c) rfl (hv 3 (by omega)) (by decide), h.rb 4 (4 * l + c) rfl (hv 4 (by omega)) (by decide)]
    refine ok_itn (nle hl (by omega)) (ok_og (oN_vp (by omega) (by omega)) (ok_og (oN_vp (by omega) (by omega)) (ok_pl (ok_pl (ok_pl (ih _ ?_))))))
    subst ha
    show _ = lfS b c l + ((b 2 (4 * l + c) + b 3 (4 * l + c)) + b 4 (4 * l + c))
    rw [Int32.add_assoc, Int32.add_assoc, Int32.add_assoc]
  · intro n a ha
    rw [lp_X1_leftIn_4_s, h.o (k := 0) (by decide), hq.2.1, l1]
    exact ok_itp (yle (Nat.le_refl _) (by omega)) (ok_some ha)
theorem c_uneven (hp : PB F) (hq : Par F) (h : RB i F F' b) (mu : Int32) : fn_X1_uneven F' i mu = some (unS F mu b) := by
  obtain ⟨⟨r1, r2, r3⟩, ⟨l1, l2, l3⟩, -⟩ := id hp
  refine ok_eqv ?_
  unfold fn_X1_uneven
  rw [c_ofRing hq h, ob_s]
  refine ok_ob3 (P := fun r => r.1 = lsS F mu b (Rg F) ∧ r.2.1 = msS F mu b (Rg F)) (ok_lpA (lp := fun n (p : Int32 × Int32) x => lp_X1_uneven_16 F' i (sumS F mu * F 30 1 0 0) n p.1 p.2 x) (I := fun n p => p.1 = lsS F mu b n ∧ p.2 = msS F mu b n) (a := (1000, 0)) 0 (Rg F) (by omega) (by omega) ?_ ?_ ⟨rfl, rfl⟩) (fun y z w hy => ok_some (by show z - y = _; rw [show y = _ from hy.1, show z = _ from hy.2]; rfl))
  · intro n c p hc _ hI ih
    obtain ⟨p1, p2⟩ := p
    obtain ⟨e1, e2⟩ := hI
    have e1 : p1 = lsS F mu b c := e1
    have e2 : p2 = msS F mu b c := e2
    show Ok (lp_X1_uneven_16 F' i (sumS F mu * F 30 1 0 0) (n + 1) p1 p2 (oN c)) _
    rw [lp_X1_uneven_16_s, h.o (k := 0) (by decide), hq.1, r1]
    refine ok_itn (nle hc (by omega)) (ok_ob (P := fun y => y = byU F mu b c) ?_ (fun y hy => ok_pl (ok_pl (ih (_, _) ⟨?_, ?_⟩))))
    · unfold byU
      by_cases h0 : sumS F mu * F 30 1 0 0 = 0
      · rw [if_pos h0, if_pos h0]
        exact ok_some rfl
      · rw [if_neg h0, if_neg h0, c_leftIn hp hq h hc, ob_s]
        exact ok_og (nzb_t h0) (ok_some rfl)
    · show (if y < p1 then y else p1) = lsS F mu b (c + 1)
      rw [hy, e1]
      rfl
    · show (if p2 < y then y else p2) = msS F mu b (c + 1)
      rw [hy, e2]
      rfl
  · intro n p hI
    obtain ⟨p1, p2⟩ := p
    show Ok (lp_X1_uneven_16 F' i (sumS F mu * F 30 1 0 0) (n + 1) p1 p2 (oN (Rg F))) _
    rw [lp_X1_uneven_16_s, h.o (k := 0) (by decide), hq.1, r1]
    exact ok_itp (yle (Nat.le_refl _) (by omega)) (ok_some hI)
/-- the model -/
theorem m_cupStuffs (h : Mh F F' b m) : fn_X8_cupStuffs F' = some (inS b) := by
  unfold fn_X8_cupStuffs
  rw [h.rb 8 1 (by omega) ⟨by omega, by omega⟩, h.rb 8 2 (by omega) ⟨by omega, by omega⟩, h.rb 8 3 (by omega) ⟨by omega, by omega⟩]
  rfl
theorem m_strong (h : Mh F F' b m) (hv : Inv F mu t b) : fn_X8_strong F' = some (strS b) := by
  have hi := in_b hv
  have hc := cup_b hv
  have e1 : (b 8 0 + inS b).toInt = (b 8 0).toInt + (inS b).toInt := i_add (by omega) (by omega)
  unfold fn_X8_strong
  rw [m_cupStuffs h, ob_s, pl_s, ob_s, h.rb 8 0 (by omega) ⟨by omega, by omega⟩]
  unfold strS
  by_cases h0 : b 8 0 + inS b = 0
  · rw [if_pos h0, if_pos h0]
  · have hne : (b 8 0 + inS b).toInt ≠ 0 := fun q => h0 (i_z q)
    rw [if_neg h0, if_neg h0, og_t (nzl_t h0), (div_th (a := inS b) (d := b 8 0 + inS b) (by omega) (by omega)).1]
theorem m_out (hp : PB F) (hmu : 0 ≤ mu.toInt ∧ mu.toInt ≤ 20) (h : Mh F F' b m) (hv : Inv F mu t b) : fn_X8_out F' = some (outS F mu b) := by
  have hi := in_b hv
  have ha := (all_b hp hmu).2.2.2
  unfold fn_X8_out
  rw [m_cupStuffs h, ob_s, h.rb 8 5 (by omega) ⟨by omega, by omega⟩, hv.2.2.1]
  unfold outS
  by_cases h0 : sumS F mu * F 30 1 0 0 * F 30 0 0 0 = 0
  · rw [if_pos h0, if_pos h0]
  · have hne : (sumS F mu * F 30 1 0 0 * F 30 0 0 0).toInt ≠ 0 := fun q => h0 (i_z q)
    rw [if_neg h0, if_neg h0, og_t (nzl_t h0), (div_th (a := inS b) (d := sumS F mu * F 30 1 0 0 * F 30 0 0 0) (by omega) (by omega)).1]
theorem m_leftIn (hp : PB F) (h : Mh F F' b m) (hv : Inv F mu t b) {c : Nat} (hc : c < 4) : fn_X8_leftIn F' (oN c) = some (lfS b c (Ly F)) := by
  refine ok_eqv ?_
  rw [← lf_4 hp hv hc]
  unfold fn_X8_leftIn
  refine ok_ob2 (ok_lpG (lp := fun n (s : Int32 × Int32) => lp_X8_leftIn_4 F' n s.1 s.2) (fun k s => s.2 = oN (4 * k + c) ∧ s.1 = lfS b c k) (Q := fun r => r.1 = lfS b c 4) 4 ?_ ?_ 4 300 0 (0, oN c) (by omega) (by omega) ⟨by rw [show 4 * 0 + c = c by omega], rfl⟩) (fun y z hy => ok_some hy)
  · intro n k s hk hI ih
    obtain ⟨x1, x2⟩ := s
    obtain ⟨e1, e2⟩ := hI
    have e1 : x2 = oN (4 * k + c) := e1
    have e2 : x1 = lfS b c k := e2
    subst e1
    show Ok (lp_X8_leftIn_4 F' (n + 1) x1 (oN (4 * k + c))) _
    have hi : ∀ g, g < 8 → ix g (4 * k + c) := fun g hg => ⟨by omega, Or.inl hg⟩
    rw [lp_X8_leftIn_4_s, l32, l48, l64, oN_n (show 32 + (4 * k + c) < 2147483648 by omega), oN_n (show 48 + (4 * k + c) < 2147483648 by omega), oN_n (show 64 + (4 * k + c) < 2147483648 by omega), h.rb 2 (4 * k + c) (by omega) (hi 2 (by omega)), h.rb 3 (4 * k + c) (by omega) (hi 3 (by omega)), h.rb 4 (4 * k + c) (by omega) (hi 4 (by omega))]
    refine ok_itn (nle (a := 16) (k := 4 * k + c) (by omega) (by omega)) (ok_og (oN_vp (by omega) (by omega)) (ok_og (oN_vp (by omega) (by omega)) (ok_og (oN_vp (by omega) (by omega)) (ok_pl (ih (_, _) ⟨?_, ?_⟩)))))
    · show oN (4 * k + c) + 4 = oN (4 * (k + 1) + c)
      rw [show oN (4 * k + c) + 4 = oN (4 * k + c + 4) from oN_add _ 4]
      congr 1
      omega
    · show x1 + _ = lfS b c k + _
      rw [show x1 = _ from e2]
  · intro n s hI
    obtain ⟨x1, x2⟩ := s
    obtain ⟨e1, e2⟩ := hI
    have e1 : x2 = oN (4 * 4 + c) := e1
    subst e1
    show Ok (lp_X8_leftIn_4 F' (n + 1) x1 (oN (4 * 4 + c))) _
    rw [lp_X8_leftIn_4_s]
    exact ok_itp (yle (a := 16) (k := 4 * 4 + c) (by omega) (by omega)) (ok_some e2)
theorem m_uneven (hp : PB F) (hmu : 0 ≤ mu.toInt ∧ mu.toInt ≤ 20) (h : Mh F F' b m) (hv : Inv F mu t b) : fn_X8_uneven F' = some (unS F mu b) := by
  obtain ⟨⟨r1, r2, r3⟩, ⟨l1, l2, l3⟩, -⟩ := id hp
  refine ok_eqv ?_
  unfold fn_X8_uneven
  refine ok_ob3 (P := fun r => r.1 = lsS F mu b (Rg F) ∧ r.2.1 = msS F mu b (Rg F)) (ok_lpA (lp := fun n (p : Int32 × Int32) x => lp_X8_uneven_8 F' n p.1 p.2 x) (I := fun n p => (n = 0 ∧ p.1 = 1001 ∧ p.2 = -1) ∨ (0 < n ∧ p.1 = lsS F mu b n ∧ p.2 = msS F mu b n)) (a := (1001, -1)) 0 (Rg F) (by omega) (by omega) ?_ ?_ (Or.inl ⟨rfl, rfl, rfl⟩)) (fun y z w hy => ok_some (by show z - y = _; rw [show y = _ from hy.1, show z = _ from hy.2]; rfl))
  · intro n c p hc _ hI ih
    obtain ⟨p1, p2⟩ := p
    show Ok (lp_X8_uneven_8 F' (n + 1) p1 p2 (oN c)) _
    rw [lp_X8_uneven_8_s, l134, oN_n (show 134 + c < 2147483648 by omega), h.1 30 0 0 0 (by decide) (by decide), r1, h.rb 8 (6 + c) (by omega) ⟨by omega, by omega⟩, hv.2.2.2 c hc]
    have hb := by_b hp hmu hv (show c < 4 by omega)
    refine ok_itn (nle hc (by omega)) (ok_og (oN_vp (by omega) (by omega)) (ok_pl (ok_ob (P := fun y => y = byU F mu b c) ?_ (fun y hy => ?_))))
    · by_cases h0 : sumS F mu * F 30 1 0 0 = 0
      · refine ok_itp h0 (ok_some ?_)
        unfold byU
        rw [if_pos h0]
      · refine ok_itn h0 ?_
        rw [m_leftIn hp h hv (by omega), ob_s]
        exact ok_og (nzl_t h0) (ok_some (hb.2 h0).symm)
    · subst hy
      refine ok_obi (ok_obi (ih (_, _) (Or.inr ⟨by omega, ?_, ?_⟩)))
      · show (if p1 ≤ byU F mu b c then p1 else byU F mu b c) = if byU F mu b c < lsS F mu b c then byU F mu b c else lsS F mu b c
        rcases hI with ⟨e0, e1, e2⟩ | ⟨e0, e1, e2⟩
        · subst e0
          have e1 : p1 = 1001 := e1
          subst e1
          show _ = if byU F mu b 0 < 1000 then byU F mu b 0 else 1000
          have k : (1001 : Int32).toInt = 1001 := rfl
          have k2 : (1000 : Int32).toInt = 1000 := rfl
          rw [if_neg (by rw [le_i]; omega)]
          by_cases q : byU F mu b 0 < 1000
          · rw [if_pos q]
          · rw [if_neg q]
            rw [lt_i] at q
            exact Int32.toInt_inj.mp (by omega)
        · have e1 : p1 = lsS F mu b c := e1
          subst e1
          by_cases q : byU F mu b c < lsS F mu b c
          · rw [if_neg (Int32.not_le.mpr q), if_pos q]
          · rw [if_pos (Int32.not_lt.mp q), if_neg q]
      · show (if byU F mu b c ≤ p2 then p2 else byU F mu b c) = if msS F mu b c < byU F mu b c then byU F mu b c else msS F mu b c
        rcases hI with ⟨e0, e1, e2⟩ | ⟨e0, e1, e2⟩
        · subst e0
          have e2 : p2 = -1 := e2
          subst e2
          show _ = if (0 : Int32) < byU F mu b 0 then byU F mu b 0 else 0
          have k : (-1 : Int32).toInt = -1 := rfl
          have k2 : (0 : Int32).toInt = 0 := rfl
          rw [if_neg (by rw [le_i]; omega)]
          by_cases q : (0 : Int32) < byU F mu b 0
          · rw [if_pos q]
          · rw [if_neg q]
            rw [lt_i] at q
            exact Int32.toInt_inj.mp (by omega)
        · have e2 : p2 = msS F mu b c := e2
          subst e2
          by_cases q : msS F mu b c < byU F mu b c
          · rw [if_neg (Int32.not_le.mpr q), if_pos q]
          · rw [if_pos (Int32.not_lt.mp q), if_neg q]
  · intro n p hI
    obtain ⟨p1, p2⟩ := p
    show Ok (lp_X8_uneven_8 F' (n + 1) p1 p2 (oN (Rg F))) _
    rw [lp_X8_uneven_8_s, h.1 30 0 0 0 (by decide) (by decide), r1]
    refine ok_itp (yle (Nat.le_refl _) (by omega)) (ok_some ?_)
    rcases hI with ⟨e0, -, -⟩ | ⟨-, e1, e2⟩
    · omega
    · exact ⟨e1, e2⟩
end T2
