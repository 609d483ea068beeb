/-! ===== where one can't do otherwise ===== -/
/-- one bit at most -/
def gOneB (B : Nat) : Bool := decide (nI B &&& (nI B - 1) = 0)
def gTrp (V : VS) (P : PP) (h p n : Nat) : Bool := decide (aEnd (vA V) h p n = 0) && gOneB (gMw (vA V) (vR V) none (P.1 h) h p n)
set_option maxRecDepth 100000 in
theorem p_isTrap (d : Nat) (V : VS) (hA : gLg (vA V)) (P : PP) (h p n : Nat) (hh : h ≤ vA V 3) (hp : p < vA V 0) (hn : n ≤ vA V 4) (I : Nat → Nat → Nat → Int32) (L : Nat → Nat → Nat → Int64) (y : Dy) (hl : gLx I (vA V)) (hU : mU V (vA V 4) none P I L) :
    gP mX12_isTrap (d + 2) [gM0, gI (nI h), gI (nI p), gI (nI n)] (gH I L y) (gI (gb (gTrp V P h p n))) := by
  have a0 := hA.1.1
  have a2 := hA.1.2.2.1
  have a3 := hA.1.2.2.2.1
  have a4 := hA.1.2.2.2.2.1
  have hs := sN_lt (h := h) (p := p) (n := n) (by omega) (by omega) (by omega)
  refine gEnter 400 [] kX12_isTrap rfl rfl ?_
  refine gP_use (p_ended d h p n (by omega) (by omega) (by omega) (vA V) I hl hA.1.lt L y) ?_
  refine bEq (aEnd (vA V) h p n) 0 rfl rfl (fun c => ?_) (fun c => ?_) (by have := aEnd_lt (vA V) h p n; omega) (by decide)
  · have hh3 : h < vA V 3 := by have := (aEnd_0 c).2; omega
    obtain ⟨l1, l2, l3, l4, -⟩ := mU_moves hU hh3 hp hn c
    refine Exists.intro (h) (And.intro rfl (And.intro (show _ < 24 by omega) ?_))
    refine gP_use (p_state d h p n _) ?_
    refine Exists.intro (P.1 h * 3900 + sN h p n) (And.intro (by rw [← nI_add, ← pk_mul, ← l1] <;> rfl) (And.intro (show P.1 h * 3900 + sN h p n < 19500 by omega) ?_))
    have e : gTrp V P h p n = decide (I 136 0 (P.1 h * 3900 + sN h p n) &&& (I 136 0 (P.1 h * 3900 + sN h p n) - 1) = 0) := by unfold gTrp gOneB; rw [decide_eq_true c, l3] <;> rfl
    refine And.intro (fun q => ?_) (fun q => ?_)
    · exact ⟨Or.inl rfl, by rw [e, decide_eq_false (show ¬ (I 136 0 (P.1 h * 3900 + sN h p n) &&& (I 136 0 (P.1 h * 3900 + sN h p n) - 1) = 0) from q)]; rfl, rfl⟩
    · exact ⟨Or.inr rfl, by rw [e, decide_eq_true (show I 136 0 (P.1 h * 3900 + sN h p n) &&& (I 136 0 (P.1 h * 3900 + sN h p n) - 1) = 0 from q)]; rfl, rfl⟩
  · exact ⟨Or.inl rfl, by unfold gTrp; rw [decide_eq_false c]; rfl, rfl⟩
def xTrap (V : VS) (a b c : Int32) : Int32 × AV × VS :=
  bif vL V then (bif gIsS (vA V) a b c then (0, gI (gb (gTrp V (gP0 V) (gTo b) (gTo a) (gTo c))), V) else (1, gI 0, xRef V 2)) else (2, gI 0, xRef V 3)
set_option maxRecDepth 100000 in
theorem c_trap (V : VS) (hw : gWf V) (a b c : Int32) : mC mX12_trap 8 [gI a, gI b, gI c] V (xTrap V a b c) := by
  intro d I L y hm
  have hm0 := mR_thr hm 0
  refine gEnter 400 [] kX12_trap rfl rfl ?_
  refine gTM_use rfl (p_isHere (d + 5) V 2 (by decide) _ L y hm0 u3_eq) (fun v h' q => ?_)
  rcases q with ⟨g1, rfl, rfl⟩ | ⟨g1, rfl, I', rfl, q1, q2, q3⟩
  rotate_left
  · refine And.intro (fun _ => ?_) (fun q => absurd rfl q)
    exact ⟨Or.inl rfl, mGt_no (by unfold xTrap; simp only [g1, cond_true, cond_false] <;> rfl) q1 q2 q3⟩
  refine And.intro (fun q => absurd q (by decide)) (fun _ => ?_)
  refine gP_use (p_isState (d + 5) V a b c _ L y hm0) ?_
  refine gTM_use rfl (p_may (d + 6) V _ 1 (by decide) 2 (by decide) _ L y hm0 u3_eq) (fun v h' q => ?_)
  rcases q with ⟨g2, rfl, rfl⟩ | ⟨g2, rfl, I', rfl, q1, q2, q3⟩
  rotate_left
  · refine And.intro (fun q => absurd rfl q) (fun _ => ?_)
    exact ⟨Or.inl rfl, mGt_no (by unfold xTrap; simp only [g1, g2, cond_true, cond_false] <;> rfl) q1 q2 q3⟩
  refine And.intro (fun _ => ?_) (fun q => absurd q (by decide))
  obtain ⟨p, h, n, rfl, rfl, rfl, q1, q2, q3, ep, eh, en⟩ := gIsS_n hw.1 g2
  refine gTM_use rfl (p_setUp d V hw g1 _ L y hm0) (fun v h' q => ?_)
  obtain ⟨rfl, I1, L1, rfl, o1, m1, u1, t1, k1⟩ := q
  refine gP_use (p_isTrap (d + 5) V (hw.2.1 g1) (gP0 V) h p n q2 q1 q3 I1 L1 y m1.1 u1) ?_
  refine ⟨?_, mDone (o2 := (0, gI (gb (gTrp V (gP0 V) h p n)), V)) (by unfold xTrap; simp only [g1, g2, cond_true]; rw [ep, eh, en]) rfl o1 m1 (t1.trans u3_eq)⟩
  cases gTrp V (gP0 V) h p n
  · exact Or.inl rfl
  · exact Or.inr rfl
def cForce (V : VS) (h p n m : Nat) : Bool :=
  (xMay V (gP0 V) h p n).testBit m && gTrp V (gP0 V) (h + 1) (gGo (vA V) m p) (aNx (vA V) (vA V 4) n (gGo (vA V) m p))
def xForce (V : VS) (a b c : Int32) : Int32 × AV × VS :=
  bif vL V then (bif gIsS (vA V) a b c then (0, gI (if aEnd (vA V) (gTo b) (gTo a) (gTo c) = 0 then gOI (gFst (cForce V (gTo b) (gTo a) (gTo c)) (vA V 1 + 1)) else -1), V) else (1, gI 0, xRef V 2)) else (2, gI 0, xRef V 3)
set_option maxRecDepth 100000 in
theorem c_force (V : VS) (hw : gWf V) (a b c : Int32) : mC mX12_force 8 [gI a, gI b, gI c] V (xForce V a b c) := by
  intro d I L y hm
  have hm0 := mR_thr hm 0
  have a0 := hw.1.1
  have a1 := hw.1.2.1
  have a2 := hw.1.2.2.1
  have a3 := hw.1.2.2.2.1
  have a4 := hw.1.2.2.2.2.1
  refine gEnter 400 [68] kX12_force rfl rfl ?_
  refine gTM_use rfl (p_isHere (d + 5) V 2 (by decide) _ L y hm0 u3_eq) (fun v h' q => ?_)
  rcases q with ⟨g1, rfl, rfl⟩ | ⟨g1, rfl, I', rfl, q1, q2, q3⟩
  rotate_left
  · refine And.intro (fun _ => ?_) (fun q => absurd rfl q)
    exact mGt_no (by unfold xForce; simp only [g1, cond_true, cond_false] <;> rfl) q1 q2 q3
  refine And.intro (fun q => absurd q (by decide)) (fun _ => ?_)
  refine gP_use (p_isState (d + 5) V a b c _ L y hm0) ?_
  refine gTM_use rfl (p_may (d + 6) V _ 1 (by decide) 2 (by decide) _ L y hm0 u3_eq) (fun v h' q => ?_)
  rcases q with ⟨g2, rfl, rfl⟩ | ⟨g2, rfl, I', rfl, q1, q2, q3⟩
  rotate_left
  · refine And.intro (fun q => absurd rfl q) (fun _ => ?_)
    exact mGt_no (by unfold xForce; simp only [g1,g2, cond_true, cond_false] <;> rfl) q1 q2 q3
  refine And.intro (fun _ => ?_) (fun q => absurd q (by decide))
  obtain ⟨p, h, n, rfl, rfl, rfl, q1, q2, q3, ep, eh, en⟩ := gIsS_n hw.1 g2
  have hA := hw.2.1 g1
  refine gTM_use rfl (p_setUp d V hw g1 _ L y hm0) (fun v h' q => ?_)
  obtain ⟨rfl, I1, L1, rfl, o1, m1, u1, t1, k1⟩ := q
  refine gP_use (p_ended (d + 6) h p n (by omega) (by omega) (by omega) (vA V) I1 m1.1 hw.1.lt L1 y) ?_
  have hx : xForce V (nI p) (nI h) (nI n) = (0, gI (if aEnd (vA V) h p n = 0 then gOI (gFst (cForce V h p n) (vA V 1 + 1)) else -1), V) := by unfold xForce; simp only [g1, g2, cond_true]; rw [ep, eh, en]
  refine bEq (aEnd (vA V) h p n) 0 rfl rfl (fun c => ?_) (fun c => ?_) (by have := aEnd_lt (vA V) h p n; omega) (by decide)
  · have hh3 : h < vA V 3 := by have := (aEnd_0 c).2; omega
    have hn0 := (aEnd_0 c).1
    obtain ⟨l1, l2, l3, l4, -⟩ := mU_moves u1 hh3 q1 q3 c
    have hs := sN_lt (h := h) (p := p) (n := n) (by omega) (by omega) (by omega)
    rw [if_pos c] at hx
    refine Exists.intro (h) (And.intro rfl (And.intro (show _ < 24 by omega) ?_))
    refine gP_use (p_state (d + 6) h p n _) ?_
    refine gP_use (gP_eq (by rw [← l1] <;> rfl) (p_moves (d + 6) ((gP0 V).1 h) (sN h p n) _ (by omega) (by omega) I1 L1 y l3)) ?_
    refine gT_for (σ := Unit) (pc := 68) (lo := fun i _ => [some gM0, some (gI (nI p)), some (gI (nI h)), some (gI (nI n)), some (gI (nI (xMay V (gP0 V) h p n))), some (gI (nI i)), none]) (hp := fun _ _ => gH I1 L1 y) (Inv := fun i _ => ∀ j, j < i → cForce V h p n j = false) (vA V 1 + 1) ?_ ?_ 0 () (Nat.zero_le _) (fun j hj => absurd hj (Nat.not_lt_zero _)) (by (repeat' apply And.intro) <;> first | rfl | trivial | exact congrArg Sum.inl (nI_1 _).symm | exact congrArg Sum.inl (nI_1 _).symm)
    · intro _ hi
      refine gT_go 400 [68] kX12_force ?_
      refine Exists.intro (1) (And.intro rfl (And.intro (show _ < 708 by omega) ?_))
      refine bGt (vA V 1 + 1) (vA V 1) rfl (m1.1 1 (by omega)) (fun q => ?_) (fun q => absurd q (by omega))
      exact mDone (o2 := (0, gI (-1), V)) (by rw [hx, gFst_none _ hi] <;> rfl) rfl o1 m1 (t1.trans u3_eq)
    · intro i _ hi hv hnext
      have nxt : cForce V h p n i = false → ∀ j, j < i + 1 → cForce V h p n j = false := fun e j hj => by
        rcases Nat.lt_or_ge j i with q | q
        · exact hv j q
        · have : j = i := by omega
          subst this; exact e
      have at110 : (xMay V (gP0 V) h p n).testBit i = true → ∀ (to : Nat) (lo' : Lo), to = gGo (vA V) i p → glle [some gM0, some (gI (nI p)), some (gI (nI h)), some (gI (nI n)), some (gI (nI (xMay V (gP0 V) h p n))), some (gI (nI i)), none] lo' →
          gT mX12_force (d + 8) (0, 0) (fun v h' => v = [(xForce V (nI p) (nI h) (nI n)).2.1] ∧ ∃ I' L', h' = gH I' L' y ∧ mOut I L I' L' ∧ mR (xForce V (nI p) (nI h) (nI n)).2.2 I' L' ∧ I' 100 0 0 = (xForce V (nI p) (nI h) (nI n)).1) (fun _ _ => False) 110 lo' [gI (nI to)] (gH I1 L1 y) (0, 0) := by
        intro hbt to lo' hto hl'
        have htl : to < vA V 0 := by rw [hto]; exact gGo_lt hA q1 (by omega)
        have hat : ∀ (n' : Nat) (lo' : Lo), n' = aNx (vA V) (vA V 4) n to → glle [some gM0, some (gI (nI p)), some (gI (nI h)), some (gI (nI n)), some (gI (nI (xMay V (gP0 V) h p n))), some (gI (nI i)), some (gI (nI to))] lo' →
            gT mX12_force (d + 8) (0, 0) (fun v h' => v = [(xForce V (nI p) (nI h) (nI n)).2.1] ∧ ∃ I' L', h' = gH I' L' y ∧ mOut I L I' L' ∧ mR (xForce V (nI p) (nI h) (nI n)).2.2 I' L' ∧ I' 100 0 0 = (xForce V (nI p) (nI h) (nI n)).1) (fun _ _ => False) 142 lo' [gI (nI n'), gI (nI to), gI (nI (h + 1)), gM0] (gH I1 L1 y) (0, 0) := by
          intro n' lo' hn' hl'
          refine gT_lo _ hl' ?_
          refine gT_go 400 [68] kX12_force ?_
          refine gP_use (p_isTrap (d + 5) V hA (gP0 V) (h + 1) to n' (by omega) htl (by rw [hn']; exact aNx_le q3) I1 L1 y m1.1 u1) ?_
          have ec : cForce V h p n i = gTrp V (gP0 V) (h + 1) to n' := by unfold cForce; rw [hbt, ← hto, ← hn'] <;> rfl
          refine bB0 _ rfl (fun q => ?_) (fun q => ?_)
          · exact hnext () _ (nxt (ec.trans q)) (by (repeat' apply And.intro) <;> first | rfl | trivial | exact congrArg Sum.inl (nI_1 _).symm | exact congrArg Sum.inl (nI_1 _).symm)
          · exact mDone (o2 := (0, gI (nI i), V)) (by rw [hx, gFst_some (ec.trans q) hv _ hi] <;> rfl) rfl o1 m1 (t1.trans u3_eq)
        refine gT_lo _ hl' ?_
        refine gT_go 400 [142] kX12_force ?_
        refine Exists.intro (7 + to) (And.intro (nI_add 7 to) (And.intro (show 7 + to < 708 by omega) ?_))
        have e7 : I1 110 0 (7 + to) = nI (vA V (7 + to)) := m1.1 _ (by omega)
        have l7 := hA.1.lt (7 + to) (by omega)
        refine bNe (vA V (7 + to)) 1 e7 rfl (fun q => ?_) (fun q => ?_)
        · have := hat (n - 1) [some gM0, some (gI (nI p)), some (gI (nI h)), some (gI (nI n)), some (gI (nI (xMay V (gP0 V) h p n))), some (gI (nI i)), some (gI (nI to))] (by unfold aNx; rw [if_neg q]) (by (repeat' apply And.intro) <;> first | rfl | trivial | exact congrArg Sum.inl (nI_1 _).symm | exact congrArg Sum.inl (nI_1 _).symm)
          rw [← pk_sub (b := 1) hn0, ← nI_1 h] at this
          exact this
        · have := hat (vA V 4) [some gM0, some (gI (nI p)), some (gI (nI h)), some (gI (nI n)), some (gI (nI (xMay V (gP0 V) h p n))), some (gI (nI i)), some (gI (nI to))] (by unfold aNx; rw [if_pos q]) (by (repeat' apply And.intro) <;> first | rfl | trivial | exact congrArg Sum.inl (nI_1 _).symm | exact congrArg Sum.inl (nI_1 _).symm)
          rw [← u1.1, ← nI_1 h] at this
          exact this
      refine gT_go 400 [68, 110] kX12_force ?_
      refine Exists.intro (1) (And.intro rfl (And.intro (show _ < 708 by omega) ?_))
      refine bGt i (vA V 1) rfl (m1.1 1 (by omega)) (fun q => absurd q (by omega)) (fun _ => ?_)
      refine bB1 ((xMay V (gP0 V) h p n).testBit i) (gbit (gMv_lt l4) (by omega)) (fun hbt => ?_) (fun hbt => ?_)
      · refine bNe i 0 rfl rfl (fun q => ?_) (fun q => ?_)
        · refine gP_use (gP_eq (by rw [← pk_sub (b := 1) (show 1 ≤ i by omega)] <;> rfl) (p_otherEnd (d + 6) (i - 1) p (by omega) (by omega) (vA V) I1 m1.1 hA.1.lt L1 y)) ?_
          exact at110 hbt _ _ (by unfold gGo; rw [if_neg q]) (by (repeat' apply And.intro) <;> first | rfl | trivial | exact congrArg Sum.inl (nI_1 _).symm | exact congrArg Sum.inl (nI_1 _).symm)
        · exact at110 hbt _ _ (by unfold gGo; rw [if_pos q]) (by (repeat' apply And.intro) <;> first | rfl | trivial | exact congrArg Sum.inl (nI_1 _).symm | exact congrArg Sum.inl (nI_1 _).symm)
      · exact hnext () _ (nxt (by unfold cForce; rw [hbt] <;> rfl)) (by (repeat' apply And.intro) <;> first | rfl | trivial | exact congrArg Sum.inl (nI_1 _).symm | exact congrArg Sum.inl (nI_1 _).symm)
  · exact mDone (o2 := (0, gI (-1), V)) (by rw [hx, if_neg c]) rfl o1 m1 (t1.trans u3_eq)
