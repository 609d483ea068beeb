/-! ===== public methods of the plain form: states, worths ===== -/
/-- the moves that are lawful to who leads -/
def xMay (V : VS) (P : PP) (h p n : Nat) : Nat := gMv (gMw (vA V) (vR V) none (P.1 h) h p n)
theorem gIsS_n {A : Nat → Nat} {a b c : Int32} (hA : gLd A) (h : gIsS A a b c = true) : ∃ p h n, a = nI p ∧ b = nI h ∧ c = nI n ∧ p < A 0 ∧ h ≤ A 3 ∧ n ≤ A 4 ∧ gTo a = p ∧ gTo b = h ∧ gTo c = n := by
  have a0 := hA.1
  have a3 := hA.2.2.2.1
  have a4 := hA.2.2.2.2.1
  unfold gIsS at h
  rw [Bool.and_eq_true, Bool.and_eq_true] at h
  obtain ⟨p, e1, q1⟩ := gWi_n rfl (by omega) h.1
  obtain ⟨j, e2, q2⟩ := gWi_m rfl (by omega) h.2.1
  obtain ⟨n, e3, q3⟩ := gWi_m rfl (by omega) h.2.2
  exact ⟨p, j, n, e1, e2, e3, q1, q2, q3, by rw [e1]; exact gTo_n (by omega), by rw [e2]; exact gTo_n (by omega), by rw [e3]; exact gTo_n (by omega)⟩
theorem mU_moves {V : VS} {S : Nat} {P : PP} {I : Nat → Nat → Nat → Int32} {L : Nat → Nat → Nat → Int64} (hU : mU V S none P I L) {h p n : Nat} (hh : h < vA V 3) (hp : p < vA V 0) (hn : n ≤ S) (e : aEnd (vA V) h p n = 0) :
    I 129 0 h = nI (P.1 h) ∧ P.1 h < vA V 2 ∧ I 136 0 (P.1 h * 3900 + sN h p n) = nI (gMw (vA V) (vR V) none (P.1 h) h p n) ∧ gMw (vA V) (vR V) none (P.1 h) h p n < 2 ^ 26 ∧ ∃ m0, m0 ≤ vA V 1 ∧ (xMay V P h p n).testBit m0 = true := by
  obtain ⟨l1, l2⟩ := hU.2.2.1 h hh
  obtain ⟨m1, m2, m3⟩ := hU.2.1.1 (P.1 h) h p n l2 hh hp hn e
  exact ⟨l1, l2, m1, m2, m3⟩
def xNext (V : VS) (a b c : Int32) : Int32 × AV × VS :=
  bif vL V then (bif gIsS (vA V) a b c then (0, gI (nI (if aEnd (vA V) (gTo b) (gTo a) (gTo c) = 0 then xMay V (gP0 V) (gTo b) (gTo a) (gTo c) else 0)), V) else (1, gI 0, xRef V 2)) else (2, gI 0, xRef V 3)
set_option maxRecDepth 100000 in
theorem c_next (V : VS) (hw : gWf V) (a b c : Int32) : mC mX12_next 8 [gI a, gI b, gI c] V (xNext V a b c) := by
  intro d I L y hm
  have hm0 := mR_thr hm 0
  have a0 := hw.1.1
  have a3 := hw.1.2.2.2.1
  have a4 := hw.1.2.2.2.2.1
  have a2 := hw.1.2.2.1
  refine gEnter 400 [] kX12_next rfl rfl ?_
  refine gTM_use rfl (p_isHere (d + 5) V 2 (by decide) _ L y hm0 u3_eq) (fun v h' q => ?_)
  rcases q with ⟨g1, rfl, rfl⟩ | ⟨g1, rfl, I', rfl, q1, q2, q3⟩
  rotate_left
  · refine And.intro (fun _ => ?_) (fun q => absurd rfl q)
    exact mGt_no (by unfold xNext; simp only [g1, cond_true, cond_false] <;> rfl) q1 q2 q3
  refine And.intro (fun q => absurd q (by decide)) (fun _ => ?_)
  refine gP_use (p_isState (d + 5) V a b c _ L y hm0) ?_
  refine gTM_use rfl (p_may (d + 6) V _ 1 (by decide) 2 (by decide) _ L y hm0 u3_eq) (fun v h' q => ?_)
  rcases q with ⟨g2, rfl, rfl⟩ | ⟨g2, rfl, I', rfl, q1, q2, q3⟩
  rotate_left
  · refine And.intro (fun q => absurd rfl q) (fun _ => ?_)
    exact mGt_no (by unfold xNext; simp only [g1,g2, cond_true, cond_false] <;> rfl) q1 q2 q3
  refine And.intro (fun _ => ?_) (fun q => absurd q (by decide))
  obtain ⟨p, h, n, rfl, rfl, rfl, q1, q2, q3, ep, eh, en⟩ := gIsS_n hw.1 g2
  refine gTM_use rfl (p_setUp d V hw g1 _ L y hm0) (fun v h' q => ?_)
  obtain ⟨rfl, I1, L1, rfl, o1, m1, u1, t1, k1⟩ := q
  refine gP_use (p_ended (d + 6) h p n (by omega) (by omega) (by omega) (vA V) I1 m1.1 hw.1.lt L1 y) ?_
  have hx : xNext V (nI p) (nI h) (nI n) = (0, gI (nI (if aEnd (vA V) h p n = 0 then xMay V (gP0 V) h p n else 0)), V) := by unfold xNext; simp only [g1, g2, cond_true]; rw [ep, eh, en]
  refine bEq (aEnd (vA V) h p n) 0 rfl rfl (fun c => ?_) (fun c => ?_) (by have := aEnd_lt (vA V) h p n; omega) (by decide)
  · have hh3 : h < vA V 3 := by have := (aEnd_0 c).2; omega
    obtain ⟨l1, l2, l3, l4, -⟩ := mU_moves u1 hh3 q1 q3 c
    have hs := sN_lt (h := h) (p := p) (n := n) (by omega) (by omega) (by omega)
    refine Exists.intro (h) (And.intro rfl (And.intro (show _ < 24 by omega) ?_))
    refine gP_use (p_state (d + 6) h p n _) ?_
    refine gP_use (gP_eq (by rw [← l1] <;> rfl) (p_moves (d + 6) ((gP0 V).1 h) (sN h p n) _ (by omega) (by omega) I1 L1 y l3)) ?_
    exact mDone (o2 := (0, gI (nI (xMay V (gP0 V) h p n)), V)) (by rw [hx, if_pos c]) rfl o1 m1 (t1.trans u3_eq)
  · exact mDone (o2 := (0, gI (nI 0), V)) (by rw [hx, if_neg c]) rfl o1 m1 (t1.trans u3_eq)
noncomputable def xTakes (V : VS) (a b c : Int32) : Int32 × AV × VS :=
  bif vL V then (bif gIsS (vA V) a b c then (0, gI (wT (vA V) (vA V 4) (gMw (vA V) (vR V) none) (gP0 V) (gTo b) (gTo a) (gTo c)), V) else (1, gI 0, xRef V 2)) else (2, gI 0, xRef V 3)
set_option maxRecDepth 100000 in
theorem c_takes (V : VS) (hw : gWf V) (a b c : Int32) : mC mX12_takes 9 [gI a, gI b, gI c] V (xTakes V a b c) := by
  intro d I L y hm
  have hm0 := mR_thr hm 0
  have a0 := hw.1.1
  have a3 := hw.1.2.2.2.1
  have a4 := hw.1.2.2.2.2.1
  refine gEnter 400 [] kX12_takes rfl rfl ?_
  refine gTM_use rfl (p_isHere (d + 6) V 2 (by decide) _ L y hm0 u3_eq) (fun v h' q => ?_)
  rcases q with ⟨g1, rfl, rfl⟩ | ⟨g1, rfl, I', rfl, q1, q2, q3⟩
  rotate_left
  · refine And.intro (fun _ => ?_) (fun q => absurd rfl q)
    exact mGt_no (by unfold xTakes; simp only [g1, cond_true, cond_false] <;> rfl) q1 q2 q3
  refine And.intro (fun q => absurd q (by decide)) (fun _ => ?_)
  refine gP_use (p_isState (d + 6) V a b c _ L y hm0) ?_
  refine gTM_use rfl (p_may (d + 7) V _ 1 (by decide) 2 (by decide) _ L y hm0 u3_eq) (fun v h' q => ?_)
  rcases q with ⟨g2, rfl, rfl⟩ | ⟨g2, rfl, I', rfl, q1, q2, q3⟩
  rotate_left
  · refine And.intro (fun q => absurd rfl q) (fun _ => ?_)
    exact mGt_no (by unfold xTakes; simp only [g1,g2, cond_true, cond_false] <;> rfl) q1 q2 q3
  refine And.intro (fun _ => ?_) (fun q => absurd q (by decide))
  obtain ⟨p, h, n, rfl, rfl, rfl, q1, q2, q3, ep, eh, en⟩ := gIsS_n hw.1 g2
  refine gTM_use rfl (p_asItIs d V hw g1 _ L y hm0) (fun v h' q => ?_)
  obtain ⟨rfl, I1, L1, rfl, o1, m1, u1, hp, t1, k1⟩ := q
  have hs := sN_lt (h := h) (p := p) (n := n) (by omega) (by omega) (by omega)
  refine gP_use (p_state (d + 7) h p n _) ?_
  refine Exists.intro (sN h p n) (And.intro rfl (And.intro (show _ < 3900 by omega) ?_))
  exact mDone (o2 := (0, gI (wT (vA V) (vA V 4) (gMw (vA V) (vR V) none) (gP0 V) h p n), V)) (by unfold xTakes; simp only [g1, g2, cond_true]; rw [ep, eh, en]) (congrArg gI (mP_w (hw.2.1 g1) u1.2.2.ok hp q2 q1 q3).1) o1 m1 (t1.trans u3_eq)
noncomputable def xValue (V : VS) (k a b c : Int32) : Int32 × AV × VS :=
  bif vL V then (bif gWi k 0 (nI (vA V 2) - 1) then (bif gIsS (vA V) a b c then (0, gL (wW (vA V) (vA V 4) (gMw (vA V) (vR V) none) (gP0 V) (gTo k) (gTo b) (gTo a) (gTo c)), V) else (2, gL 0, xRef V 2)) else (1, gL 0, xRef V 0)) else (3, gL 0, xRef V 3)
set_option maxRecDepth 100000 in
theorem c_value (V : VS) (hw : gWf V) (k a b c : Int32) : mC mX12_value 9 [gI k, gI a, gI b, gI c] V (xValue V k a b c) := by
  intro d I L y hm
  have hm0 := mR_thr hm 0
  have a0 := hw.1.1
  have a2 := hw.1.2.2.1
  have a3 := hw.1.2.2.2.1
  have a4 := hw.1.2.2.2.2.1
  refine gEnter 400 [] kX12_value rfl rfl ?_
  refine gTM_use rfl (p_isHere (d + 6) V 3 (by decide) _ L y hm0 u3_eq) (fun v h' q => ?_)
  rcases q with ⟨g1, rfl, rfl⟩ | ⟨g1, rfl, I', rfl, q1, q2, q3⟩
  rotate_left
  · refine And.intro (fun _ => ?_) (fun q => absurd rfl q)
    exact mGt_no (by unfold xValue; simp only [g1, cond_true, cond_false] <;> rfl) q1 q2 q3
  refine And.intro (fun q => absurd q (by decide)) (fun _ => ?_)
  refine gTM_use rfl (p_isPerson (d + 6) V k 1 (by decide) _ L y hm0 u3_eq) (fun v h' q => ?_)
  rcases q with ⟨g2, rfl, rfl⟩ | ⟨g2, rfl, I', rfl, q1, q2, q3⟩
  rotate_left
  · refine And.intro (fun _ => ?_) (fun q => absurd rfl q)
    exact mGt_no (by unfold xValue; simp only [g1,g2, cond_true, cond_false] <;> rfl) q1 q2 q3
  refine And.intro (fun q => absurd q (by decide)) (fun _ => ?_)
  refine gP_use (p_isState (d + 6) V a b c _ L y hm0) ?_
  refine gTM_use rfl (p_may (d + 7) V _ 2 (by decide) 2 (by decide) _ L y hm0 u3_eq) (fun v h' q => ?_)
  rcases q with ⟨g3, rfl, rfl⟩ | ⟨g3, rfl, I', rfl, q1, q2, q3⟩
  rotate_left
  · refine And.intro (fun q => absurd rfl q) (fun _ => ?_)
    exact mGt_no (by unfold xValue; simp only [g1,g2,g3, cond_true, cond_false] <;> rfl) q1 q2 q3
  refine And.intro (fun _ => ?_) (fun q => absurd q (by decide))
  obtain ⟨p, h, n, rfl, rfl, rfl, q1, q2, q3, ep, eh, en⟩ := gIsS_n hw.1 g3
  obtain ⟨j, rfl, hj⟩ := gWi_n rfl (by omega) g2
  have ej : gTo (nI j) = j := gTo_n (by omega)
  refine gTM_use rfl (p_asItIs d V hw g1 _ L y hm0) (fun v h' q => ?_)
  obtain ⟨rfl, I1, L1, rfl, o1, m1, u1, hp, t1, k1⟩ := q
  have hs := sN_lt (h := h) (p := p) (n := n) (by omega) (by omega) (by omega)
  refine gP_use (p_state (d + 7) h p n _) ?_
  refine Exists.intro (j * 3900 + sN h p n) (And.intro (by rw [← nI_add, ← pk_mul] <;> rfl) (And.intro (show j * 3900 + sN h p n < 19500 by omega) ?_))
  exact mDone (o2 := (0, gL (wW (vA V) (vA V 4) (gMw (vA V) (vR V) none) (gP0 V) j h p n), V)) (by unfold xValue; simp only [g1, g2, g3, cond_true]; rw [ep, eh, en, ej]) (congrArg gL ((mP_w (hw.2.1 g1) u1.2.2.ok hp q2 q1 q3).2 j hj)) o1 m1 (t1.trans u3_eq)
def xScale (V : VS) (a : Int32) : Int32 × AV × VS :=
  bif vL V then (bif gWi a 0 (nI (vA V 3)) then (0, gL (gSc (vA V) (gTo a)), V) else (1, gL 0, xRef V 2)) else (2, gL 0, xRef V 3)
set_option maxRecDepth 100000 in
theorem c_scale (V : VS) (hw : gWf V) (a : Int32) : mC mX12_scale 8 [gI a] V (xScale V a) := by
  intro d I L y hm
  have hm0 := mR_thr hm 0
  have a3 := hw.1.2.2.2.1
  refine gEnter 400 [] kX12_scale rfl rfl ?_
  refine gTM_use rfl (p_isHere (d + 5) V 2 (by decide) _ L y hm0 u3_eq) (fun v h' q => ?_)
  rcases q with ⟨g1, rfl, rfl⟩ | ⟨g1, rfl, I', rfl, q1, q2, q3⟩
  rotate_left
  · refine And.intro (fun _ => ?_) (fun q => absurd rfl q)
    exact mGt_no (by unfold xScale; simp only [g1, cond_true, cond_false] <;> rfl) q1 q2 q3
  refine And.intro (fun q => absurd q (by decide)) (fun _ => ?_)
  refine Exists.intro (3) (And.intro rfl (And.intro (show _ < 708 by omega) ?_))
  refine gP_use (gP_eq (by rw [← hm0.1 3 (by omega)] <;> rfl) (p_within (d + 6) a 0 (nI (vA V 3)) _)) ?_
  refine gTM_use rfl (p_may (d + 6) V _ 1 (by decide) 2 (by decide) _ L y hm0 u3_eq) (fun v h' q => ?_)
  rcases q with ⟨g2, rfl, rfl⟩ | ⟨g2, rfl, I', rfl, q1, q2, q3⟩
  rotate_left
  · refine And.intro (fun q => absurd rfl q) (fun _ => ?_)
    exact mGt_no (by unfold xScale; simp only [g1,g2, cond_true, cond_false] <;> rfl) q1 q2 q3
  refine And.intro (fun _ => ?_) (fun q => absurd q (by decide))
  obtain ⟨h, rfl, hh⟩ := gWi_m rfl (by omega) g2
  have eh : gTo (nI h) = h := gTo_n (by omega)
  refine gTM_use rfl (p_setUp d V hw g1 _ L y hm0) (fun v h' q => ?_)
  obtain ⟨rfl, I1, L1, rfl, o1, m1, u1, t1, k1⟩ := q
  refine Exists.intro (h) (And.intro rfl (And.intro (show _ < 25 by omega) ?_))
  exact mDone (o2 := (0, gL (gSc (vA V) h), V)) (by unfold xScale; simp only [g1, g2, cond_true]; rw [eh]) (congrArg gL (u1.2.1.2.2.1 h hh)) o1 m1 (t1.trans u3_eq)
noncomputable def xAll (V : VS) : Int32 × AV × VS := bif vL V then (0, gL (wSum V (vA V 4) none (gP0 V)), V) else (1, gL 0, xRef V 3)
set_option maxRecDepth 100000 in
theorem c_all (V : VS) (hw : gWf V) : mC mX12_all 9 [] V (xAll V) := by
  intro d I L y hm
  have hm0 := mR_thr hm 0
  have a4 := hw.1.2.2.2.2.1
  refine gEnter 400 [] kX12_all rfl rfl ?_
  refine gTM_use rfl (p_isHere (d + 6) V 1 (by decide) _ L y hm0 u3_eq) (fun v h' q => ?_)
  rcases q with ⟨g1, rfl, rfl⟩ | ⟨g1, rfl, I', rfl, q1, q2, q3⟩
  rotate_left
  · refine And.intro (fun q => absurd rfl q) (fun _ => ?_)
    exact mGt_no (by unfold xAll; simp only [g1, cond_true, cond_false] <;> rfl) q1 q2 q3
  refine And.intro (fun _ => ?_) (fun q => absurd q (by decide))
  refine gTM_use rfl (p_asItIs d V hw g1 _ L y hm0) (fun v h' q => ?_)
  obtain ⟨rfl, I1, L1, rfl, o1, m1, u1, hp, t1, k1⟩ := q
  refine gP_use (p_nowAll (d + 4) V (hw.2.1 g1) (vA V 4) (by omega) none (gP0 V) u1.2.2.ok I1 L1 y hp) ?_
  exact mDone (o2 := (0, gL (wSum V (vA V 4) none (gP0 V)), V)) (by unfold xAll; simp only [g1, cond_true]) rfl o1 m1 (t1.trans u3_eq)
/-- worth at the beginning to one who leads all hours -/
noncomputable def wAl (V : VS) (k : Nat) : Int64 := wA (vA V) (vA V 4) (gMw (vA V) (vR V) none) k 0 (vA V 6) (vA V 4)
noncomputable def xAlone (V : VS) (a : Int32) : Int32 × AV × VS :=
  bif vL V then (bif gWi a 0 (nI (vA V 2) - 1) then (0, gL (wAl V (gTo a)), V) else (1, gL 0, xRef V 0)) else (2, gL 0, xRef V 3)
set_option maxRecDepth 100000 in
theorem c_alone (V : VS) (hw : gWf V) (a : Int32) : mC mX12_alone 8 [gI a] V (xAlone V a) := by
  intro d I L y hm
  have hm0 := mR_thr hm 0
  have a2 := hw.1.2.2.1
  have a4 := hw.1.2.2.2.2.1
  have a6 := hw.1.2.2.2.2.2.2.1
  refine gEnter 400 [] kX12_alone rfl rfl ?_
  refine gTM_use rfl (p_isHere (d + 5) V 2 (by decide) _ L y hm0 u3_eq) (fun v h' q => ?_)
  rcases q with ⟨g1, rfl, rfl⟩ | ⟨g1, rfl, I', rfl, q1, q2, q3⟩
  rotate_left
  · refine And.intro (fun _ => ?_) (fun q => absurd rfl q)
    exact mGt_no (by unfold xAlone; simp only [g1, cond_true, cond_false] <;> rfl) q1 q2 q3
  refine And.intro (fun q => absurd q (by decide)) (fun _ => ?_)
  refine gTM_use rfl (p_isPerson (d + 5) V a 1 (by decide) _ L y hm0 u3_eq) (fun v h' q => ?_)
  rcases q with ⟨g2, rfl, rfl⟩ | ⟨g2, rfl, I', rfl, q1, q2, q3⟩
  rotate_left
  · refine And.intro (fun q => absurd rfl q) (fun _ => ?_)
    exact mGt_no (by unfold xAlone; simp only [g1,g2, cond_true, cond_false] <;> rfl) q1 q2 q3
  refine And.intro (fun _ => ?_) (fun q => absurd q (by decide))
  obtain ⟨j, rfl, hj⟩ := gWi_n rfl (by omega) g2
  have ej : gTo (nI j) = j := gTo_n (by omega)
  have hA := hw.2.1 g1
  refine gTM_use rfl (p_setUp d V hw g1 _ L y hm0) (fun v h' q => ?_)
  obtain ⟨rfl, I1, L1, rfl, o1, m1, u1, t1, k1⟩ := q
  have hs := sN_lt (h := 0) (p := vA V 6) (n := vA V 4) (by omega) (by omega) (by omega)
  refine gP_use (p_start (d + 5) (vA V) (vA V 4) I1 m1.1 u1.1 L1 y) ?_
  refine Exists.intro (j * 3900 + sN 0 (vA V 6) (vA V 4)) (And.intro (by rw [← nI_add, ← pk_mul] <;> rfl) (And.intro (show j * 3900 + sN 0 (vA V 6) (vA V 4) < 19500 by omega) ?_))
  exact mDone (o2 := (0, gL (wAl V j), V)) (by unfold xAlone; simp only [g1, g2, cond_true]; rw [ej]) (congrArg gL (gAl_w (r := fun i => L1 140 0 (j * 3900 + i)) hA (u1.2.1.2.2.2 j hj) (Nat.zero_le _) hA.2.2.2.2.2.1 (Nat.le_refl _))) o1 m1 (t1.trans u3_eq)
noncomputable def xBeside (V : VS) (a : Int32) : Int32 × AV × VS :=
  bif vL V then (bif gWi a 0 (nI (vA V 2) - 1) then (0, gL (wAl V (gTo a) - wS V (vA V 4) none (gP0 V) (gTo a)), V) else (1, gL 0, xRef V 0)) else (2, gL 0, xRef V 3)
set_option maxRecDepth 100000 in
theorem c_beside (V : VS) (hw : gWf V) (a : Int32) : mC mX12_beside 9 [gI a] V (xBeside V a) := by
  intro d I L y hm
  have hm0 := mR_thr hm 0
  have a2 := hw.1.2.2.1
  have a4 := hw.1.2.2.2.2.1
  have a6 := hw.1.2.2.2.2.2.2.1
  refine gEnter 400 [] kX12_beside rfl rfl ?_
  refine gTM_use rfl (p_isHere (d + 6) V 2 (by decide) _ L y hm0 u3_eq) (fun v h' q => ?_)
  rcases q with ⟨g1, rfl, rfl⟩ | ⟨g1, rfl, I', rfl, q1, q2, q3⟩
  rotate_left
  · refine And.intro (fun _ => ?_) (fun q => absurd rfl q)
    exact mGt_no (by unfold xBeside; simp only [g1, cond_true, cond_false] <;> rfl) q1 q2 q3
  refine And.intro (fun q => absurd q (by decide)) (fun _ => ?_)
  refine gTM_use rfl (p_isPerson (d + 6) V a 1 (by decide) _ L y hm0 u3_eq) (fun v h' q => ?_)
  rcases q with ⟨g2, rfl, rfl⟩ | ⟨g2, rfl, I', rfl, q1, q2, q3⟩
  rotate_left
  · refine And.intro (fun q => absurd rfl q) (fun _ => ?_)
    exact mGt_no (by unfold xBeside; simp only [g1,g2, cond_true, cond_false] <;> rfl) q1 q2 q3
  refine And.intro (fun _ => ?_) (fun q => absurd q (by decide))
  obtain ⟨j, rfl, hj⟩ := gWi_n rfl (by omega) g2
  have ej : gTo (nI j) = j := gTo_n (by omega)
  have hA := hw.2.1 g1
  refine gTM_use rfl (p_asItIs d V hw g1 _ L y hm0) (fun v h' q => ?_)
  obtain ⟨rfl, I1, L1, rfl, o1, m1, u1, hp, t1, k1⟩ := q
  have hs := sN_lt (h := 0) (p := vA V 6) (n := vA V 4) (by omega) (by omega) (by omega)
  refine gP_use (p_start (d + 6) (vA V) (vA V 4) I1 m1.1 u1.1 L1 y) ?_
  refine Exists.intro (j * 3900 + sN 0 (vA V 6) (vA V 4)) (And.intro (by rw [← nI_add, ← pk_mul] <;> rfl) (And.intro (show j * 3900 + sN 0 (vA V 6) (vA V 4) < 19500 by omega) ?_))
  refine gP_use (p_now (d + 5) V hA (vA V 4) (by omega) none (gP0 V) u1.2.2.ok j hj I1 L1 y hp) ?_
  refine mDone (o2 := (0, gL (wAl V j - wS V (vA V 4) none (gP0 V) j), V)) (by unfold xBeside; simp only [g1, g2, cond_true]; rw [ej]) ?_ o1 m1 (t1.trans u3_eq)
  exact congrArg (fun z => gL (z - wS V (vA V 4) none (gP0 V) j)) (gAl_w (r := fun i => L1 140 0 (j * 3900 + i)) hA (u1.2.1.2.2.2 j hj) (Nat.zero_le _) hA.2.2.2.2.2.1 (Nat.le_refl _))
