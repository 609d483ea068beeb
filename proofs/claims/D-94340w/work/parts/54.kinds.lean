/-! ===== other kinds, pacts, votes ===== -/
/-- in a method: the state for a play P, no refusal -/
def mZ (V : VS) (P : PP) (I0 : Nat → Nat → Nat → Int32) (L0 : Nat → Nat → Nat → Int64) (I : Nat → Nat → Nat → Int32) (L : Nat → Nat → Nat → Int64) : Prop :=
  mOut I0 L0 I L ∧ mR V I L ∧ mU V (vA V 4) none P I L ∧ I 100 0 0 = 0
theorem mZ.fr {V : VS} {P : PP} {I0 I I' : Nat → Nat → Nat → Int32} {L0 L L' : Nat → Nat → Nat → Int64} (H : mZ V P I0 L0 I L) (f : mFr I L I' L') : mZ V P I0 L0 I' L' :=
  ⟨H.1.tr f.out, f.mR H.2.1, f.mU H.2.2.1, by rw [f.1 100 (by decide) (by decide)]; exact H.2.2.2⟩
def gKnd (P : PP) (k z : Nat) : PP := (P.1, (fun j => if j = k then z else P.2.1 j), P.2.2)
theorem gKnd_2 (P : PP) (k z z' : Nat) : gKnd (gKnd P k z') k z = gKnd P k z := by
  unfold gKnd
  refine Prod.ext rfl (Prod.ext (funext fun j => ?_) rfl)
  show (if j = k then z else if j = k then z' else P.2.1 j) = if j = k then z else P.2.1 j
  by_cases q : j = k
  · rw [if_pos q, if_pos q]
  · rw [if_neg q, if_neg q, if_neg q]
theorem mZ.knd {V : VS} {P : PP} {I0 I : Nat → Nat → Nat → Int32} {L0 L : Nat → Nat → Nat → Int64} (H : mZ V P I0 L0 I L) (k : Nat) {z : Nat} (hz : z < 6) : mZ V (gKnd P k z) I0 L0 (u3 I 130 0 k (nI z)) L := by
  obtain ⟨o, m, ⟨u1, u2, P1, P2, P3, P4, P5⟩, t⟩ := H
  have e : ∀ b, b ≠ 130 → u3 I 130 0 k (nI z) b = I b := fun b hb => u3_ne1 hb
  refine ⟨mO_u o (by decide), ?_, ⟨by rw [e 100 (by decide)]; exact u1, gKn_cg (e 136 (by decide)) (e 142 (by decide)) rfl rfl u2, by rw [e 129 (by decide)]; exact P1, fun j hj => ?_, by rw [e 100 (by decide)]; exact P3, by rw [e 100 (by decide)]; exact P4, by rw [e 125 (by decide)]; exact P5⟩, by rw [e 100 (by decide)]; exact t⟩
  · refine mR_cg ⟨?_, ?_, ?_, ?_, ?_, ?_, ?_, ?_, ?_, ?_, ?_, rfl, rfl, fun k _ => by rw [e 100 (by decide)]⟩ m <;> exact e _ (by decide)
  · show u3 I 130 0 k (nI z) 130 0 j = nI (if j = k then z else P.2.1 j) ∧ (if j = k then z else P.2.1 j) < 6
    by_cases q : j = k
    · subst q; rw [if_pos rfl]; exact ⟨u3_eq, hz⟩
    · rw [if_neg q]; exact ⟨(u3_ne3 q).trans (P2 j hj).1, (P2 j hj).2⟩
set_option maxRecDepth 100000 in
theorem p_asKind (d : Nat) (V : VS) (hw : gWf V) (hL : vL V = true) (P : PP) (k z : Nat) (hk : k < vA V 2) (hz : z < 6) (I0 I : Nat → Nat → Nat → Int32) (L0 L : Nat → Nat → Nat → Int64) (y : Dy) (H : mZ V P I0 L0 I L) :
    gTM mX12_asKind (d + 8) (0, 0) [gM0, gI (nI k), gI (nI z)] (gH I L y) (fun v h' => v = [gL (wV V (gKnd P k z) k)] ∧ ∃ I' L', h' = gH I' L' y ∧ mZ V (gKnd P k z) I0 L0 I' L') (fun _ _ => False) := by
  have a2 := hw.1.2.2.1
  have a4 := hw.1.2.2.2.2.1
  have H' := H.knd k hz
  refine gEnter 400 [] kX12_asKind rfl rfl ?_
  refine Exists.intro (k) (And.intro rfl (And.intro (show _ < 5 by omega) ?_))
  refine gTM_use rfl (p_playsU d V hw (vA V 4) (by omega) none (gKnd P k z) _ L y H'.2.1.1 H'.2.2.1) (fun v h' q => ?_)
  obtain ⟨rfl, I2, L2, rfl, f, hp⟩ := q
  have H2 := H'.fr f
  refine gP_use (p_now (d + 4) V (hw.2.1 hL) (vA V 4) (by omega) none _ H2.2.2.1.2.2.ok k hk I2 L2 y hp) ?_
  exact ⟨rfl, I2, L2, rfl, H2⟩
noncomputable def xBlind (V : VS) (a : Int32) : Int32 × AV × VS :=
  bif vL V then (bif gWi a 0 (nI (vA V 2) - 1) then (0, gL (wV V (gKnd (gP0 V) (gTo a) 0) (gTo a) - wV V (gKnd (gP0 V) (gTo a) 4) (gTo a)), V) else (1, gL 0, xRef V 0)) else (2, gL 0, xRef V 3)
set_option maxRecDepth 100000 in
theorem c_blind (V : VS) (hw : gWf V) (a : Int32) : mC mX12_blind 9 [gI a] V (xBlind V a) := by
  intro d I L y hm
  have hm0 := mR_thr hm 0
  have a2 := hw.1.2.2.1
  refine gEnter 400 [] kX12_blind rfl rfl ?_
  refine gTM_use rfl (p_isHere (d + 6) V 2 (by decide) _ L y hm0 u3_eq) (fun v h' q => ?_)
  rcases q with ⟨g1, rfl, rfl⟩ | ⟨g1, rfl, I', rfl, q1, q2, q3⟩
  rotate_left
  · refine And.intro (fun _ => ?_) (fun q => absurd rfl q)
    exact mGt_no (by unfold xBlind; simp only [g1, cond_true, cond_false] <;> rfl) q1 q2 q3
  refine And.intro (fun q => absurd q (by decide)) (fun _ => ?_)
  refine gTM_use rfl (p_isPerson (d + 6) V a 1 (by decide) _ L y hm0 u3_eq) (fun v h' q => ?_)
  rcases q with ⟨g2, rfl, rfl⟩ | ⟨g2, rfl, I', rfl, q1, q2, q3⟩
  rotate_left
  · refine And.intro (fun q => absurd rfl q) (fun _ => ?_)
    exact mGt_no (by unfold xBlind; simp only [g1,g2, cond_true, cond_false] <;> rfl) q1 q2 q3
  refine And.intro (fun _ => ?_) (fun q => absurd q (by decide))
  obtain ⟨k, rfl, hk⟩ := gWi_n rfl (by omega) g2
  have ek : gTo (nI k) = k := gTo_n (by omega)
  refine gTM_use rfl (p_setUp (d + 1) V hw g1 _ L y hm0) (fun v h' q => ?_)
  obtain ⟨rfl, I1, L1, rfl, o1, m1, u1, t1, k1⟩ := q
  refine gTM_use rfl (p_asKind d V hw g1 (gP0 V) k 0 hk (by decide) (u3 I 100 0 0 0) I1 L L1 y ⟨o1, m1, u1, t1.trans u3_eq⟩) (fun v h' q => ?_)
  obtain ⟨rfl, I2, L2, rfl, Z2⟩ := q
  refine gTM_use rfl (p_asKind d V hw g1 _ k 4 hk (by decide) (u3 I 100 0 0 0) I2 L L2 y Z2) (fun v h' q => ?_)
  obtain ⟨rfl, I3, L3, rfl, Z3⟩ := q
  exact mDone (o2 := (0, gL (wV V (gKnd (gP0 V) k 0) k - wV V (gKnd (gP0 V) k 4) k), V)) (by unfold xBlind; simp only [g1, g2, cond_true]; rw [ek]) (by rw [gKnd_2] <;> rfl) Z3.1 Z3.2.1 Z3.2.2.2
noncomputable def wAsk (V : VS) (k z : Nat) : Int64 := wV V (gKnd (gP0 V) k z) k
noncomputable def xAsks (V : VS) (a : Int32) : Int32 × AV × VS :=
  bif vL V then (bif gWi a 0 (nI (vA V 2) - 1) then (0, gI (nI ((gBs 63 (wAsk V (gTo a)) false 6).getD 0)), V) else (1, gI 0, xRef V 0)) else (2, gI 0, xRef V 3)
theorem all6 : ∀ i, i < 6 → (63 : Nat).testBit i = true := by decide
set_option maxRecDepth 100000 in
theorem c_asks (V : VS) (hw : gWf V) (a : Int32) : mC mX12_asks 9 [gI a] V (xAsks V a) := by
  intro d I L y hm
  have hm0 := mR_thr hm 0
  have a2 := hw.1.2.2.1
  refine gEnter 400 [40] kX12_asks rfl rfl ?_
  refine gTM_use rfl (p_isHere (d + 6) V 2 (by decide) _ L y hm0 u3_eq) (fun v h' q => ?_)
  rcases q with ⟨g1, rfl, rfl⟩ | ⟨g1, rfl, I', rfl, q1, q2, q3⟩
  rotate_left
  · refine And.intro (fun _ => ?_) (fun q => absurd rfl q)
    exact mGt_no (by unfold xAsks; simp only [g1, cond_true, cond_false] <;> rfl) q1 q2 q3
  refine And.intro (fun q => absurd q (by decide)) (fun _ => ?_)
  refine gTM_use rfl (p_isPerson (d + 6) V a 1 (by decide) _ L y hm0 u3_eq) (fun v h' q => ?_)
  rcases q with ⟨g2, rfl, rfl⟩ | ⟨g2, rfl, I', rfl, q1, q2, q3⟩
  rotate_left
  · refine And.intro (fun q => absurd rfl q) (fun _ => ?_)
    exact mGt_no (by unfold xAsks; simp only [g1,g2, cond_true, cond_false] <;> rfl) q1 q2 q3
  refine And.intro (fun _ => ?_) (fun q => absurd q (by decide))
  obtain ⟨k, rfl, hk⟩ := gWi_n rfl (by omega) g2
  have ek : gTo (nI k) = k := gTo_n (by omega)
  refine gTM_use rfl (p_setUp (d + 1) V hw g1 _ L y hm0) (fun v h' q => ?_)
  obtain ⟨rfl, I1, L1, rfl, o1, m1, u1, t1, k1⟩ := q
  refine gTM_use rfl (p_asKind d V hw g1 (gP0 V) k 0 hk (by decide) (u3 I 100 0 0 0) I1 L L1 y ⟨o1, m1, u1, t1.trans u3_eq⟩) (fun v h' q => ?_)
  obtain ⟨rfl, I2, L2, rfl, Z2⟩ := q
  have b1 : gBs 63 (wAsk V k) false 1 = some 0 := gBs_n (all6 0 (by decide)) rfl
  refine gT_for (σ := (Nat → Nat → Nat → Int32) × (Nat → Nat → Nat → Int64) × Nat) (pc := 40) (lo := fun i _ => [some gM0, some (gI (nI k)), some (gI (gOI (gBs 63 (wAsk V k) false (i + 1)))), some (gL (gOv (wAsk V k) (gBs 63 (wAsk V k) false (i + 1)))), none, some (gI (nI (i + 1))), none, none]) (hp := fun _ x => gH x.1 x.2.1 y)
    (Inv := fun i x => mZ V (gKnd (gP0 V) k x.2.2) (u3 I 100 0 0 0) L x.1 x.2.1) 5 ?_ ?_ 0 (I2, L2, 0) (Nat.zero_le _) Z2 (by rw [b1]; exact (by (repeat' apply And.intro) <;> first | rfl | trivial | exact congrArg Sum.inl (nI_1 _).symm | exact congrArg Sum.inl (nI_1 _).symm))
  · intro x Z
    refine gT_go 400 [40] kX12_asks ?_
    refine bGe 6 6 rfl rfl (fun _ => ?_) (fun q => absurd q (by omega))
    obtain ⟨b, hb⟩ := gBs_some (v := wAsk V k) (l := false) (all6 0 (by decide)) 6 (by decide)
    refine mDone (o2 := (0, gI (nI ((gBs 63 (wAsk V k) false 6).getD 0)), V)) (by unfold xAsks; simp only [g1, g2, cond_true]; rw [ek]) ?_ Z.1 Z.2.1 Z.2.2.2
    rw [hb]
    rfl
  · intro i x hi Z hnext
    refine gT_go 400 [40] kX12_asks ?_
    refine bGe (i + 1) 6 rfl rfl (fun q => absurd q (by omega)) (fun _ => ?_)
    refine gTM_use rfl (p_asKind d V hw g1 _ k (i + 1) hk (by omega) (u3 I 100 0 0 0) x.1 L x.2.1 y Z) (fun v h' q => ?_)
    obtain ⟨rfl, I3, L3, rfl, Z3⟩ := q
    rw [gKnd_2] at Z3 ⊢
    have hbt := all6 (i + 1) (by omega)
    obtain ⟨b0, hg⟩ := gBs_some (v := wAsk V k) (l := false) (all6 0 (by decide)) (i + 1) (by omega)
    refine bcGt (fun c => ?_) (fun c => ?_)
    · rw [hg] at c
      refine hnext (I3, L3, i + 1) _ Z3 ?_
      rw [gBs_f1 hbt hg c]
      exact (by (repeat' apply And.intro) <;> first | rfl | trivial | exact congrArg Sum.inl (nI_1 _).symm | exact congrArg Sum.inl (nI_1 _).symm)
    · rw [hg] at c
      refine hnext (I3, L3, i + 1) _ Z3 ?_
      rw [gBs_f0 hbt hg c, hg]
      exact (by (repeat' apply And.intro) <;> first | rfl | trivial | exact congrArg Sum.inl (nI_1 _).symm | exact congrArg Sum.inl (nI_1 _).symm)
/-- a pact of two -/
def gPct (P : PP) (a b : Nat) : PP := (P.1, P.2.1, some (a, b), P.2.2.2)
set_option maxRecDepth 100000 in
theorem p_agree (d : Nat) (V : VS) (hw : gWf V) (P : PP) (hP : P.2.2.1 = none) (a b : Nat) (ha : a < vA V 2) (hb : b < vA V 2) (I0 I : Nat → Nat → Nat → Int32) (L0 L : Nat → Nat → Nat → Int64) (y : Dy) (H : mK V P I0 L0 I L) :
    gTM mX12_agree (d + 8) (0, 0) [gM0, gI (nI a), gI (nI b)] (gH I L y) (fun v h' => v = [] ∧ ∃ I' L', h' = gH I' L' y ∧ mK V P I0 L0 I' L' ∧ mP V (vA V 4) none (gPct P a b) I' L') (fun _ _ => False) := by
  have a4 := hw.1.2.2.2.2.1
  obtain ⟨o, m, u, bf, t⟩ := H
  obtain ⟨u1, u2, P1, P2, P3, P4, P5⟩ := id u
  have h33 := m.2.2.2.2.2.2.2.2.2.2.2.1
  have h34 := m.2.2.2.2.2.2.2.2.2.2.2.2.1
  have e : ∀ q, q ≠ 100 → u3 (u3 I 100 0 33 (nI a)) 100 0 34 (nI b) q = I q := fun q hq => (u3_ne1 hq).trans (u3_ne1 hq)
  have e1 : ∀ k, k ≠ 33 → k ≠ 34 → u3 (u3 I 100 0 33 (nI a)) 100 0 34 (nI b) 100 0 k = I 100 0 k := fun k h1 h2 => (u3_ne3 h2).trans (u3_ne3 h1)
  have U2 : mU V (vA V 4) none (gPct P a b) (u3 (u3 I 100 0 33 (nI a)) 100 0 34 (nI b)) L :=
    ⟨(e1 31 (by decide) (by decide)).trans u1, gKn_cg (e 136 (by decide)) (e 142 (by decide)) rfl rfl u2, by rw [e 129 (by decide)]; exact P1, by rw [e 130 (by decide)]; exact P2, ⟨rfl, rfl, ha, hb⟩, (e1 35 (by decide) (by decide)).trans P4, by rw [e 125 (by decide)]; exact P5⟩
  refine gEnter 400 [] kX12_agree rfl rfl ?_
  refine gTM_use rfl (p_playsU d V hw (vA V 4) (by omega) none (gPct P a b) _ L y (fun j hj => by rw [e 110 (by decide)]; exact m.1 j hj) U2) (fun v h' q => ?_)
  obtain ⟨rfl, I3, L3, rfl, f, hp⟩ := q
  have f1 : ∀ q, q ≠ 137 → q ≠ 143 → q ≠ 100 → I3 q = I q := fun q h1 h2 h3 => (f.1 q h1 h2).trans (e q h3)
  have e4 : ∀ q, q ≠ 100 → u3 (u3 I3 100 0 33 (-1)) 100 0 34 (-1) q = I3 q := fun q hq => (u3_ne1 hq).trans (u3_ne1 hq)
  have e5 : ∀ k, u3 (u3 I3 100 0 33 (-1)) 100 0 34 (-1) 100 0 k = I 100 0 k := by
    intro k
    by_cases q34 : k = 34
    · subst q34; exact u3_eq.trans h34.symm
    · refine (u3_ne3 q34).trans ?_
      by_cases q33 : k = 33
      · subst q33; exact u3_eq.trans h33.symm
      · refine (u3_ne3 q33).trans ?_
        rw [f.1 100 (by decide) (by decide)]
        exact e1 k q33 q34
  have e6 : ∀ q, q ≠ 137 → q ≠ 143 → q ≠ 100 → u3 (u3 I3 100 0 33 (-1)) 100 0 34 (-1) q = I q := fun q h1 h2 h3 => (e4 q h3).trans (f1 q h1 h2 h3)
  refine ⟨rfl, u3 (u3 I3 100 0 33 (-1)) 100 0 34 (-1), L3, rfl, ⟨o.tr (fun q hq => ⟨e6 q (by omega) (by omega) (by omega), f.2 q (by omega) (by omega)⟩), ?_, ⟨(e5 31).trans u1, gKn_cg (e6 136 (by decide) (by decide) (by decide)) (e6 142 (by decide) (by decide) (by decide)) (f.2 138 (by decide) (by decide)) (f.2 140 (by decide) (by decide)) u2, gPf_cg (e6 129 (by decide) (by decide) (by decide)) (e6 130 (by decide) (by decide) (by decide)) (e5 33) (e5 34) (e5 35) (e6 125 (by decide) (by decide) (by decide)) ⟨P1, P2, P3, P4, P5⟩⟩, fun k hk => by rw [f.2 147 (by decide) (by decide)]; exact bf k hk, (e5 0).trans t⟩, mP_cg (e4 110 (by decide)) rfl (e4 137 (by decide)) rfl rfl rfl hp⟩
  refine mR_cg ⟨?_, ?_, ?_, ?_, ?_, ?_, ?_, ?_, ?_, ?_, ?_, f.2 138 (by decide) (by decide), f.2 140 (by decide) (by decide), fun k _ => e5 k⟩ m <;> exact e6 _ (by decide) (by decide) (by decide)
noncomputable def xPact (V : VS) (a b c : Int32) : Int32 × AV × VS :=
  bif vL V then (bif gWi a 0 (nI (vA V 2) - 1) then (bif gWi b 0 (nI (vA V 2) - 1) then (bif decide (a ≠ b) && gWi c 0 1 then
    (0, gL (wV V (gPct (gP0 V) (gTo a) (gTo b)) (gTo (if c = 0 then a else b)) - wV V (gP0 V) (gTo (if c = 0 then a else b))), V) else (2, gL 0, xRef V 2)) else (1, gL 0, xRef V 0)) else (1, gL 0, xRef V 0)) else (3, gL 0, xRef V 3)
set_option maxRecDepth 100000 in
theorem c_pact (V : VS) (hw : gWf V) (a b c : Int32) : mC mX12_pact 10 [gI a, gI b, gI c] V (xPact V a b c) := by
  intro d I L y hm
  have hm0 := mR_thr hm 0
  have a2 := hw.1.2.2.1
  have a4 := hw.1.2.2.2.2.1
  refine gEnter 400 [51] kX12_pact rfl rfl ?_
  refine gTM_use rfl (p_isHere (d + 7) V 3 (by decide) _ L y hm0 u3_eq) (fun v h' q => ?_)
  rcases q with ⟨g1, rfl, rfl⟩ | ⟨g1, rfl, I', rfl, q1, q2, q3⟩
  rotate_left
  · refine And.intro (fun _ => ?_) (fun q => absurd rfl q)
    exact mGt_no (by unfold xPact; simp only [g1, cond_true, cond_false] <;> rfl) q1 q2 q3
  refine And.intro (fun q => absurd q (by decide)) (fun _ => ?_)
  refine gTM_use rfl (p_isPerson (d + 7) V a 1 (by decide) _ L y hm0 u3_eq) (fun v h' q => ?_)
  rcases q with ⟨g2, rfl, rfl⟩ | ⟨g2, rfl, I', rfl, q1, q2, q3⟩
  rotate_left
  · refine And.intro (fun _ => ?_) (fun q => absurd rfl q)
    exact mGt_no (by unfold xPact; simp only [g1,g2, cond_true, cond_false] <;> rfl) q1 q2 q3
  refine And.intro (fun q => absurd q (by decide)) (fun _ => ?_)
  refine gTM_use rfl (p_isPerson (d + 7) V b 1 (by decide) _ L y hm0 u3_eq) (fun v h' q => ?_)
  rcases q with ⟨g3, rfl, rfl⟩ | ⟨g3, rfl, I', rfl, q1, q2, q3⟩
  rotate_left
  · refine And.intro (fun _ => ?_) (fun q => absurd rfl q)
    exact mGt_no (by unfold xPact; simp only [g1,g2,g3, cond_true, cond_false] <;> rfl) q1 q2 q3
  refine And.intro (fun q => absurd q (by decide)) (fun _ => ?_)
  have rest : ∀ (g : Bool) (lo : Lo), g = (decide (a ≠ b) && gWi c 0 1) → glle [some gM0, some (gI a), some (gI b), some (gI c), none] lo → gT mX12_pact (d + 10) (0, 0) (fun v h' => v = [(xPact V a b c).2.1] ∧ ∃ I' L', h' = gH I' L' y ∧ mOut I L I' L' ∧ mR (xPact V a b c).2.2 I' L' ∧ I' 100 0 0 = (xPact V a b c).1) (fun _ _ => False) 51 lo [gI (gb g), gM0] (gH (u3 I 100 0 0 0) L y) (0, 0) := by
    intro g lo hg hl
    refine gT_lo _ hl ?_
    refine gT_go 400 [80] kX12_pact ?_
    refine gTM_use rfl (p_may (d + 8) V g 2 (by decide) 2 (by decide) _ L y hm0 u3_eq) (fun v h' q => ?_)
    rcases q with ⟨g4, rfl, rfl⟩ | ⟨g4, rfl, I', rfl, q1, q2, q3⟩
    rotate_left
    · refine And.intro (fun q => absurd rfl q) (fun _ => ?_)
      exact mGt_no (by unfold xPact; simp only [g1,g2,g3,← hg,g4, cond_true, cond_false] <;> rfl) q1 q2 q3
    refine And.intro (fun _ => ?_) (fun q => absurd q (by decide))
    have hx : xPact V a b c = (0, gL (wV V (gPct (gP0 V) (gTo a) (gTo b)) (gTo (if c = 0 then a else b)) - wV V (gP0 V) (gTo (if c = 0 then a else b))), V) := by unfold xPact; simp only [g1, g2, g3, ← hg, g4, cond_true]
    obtain ⟨i, rfl, hi⟩ := gWi_n rfl (by omega) g2
    obtain ⟨j, rfl, hj⟩ := gWi_n rfl (by omega) g3
    have ei : gTo (nI i) = i := gTo_n (by omega)
    have ej : gTo (nI j) = j := gTo_n (by omega)
    refine gTM_use rfl (p_keeps d V hw g1 _ L y hm0 u3_eq) (fun v h' q => ?_)
    obtain ⟨rfl, I1, L1, rfl, K1, hp1⟩ := q
    refine gTM_use rfl (p_agree (d + 1) V hw (gP0 V) rfl i j hi hj _ I1 L L1 y K1) (fun v h' q => ?_)
    obtain ⟨rfl, I2, L2, rfl, K2, hp2⟩ := q
    have ok : gPok (vA V) (gPct (gP0 V) i j) := K2.2.2.1.2.2.ok
    have fin : ∀ (k : Nat) (lo : Lo), k < vA V 2 → nI k = (if c = 0 then nI i else nI j) → glle [some gM0, some (gI (nI i)), some (gI (nI j)), some (gI c), none] lo → gT mX12_pact (d + 10) (0, 0) (fun v h' => v = [(xPact V (nI i) (nI j) c).2.1] ∧ ∃ I' L', h' = gH I' L' y ∧ mOut I L I' L' ∧ mR (xPact V (nI i) (nI j) c).2.2 I' L' ∧ I' 100 0 0 = (xPact V (nI i) (nI j) c).1) (fun _ _ => False) 80 lo [gI (nI k)] (gH I2 L2 y) (0, 0) := by
      intro k lo hk ek hl
      refine gT_lo _ hl ?_
      refine gT_go 400 [] kX12_pact ?_
      refine gP_use (p_now (d + 6) V (hw.2.1 g1) (vA V 4) (by omega) none _ ok k hk I2 L2 y hp2) ?_
      refine Exists.intro (k) (And.intro rfl (And.intro (show _ < 5 by omega) ?_))
      have b1 : L2 147 0 k = wV V (gP0 V) k := K2.2.2.2.1 k hk
      refine mDone (o2 := (0, gL (wV V (gPct (gP0 V) i j) k - wV V (gP0 V) k), V)) (by rw [hx, ← ek, ei, ej, gTo_n (by omega)]) ?_ K2.1 K2.2.1 K2.2.2.2.2
      show gL (wS V (vA V 4) none (gPct (gP0 V) i j) k - L2 147 0 k) = _
      rw [b1]
    refine And.intro (fun q => ?_) (fun q => ?_)
    · exact fin j _ hj (by rw [if_neg (show ¬ c = 0 from q)]) (by (repeat' apply And.intro) <;> first | rfl | trivial | exact congrArg Sum.inl (nI_1 _).symm | exact congrArg Sum.inl (nI_1 _).symm)
    · exact fin i _ hi (by rw [if_pos (show c = 0 from q)]) (by (repeat' apply And.intro) <;> first | rfl | trivial | exact congrArg Sum.inl (nI_1 _).symm | exact congrArg Sum.inl (nI_1 _).symm)
  refine And.intro (fun q => ?_) (fun q => ?_)
  · exact rest false _ (by rw [decide_eq_false (fun w => w q)] <;> rfl) (by (repeat' apply And.intro) <;> first | rfl | trivial | exact congrArg Sum.inl (nI_1 _).symm | exact congrArg Sum.inl (nI_1 _).symm)
  · have e : decide (a ≠ b) = true := decide_eq_true q
    refine gP_use (p_within (d + 8) c 0 1 _) ?_
    refine bB0 _ rfl (fun w => ?_) (fun w => ?_)
    · exact rest false _ (by rw [e, w] <;> rfl) (by (repeat' apply And.intro) <;> first | rfl | trivial | exact congrArg Sum.inl (nI_1 _).symm | exact congrArg Sum.inl (nI_1 _).symm)
    · exact rest true _ (by rw [e, w] <;> rfl) (by (repeat' apply And.intro) <;> first | rfl | trivial | exact congrArg Sum.inl (nI_1 _).symm | exact congrArg Sum.inl (nI_1 _).symm)
