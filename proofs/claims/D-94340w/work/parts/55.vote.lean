/-! ===== pacts that hold, votes, without a rule ===== -/
noncomputable def cHolds (V : VS) (a b : Nat) : Bool :=
  decide (a < b) && (decide (wV V (gP0 V) a < wV V (gPct (gP0 V) a b) a) && decide (wV V (gP0 V) b < wV V (gPct (gP0 V) a b) b))
noncomputable def xHolds (V : VS) : Int32 × AV × VS := bif vL V then (0, gI (gF2 (vA V 2) (vA V 2) (cHolds V) (fun a b => 10 * a + b)), V) else (1, gI 0, xRef V 3)
set_option maxRecDepth 100000 in
theorem c_holds (V : VS) (hw : gWf V) : mC mX12_holds_2 10 [] V (xHolds V) := by
  intro d I L y hm
  have hm0 := mR_thr hm 0
  have a2 := hw.1.2.2.1
  have a4 := hw.1.2.2.2.2.1
  refine gEnter 400 [21] kX12_holds_2 rfl rfl ?_
  refine gTM_use rfl (p_isHere (d + 7) V 1 (by decide) _ L y hm0 u3_eq) (fun v h' q => ?_)
  rcases q with ⟨g1, rfl, rfl⟩ | ⟨g1, rfl, I', rfl, q1, q2, q3⟩
  rotate_left
  · refine And.intro (fun q => absurd rfl q) (fun _ => ?_)
    exact mGt_no (by unfold xHolds; simp only [g1, cond_true, cond_false] <;> rfl) q1 q2 q3
  refine And.intro (fun _ => ?_) (fun q => absurd q (by decide))
  have hA := hw.2.1 g1
  refine gTM_use rfl (p_keeps d V hw g1 _ L y hm0 u3_eq) (fun v h' q => ?_)
  obtain ⟨rfl, I1, L1, rfl, K1, hp1⟩ := q
  refine gT_for (σ := (Nat → Nat → Nat → Int32) × (Nat → Nat → Nat → Int64)) (pc := 21) (lo := fun i _ => [some gM0, some (gI (nI i)), none]) (hp := fun _ x => gH x.1 x.2 y)
    (Inv := fun i x => mK V (gP0 V) (u3 I 100 0 0 0) L x.1 x.2 ∧ ∀ a b, a < i → b < vA V 2 → cHolds V a b = false) (vA V 2) ?_ ?_ 0 (I1, L1) (Nat.zero_le _) ⟨K1, fun h k hh _ => absurd hh (Nat.not_lt_zero _)⟩ (by (repeat' apply And.intro) <;> first | rfl | trivial | exact congrArg Sum.inl (nI_1 _).symm | exact congrArg Sum.inl (nI_1 _).symm)
  · intro x ⟨K, x2⟩
    refine gT_go 400 [21] kX12_holds_2 ?_
    refine Exists.intro (2) (And.intro rfl (And.intro (show _ < 708 by omega) ?_))
    refine bGe (vA V 2) (vA V 2) rfl (K.2.1.1 2 (by omega)) (fun c => ?_) (fun c => absurd c (by omega))
    exact mDone (o2 := (0, gI (-1), V)) (by unfold xHolds; rw [g1, gF2_none x2] <;> rfl) rfl K.1 K.2.1 K.2.2.2.2
  · intro a x ha ⟨K, x2⟩ hnexta
    refine gT_go 400 [21, 35] kX12_holds_2 ?_
    refine Exists.intro (2) (And.intro rfl (And.intro (show _ < 708 by omega) ?_))
    refine bGe a (vA V 2) rfl (K.2.1.1 2 (by omega)) (fun c => absurd c (by omega)) (fun c => ?_)
    refine gT_for (σ := (Nat → Nat → Nat → Int32) × (Nat → Nat → Nat → Int64)) (pc := 35) (lo := fun i _ => [some gM0, some (gI (nI a)), some (gI (nI i))]) (hp := fun _ x => gH x.1 x.2 y)
      (Inv := fun i x => mK V (gP0 V) (u3 I 100 0 0 0) L x.1 x.2 ∧ (∀ b, b < i → cHolds V a b = false) ∧ a < i) (vA V 2) ?_ ?_ (a + 1) x (by omega) ⟨K, fun b hb => by unfold cHolds; rw [decide_eq_false (by omega)]; rfl, Nat.lt_succ_self a⟩ (by (repeat' apply And.intro) <;> first | rfl | trivial | exact congrArg Sum.inl (nI_1 _).symm | exact congrArg Sum.inl (nI_1 _).symm)
    · intro x ⟨K, x3, _⟩
      refine gT_go 400 [21, 35] kX12_holds_2 ?_
      refine Exists.intro (2) (And.intro rfl (And.intro (show _ < 708 by omega) ?_))
      refine bGe (vA V 2) (vA V 2) rfl (K.2.1.1 2 (by omega)) (fun c => ?_) (fun c => absurd c (by omega))
      refine hnexta x _ ⟨K, fun h' k hh' hk => ?_⟩ (by (repeat' apply And.intro) <;> first | rfl | trivial | exact congrArg Sum.inl (nI_1 _).symm | exact congrArg Sum.inl (nI_1 _).symm)
      rcases Nat.lt_or_ge h' a with q | q
      · exact x2 h' k q hk
      · have : h' = a := by omega
        subst this; exact x3 k hk
    · intro b x hb ⟨K, x3, hab⟩ hnextb
      have ext : ∀ (x' : (Nat → Nat → Nat → Int32) × (Nat → Nat → Nat → Int64)), mK V (gP0 V) (u3 I 100 0 0 0) L x'.1 x'.2 → cHolds V a b = false → mK V (gP0 V) (u3 I 100 0 0 0) L x'.1 x'.2 ∧ (∀ j, j < b + 1 → cHolds V a j = false) ∧ a < b + 1 := fun x' K' e => ⟨K', fun j hj => by
        rcases Nat.lt_or_ge j b with q | q
        · exact x3 j q
        · have : j = b := by omega
          subst this; exact e, by omega⟩
      refine gT_go 400 [35] kX12_holds_2 ?_
      refine Exists.intro (2) (And.intro rfl (And.intro (show _ < 708 by omega) ?_))
      refine bGe b (vA V 2) rfl (K.2.1.1 2 (by omega)) (fun c => absurd c (by omega)) (fun c => ?_)
      refine gTM_use rfl (p_agree (d + 1) V hw (gP0 V) rfl a b ha hb _ x.1 L x.2 y K) (fun v h' q => ?_)
      obtain ⟨rfl, I2, L2, rfl, K2, hp2⟩ := q
      have ok : gPok (vA V) (gPct (gP0 V) a b) := K2.2.2.1.2.2.ok
      have eb : L2 147 0 a = wV V (gP0 V) a := K2.2.2.2.1 a ha
      have eb2 : L2 147 0 b = wV V (gP0 V) b := K2.2.2.2.1 b hb
      refine gP_use (p_now (d + 6) V hA (vA V 4) (by omega) none _ ok a ha I2 L2 y hp2) ?_
      refine Exists.intro (a) (And.intro rfl (And.intro (show _ < 5 by omega) ?_))
      refine bcLe (fun c2 => ?_) (fun c2 => ?_)
      · have c2' : ¬ wV V (gP0 V) a < wV V (gPct (gP0 V) a b) a := by rw [← eb]; exact c2
        exact hnextb (I2, L2) _ (ext _ K2 (by unfold cHolds; rw [decide_eq_false c2']; simp)) (by (repeat' apply And.intro) <;> first | rfl | trivial | exact congrArg Sum.inl (nI_1 _).symm | exact congrArg Sum.inl (nI_1 _).symm)
      · have c2' : wV V (gP0 V) a < wV V (gPct (gP0 V) a b) a := by rw [← eb]; exact c2
        refine gP_use (p_now (d + 6) V hA (vA V 4) (by omega) none _ ok b hb I2 L2 y hp2) ?_
        refine Exists.intro (b) (And.intro rfl (And.intro (show _ < 5 by omega) ?_))
        refine bcLe (fun c3 => ?_) (fun c3 => ?_)
        · have c3' : ¬ wV V (gP0 V) b < wV V (gPct (gP0 V) a b) b := by rw [← eb2]; exact c3
          exact hnextb (I2, L2) _ (ext _ K2 (by unfold cHolds; rw [decide_eq_false c3']; simp)) (by (repeat' apply And.intro) <;> first | rfl | trivial | exact congrArg Sum.inl (nI_1 _).symm | exact congrArg Sum.inl (nI_1 _).symm)
        · have c3' : wV V (gP0 V) b < wV V (gPct (gP0 V) a b) b := by rw [← eb2]; exact c3
          have ok2 : cHolds V a b = true := by unfold cHolds; rw [decide_eq_true hab, decide_eq_true c2', decide_eq_true c3'] <;> rfl
          refine mDone (o2 := (0, gI (nI (10 * a + b)), V)) (by unfold xHolds; rw [g1, gF2_some ha hb ok2 x2 x3] <;> rfl) ?_ K2.1 K2.2.1 K2.2.2.2.2
          rw [← nI_add, ← pk_mul] <;> rfl
/-- all are voted on -/
def gVot (P : PP) : PP := (P.1, P.2.1, P.2.2.1, true, P.2.2.2.2)
noncomputable def xVote (V : VS) : Int32 × AV × VS := bif vL V then (0, gL (wSum V (vA V 4) none (gVot (gP0 V))), V) else (1, gL 0, xRef V 3)
set_option maxRecDepth 100000 in
theorem c_vote (V : VS) (hw : gWf V) : mC mX12_vote 8 [] V (xVote V) := by
  intro d I L y hm
  have hm0 := mR_thr hm 0
  have a4 := hw.1.2.2.2.2.1
  refine gEnter 400 [] kX12_vote rfl rfl ?_
  refine gTM_use rfl (p_isHere (d + 5) V 1 (by decide) _ L y hm0 u3_eq) (fun v h' q => ?_)
  rcases q with ⟨g1, rfl, rfl⟩ | ⟨g1, rfl, I', rfl, q1, q2, q3⟩
  rotate_left
  · refine And.intro (fun q => absurd rfl q) (fun _ => ?_)
    exact mGt_no (by unfold xVote; simp only [g1, cond_true, cond_false] <;> rfl) q1 q2 q3
  refine And.intro (fun _ => ?_) (fun q => absurd q (by decide))
  refine gTM_use rfl (p_setUp d V hw g1 _ L y hm0) (fun v h' q => ?_)
  obtain ⟨rfl, I1, L1, rfl, o1, m1, u1, t1, k1⟩ := q
  refine And.intro (Or.inr rfl) ?_
  obtain ⟨v1, v2, P1, P2, P3, P4, P5⟩ := id u1
  have h35 := m1.2.2.2.2.2.2.2.2.2.2.2.2.2.1
  have e : ∀ q, q ≠ 100 → u3 I1 100 0 35 1 q = I1 q := fun q hq => u3_ne1 hq
  have U2 : mU V (vA V 4) none (gVot (gP0 V)) (u3 I1 100 0 35 1) L1 := ⟨v1, gKn_cg (e 136 (by decide)) (e 142 (by decide)) rfl rfl v2, by rw [e 129 (by decide)]; exact P1, by rw [e 130 (by decide)]; exact P2, P3, rfl, by rw [e 125 (by decide)]; exact P5⟩
  refine gTM_use rfl (p_playsU d V hw (vA V 4) (by omega) none (gVot (gP0 V)) _ L1 y (show gLx (u3 I1 100 0 35 1) (vA V) from fun j hj => by rw [e 110 (by decide)]; exact m1.1 j hj) U2) (fun v h' q => ?_)
  obtain ⟨rfl, I3, L3, rfl, f, hp⟩ := q
  refine And.intro (Or.inl rfl) ?_
  have e4 : ∀ q, q ≠ 100 → u3 I3 100 0 35 0 q = I3 q := fun q hq => u3_ne1 hq
  have e5 : ∀ k, u3 I3 100 0 35 0 100 0 k = I1 100 0 k := by
    intro k
    by_cases q : k = 35
    · subst q; exact u3_eq.trans h35.symm
    · refine (u3_ne3 q).trans ?_
      rw [f.1 100 (by decide) (by decide)]
      exact u3_ne3 q
  have e6 : ∀ q, q ≠ 137 → q ≠ 143 → q ≠ 100 → u3 I3 100 0 35 0 q = I1 q := fun q h1 h2 h3 => (e4 q h3).trans ((f.1 q h1 h2).trans (e q h3))
  have hp4 : mP V (vA V 4) none (gVot (gP0 V)) (u3 I3 100 0 35 0) L3 := mP_cg (e4 110 (by decide)) rfl (e4 137 (by decide)) rfl rfl rfl hp
  refine gP_use (p_nowAll (d + 3) V (hw.2.1 g1) (vA V 4) (by omega) none _ U2.2.2.ok _ L3 y hp4) ?_
  refine mDone (I' := u3 I3 100 0 35 0) (o2 := (0, gL (wSum V (vA V 4) none (gVot (gP0 V))), V)) (by unfold xVote; simp only [g1, cond_true]) rfl (o1.tr (fun q hq => ⟨e6 q (by omega) (by omega) (by omega), f.2 q (by omega) (by omega)⟩)) ?_ ((e5 0).trans (t1.trans u3_eq))
  refine mR_cg ⟨?_, ?_, ?_, ?_, ?_, ?_, ?_, ?_, ?_, ?_, ?_, f.2 138 (by decide) (by decide), f.2 140 (by decide) (by decide), fun k _ => e5 k⟩ m1 <;> exact e6 _ (by decide) (by decide) (by decide)
/-- nothing is known any more -/
theorem mR_unk {V : VS} {I I' : Nat → Nat → Nat → Int32} {L L' : Nat → Nat → Nat → Int64} (m1 : I' 101 = I 101) (m2 : I' 109 = I 109) (m3 : I' 110 = I 110) (m4 : I' 115 = I 115) (m5 : I' 116 = I 116) (m6 : I' 119 = I 119) (m7 : I' 120 = I 120) (m8 : I' 125 = I 125) (m9 : I' 126 = I 126)
    (m14 : ∀ k, k = 2 ∨ k = 8 ∨ k = 12 ∨ k = 13 ∨ k = 27 ∨ k = 32 ∨ k = 33 ∨ k = 34 ∨ k = 35 → I' 100 0 k = I 100 0 k) (h28 : I' 100 0 28 = 0) (H : mR V I L) : mR V I' L' := by
  obtain ⟨h1, h2, h3, h4, h5, h6, h7, h8, h9, h10, h11, h12, h13, h14, kn, h15, h16⟩ := H
  exact ⟨fun j hj => by rw [m3]; exact h1 j hj, by rw [m14 12 (by omega)]; exact h2, gRm_cg m4 m5 m6 m7 (m14 13 (by omega)) h3, fun j hj => by rw [m8]; exact h4 j hj, by rw [m14 27 (by omega)]; exact h5, fun k j hk hj => by rw [m9]; exact h6 k j hk hj, fun k hk => by rw [m1]; exact h7 k hk, by rw [m14 2 (by omega)]; exact h8, fun j hj => by rw [m2]; exact h9 j hj, by rw [m14 8 (by omega)]; exact h10, by rw [m14 32 (by omega)]; exact h11, by rw [m14 33 (by omega)]; exact h12, by rw [m14 34 (by omega)]; exact h13, by rw [m14 35 (by omega)]; exact h14, false, h28, fun q => by cases q⟩
noncomputable def xWithout (V : VS) (a b : Int32) : Int32 × AV × VS :=
  bif vL V then (bif gOne (vA V) b then (bif gWi a 0 (nI (vR V).length - 1) then (0, gL (wTo V (vA V 4) (some (gTo a)) (gP0 V) (tOne b) - wTo V (vA V 4) none (gP0 V) (tOne b)), V) else (2, gL 0, xRef V 1)) else (1, gL 0, xRef V 0)) else (3, gL 0, xRef V 3)
set_option maxRecDepth 100000 in
theorem c_without (V : VS) (hw : gWf V) (a b : Int32) : mC mX12_without 9 [gI a, gI b] V (xWithout V a b) := by
  intro d I L y hm
  have hm0 := mR_thr hm 0
  have a2 := hw.1.2.2.1
  have a4 := hw.1.2.2.2.2.1
  have hR := hm0.2.2.1
  refine gEnter 400 [] kX12_without rfl rfl ?_
  refine gTM_use rfl (p_isHere (d + 6) V 3 (by decide) _ L y hm0 u3_eq) (fun v h' q => ?_)
  rcases q with ⟨g1, rfl, rfl⟩ | ⟨g1, rfl, I', rfl, q1, q2, q3⟩
  rotate_left
  · refine And.intro (fun _ => ?_) (fun q => absurd rfl q)
    exact mGt_no (by unfold xWithout; simp only [g1, cond_true, cond_false] <;> rfl) q1 q2 q3
  refine And.intro (fun q => absurd q (by decide)) (fun _ => ?_)
  refine gTM_use rfl (p_isPersonOrNone (d + 5) V b 1 (by decide) _ L y hm0 u3_eq) (fun v h' q => ?_)
  rcases q with ⟨g2, rfl, rfl⟩ | ⟨g2, rfl, I', rfl, q1, q2, q3⟩
  rotate_left
  · refine And.intro (fun _ => ?_) (fun q => absurd rfl q)
    exact mGt_no (by unfold xWithout; simp only [g1,g2, cond_true, cond_false] <;> rfl) q1 q2 q3
  refine And.intro (fun q => absurd q (by decide)) (fun _ => ?_)
  refine gP_use (gP_eq (by rw [← hR.1] <;> rfl) (p_within (d + 7) a 0 (nI (vR V).length - 1) _)) ?_
  refine gTM_use rfl (p_may (d + 7) V _ 2 (by decide) 1 (by decide) _ L y hm0 u3_eq) (fun v h' q => ?_)
  rcases q with ⟨g3, rfl, rfl⟩ | ⟨g3, rfl, I', rfl, q1, q2, q3⟩
  rotate_left
  · refine And.intro (fun q => absurd rfl q) (fun _ => ?_)
    exact mGt_no (by unfold xWithout; simp only [g1,g2,g3, cond_true, cond_false] <;> rfl) q1 q2 q3
  refine And.intro (fun _ => ?_) (fun q => absurd q (by decide))
  obtain ⟨eb, ek⟩ := tOne_ok hw.1 g2
  obtain ⟨r, rfl, hr⟩ := gWi_n rfl (by have := hR.2.1; omega) g3
  have er : gTo (nI r) = r := gTo_n (by have := hR.2.1; omega)
  have hA := hw.2.1 g1
  have hr10 : r < 10 := by have := hR.2.1; omega
  refine gTM_use rfl (p_asItIs d V hw g1 _ L y hm0) (fun v h' q => ?_)
  obtain ⟨rfl, I1, L1, rfl, o1, m1, u1, hp1, t1, k1⟩ := q
  refine gP_use (gP_eq (by rw [← eb] <;> rfl) (p_nowTo (d + 3) V hA (vA V 4) (by omega) none _ u1.2.2.ok (tOne b) ek I1 L1 y hp1)) ?_
  have e : ∀ q, q ≠ 100 → u3 I1 100 0 32 (nI r) q = I1 q := fun q hq => u3_ne1 hq
  refine gTM_use rfl (p_learns (d + 2) (vA V) (u3 I1 100 0 32 (nI r)) (fun j hj => by rw [e 110 (by decide)]; exact m1.1 j hj) hw.1 (vA V 4) u1.1 (by omega) (vR V) (gRm_cg (e 115 (by decide)) (e 116 (by decide)) (e 119 (by decide)) (e 120 (by decide)) rfl m1.2.2.1) (some r) rfl (fun k hk => by injection hk with hk; omega) L1 y) (fun v h' q => ?_)
  obtain ⟨rfl, I2, L2, rfl, f1, f2, f3⟩ := q
  have f100 : I2 100 = u3 I1 100 0 32 (nI r) 100 := f1 100 (by decide) (by decide) (by decide) (by decide)
  have g4 : ∀ q, q ≠ 100 → q ≠ 123 → q ≠ 124 → q ≠ 136 → q ≠ 142 → I2 q = I1 q := fun q h0 h1 h2 h3 h4 => (f1 q h1 h2 h3 h4).trans (e q h0)
  have U2 : mU V (vA V 4) (some r) (gP0 V) I2 L2 := ⟨by rw [f100]; exact u1.1, f3, gPf_cg (g4 129 (by decide) (by decide) (by decide) (by decide) (by decide)) (g4 130 (by decide) (by decide) (by decide) (by decide) (by decide)) (by rw [f100] <;> rfl) (by rw [f100] <;> rfl) (by rw [f100] <;> rfl) (g4 125 (by decide) (by decide) (by decide) (by decide) (by decide)) u1.2.2⟩
  refine gTM_use rfl (p_playsU (d + 1) V hw (vA V 4) (by omega) (some r) (gP0 V) I2 L2 y (fun j hj => by rw [g4 110 (by decide) (by decide) (by decide) (by decide) (by decide)]; exact m1.1 j hj) U2) (fun v h' q => ?_)
  obtain ⟨rfl, I3, L3, rfl, f, hp3⟩ := q
  refine And.intro (Or.inl rfl) ?_
  have e4 : ∀ q, q ≠ 100 → u3 (u3 I3 100 0 32 (-1)) 100 0 28 0 q = I3 q := fun q hq => (u3_ne1 hq).trans (u3_ne1 hq)
  have h32 := m1.2.2.2.2.2.2.2.2.2.2.1
  have e5 : ∀ k, k ≠ 28 → u3 (u3 I3 100 0 32 (-1)) 100 0 28 0 100 0 k = I1 100 0 k := by
    intro k hk
    refine (u3_ne3 hk).trans ?_
    by_cases q : k = 32
    · subst q; exact u3_eq.trans h32.symm
    · refine (u3_ne3 q).trans ?_
      rw [f.1 100 (by decide) (by decide), f100]
      exact u3_ne3 q
  have e6 : ∀ q, q ≠ 137 → q ≠ 143 → q ≠ 100 → q ≠ 123 → q ≠ 124 → q ≠ 136 → q ≠ 142 → u3 (u3 I3 100 0 32 (-1)) 100 0 28 0 q = I1 q := fun q h1 h2 h3 h4 h5 h6 h7 => (e4 q h3).trans ((f.1 q h1 h2).trans (g4 q h3 h4 h5 h6 h7))
  have hp4 : mP V (vA V 4) (some r) (gP0 V) (u3 (u3 I3 100 0 32 (-1)) 100 0 28 0) L3 := mP_cg (e4 110 (by decide)) rfl (e4 137 (by decide)) rfl rfl rfl hp3
  refine gP_use (gP_eq (by rw [← eb] <;> rfl) (p_nowTo (d + 3) V hA (vA V 4) (by omega) (some r) _ U2.2.2.ok (tOne b) ek _ L3 y hp4)) ?_
  refine mDone (I' := u3 (u3 I3 100 0 32 (-1)) 100 0 28 0) (o2 := (0, gL (wTo V (vA V 4) (some r) (gP0 V) (tOne b) - wTo V (vA V 4) none (gP0 V) (tOne b)), V)) (by unfold xWithout; simp only [g1, g2, g3, cond_true]; rw [er]) rfl (o1.tr (fun q hq => ⟨e6 q (by omega) (by omega) (by omega) (by omega) (by omega) (by omega) (by omega), (f.2 q (by omega) (by omega)).trans (f2 q (by omega) (by omega))⟩)) ?_ ((e5 0 (by decide)).trans (t1.trans u3_eq))
  refine mR_unk ?_ ?_ ?_ ?_ ?_ ?_ ?_ ?_ ?_ (fun k hk => e5 k (by omega)) rfl m1
  all_goals exact e6 _ (by decide) (by decide) (by decide) (by decide) (by decide) (by decide) (by decide)
