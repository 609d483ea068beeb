/-! ===== stores that are needed ===== -/
noncomputable def cNeed (V : VS) (i : Nat) : Bool := decide (fAl (vA V) (i + 1) (wMf V (i + 1) (gP0 V)) 1 (vA V 3 + 1) = gSc (vA V) 0)
noncomputable def xNeeds (V : VS) : Int32 × AV × VS := bif vL V then (0, gI (gOI1 (gFst (cNeed V) 12)), V) else (1, gI 0, xRef V 3)
set_option maxRecDepth 100000 in
theorem c_needs (V : VS) (hw : gWf V) : mC mX12_needs 8 [] V (xNeeds V) := by
  intro d I L y hm
  have hm0 := mR_thr hm 0
  have a3 := hw.1.2.2.2.1
  have a4 := hw.1.2.2.2.2.1
  refine gEnter 400 [23] kX12_needs rfl rfl ?_
  refine gTM_use rfl (p_isHere (d + 5) V 1 (by decide) _ L y hm0 u3_eq) (fun v h' q => ?_)
  rcases q with ⟨g1, rfl, rfl⟩ | ⟨g1, rfl, I', rfl, q1, q2, q3⟩
  rotate_left
  · refine And.intro (fun q => absurd rfl q) (fun _ => ?_)
    exact mGt_no (by unfold xNeeds; simp only [g1, cond_true, cond_false] <;> rfl) q1 q2 q3
  refine And.intro (fun _ => ?_) (fun q => absurd q (by decide))
  have hA := hw.2.1 g1
  refine gTM_use rfl (p_setUp d V hw g1 _ L y hm0) (fun v h' q => ?_)
  obtain ⟨rfl, I1, L1, rfl, o1, m1, u1, t1, k1⟩ := q
  have fin : ∀ (z : Nat → Nat → Nat → Int32) (zL : Nat → Nat → Nat → Int64) (r : Int32), (∀ b, b ≠ 100 → b ≠ 123 → b ≠ 124 → b ≠ 136 → b ≠ 137 → b ≠ 142 → b ≠ 143 → z b = I1 b) → (∀ k, k ≠ 31 → z 100 0 k = I1 100 0 k) → (∀ b, (b < 100 ∨ 160 ≤ b) → zL b = L1 b) → r = gOI1 (gFst (cNeed V) 12) →
      [gI r] = [(xNeeds V).2.1] ∧ ∃ I' L', gH (u3 z 100 0 28 0) zL y = gH I' L' y ∧ mOut I L I' L' ∧ mR (xNeeds V).2.2 I' L' ∧ I' 100 0 0 = (xNeeds V).1 := by
    intro z zL r z1 z2 z3 hr
    have e : ∀ b, b ≠ 100 → b ≠ 123 → b ≠ 124 → b ≠ 136 → b ≠ 137 → b ≠ 142 → b ≠ 143 → u3 z 100 0 28 0 b = I1 b := fun b h1 h2 h3 h4 h5 h6 h7 => (u3_ne1 h1).trans (z1 b h1 h2 h3 h4 h5 h6 h7)
    have e1 : ∀ k, k ≠ 28 → k ≠ 31 → u3 z 100 0 28 0 100 0 k = I1 100 0 k := fun k h1 h2 => (u3_ne3 h1).trans (z2 k h2)
    refine mDone (I' := u3 z 100 0 28 0) (o2 := (0, gI (gOI1 (gFst (cNeed V) 12)), V)) (by unfold xNeeds; rw [g1] <;> rfl) (by rw [hr]) (o1.tr (fun b hb => ⟨e b (by omega) (by omega) (by omega) (by omega) (by omega) (by omega) (by omega), z3 b hb⟩)) ?_ ((e1 0 (by decide) (by decide)).trans (t1.trans u3_eq))
    refine mR_unk ?_ ?_ ?_ ?_ ?_ ?_ ?_ ?_ ?_ (fun k hk => e1 k (by omega) (by omega)) rfl m1
    all_goals exact e _ (by decide) (by decide) (by decide) (by decide) (by decide) (by decide) (by decide)
  refine gT_for (σ := (Nat → Nat → Nat → Int32) × (Nat → Nat → Nat → Int64)) (pc := 23) (lo := fun i _ => [some gM0, some (gI (-1)), some (gI (nI (i + 1)))]) (hp := fun _ z => gH z.1 z.2 y)
    (Inv := fun i z => (∀ b, b ≠ 100 → b ≠ 123 → b ≠ 124 → b ≠ 136 → b ≠ 137 → b ≠ 142 → b ≠ 143 → z.1 b = I1 b) ∧ (∀ k, k ≠ 31 → z.1 100 0 k = I1 100 0 k) ∧ (∀ b, (b < 100 ∨ 160 ≤ b) → z.2 b = L1 b) ∧ ∀ j, j < i → cNeed V j = false) 12 ?_ ?_ 0 (I1, L1) (Nat.zero_le _) ⟨fun _ _ _ _ _ _ _ _ => rfl, fun _ _ => rfl, fun _ _ => rfl, fun j hj => absurd hj (Nat.not_lt_zero _)⟩ (by (repeat' apply And.intro) <;> first | rfl | trivial | exact congrArg Sum.inl (nI_1 _).symm | exact congrArg Sum.inl (nI_1 _).symm)
  · intro z ⟨z1, z2, z3, z4⟩
    refine gT_go 400 [] kX12_needs ?_
    refine bGt 13 12 rfl rfl (fun _ => ?_) (fun q => absurd q (by omega))
    refine And.intro (Or.inl rfl) ?_
    exact fin z.1 z.2 _ z1 z2 z3 (by rw [gFst_none _ z4] <;> rfl)
  · intro i z hi ⟨z1, z2, z3, z4⟩ hnext
    have e : ∀ b, b ≠ 100 → u3 z.1 100 0 31 (nI (i + 1)) b = z.1 b := fun b hb => u3_ne1 hb
    have e1 : ∀ k, k ≠ 31 → u3 z.1 100 0 31 (nI (i + 1)) 100 0 k = I1 100 0 k := fun k hk => (u3_ne3 hk).trans (z2 k hk)
    have zb : ∀ b, b ≠ 100 → b ≠ 123 → b ≠ 124 → b ≠ 136 → b ≠ 137 → b ≠ 142 → b ≠ 143 → u3 z.1 100 0 31 (nI (i + 1)) b = I1 b := fun b h1 h2 h3 h4 h5 h6 h7 => (e b h1).trans (z1 b h1 h2 h3 h4 h5 h6 h7)
    have g110 : gLx (u3 z.1 100 0 31 (nI (i + 1))) (vA V) := fun j hj => by rw [zb 110 (by decide) (by decide) (by decide) (by decide) (by decide) (by decide) (by decide)]; exact m1.1 j hj
    have gR : gRm (vR V) (u3 z.1 100 0 31 (nI (i + 1))) := gRm_cg (zb 115 (by decide) (by decide) (by decide) (by decide) (by decide) (by decide) (by decide)) (zb 116 (by decide) (by decide) (by decide) (by decide) (by decide) (by decide) (by decide)) (zb 119 (by decide) (by decide) (by decide) (by decide) (by decide) (by decide) (by decide)) (zb 120 (by decide) (by decide) (by decide) (by decide) (by decide) (by decide) (by decide)) (e1 13 (by decide)) m1.2.2.1
    have h32 := m1.2.2.2.2.2.2.2.2.2.2.1
    refine gT_go 400 [23] kX12_needs ?_
    refine bGt (i + 1) 12 rfl rfl (fun q => absurd q (by omega)) (fun _ => ?_)
    refine And.intro (fun q => absurd rfl q) (fun _ => ?_)
    refine gTM_use rfl (p_learns (d + 1) (vA V) (u3 z.1 100 0 31 (nI (i + 1))) g110 hw.1 (i + 1) u3_eq (by omega) (vR V) gR none ((e1 32 (by decide)).trans h32) (fun k hk => by cases hk) z.2 y) (fun v h' q => ?_)
    obtain ⟨rfl, I2, L2, rfl, f1, f2, f3⟩ := q
    have f100 : I2 100 = u3 z.1 100 0 31 (nI (i + 1)) 100 := f1 100 (by decide) (by decide) (by decide) (by decide)
    have fb : ∀ b, b ≠ 100 → b ≠ 123 → b ≠ 124 → b ≠ 136 → b ≠ 137 → b ≠ 142 → b ≠ 143 → I2 b = I1 b := fun b h1 h2 h3 h4 h5 h6 h7 => (f1 b h2 h3 h4 h6).trans (zb b h1 h2 h3 h4 h5 h6 h7)
    have U2 : mU V (i + 1) none (gP0 V) I2 L2 := ⟨by rw [f100]; exact u3_eq, f3, gPf_cg (fb 129 (by decide) (by decide) (by decide) (by decide) (by decide) (by decide) (by decide)) (fb 130 (by decide) (by decide) (by decide) (by decide) (by decide) (by decide) (by decide)) (by rw [f100]; exact e1 33 (by decide)) (by rw [f100]; exact e1 34 (by decide)) (by rw [f100]; exact e1 35 (by decide)) (fb 125 (by decide) (by decide) (by decide) (by decide) (by decide) (by decide) (by decide)) u1.2.2⟩
    have l2 : gLx I2 (vA V) := fun j hj => by rw [fb 110 (by decide) (by decide) (by decide) (by decide) (by decide) (by decide) (by decide)]; exact m1.1 j hj
    refine gTM_use rfl (p_playsU d V hw (i + 1) (by omega) none (gP0 V) I2 L2 y l2 U2) (fun v h' q => ?_)
    obtain ⟨rfl, I3, L3, rfl, f, hp3⟩ := q
    have U3 := f.mU U2
    refine gTM_use rfl (p_flows (d + 3) V hA (i + 1) (by omega) (gP0 V) I3 L3 y U3 hp3) (fun v h' q => ?_)
    obtain ⟨rfl, L4, rfl, f4, f5⟩ := q
    have sc : ∀ h, h ≤ vA V 3 → L4 138 0 h = gSc (vA V) h := fun h hh => by rw [f4 138 (by decide)]; exact U3.2.1.2.2.1 h hh
    refine gP_use (p_endedAll (d + 4) V hA (i + 1) (by omega) (wMf V (i + 1) (gP0 V)) 1 (by omega) I3 L4 y hp3.1 U3.1 sc f5) ?_
    refine Exists.intro (0) (And.intro rfl (And.intro (show _ < 25 by omega) ?_))
    rw [show hL (gH I3 L4 y) 138 0 0 = gSc (vA V) 0 from sc 0 (Nat.zero_le _)]
    have I3b : ∀ b, b ≠ 100 → b ≠ 123 → b ≠ 124 → b ≠ 136 → b ≠ 137 → b ≠ 142 → b ≠ 143 → I3 b = I1 b := fun b h1 h2 h3 h4 h5 h6 h7 => (f.1 b h5 h7).trans (fb b h1 h2 h3 h4 h5 h6 h7)
    have I3k : ∀ k, k ≠ 31 → I3 100 0 k = I1 100 0 k := fun k hk => by rw [f.1 100 (by decide) (by decide), f100]; exact e1 k hk
    have L4b : ∀ b, (b < 100 ∨ 160 ≤ b) → L4 b = L1 b := fun b hb => (f4 b (by omega)).trans ((f.2 b (by omega) (by omega)).trans ((f2 b (by omega) (by omega)).trans (z3 b hb)))
    refine And.intro (fun q => ?_) (fun q => ?_)
    · have ec : cNeed V i = false := decide_eq_false (fun w => q ((gcmp_eq _ _).mpr w))
      refine hnext (I3, L4) _ ⟨I3b, I3k, L4b, fun j hj => ?_⟩ (by (repeat' apply And.intro) <;> first | rfl | trivial | exact congrArg Sum.inl (nI_1 _).symm | exact congrArg Sum.inl (nI_1 _).symm)
      rcases Nat.lt_or_ge j i with w | w
      · exact z4 j w
      · have : j = i := by omega
        subst this; exact ec
    · have ec : cNeed V i = true := decide_eq_true ((gcmp_eq _ _).mp q)
      refine gT_go 400 [] kX12_needs ?_
      have er : nI (i + 1) = gOI1 (gFst (cNeed V) 12) := by rw [gFst_some ec z4 12 hi] <;> rfl
      refine And.intro (fun _ => ?_) (fun _ => ?_)
      · refine And.intro (Or.inl rfl) ?_
        exact fin I3 L4 _ I3b I3k L4b er
      · refine And.intro (fun _ => ?_) (fun w => absurd w (gOI_ne (by omega)))
        refine And.intro (Or.inl rfl) ?_
        exact fin I3 L4 _ I3b I3k L4b er
