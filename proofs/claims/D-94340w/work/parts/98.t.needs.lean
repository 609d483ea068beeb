/-! ===== public methods of the component: stores that are needed ===== -/
/-- while stores are tried -/
def cY (V : VS) (I : Nat → Nat → Nat → Int32) (L : Nat → Nat → Nat → Int64) (y : Dy) (J : Nat → Nat → Nat → Int32) (K : Nat → Nat → Nat → Int64) : Prop :=
  (∀ b, b ≠ 40 → b ≠ 60 → b ≠ 73 → b ≠ 86 → b ≠ 95 → b ≠ 160 → J b = I b) ∧ (∀ i k, ¬ (i = y.1 ∧ k = 4) → J 40 i k = I 40 i k) ∧ (∀ j, j ≠ 28 → j ≠ 29 → j ≠ 30 → j ≠ 31 → J 60 0 j = I 60 0 j) ∧ (∀ b, b ≠ 74 → b ≠ 84 → b ≠ 85 → b ≠ 161 → b ≠ 162 → b ≠ 163 → K b = L b)
theorem cLd_st {i S S' : Nat} {A : Nat → Nat} {I J : Nat → Nat → Nat → Int32} (e : ∀ b, b ≠ 40 → 40 ≤ b → b < 56 → J b = I b) (e2 : ∀ k, k ≠ 4 → J 40 i k = I 40 i k) (e4 : J 40 i 4 = nI S') (H : cLd i S A I) : cLd i S' A J := by
  obtain ⟨l1, l2, l5, l6, l7, l8, l9, l10, l11, sb, b1, b2⟩ := H
  refine ⟨fun k hk => (e2 k (by omega)).trans (l1 k hk), e4, (e2 5 (by decide)).trans l5, (e2 6 (by decide)).trans l6, ?_, ?_, ?_, ?_, ?_, sb, (e2 14 (by decide)).trans b1, b2⟩
  · rw [e 47 (by decide) (by decide) (by decide), e 48 (by decide) (by decide) (by decide)]; exact l7
  · rw [e 49 (by decide) (by decide) (by decide), e 50 (by decide) (by decide) (by decide)]; exact l8
  · rw [e 51 (by decide) (by decide) (by decide)]; exact l9
  · rw [e 55 (by decide) (by decide) (by decide)]; exact l10
  · rw [e 54 (by decide) (by decide) (by decide)]; exact l11
set_option maxRecDepth 100000 in
theorem c2_needs (V : VS) (hw : gWf V) : cC mX1_needs 610 (1, 6) [39] [] V (xNeeds V) := by
  intro d I L y H
  obtain ⟨o, ho⟩ : ∃ o, o = xNeeds V := ⟨_, rfl⟩
  rw [← ho]
  have a0 := hw.1.1
  have hS := vA4 hw
  refine gEnter 400 [1] kX1_needs rfl rfl ?_
  refine gT_gate 287 (1, 6) rfl rfl rfl rfl rfl dX1_needs_1 (o_mustLand (d + 603) V I L y H) rfl (by decide) (by decide) (fun q h' hx => cX_of (c := 0) (fun e => by rw [ho]; unfold xNeeds; rw [e]; exact ⟨rfl, rfl⟩) rfl hx) (fun g1 => ?_)
  have hA := hw.2.1 g1
  have h6 := hA.2.2.2.2.2.1
  have e4 := H.1.1.2.1
  have py := cPy_V hw g1 H.1
  obtain ⟨ht, ht6, hR⟩ := H.1.2.1
  obtain ⟨F, hF⟩ : ∃ F, F = cNeed V := ⟨_, rfl⟩
  have fin : ∀ (J : Nat → Nat → Nat → Int32) (K : Nat → Nat → Nat → Int64) (lo' : Lo), cY V I L y J K → glle [some gG0, some (gI (nI (vA V 4))), some (gI (gOI1 (gFst F 12))), none] lo' → gT mX1_needs (d + 610) (1, 6) (cQr o I L) (cQx [39] o I L) 74 lo' [] (gH J K y) (1, 6) := by
    intro J K lo' z hl'
    obtain ⟨z1, z2, z3, z4⟩ := z
    refine gT_lo _ hl' ?_
    refine gT_go 400 [] kX1_needs ?_
    refine gTM_use rfl (o_changes (d + 607) (u3 J 40 y.1 4 (nI (vA V 4))) K y) (fun v h' q => ?_)
    obtain ⟨rfl, rfl⟩ := q
    obtain ⟨W, hW⟩ : ∃ W, W = u3 (u3 (u3 (u3 (u3 J 40 y.1 4 (nI (vA V 4))) 60 0 28 0) 60 0 29 0) 60 0 30 0) 60 0 31 0 := ⟨_, rfl⟩
    rw [← hW]
    have w1 : ∀ b, b ≠ 40 → b ≠ 60 → W b = J b := fun b b1 b2 => by rw [hW, u3_ne1 b2, u3_ne1 b2, u3_ne1 b2, u3_ne1 b2, u3_ne1 b1]
    have w40 : ∀ i k, W 40 i k = u3 J 40 y.1 4 (nI (vA V 4)) 40 i k := fun i k => by rw [hW, u3_ne1 (by decide), u3_ne1 (by decide), u3_ne1 (by decide), u3_ne1 (by decide)]
    have w60 : ∀ j, j ≠ 28 → j ≠ 29 → j ≠ 30 → j ≠ 31 → W 60 0 j = I 60 0 j := fun j b1 b2 b3 b4 => by
      rw [hW]
      refine (u3_ne3 b4).trans ((u3_ne3 b3).trans ((u3_ne3 b2).trans ((u3_ne3 b1).trans ?_)))
      rw [u3_ne1 (by decide)]
      exact z3 j b1 b2 b3 b4
    have w28 : W 60 0 28 = 0 := by rw [hW]; exact (u3_ne3 (by decide)).trans ((u3_ne3 (by decide)).trans ((u3_ne3 (by decide)).trans u3_eq))
    have w29 : W 60 0 29 = 0 := by rw [hW]; exact (u3_ne3 (by decide)).trans ((u3_ne3 (by decide)).trans u3_eq)
    have w31 : W 60 0 31 = 0 := by rw [hW]; exact u3_eq
    have e0 : ∀ b, b ≠ 40 → b ≠ 60 → b ≠ 73 → b ≠ 86 → b ≠ 95 → b ≠ 160 → W b = I b := fun b b1 b2 b3 b4 b5 b6 => (w1 b b1 b2).trans (z1 b b1 b2 b3 b4 b5 b6)
    have all40 : W 40 = I 40 := by
      funext i k
      rw [w40]
      by_cases q : i = y.1 ∧ k = 4
      · obtain ⟨rfl, rfl⟩ := q
        exact u3_eq.trans e4.symm
      · exact (u3_ne (fun w => q ⟨w.2.1, w.2.2⟩)).trans (z2 i k q)
    refine cDone (V' := V) (by rw [ho]; unfold xNeeds; rw [g1, ← hF]; exact ⟨rfl, rfl, rfl⟩) (fun b b1 b2 => ⟨e0 b (by omega) (by omega) (by omega) (by omega) (by omega) (by omega), z4 b (by omega) (by omega) (by omega) (by omega) (by omega) (by omega)⟩) ⟨?_, false, false, false, w28, w29, w31, fun e => (by cases e), fun e => (by cases e), fun e => (by cases e)⟩
    refine cRb_cg ⟨fun b hb => ?_, fun j hj => w60 j (by omega) (by omega) (by omega) (by omega), rfl, rfl, fun _ _ => ⟨rfl, rfl⟩, fun _ _ => rfl⟩ H.1
    by_cases q : b = 40
    · rw [q]; exact all40
    · exact e0 b q (by omega) (by omega) (by omega) (by omega) (by omega)
  refine gT_go 400 [16] kX1_needs ?_
  refine gT_for (σ := (Nat → Nat → Nat → Int32) × (Nat → Nat → Nat → Int64)) (pc := 16) (lo := fun i _ => [some gG0, some (gI (nI (vA V 4))), some (gI (gOI1 (gFst F i))), some (gI (nI (i + 1)))]) (hp := fun _ x => gH x.1 x.2 y) (Inv := fun _ x => cY V I L y x.1 x.2) 12 ?_ ?_ 0 (I, L) (Nat.zero_le _) ⟨fun _ _ _ _ _ _ _ => rfl, fun _ _ _ => rfl, fun _ _ _ _ _ => rfl, fun _ _ _ _ _ _ _ => rfl⟩ ⟨rfl, congrArg (fun z => gI z) e4.symm, rfl, rfl, trivial⟩
  · intro x z
    refine gT_go 400 [74] kX1_needs ?_
    refine bGt 13 12 rfl rfl (fun _ => ?_) (fun q => absurd q (by decide))
    exact fin x.1 x.2 _ z (by (repeat' apply And.intro) <;> first | rfl | trivial | exact congrArg Sum.inl (nI_1 _).symm | exact congrArg Sum.inl (nI_1 _).symm)
  · intro i x hi z hnext
    refine gT_go 400 [67, 74] kX1_needs ?_
    refine bGt (i + 1) 12 rfl rfl (fun q => absurd q (by omega)) (fun _ => ?_)
    cases hg : gFst F i with
    | some j =>
      have hj : ∀ N, i ≤ N → gFst F N = some j := by
        intro N hN
        induction N with
        | zero => rw [show i = 0 by omega] at hg; exact hg
        | succ N ih =>
          rcases Nat.lt_or_ge i (N + 1) with w | w
          · rw [gFst, ih (by omega)]
          · rw [show N + 1 = i by omega]; exact hg
      have j12 : j < 12 := by
        have q := hj 12 (by omega)
        have aux : ∀ N j, gFst F N = some j → j < N := by
          intro N
          induction N with
          | zero => intro j h; cases h
          | succ N ih =>
            intro j h
            rw [gFst] at h
            cases hq : gFst F N with
            | some j' => rw [hq] at h; cases h; have := ih _ hq; omega
            | none =>
              rw [hq] at h
              cases hb : F N with
              | true => rw [hb] at h; cases h; omega
              | false => rw [hb] at h; cases h
        exact aux 12 j q
      refine And.intro (fun _ => ?_) (fun q => absurd (show nI (j + 1) = -1 from q) (gOI_ne (by omega)))
      refine fin x.1 x.2 _ z ?_
      rw [hj 12 (by omega)]
      exact (by (repeat' apply And.intro) <;> first | rfl | trivial | exact congrArg Sum.inl (nI_1 _).symm | exact congrArg Sum.inl (nI_1 _).symm)
    | none =>
      refine And.intro (fun q => absurd rfl q) (fun _ => ?_)
      obtain ⟨z1, z2, z3, z4⟩ := z
      refine gTM_use rfl (o_changes (d + 607) (u3 x.1 40 y.1 4 (nI (i + 1))) x.2 y) (fun v h' q => ?_)
      obtain ⟨rfl, rfl⟩ := q
      obtain ⟨W, hW⟩ : ∃ W, W = u3 (u3 (u3 (u3 (u3 x.1 40 y.1 4 (nI (i + 1))) 60 0 28 0) 60 0 29 0) 60 0 30 0) 60 0 31 0 := ⟨_, rfl⟩
      have w1 : ∀ b, b ≠ 40 → b ≠ 60 → W b = x.1 b := fun b b1 b2 => by rw [hW, u3_ne1 b2, u3_ne1 b2, u3_ne1 b2, u3_ne1 b2, u3_ne1 b1]
      have w40 : ∀ i' k, W 40 i' k = u3 x.1 40 y.1 4 (nI (i + 1)) 40 i' k := fun i' k => by rw [hW, u3_ne1 (by decide), u3_ne1 (by decide), u3_ne1 (by decide), u3_ne1 (by decide)]
      have w60 : ∀ j, j ≠ 28 → j ≠ 29 → j ≠ 30 → j ≠ 31 → W 60 0 j = I 60 0 j := fun j b1 b2 b3 b4 => by
        rw [hW]
        refine (u3_ne3 b4).trans ((u3_ne3 b3).trans ((u3_ne3 b2).trans ((u3_ne3 b1).trans ?_)))
        rw [u3_ne1 (by decide)]
        exact z3 j b1 b2 b3 b4
      have w28 : W 60 0 28 = 0 := by rw [hW]; exact (u3_ne3 (by decide)).trans ((u3_ne3 (by decide)).trans ((u3_ne3 (by decide)).trans u3_eq))
      have w29 : W 60 0 29 = 0 := by rw [hW]; exact (u3_ne3 (by decide)).trans ((u3_ne3 (by decide)).trans u3_eq)
      have w31 : W 60 0 31 = 0 := by rw [hW]; exact u3_eq
      have e0 : ∀ b, b ≠ 40 → b ≠ 60 → b ≠ 73 → b ≠ 86 → b ≠ 95 → b ≠ 160 → W b = I b := fun b b1 b2 b3 b4 b5 b6 => (w1 b b1 b2).trans (z1 b b1 b2 b3 b4 b5 b6)
      have lW : cLd y.1 (i + 1) (vA V) W := cLd_st (fun b b1 b2 b3 => e0 b b1 (by omega) (by omega) (by omega) (by omega) (by omega)) (fun k hk => by rw [w40]; exact (u3_ne3 hk).trans (z2 y.1 k (fun q => hk q.2))) (by rw [w40]; exact u3_eq) H.1.1
      have hle : cLe (sTn (vS V)) (fun j => j) (sLn (vS V)) (vA V) W := by
        have q := py.1
        unfold cLe at q ⊢
        rw [e0 23 (by decide) (by decide) (by decide) (by decide) (by decide) (by decide), e0 20 (by decide) (by decide) (by decide) (by decide) (by decide) (by decide), e0 72 (by decide) (by decide) (by decide) (by decide) (by decide) (by decide)]
        exact q
      have hP1 : cPy (vA V) (sTn (vS V)) (fun j => j) (sLn (vS V)) (gP0 V) W :=
        ⟨hle, py.2.1, fun k hk => by rw [e0 21 (by decide) (by decide) (by decide) (by decide) (by decide) (by decide)]; exact py.2.2.1 k hk, fun h hh => by rw [e0 22 (by decide) (by decide) (by decide) (by decide) (by decide) (by decide)]; exact py.2.2.2.1 h hh, (w60 10 (by decide) (by decide) (by decide) (by decide)).trans py.2.2.2.2.1, (w60 11 (by decide) (by decide) (by decide) (by decide)).trans py.2.2.2.2.2.1, py.2.2.2.2.2.2.1, (w60 32 (by decide) (by decide) (by decide) (by decide)).trans py.2.2.2.2.2.2.2⟩
      have hFd := o_find (d + 1 + (600 - ht)) ht (i + 1) (vA V) hA (by omega) (vR V) _ _ _ (gP0 V) W x.2 y lW (cRl_cg (fun q hq => e0 q (by omega) (by omega) (by omega) (by omega) (by omega) (by omega)) hR) ⟨false, false, false, w28, w29, w31, fun e => (by cases e), fun e => (by cases e), fun e => (by cases e)⟩ hP1
      rw [← show d + 609 = (d + 1 + (600 - ht)) + ht + 8 by omega, hW] at hFd
      refine gTM_use rfl hFd (fun v h' q => ?_)
      obtain ⟨rfl, J2, K2, rfl, fr, kw, kn⟩ := q
      rw [← hW] at fr
      have l2 : cLd y.1 (i + 1) (vA V) J2 := cLd_cg2 (fun b b1 b2 => fr.1 b (by omega) (by omega) (by omega) (by omega) (by omega)) lW
      have hc := cN_lt (show 0 < 25 by decide) (show vA V 6 < 12 by omega) (show i + 1 < 13 by omega)
      have hb : gP mX1_begin (d + 607 + 2) [gG0] (gH J2 K2 y) (gI (nI (cN 0 (vA V 6) (i + 1)))) := by
        refine gEnter 400 [] kX1_begin rfl rfl ?_
        refine gP_use (gP_eq (by rw [← l2.2.1, ← l2.2.2.2.1] <;> rfl) (o_state (d + 607) 0 (vA V 6) (i + 1) (gH J2 K2 y))) ?_
        exact ⟨rfl, rfl⟩
      have zn : cY V I L y J2 K2 := ⟨fun b b1 b2 b3 b4 b5 b6 => (fr.1 b b2 b3 b4 b5 b6).trans (e0 b b1 b2 b3 b4 b5 b6), fun i' k q => by rw [fr.1 40 (by decide) (by decide) (by decide) (by decide) (by decide), w40]; exact (u3_ne (fun w => q ⟨w.2.1, w.2.2⟩)).trans (z2 i' k q), fun j b1 b2 b3 b4 => (fr.2.1 j b1 b2 b3 b4).trans (w60 j b1 b2 b3 b4), fun b b1 b2 b3 b4 b5 b6 => (fr.2.2 b b1 b2 b3 b4 b5 b6).trans (z4 b b1 b2 b3 b4 b5 b6)⟩
      have th := kn.there hA (by omega) (gPok_V hw g1) (w := 1) (Or.inl rfl)
      have s0 := kn.1.2 0 (Nat.zero_le _)
      have eF : F i = decide (K2 84 0 (cN 0 (vA V 6) (i + 1)) = K2 74 0 0) := by
        rw [hF, s0]
        unfold cNeed wMf
        refine decide_eq_decide.mpr ?_
        rw [← th]
      refine gP_use hb ?_
      refine Exists.intro (cN 0 (vA V 6) (i + 1)) (And.intro rfl (And.intro (show _ < 3900 by omega) ?_))
      refine Exists.intro (0) (And.intro rfl (And.intro (show _ < 26 by omega) ?_))
      have at67 : ∀ (v : Int32) (lo' : Lo), v = gOI1 (gFst F (i + 1)) → glle [some gG0, some (gI (nI (vA V 4))), none, some (gI (nI (i + 1)))] lo' → gT mX1_needs (d + 610) (1, 6) (cQr o I L) (cQx [39] o I L) 67 lo' [gI v] (gH J2 K2 y) (1, 6) := by
        intro v lo' hv hl'
        subst hv
        refine gT_lo _ hl' ?_
        refine gT_go 400 [16] kX1_needs ?_
        exact hnext (J2, K2) _ zn (by (repeat' apply And.intro) <;> first | rfl | trivial | exact congrArg Sum.inl (nI_1 _).symm | exact congrArg Sum.inl (nI_1 _).symm)
      refine And.intro (fun c => ?_) (fun c => ?_)
      · have nf : F i = false := by rw [eF]; exact decide_eq_false (fun q => c ((gcmp_eq _ _).mpr q))
        exact at67 _ _ (by rw [gFst, hg, nf] <;> rfl) (by (repeat' apply And.intro) <;> first | rfl | trivial | exact congrArg Sum.inl (nI_1 _).symm | exact congrArg Sum.inl (nI_1 _).symm)
      · have tf : F i = true := by rw [eF]; exact decide_eq_true ((gcmp_eq _ _).mp c)
        exact at67 _ _ (by rw [gFst, hg, tf] <;> rfl) (by (repeat' apply And.intro) <;> first | rfl | trivial | exact congrArg Sum.inl (nI_1 _).symm | exact congrArg Sum.inl (nI_1 _).symm)
