/-! ===== public methods of the component: pacts, votes ===== -/
/-- another play for a while, and back -/
theorem cR_back {V : VS} {P : PP} {I I1 I2 Z : Nat → Nat → Nat → Int32} {L L2 : Nat → Nat → Nat → Int64} {y : Dy} (H : cR V I L y) (e1 : ∀ b, b ≠ 60 → I1 b = I b) (e2 : ∀ j, j ≠ 10 → j ≠ 11 → j ≠ 31 → j ≠ 32 → I1 60 0 j = I 60 0 j) (fr : cFr I1 L I2 L2) (kw : cKw (vA V) (vA V 4) (vR V) P I2 L2)
    (z1 : ∀ b, b ≠ 60 → Z b = I2 b) (z2 : ∀ j, j ≠ 10 → j ≠ 11 → j ≠ 31 → j ≠ 32 → Z 60 0 j = I2 60 0 j) (z10 : Z 60 0 10 = -1) (z11 : Z 60 0 11 = -1) (z31 : Z 60 0 31 = 0) (z32 : Z 60 0 32 = 0) : cOut I L Z L2 ∧ cR V Z L2 y := by
  refine ⟨fun b b1 b2 => ⟨(z1 b (by omega)).trans ((fr.1 b (by omega) (by omega) (by omega) (by omega) (by omega)).trans (e1 b (by omega))), fr.2.2 b (by omega) (by omega) (by omega) (by omega) (by omega) (by omega)⟩, cRb_cg ⟨fun b hb => (z1 b (by omega)).trans ((fr.1 b (by omega) (by omega) (by omega) (by omega) (by omega)).trans (e1 b (by omega))), fun j hj => ?_, rfl, rfl, fun _ _ => ⟨rfl, rfl⟩, fun _ _ => rfl⟩ H.1, ?_⟩
  · have ot : ∀ j, j = 2 ∨ j = 7 ∨ j = 8 → Z 60 0 j = I 60 0 j := fun j hj => (z2 j (by omega) (by omega) (by omega) (by omega)).trans ((fr.2.1 j (by omega) (by omega) (by omega) (by omega)).trans (e2 j (by omega) (by omega) (by omega) (by omega)))
    rcases hj with q | q | q | q | q | q
    · exact ot j (by omega)
    · exact ot j (by omega)
    · exact ot j (by omega)
    · subst q; exact z10.trans H.1.2.2.2.2.2.2.2.2.2.1.symm
    · subst q; exact z11.trans H.1.2.2.2.2.2.2.2.2.2.2.1.symm
    · subst q; exact z32.trans H.1.2.2.2.2.2.2.2.2.2.2.2.1.symm
  · obtain ⟨b, c, f, k1, k2, k3, k4, k5, k6⟩ := kw
    exact ⟨b, c, false, (z2 28 (by decide) (by decide) (by decide) (by decide)).trans k1, (z2 29 (by decide) (by decide) (by decide) (by decide)).trans k2, z31, fun e => cKl_cg (z1 160 (by decide)) rfl (k4 e), k5, fun e => by cases e⟩
/-- nothing is known of a play -/
theorem cKw_no {A : Nat → Nat} {S : Nat} {R : RL} {P P' : PP} {I I1 : Nat → Nat → Nat → Int32} {L : Nat → Nat → Nat → Int64} (H : cKw A S R P I L) (e1 : I1 160 = I 160) (e2 : I1 60 0 28 = I 60 0 28) (e3 : I1 60 0 29 = I 60 0 29) (e4 : I1 60 0 31 = 0) : cKw A S R P' I1 L := by
  obtain ⟨b, c, f, k1, k2, k3, k4, k5, k6⟩ := H
  exact ⟨b, c, false, e2.trans k1, e3.trans k2, e4, fun e => cKl_cg e1 rfl (k4 e), k5, fun e => by cases e⟩
set_option maxRecDepth 100000 in
theorem o_byPact (d : Nat) (V : VS) (hw : gWf V) (hL : vL V = true) (a b k : Nat) (ha : a < vA V 2) (hb : b < vA V 2) (hab : a ≠ b) (hk : k < vA V 2) (I : Nat → Nat → Nat → Int32) (L : Nat → Nat → Nat → Int64) (y : Dy) (H : cR V I L y) :
    gTM mX1_byPact (d + 610) (0, 0) [gG0, gI (nI a), gI (nI b), gI (nI k)] (gH I L y) (fun v h' => v = [gL (wTo V (vA V 4) none (gPct (gP0 V) a b) (some k) - wTo V (vA V 4) none (gP0 V) (some k))] ∧ ∃ I' L', h' = gH I' L' y ∧ cOut I L I' L' ∧ cR V I' L' y ∧ (gFew (vA V) → (0 < wTo V (vA V 4) none (gPct (gP0 V) a b) (some k) - wTo V (vA V 4) none (gP0 V) (some k) ↔ wV V (gP0 V) k < wV V (gPct (gP0 V) a b) k))) (fun _ _ => False) := by
  have a2 := hw.1.2.2.1
  refine gEnter 400 [] kX1_byPact rfl rfl ?_
  refine gTM_use rfl (o_worthV d V hw hL (some k) (fun i q => by cases q; exact hk) I L y H) (fun v h' q => ?_)
  obtain ⟨rfl, I0, L0, rfl, f0, H0, kn0⟩ := q
  refine And.intro (Or.inl rfl) ?_
  obtain ⟨I1, hI1⟩ : ∃ I1, I1 = u3 (u3 (u3 I0 60 0 10 (nI a)) 60 0 11 (nI b)) 60 0 31 0 := ⟨_, rfl⟩
  have e1 : ∀ q, q ≠ 60 → I1 q = I0 q := fun q hq => by rw [hI1, u3_ne1 hq, u3_ne1 hq, u3_ne1 hq]
  have e2 : ∀ j, j ≠ 10 → j ≠ 11 → j ≠ 31 → j ≠ 32 → I1 60 0 j = I0 60 0 j := fun j b1 b2 b3 _ => by rw [hI1]; exact (u3_ne3 b3).trans ((u3_ne3 b2).trans (u3_ne3 b1))
  have e10 : I1 60 0 10 = nI a := by rw [hI1]; exact (u3_ne3 (by decide)).trans ((u3_ne3 (by decide)).trans u3_eq)
  have e11 : I1 60 0 11 = nI b := by rw [hI1]; exact (u3_ne3 (by decide)).trans u3_eq
  have e31 : I1 60 0 31 = 0 := by rw [hI1]; exact u3_eq
  have e32 : I1 60 0 32 = I0 60 0 32 := by rw [hI1]; exact (u3_ne3 (by decide)).trans ((u3_ne3 (by decide)).trans (u3_ne3 (by decide)))
  obtain ⟨ht, h6, hR⟩ := H0.1.2.1
  have py := cPy_V hw hL H0.1
  have hle : cLe (sTn (vS V)) (fun j => j) (sLn (vS V)) (vA V) I1 := by
    have q := py.1
    unfold cLe at q ⊢
    rw [e1 23 (by decide), e1 20 (by decide), e1 72 (by decide)]
    exact q
  have hP1 : cPy (vA V) (sTn (vS V)) (fun j => j) (sLn (vS V)) (gPct (gP0 V) a b) I1 :=
    ⟨hle, py.2.1, fun k hk => by rw [e1 21 (by decide)]; exact py.2.2.1 k hk, fun h hh => by rw [e1 22 (by decide)]; exact py.2.2.2.1 h hh, e10, e11, fun a' b' q => by cases q; exact ⟨ha, hb, hab⟩, e32.trans py.2.2.2.2.2.2.2⟩
  have hW := o_worthP (d + (600 - ht)) ht (vA V 4) (vA V) (hw.2.1 hL) (vA4 hw) (vR V) _ _ _ (gPct (gP0 V) a b) (gPok_V hw hL) (some k) (fun i q => by cases q; exact hk) I1 L0 y (cLd_cg2 (fun q b1 b2 => e1 q (by omega)) H0.1.1) (cRl_cg (fun q hq => e1 q (by omega)) hR) (cKw_no H0.2 (e1 160 (by decide)) (e2 28 (by decide) (by decide) (by decide) (by decide)) (e2 29 (by decide) (by decide) (by decide) (by decide)) e31) hP1
  rw [← show d + 609 = (d + (600 - ht)) + ht + 9 by omega, hI1] at hW
  refine gTM_use rfl hW (fun v h' q => ?_)
  obtain ⟨rfl, I2, L2, rfl, fr, kw, kn⟩ := q
  refine And.intro (Or.inl rfl) ?_
  rw [← hI1] at fr
  obtain ⟨c1, c2⟩ := cR_back (Z := u3 (u3 (u3 I2 60 0 10 (-1)) 60 0 11 (-1)) 60 0 31 0) H0 e1 e2 fr kw (fun q hq => (u3_ne1 hq).trans ((u3_ne1 hq).trans (u3_ne1 hq))) (fun j b1 b2 b3 _ => (u3_ne3 b3).trans ((u3_ne3 b2).trans (u3_ne3 b1))) ((u3_ne3 (by decide)).trans ((u3_ne3 (by decide)).trans u3_eq)) ((u3_ne3 (by decide)).trans u3_eq) u3_eq ((u3_ne3 (by decide)).trans ((u3_ne3 (by decide)).trans ((u3_ne3 (by decide)).trans ((fr.2.1 32 (by decide) (by decide) (by decide) (by decide)).trans (e32.trans H0.1.2.2.2.2.2.2.2.2.2.2.2.1)))))
  have hA := hw.2.1 hL
  have h6 := hA.2.2.2.2.2.1
  have okp : gPok (vA V) (gPct (gP0 V) a b) := gPok_V hw hL
  exact ⟨rfl, _, L2, rfl, f0.out.tr c1, c2, fun hf => bD_lt (wV_bd hA hf okp h6 (kn.play hA (vA4 hw) okp.2) hk) (wV_bd hA hf (gPok_V hw hL) h6 (kn0.play hA (vA4 hw) (gPok_V hw hL).2) hk)⟩
set_option maxRecDepth 100000 in
theorem c2_pact (V : VS) (hw : gWf V) (a b c : Int32) : cC mX1_pact 612 (4, 24) [57, 38, 39] [gI a, gI b, gI c] V (xPact V a b c) := by
  intro d I L y H
  obtain ⟨o, ho⟩ : ∃ o, o = xPact V a b c := ⟨_, rfl⟩
  rw [← ho]
  have a2 := hw.1.2.2.1
  refine gEnter 400 [1] kX1_pact rfl rfl ?_
  refine gT_gate 287 (1, 6) rfl rfl rfl rfl rfl dX1_pact_1 (o_mustLand (d + 605) V I L y H) rfl (by decide) (by decide) (fun q h' hx => cX_of (c := 2) (fun e => by rw [ho]; unfold xPact; rw [e]; exact ⟨rfl, rfl⟩) rfl hx) (fun g1 => ?_)
  refine gT_go 400 [6] kX1_pact ?_
  refine gT_gate 266 (2, 12) rfl rfl rfl rfl rfl dX1_pact_6 (o_mustPerson (d + 605) V a I L y H) rfl (by decide) (by decide) (fun q h' hx => cX_of (c := 0) (fun e => by rw [ho]; unfold xPact; rw [g1, e]; exact ⟨rfl, rfl⟩) rfl hx) (fun g2 => ?_)
  refine gT_go 400 [11] kX1_pact ?_
  refine gT_gate 266 (3, 18) rfl rfl rfl rfl rfl dX1_pact_11 (o_mustPerson (d + 605) V b I L y H) rfl (by decide) (by decide) (fun q h' hx => cX_of (c := 0) (fun e => by rw [ho]; unfold xPact; rw [g1, g2, e]; exact ⟨rfl, rfl⟩) rfl hx) (fun g3 => ?_)
  obtain ⟨i, rfl, hi⟩ := gWi_n rfl (by omega) g2
  obtain ⟨j, rfl, hj⟩ := gWi_n rfl (by omega) g3
  have ei : gTo (nI i) = i := gTo_n (by omega)
  have ej : gTo (nI j) = j := gTo_n (by omega)
  have at34 : ∀ (z : Int32) (lo' : Lo), z = gb (!(decide (nI i ≠ nI j) && gWi c 0 1)) → glle [some gG0, some (gI (nI i)), some (gI (nI j)), some (gI c)] lo' → gT mX1_pact (d + 612) (4, 24) (cQr o I L) (cQx [57, 38, 39] o I L) 34 lo' [gI z, gG0] (gH I L y) (3, 18) := by
    intro z lo' hz hl'
    rw [hz]
    refine gT_gate 173 (4, 24) rfl rfl rfl rfl rfl dX1_pact_34 (o_wrong (d + 605) V (decide (nI i ≠ nI j) && gWi c 0 1) I L y H) rfl (by decide) (by decide) (fun q h' hx => cX_of (c := 1) (fun e => by rw [ho]; unfold xPact; rw [g1, g2, g3, e]; exact ⟨rfl, rfl⟩) rfl hx) (fun g4 => ?_)
    have g' := (Bool.and_eq_true _ _).mp g4
    have hij : i ≠ j := fun q => (of_decide_eq_true g'.1) (by rw [q])
    obtain ⟨k, rfl, hk⟩ := gWi_m (N := 1) rfl (by decide) g'.2
    have at49 : ∀ (w : Nat) (lo' : Lo), w < vA V 2 → nI w = (if nI k = 0 then nI i else nI j) → glle [some gG0, none, none, none] lo' → gT mX1_pact (d + 612) (4, 24) (cQr o I L) (cQx [57, 38, 39] o I L) 49 lo' [gI (nI w), gI (nI j), gI (nI i), gG0] (gH I L y) (4, 24) := by
      intro w lo' hw2 hwe hl2
      refine gT_lo _ hl2 ?_
      refine gT_go 400 [] kX1_pact ?_
      refine gTM_use rfl (o_byPact (d + 1) V hw g1 i j w hi hj hij hw2 I L y H) (fun v h' q => ?_)
      obtain ⟨rfl, I1, L1, rfl, f1, H1, -⟩ := q
      refine cDone (by rw [ho]; unfold xPact; rw [g1, g2, g3, g4, ← hwe, ei, ej, gTo_n (show w < 2 ^ 31 by omega)]; exact ⟨rfl, rfl, rfl⟩) f1 H1
    refine gT_lo _ hl' ?_
    refine gT_go 400 [49] kX1_pact ?_
    refine bNe k 0 rfl rfl (fun e => ?_) (fun e => ?_)
    · exact at49 j _ hj (if_neg (fun q => e ((nI_eq (b := 0) (by omega) (by decide)).mp q))).symm (by (repeat' apply And.intro) <;> first | rfl | trivial | exact congrArg Sum.inl (nI_1 _).symm | exact congrArg Sum.inl (nI_1 _).symm)
    · exact at49 i _ hi (if_pos (show nI k = 0 by rw [e] <;> rfl)).symm (by (repeat' apply And.intro) <;> first | rfl | trivial | exact congrArg Sum.inl (nI_1 _).symm | exact congrArg Sum.inl (nI_1 _).symm)
  refine gT_go 400 [34] kX1_pact ?_
  refine bEq i j rfl rfl (fun e => ?_) (fun e => ?_)
  · exact at34 _ _ (by rw [decide_eq_false (fun q => q (by rw [e]))] <;> rfl) (by (repeat' apply And.intro) <;> first | rfl | trivial | exact congrArg Sum.inl (nI_1 _).symm | exact congrArg Sum.inl (nI_1 _).symm)
  · have nij : decide (nI i ≠ nI j) = true := decide_eq_true (fun q => e ((nI_eq (by omega) (by omega)).mp q))
    refine gP_use (o_in (d + 610) c 0 1 _) ?_
    refine bB1 (gWi c 0 1) rfl (fun c2 => ?_) (fun c2 => ?_)
    · exact at34 _ _ (by rw [nij, c2] <;> rfl) (by (repeat' apply And.intro) <;> first | rfl | trivial | exact congrArg Sum.inl (nI_1 _).symm | exact congrArg Sum.inl (nI_1 _).symm)
    · exact at34 _ _ (by rw [nij, c2] <;> rfl) (by (repeat' apply And.intro) <;> first | rfl | trivial | exact congrArg Sum.inl (nI_1 _).symm | exact congrArg Sum.inl (nI_1 _).symm)
theorem gVot_ok {V : VS} (hw : gWf V) : gPok (vA V) (gVot (gP0 V)) := by
  have a3 := hw.1.2.2.2.1
  exact ⟨fun q hq => gP0_lt hw hq, fun q hq => (hw.2.2.2.1.2.1 q (by omega)).2⟩
set_option maxRecDepth 100000 in
theorem c2_vote (V : VS) (hw : gWf V) : cC mX1_vote 610 (1, 6) [39] [] V (xVote V) := by
  intro d I L y H
  obtain ⟨o, ho⟩ : ∃ o, o = xVote V := ⟨_, rfl⟩
  rw [← ho]
  refine gEnter 400 [1] kX1_vote rfl rfl ?_
  refine gT_gate 287 (1, 6) rfl rfl rfl rfl rfl dX1_vote_1 (o_mustLand (d + 603) V I L y H) rfl (by decide) (by decide) (fun q h' hx => cX_of (c := 0) (fun e => by rw [ho]; unfold xVote; rw [e]; exact ⟨rfl, rfl⟩) rfl hx) (fun g1 => ?_)
  obtain ⟨I1, hI1⟩ : ∃ I1, I1 = u3 (u3 I 60 0 32 1) 60 0 31 0 := ⟨_, rfl⟩
  have e1 : ∀ q, q ≠ 60 → I1 q = I q := fun q hq => by rw [hI1, u3_ne1 hq, u3_ne1 hq]
  have e2 : ∀ j, j ≠ 31 → j ≠ 32 → I1 60 0 j = I 60 0 j := fun j b3 b4 => by rw [hI1]; exact (u3_ne3 b3).trans (u3_ne3 b4)
  have e31 : I1 60 0 31 = 0 := by rw [hI1]; exact u3_eq
  have e32 : I1 60 0 32 = 1 := by rw [hI1]; exact (u3_ne3 (by decide)).trans u3_eq
  obtain ⟨ht, h6, hR⟩ := H.1.2.1
  have py := cPy_V hw g1 H.1
  have hle : cLe (sTn (vS V)) (fun j => j) (sLn (vS V)) (vA V) I1 := by
    have q := py.1
    unfold cLe at q ⊢
    rw [e1 23 (by decide), e1 20 (by decide), e1 72 (by decide)]
    exact q
  have hP1 : cPy (vA V) (sTn (vS V)) (fun j => j) (sLn (vS V)) (gVot (gP0 V)) I1 :=
    ⟨hle, py.2.1, fun k hk => by rw [e1 21 (by decide)]; exact py.2.2.1 k hk, fun h hh => by rw [e1 22 (by decide)]; exact py.2.2.2.1 h hh, (e2 10 (by decide) (by decide)).trans py.2.2.2.2.1, (e2 11 (by decide) (by decide)).trans py.2.2.2.2.2.1, fun a' b' q => (by change none = some (a', b') at q; cases q), e32⟩
  have hW := o_worthP (d + (600 - ht)) ht (vA V 4) (vA V) (hw.2.1 g1) (vA4 hw) (vR V) _ _ _ (gVot (gP0 V)) (gVot_ok hw) none (fun i q => by cases q) I1 L y (cLd_cg2 (fun q b1 b2 => e1 q (by omega)) H.1.1) (cRl_cg (fun q hq => e1 q (by omega)) hR) (cKw_no H.2 (e1 160 (by decide)) (e2 28 (by decide) (by decide)) (e2 29 (by decide) (by decide)) e31) hP1
  rw [← show d + 609 = (d + (600 - ht)) + ht + 9 by omega, hI1] at hW
  refine gT_go 400 [] kX1_vote ?_
  refine And.intro (Or.inr rfl) (And.intro (Or.inl rfl) ?_)
  refine gTM_use rfl hW (fun v h' q => ?_)
  obtain ⟨rfl, I2, L2, rfl, fr, kw, kn⟩ := q
  refine And.intro (Or.inl rfl) (And.intro (Or.inl rfl) ?_)
  rw [← hI1] at fr
  obtain ⟨c1, c2⟩ := cR_back (Z := u3 (u3 I2 60 0 32 0) 60 0 31 0) H e1 (fun j _ _ b3 b4 => e2 j b3 b4) fr kw (fun q hq => (u3_ne1 hq).trans (u3_ne1 hq)) (fun j _ _ b3 b4 => (u3_ne3 b3).trans (u3_ne3 b4)) ((u3_ne3 (by decide)).trans ((u3_ne3 (by decide)).trans ((fr.2.1 10 (by decide) (by decide) (by decide) (by decide)).trans ((e2 10 (by decide) (by decide)).trans H.1.2.2.2.2.2.2.2.2.2.1)))) ((u3_ne3 (by decide)).trans ((u3_ne3 (by decide)).trans ((fr.2.1 11 (by decide) (by decide) (by decide) (by decide)).trans ((e2 11 (by decide) (by decide)).trans H.1.2.2.2.2.2.2.2.2.2.2.1)))) u3_eq ((u3_ne3 (by decide)).trans u3_eq)
  exact cDone (by rw [ho]; unfold xVote; rw [g1]; exact ⟨rfl, rfl, rfl⟩) c1 c2
