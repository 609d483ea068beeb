/-! ===== public methods of the component: other kinds ===== -/
theorem gKnd_ok {V : VS} (hw : gWf V) (k z : Nat) : gPok (vA V) (gKnd (gP0 V) k z) := by
  have a3 := hw.1.2.2.2.1
  exact ⟨fun q hq => gP0_lt hw hq, fun q hq => (hw.2.2.2.1.2.1 q (by omega)).2⟩
theorem cR_kind {V : VS} {I : Nat → Nat → Nat → Int32} {L : Nat → Nat → Nat → Int64} {y : Dy} {k : Nat} {v : Int32} (hk : k < 5) (H : cR V I L y) : cR (xS V (up1 (vS V) k v)) (u3 (u3 (u3 I 21 0 k v) 60 0 30 0) 60 0 31 0) L y :=
  cR_Sl H (fun b hb => u3_ne1 (by omega)) u3_no0 (cSt_kind hk H.1.2.2.1)
theorem wTo_knd {V : VS} (hw : gWf V) {k z : Nat} (hk : k < 5) (hz : z < 6) (j : Option Nat) : wTo (xS V (up1 (vS V) k (nI z))) (vA V 4) none (gP0 (xS V (up1 (vS V) k (nI z)))) j = wTo V (vA V 4) none (gKnd (gP0 V) k z) j := by
  refine (cWt_V (xS V _) _ _).trans (Eq.trans ?_ (cWt_V V _ _).symm)
  exact cWt_P (gKnd_eq hk hz) hw.1 (gKnd_ok hw k z).1 j
set_option maxRecDepth 100000 in
theorem o_asKind (d : Nat) (V : VS) (hw : gWf V) (hL : vL V = true) (k z : Nat) (hk : k < vA V 2) (hz : z < 6) (I : Nat → Nat → Nat → Int32) (L : Nat → Nat → Nat → Int64) (y : Dy) (H : cR V I L y) :
    gTM mX1_asKind (d + 610) (0, 0) [gG0, gI (nI k), gI (nI z)] (gH I L y) (fun v h' => v = [gL (wTo V (vA V 4) none (gKnd (gP0 V) k z) (some k))] ∧ ∃ I' L', h' = gH I' L' y ∧ cOut I L I' L' ∧ cR V I' L' y) (fun _ _ => False) := by
  have a2 := hw.1.2.2.1
  have hw1 : gWf (xS V (up1 (vS V) k (nI z))) := gWf_S hw (gSw_kind hw.1 hw.2.2.2.1 (by omega) hz) (gJr_up (by omega) hw.2.2.2.2.2.2.2.2.1)
  have e21 : I 21 0 k = vS V k := H.1.2.2.1.1 k (by omega)
  refine gEnter 400 [] kX1_asKind rfl rfl ?_
  refine Exists.intro (k) (And.intro rfl (And.intro (show _ < 5 by omega) ?_))
  refine Exists.intro (k) (And.intro rfl (And.intro (show _ < 5 by omega) ?_))
  refine gTM_use rfl (o_leads (d + 608) (u3 I 21 0 k (nI z)) L y) (fun v h' q => ?_)
  obtain ⟨rfl, rfl⟩ := q
  refine gTM_use rfl (o_worthV d (xS V (up1 (vS V) k (nI z))) hw1 hL (some k) (fun i q => by cases q; exact hk) _ L y (cR_kind (by omega) H)) (fun v h' q => ?_)
  obtain ⟨rfl, I1, L1, rfl, fr, H1, kn⟩ := q
  refine Exists.intro (k) (And.intro rfl (And.intro (show _ < 5 by omega) ?_))
  refine gTM_use rfl (o_leads (d + 608) (u3 I1 21 0 k (I 21 0 k)) L1 y) (fun v h' q => ?_)
  obtain ⟨rfl, rfl⟩ := q
  refine ⟨congrArg (fun z => [gL z]) (wTo_knd hw (by omega) hz (some k)), _, L1, rfl, ((cO_l (by decide)).tr fr.out).tr (cO_l (by decide)), ?_⟩
  rw [e21]
  have q := cR_kind (v := vS V k) (k := k) (by omega) H1
  rw [show xS (xS V (up1 (vS V) k (nI z))) (up1 (vS (xS V (up1 (vS V) k (nI z)))) k (vS V k)) = V from xS_back] at q
  exact q
set_option maxRecDepth 100000 in
theorem c2_blind (V : VS) (hw : gWf V) (a : Int32) : cC mX1_blind 612 (2, 12) [57, 39] [gI a] V (xBlind V a) := by
  intro d I L y H
  obtain ⟨o, ho⟩ : ∃ o, o = xBlind V a := ⟨_, rfl⟩
  rw [← ho]
  have a2 := hw.1.2.2.1
  refine gEnter 400 [1] kX1_blind rfl rfl ?_
  refine gT_gate 287 (1, 6) rfl rfl rfl rfl rfl dX1_blind_1 (o_mustLand (d + 605) V I L y H) rfl (by decide) (by decide) (fun q h' hx => cX_of (c := 1) (fun e => by rw [ho]; unfold xBlind; rw [e]; exact ⟨rfl, rfl⟩) rfl hx) (fun g1 => ?_)
  refine gT_go 400 [6] kX1_blind ?_
  refine gT_gate 266 (2, 12) rfl rfl rfl rfl rfl dX1_blind_6 (o_mustPerson (d + 605) V a I L y H) rfl (by decide) (by decide) (fun q h' hx => cX_of (c := 0) (fun e => by rw [ho]; unfold xBlind; rw [g1, e]; exact ⟨rfl, rfl⟩) rfl hx) (fun g2 => ?_)
  obtain ⟨k, rfl, hk⟩ := gWi_n rfl (by omega) g2
  have ek : gTo (nI k) = k := gTo_n (by omega)
  refine gT_go 400 [] kX1_blind ?_
  refine gTM_use rfl (o_asKind (d + 1) V hw g1 k 0 hk (by decide) I L y H) (fun v h' q => ?_)
  obtain ⟨rfl, I1, L1, rfl, f1, H1⟩ := q
  refine gTM_use rfl (o_asKind (d + 1) V hw g1 k 4 hk (by decide) I1 L1 y H1) (fun v h' q => ?_)
  obtain ⟨rfl, I2, L2, rfl, f2, H2⟩ := q
  exact cDone (by rw [ho]; unfold xBlind; rw [g1, g2, ek]; exact ⟨rfl, rfl, rfl⟩) (f1.tr f2) H2
set_option maxRecDepth 100000 in
theorem c2_asks (V : VS) (hw : gWf V) (a : Int32) : cC mX1_asks 612 (2, 12) [57, 39] [gI a] V (xAsks V a) := by
  intro d I L y H
  obtain ⟨o, ho⟩ : ∃ o, o = xAsks V a := ⟨_, rfl⟩
  rw [← ho]
  have a2 := hw.1.2.2.1
  refine gEnter 400 [1] kX1_asks rfl rfl ?_
  refine gT_gate 287 (1, 6) rfl rfl rfl rfl rfl dX1_asks_1 (o_mustLand (d + 605) V I L y H) rfl (by decide) (by decide) (fun q h' hx => cX_of (c := 1) (fun e => by rw [ho]; unfold xAsks; rw [e]; exact ⟨rfl, rfl⟩) rfl hx) (fun g1 => ?_)
  refine gT_go 400 [6] kX1_asks ?_
  refine gT_gate 266 (2, 12) rfl rfl rfl rfl rfl dX1_asks_6 (o_mustPerson (d + 605) V a I L y H) rfl (by decide) (by decide) (fun q h' hx => cX_of (c := 0) (fun e => by rw [ho]; unfold xAsks; rw [g1, e]; exact ⟨rfl, rfl⟩) rfl hx) (fun g2 => ?_)
  obtain ⟨k, rfl, hk⟩ := gWi_n rfl (by omega) g2
  have ek : gTo (nI k) = k := gTo_n (by omega)
  have all : ∀ i, i < 6 → (63 : Nat).testBit i = true := by decide
  refine gT_go 400 [21] kX1_asks ?_
  refine gTM_use rfl (o_asKind (d + 1) V hw g1 k 0 hk (by decide) I L y H) (fun v h' q => ?_)
  obtain ⟨rfl, I1, L1, rfl, f1, H1⟩ := q
  refine gT_for (σ := (Nat → Nat → Nat → Int32) × (Nat → Nat → Nat → Int64)) (pc := 21) (lo := fun i _ => [some gG0, some (gI (nI k)), some (gI (nI ((gBs 63 (wAsk V k) false (i + 1)).getD 0))), some (gL (gOv (wAsk V k) (gBs 63 (wAsk V k) false (i + 1)))), none, some (gI (nI (i + 1))), none, none]) (hp := fun _ x => gH x.1 x.2 y) (Inv := fun _ x => cOut I L x.1 x.2 ∧ cR V x.1 x.2 y) 5 ?_ ?_ 0 (I1, L1) (Nat.zero_le _) ⟨f1, H1⟩ ?_
  · intro x ⟨x1, x2⟩
    refine gT_go 400 [21] kX1_asks ?_
    refine bGe 6 6 rfl rfl (fun _ => ?_) (fun q => absurd q (by decide))
    exact cDone (by rw [ho]; unfold xAsks; rw [g1, g2, ek]; exact ⟨rfl, rfl, rfl⟩) x1 x2
  · intro i x hi ⟨x1, x2⟩ hnext
    refine gT_go 400 [21, 47, 53] kX1_asks ?_
    refine bGe (i + 1) 6 rfl rfl (fun q => absurd q (by omega)) (fun _ => ?_)
    refine gTM_use rfl (o_asKind (d + 1) V hw g1 k (i + 1) hk (by omega) x.1 x.2 y x2) (fun v h' q => ?_)
    obtain ⟨rfl, I2, L2, rfl, f2, H2⟩ := q
    obtain ⟨b, hb⟩ := gBs_some (v := wAsk V k) (l := false) (all 0 (by decide)) (i + 1) (by omega)
    rw [hb]
    refine bcGt (fun c => ?_) (fun c => ?_)
    · refine gT_go 400 [21] kX1_asks ?_
      refine hnext (I2, L2) _ ⟨x1.tr f2, H2⟩ ?_
      rw [gBs_f1 (all (i + 1) (by omega)) hb c]
      exact (by (repeat' apply And.intro) <;> first | rfl | trivial | exact congrArg Sum.inl (nI_1 _).symm | exact congrArg Sum.inl (nI_1 _).symm)
    · refine gT_go 400 [21] kX1_asks ?_
      refine hnext (I2, L2) _ ⟨x1.tr f2, H2⟩ ?_
      rw [gBs_f0 (all (i + 1) (by omega)) hb c]
      exact (by (repeat' apply And.intro) <;> first | rfl | trivial | exact congrArg Sum.inl (nI_1 _).symm | exact congrArg Sum.inl (nI_1 _).symm)
  · exact (by (repeat' apply And.intro) <;> first | rfl | trivial | exact congrArg Sum.inl (nI_1 _).symm | exact congrArg Sum.inl (nI_1 _).symm)
