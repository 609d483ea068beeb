/-! ===== public methods of the component: states, worths ===== -/
set_option maxRecDepth 100000 in
theorem o_stateAt (d : Nat) (V : VS) (hw : gWf V) (a b c : Int32) (I : Nat → Nat → Nat → Int32) (L : Nat → Nat → Nat → Int64) (y : Dy) (H : cR V I L y) :
    gTM mX1_stateAt (d + 7) (2, 12) [gG0, gI a, gI b, gI c] (gH I L y) (fun v h' => vL V = true ∧ gIsS (vA V) a b c = true ∧ v = [gI (nI (cN (gTo b) (gTo a) (gTo c)))] ∧ h' = gH I L y)
      (fun q h' => cGx V 3 39 (vL V) I L q h' ∨ (vL V = true ∧ cGx V 2 38 (gIsS (vA V) a b c) I L q h')) := by
  have e0 := H.1.1.1 0 (by decide)
  have e3 := H.1.1.1 3 (by decide)
  have e4 := H.1.1.2.1
  refine gEnter 400 [1] kX1_stateAt rfl rfl ?_
  refine gT_gate 287 (1, 6) rfl rfl rfl rfl rfl dX1_stateAt_1 (o_mustLand d V I L y H) rfl (by decide) (by decide) (fun q h' hx => Or.inl hx) (fun g1 => ?_)
  have at57 : ∀ (z : Int32) (lo' : Lo), z = gb (!gIsS (vA V) a b c) → glle [some gG0, some (gI a), some (gI b), some (gI c)] lo' → gT mX1_stateAt (d + 7) (2, 12) (fun v h' => vL V = true ∧ gIsS (vA V) a b c = true ∧ v = [gI (nI (cN (gTo b) (gTo a) (gTo c)))] ∧ h' = gH I L y) (fun q h' => cGx V 3 39 (vL V) I L q h' ∨ (vL V = true ∧ cGx V 2 38 (gIsS (vA V) a b c) I L q h')) 57 lo' [gI z, gG0] (gH I L y) (1, 6) := by
    intro z lo' hz hl'
    rw [hz]
    refine gT_gate 173 (2, 12) rfl rfl rfl rfl rfl dX1_stateAt_57 (o_wrong d V (gIsS (vA V) a b c) I L y H) rfl (by decide) (by decide) (fun q h' hx => Or.inr ⟨g1, hx⟩) (fun g2 => ?_)
    obtain ⟨p, h, n, rfl, rfl, rfl, b1, b2, b3, t1, t2, t3⟩ := gIsS_n hw.1 g2
    refine gT_lo _ hl' ?_
    refine gT_go 400 [] kX1_stateAt ?_
    refine gP_use (o_state (d + 5) h p n (gH I L y)) ?_
    exact ⟨g1, g2, by rw [t1, t2, t3], rfl⟩
  refine gT_go 400 [57] kX1_stateAt ?_
  refine gP_use (gP_eq (by rw [← e0] <;> rfl) (o_in (d + 5) a 0 (nI (vA V 0) - 1) (gH I L y))) ?_
  refine bB0 (gWi a 0 (nI (vA V 0) - 1)) rfl (fun c1 => ?_) (fun c1 => ?_)
  · exact at57 _ _ (by unfold gIsS; rw [c1] <;> rfl) (by (repeat' apply And.intro) <;> first | rfl | trivial | exact congrArg Sum.inl (nI_1 _).symm | exact congrArg Sum.inl (nI_1 _).symm)
  · refine gP_use (gP_eq (by rw [← e3] <;> rfl) (o_in (d + 5) b 0 (nI (vA V 3)) (gH I L y))) ?_
    refine bB0 (gWi b 0 (nI (vA V 3))) rfl (fun c2 => ?_) (fun c2 => ?_)
    · exact at57 _ _ (by unfold gIsS; rw [c1, c2] <;> rfl) (by (repeat' apply And.intro) <;> first | rfl | trivial | exact congrArg Sum.inl (nI_1 _).symm | exact congrArg Sum.inl (nI_1 _).symm)
    · refine gP_use (gP_eq (by rw [← e4] <;> rfl) (o_in (d + 5) c 0 (nI (vA V 4)) (gH I L y))) ?_
      refine bB1 (gWi c 0 (nI (vA V 4))) rfl (fun c3 => ?_) (fun c3 => ?_)
      · exact at57 _ _ (by unfold gIsS; rw [c1, c2, c3] <;> rfl) (by (repeat' apply And.intro) <;> first | rfl | trivial | exact congrArg Sum.inl (nI_1 _).symm | exact congrArg Sum.inl (nI_1 _).symm)
      · exact at57 _ _ (by unfold gIsS; rw [c1, c2, c3] <;> rfl) (by (repeat' apply And.intro) <;> first | rfl | trivial | exact congrArg Sum.inl (nI_1 _).symm | exact congrArg Sum.inl (nI_1 _).symm)
/-- a call in a method of the component that may throw -/
theorem gT_cx {m m' : GM} {d n : Nat} {B k : Nat × Nat} {Qr Qr' : List AV → Hp → Prop} {Qx X : Rf → Hp → Prop} {u : Nat × Nat} {pc : Nat} {lo : Lo} {h : Hp} {st av r : List AV} {al : Bool} {tb : List (Nat × GM)} (idx : Nat) (u' : Nat × Nat) (h0 : gmH m = []) (e1 : gcv (gmo m) idx = some (n, al, tb)) (e3 : glk tb 0 = some m') (hst : gtk n [] st = some (av, gR (some (60, 0)) :: r)) (hr : Nat.ble (gsum r) 16 = true) (hd : decode (gmC m) pc = .ok (.invokevirtual idx, 3))
    (hM : gTM m' d k (gR (some (60, 0)) :: av) h Qr' X) (hu : (u.1 + k.1, u.2 + k.2) = u') (hu1 : u'.1 ≤ B.1) (hu2 : u'.2 ≤ B.2) (kx : ∀ q h', X q h' → Qx q h') (kk : ∀ v h', Qr' v h' → gT m (d + 1) B Qr Qx (pc + 3) lo (v ++ r) h' u') : gT m (d + 1) B Qr Qx pc lo st h u := by
  subst hu
  exact gT_callV (b := 60) (j := 0) (ci := 0) (k := k) e1 rfl e3 hst hr hd hM hu1 hu2 kk (fun q h' hq => gTX_out h0 (kx q h' hq))
/-- what stateAt refuses -/
theorem cX_st {V : VS} {a b c : Int32} {I : Nat → Nat → Nat → Int32} {L : Nat → Nat → Nat → Int64} {q : Rf} {h' : Hp} {X : List Nat} {o : Int32 × AV × VS} {c1 c2 : Nat} (h1 : vL V = false → o.1 = nI (c1 + 1) ∧ o.2.2 = xRef V 3) (h2 : vL V = true → gIsS (vA V) a b c = false → o.1 = nI (c2 + 1) ∧ o.2.2 = xRef V 2) (hX1 : X[c1]? = some 39) (hX2 : X[c2]? = some 38)
    (hx : cGx V 3 39 (vL V) I L q h' ∨ (vL V = true ∧ cGx V 2 38 (gIsS (vA V) a b c) I L q h')) : (∃ c, X[c]? = some q.1 ∧ o.1 = nI (c + 1)) ∧ cEnd o.2.2 I L h' := by
  rcases hx with hx | ⟨g, hx⟩
  · exact cX_of h1 hX1 hx
  · exact cX_of (h2 g) hX2 hx
set_option maxRecDepth 100000 in
theorem c2_next (V : VS) (hw : gWf V) (a b c : Int32) : cC mX1_next 608 (2, 12) [38, 39] [gI a, gI b, gI c] V (xNext V a b c) := by
  intro d I L y H
  obtain ⟨o, ho⟩ : ∃ o, o = xNext V a b c := ⟨_, rfl⟩
  rw [← ho]
  refine gEnter 400 [4] kX1_next rfl rfl ?_
  refine gT_cx 361 (2, 12) rfl rfl rfl rfl rfl dX1_next_4 (o_stateAt (d + 600) V hw a b c I L y H) rfl (by decide) (by decide) (fun q h' hx => cX_st (c1 := 1) (c2 := 0) (fun e => by rw [ho]; unfold xNext; rw [e]; exact ⟨rfl, rfl⟩) (fun g e => by rw [ho]; unfold xNext; rw [g, e]; exact ⟨rfl, rfl⟩) rfl rfl hx) (fun v h' q => ?_)
  obtain ⟨g1, g2, rfl, rfl⟩ := q
  obtain ⟨p, h, n, rfl, rfl, rfl, b1, b2, b3, t1, t2, t3⟩ := gIsS_n hw.1 g2
  rw [t1, t2, t3]
  have hS := vA4 hw
  have a0 := hw.1.1
  have a2 := hw.1.2.2.1
  have a3 := hw.1.2.2.2.1
  refine gT_go 400 [] kX1_next ?_
  refine gTM_use rfl (o_findLawV (d + 1) V hw g1 I L y H) (fun v h' q => ?_)
  obtain ⟨rfl, I', L', rfl, fr, H', kl⟩ := q
  have hl' := H'.1.1
  refine gP_use (o_endedOf (d + 605) h p n (vA V 4) (by omega) (by omega) (by omega) (vA V) hw.1 I' L' y hl') ?_
  refine bNe (aEnd (vA V) h p n) 0 rfl rfl (fun e => ?_) (fun e => ?_) (by have := aEnd_lt (vA V) h p n; omega) (by decide)
  · exact cDone (by rw [ho]; unfold xNext; rw [g1, g2, t1, t2, t3, if_neg e]; exact ⟨rfl, rfl, rfl⟩) fr.out H'
  · have hh3 : h < vA V 3 := by have := (aEnd_0 e).2; omega
    have hle := (cLe_V hw g1 H'.1).use (d + 606) h (vA V 4) (by omega) hw.1 ((hw.2.1 g1).2.2.1) L' y hl'
    rw [cWho_V V h] at hle
    refine gP_use hle ?_
    have hk := gP0_lt hw hh3
    have q := kl.lw hw.1 ((gP0 V).1 h) h p n hk hh3 b1 b3 e
    refine gP_use (o_mayOf (d + 606) ((gP0 V).1 h) h p n _ (by omega) (by omega) (by omega) (by omega) (by have := q.2.1; omega) I' L' y q.1) ?_
    exact cDone (by rw [ho]; unfold xNext; rw [g1, g2, t1, t2, t3, if_pos e]; exact ⟨rfl, rfl, rfl⟩) fr.out H'
set_option maxRecDepth 100000 in
theorem c2_takes (V : VS) (hw : gWf V) (a b c : Int32) : cC mX1_takes 610 (2, 12) [38, 39] [gI a, gI b, gI c] V (xTakes V a b c) := by
  intro d I L y H
  obtain ⟨o, ho⟩ : ∃ o, o = xTakes V a b c := ⟨_, rfl⟩
  rw [← ho]
  refine gEnter 400 [4] kX1_takes rfl rfl ?_
  refine gT_cx 361 (2, 12) rfl rfl rfl rfl rfl dX1_takes_4 (o_stateAt (d + 602) V hw a b c I L y H) rfl (by decide) (by decide) (fun q h' hx => cX_st (c1 := 1) (c2 := 0) (fun e => by rw [ho]; unfold xTakes; rw [e]; exact ⟨rfl, rfl⟩) (fun g e => by rw [ho]; unfold xTakes; rw [g, e]; exact ⟨rfl, rfl⟩) rfl rfl hx) (fun v h' q => ?_)
  obtain ⟨g1, g2, rfl, rfl⟩ := q
  obtain ⟨p, h, n, rfl, rfl, rfl, b1, b2, b3, t1, t2, t3⟩ := gIsS_n hw.1 g2
  rw [t1, t2, t3]
  have hS := vA4 hw
  have a0 := hw.1.1
  have a3 := hw.1.2.2.2.1
  have hc := cN_lt (show h < 25 by omega) (show p < 12 by omega) (show n < 13 by omega)
  refine gT_go 400 [] kX1_takes ?_
  refine gTM_use rfl (o_findV (d + 1) V hw g1 I L y H) (fun v h' q => ?_)
  obtain ⟨rfl, I', L', rfl, fr, H', kn⟩ := q
  refine Exists.intro (cN h p n) (And.intro rfl (And.intro (show _ < 3900 by omega) ?_))
  have e := (kn.w (hw.2.1 g1) hS (gPok_V hw g1) b2 b1 b3).1
  exact cDone (by rw [ho]; unfold xTakes; rw [g1, g2, t1, t2, t3]; exact ⟨rfl, congrArg gI e.symm, rfl⟩) fr.out H'
set_option maxRecDepth 100000 in
theorem c2_value (V : VS) (hw : gWf V) (k a b c : Int32) : cC mX1_value 610 (4, 24) [57, 38, 39] [gI k, gI a, gI b, gI c] V (xValue V k a b c) := by
  intro d I L y H
  obtain ⟨o, ho⟩ : ∃ o, o = xValue V k a b c := ⟨_, rfl⟩
  rw [← ho]
  have a2 := hw.1.2.2.1
  refine gEnter 400 [1] kX1_value rfl rfl ?_
  refine gT_gate 287 (1, 6) rfl rfl rfl rfl rfl dX1_value_1 (o_mustLand (d + 603) V I L y H) rfl (by decide) (by decide) (fun q h' hx => cX_of (c := 2) (fun e => by rw [ho]; unfold xValue; rw [e]; exact ⟨rfl, rfl⟩) rfl hx) (fun g1 => ?_)
  refine gT_go 400 [6] kX1_value ?_
  refine gT_gate 266 (2, 12) rfl rfl rfl rfl rfl dX1_value_6 (o_mustPerson (d + 603) V k I L y H) rfl (by decide) (by decide) (fun q h' hx => cX_of (c := 0) (fun e => by rw [ho]; unfold xValue; rw [g1, e]; exact ⟨rfl, rfl⟩) rfl hx) (fun g2 => ?_)
  obtain ⟨j, rfl, hj⟩ := gWi_n rfl (by omega) g2
  have ej : gTo (nI j) = j := gTo_n (by omega)
  refine gT_go 400 [14] kX1_value ?_
  refine gT_cx 361 (4, 24) rfl rfl rfl rfl rfl dX1_value_14 (o_stateAt (d + 602) V hw a b c I L y H) rfl (by decide) (by decide) (fun q h' hx => cX_st (c1 := 2) (c2 := 1) (fun e => absurd (g1.symm.trans e) (by decide)) (fun g e => by rw [ho]; unfold xValue; rw [g1, g2, e]; exact ⟨rfl, rfl⟩) rfl rfl hx) (fun v h' q => ?_)
  obtain ⟨_, g3, rfl, rfl⟩ := q
  obtain ⟨p, h, n, rfl, rfl, rfl, b1, b2, b3, t1, t2, t3⟩ := gIsS_n hw.1 g3
  rw [t1, t2, t3]
  have hS := vA4 hw
  have a0 := hw.1.1
  have a3 := hw.1.2.2.2.1
  have hc := cN_lt (show h < 25 by omega) (show p < 12 by omega) (show n < 13 by omega)
  refine gT_go 400 [] kX1_value ?_
  refine gTM_use rfl (o_findV (d + 1) V hw g1 I L y H) (fun v h' q => ?_)
  obtain ⟨rfl, I', L', rfl, fr, H', kn⟩ := q
  refine Exists.intro (j) (And.intro rfl (And.intro (show _ < 5 by omega) ?_))
  refine Exists.intro (cN h p n) (And.intro rfl (And.intro (show _ < 3900 by omega) ?_))
  have e := (kn.w (hw.2.1 g1) hS (gPok_V hw g1) b2 b1 b3).2 j hj
  exact cDone (by rw [ho]; unfold xValue; rw [g1, g2, g3, t1, t2, t3, ej]; exact ⟨rfl, congrArg gL e.symm, rfl⟩) fr.out H'
set_option maxRecDepth 100000 in
theorem c2_scale (V : VS) (hw : gWf V) (a : Int32) : cC mX1_scale 608 (2, 12) [38, 39] [gI a] V (xScale V a) := by
  intro d I L y H
  obtain ⟨o, ho⟩ : ∃ o, o = xScale V a := ⟨_, rfl⟩
  rw [← ho]
  have e3 := H.1.1.1 3 (by decide)
  have a3 := hw.1.2.2.2.1
  refine gEnter 400 [1] kX1_scale rfl rfl ?_
  refine gT_gate 287 (1, 6) rfl rfl rfl rfl rfl dX1_scale_1 (o_mustLand (d + 601) V I L y H) rfl (by decide) (by decide) (fun q h' hx => cX_of (c := 1) (fun e => by rw [ho]; unfold xScale; rw [e]; exact ⟨rfl, rfl⟩) rfl hx) (fun g1 => ?_)
  have at25 : ∀ (z : Int32) (lo' : Lo), z = gb (!gWi a 0 (nI (vA V 3))) → glle [some gG0, some (gI a)] lo' → gT mX1_scale (d + 608) (2, 12) (cQr o I L) (cQx [38, 39] o I L) 25 lo' [gI z, gG0] (gH I L y) (1, 6) := by
    intro z lo' hz hl'
    rw [hz]
    refine gT_gate 173 (2, 12) rfl rfl rfl rfl rfl dX1_scale_25 (o_wrong (d + 601) V (gWi a 0 (nI (vA V 3))) I L y H) rfl (by decide) (by decide) (fun q h' hx => cX_of (c := 0) (fun e => by rw [ho]; unfold xScale; rw [g1, e]; exact ⟨rfl, rfl⟩) rfl hx) (fun g2 => ?_)
    obtain ⟨j, rfl, hj⟩ := gWi_m rfl (by omega) g2
    have ej : gTo (nI j) = j := gTo_n (by omega)
    refine gT_lo _ hl' ?_
    refine gT_go 400 [] kX1_scale ?_
    refine gTM_use rfl (o_findLawV (d + 1) V hw g1 I L y H) (fun v h' q => ?_)
    obtain ⟨rfl, I', L', rfl, fr, H', kl⟩ := q
    refine Exists.intro (j) (And.intro rfl (And.intro (show _ < 26 by omega) ?_))
    exact cDone (by rw [ho]; unfold xScale; rw [g1, g2, ej]; exact ⟨rfl, congrArg gL (kl.2 j hj).symm, rfl⟩) fr.out H'
  refine gT_go 400 [25] kX1_scale ?_
  refine gP_use (gP_eq (by rw [← e3] <;> rfl) (o_in (d + 606) a 0 (nI (vA V 3)) (gH I L y))) ?_
  refine bB1 (gWi a 0 (nI (vA V 3))) rfl (fun c => ?_) (fun c => ?_)
  · exact at25 _ _ (by rw [c] <;> rfl) (by (repeat' apply And.intro) <;> first | rfl | trivial | exact congrArg Sum.inl (nI_1 _).symm | exact congrArg Sum.inl (nI_1 _).symm)
  · exact at25 _ _ (by rw [c] <;> rfl) (by (repeat' apply And.intro) <;> first | rfl | trivial | exact congrArg Sum.inl (nI_1 _).symm | exact congrArg Sum.inl (nI_1 _).symm)
set_option maxRecDepth 100000 in
theorem c2_all (V : VS) (hw : gWf V) : cC mX1_all 610 (1, 6) [39] [] V (xAll V) := by
  intro d I L y H
  obtain ⟨o, ho⟩ : ∃ o, o = xAll V := ⟨_, rfl⟩
  rw [← ho]
  refine gEnter 400 [1] kX1_all rfl rfl ?_
  refine gT_gate 287 (1, 6) rfl rfl rfl rfl rfl dX1_all_1 (o_mustLand (d + 603) V I L y H) rfl (by decide) (by decide) (fun q h' hx => cX_of (c := 0) (fun e => by rw [ho]; unfold xAll; rw [e]; exact ⟨rfl, rfl⟩) rfl hx) (fun g1 => ?_)
  refine gT_go 400 [] kX1_all ?_
  refine gTM_use rfl (o_worthV d V hw g1 none (fun j q => by cases q) I L y H) (fun v h' q => ?_)
  obtain ⟨rfl, I', L', rfl, fr, H', kn⟩ := q
  exact cDone (by rw [ho]; unfold xAll; rw [g1]; exact ⟨rfl, rfl, rfl⟩) fr.out H'
set_option maxRecDepth 100000 in
theorem c2_alone (V : VS) (hw : gWf V) (a : Int32) : cC mX1_alone 608 (2, 12) [57, 39] [gI a] V (xAlone V a) := by
  intro d I L y H
  obtain ⟨o, ho⟩ : ∃ o, o = xAlone V a := ⟨_, rfl⟩
  rw [← ho]
  have a0 := hw.1.1
  have a2 := hw.1.2.2.1
  have hS := vA4 hw
  refine gEnter 400 [1] kX1_alone rfl rfl ?_
  refine gT_gate 287 (1, 6) rfl rfl rfl rfl rfl dX1_alone_1 (o_mustLand (d + 601) V I L y H) rfl (by decide) (by decide) (fun q h' hx => cX_of (c := 1) (fun e => by rw [ho]; unfold xAlone; rw [e]; exact ⟨rfl, rfl⟩) rfl hx) (fun g1 => ?_)
  have h6 := (hw.2.1 g1).2.2.2.2.2.1
  have hc := cN_lt (show 0 < 25 by decide) (show vA V 6 < 12 by omega) hS
  refine gT_go 400 [6] kX1_alone ?_
  refine gT_gate 266 (2, 12) rfl rfl rfl rfl rfl dX1_alone_6 (o_mustPerson (d + 601) V a I L y H) rfl (by decide) (by decide) (fun q h' hx => cX_of (c := 0) (fun e => by rw [ho]; unfold xAlone; rw [g1, e]; exact ⟨rfl, rfl⟩) rfl hx) (fun g2 => ?_)
  obtain ⟨j, rfl, hj⟩ := gWi_n rfl (by omega) g2
  have ej : gTo (nI j) = j := gTo_n (by omega)
  refine gT_go 400 [] kX1_alone ?_
  refine gTM_use rfl (o_findAloneV d V hw g1 I L y H) (fun v h' q => ?_)
  obtain ⟨rfl, I', L', rfl, fr, H', kl, ka⟩ := q
  refine Exists.intro (j) (And.intro rfl (And.intro (show _ < 5 by omega) ?_))
  refine gP_use (o_begin (d + 605) V I' L' y H'.1.1) ?_
  refine Exists.intro (cN 0 (vA V 6) (vA V 4)) (And.intro rfl (And.intro (show _ < 3900 by omega) ?_))
  exact cDone (by rw [ho]; unfold xAlone; rw [g1, g2, ej]; exact ⟨rfl, congrArg gL (ka.w (hw.2.1 g1) hS hj (Nat.zero_le _) h6 (Nat.le_refl _)).symm, rfl⟩) fr.out H'
set_option maxRecDepth 100000 in
theorem c2_beside (V : VS) (hw : gWf V) (a : Int32) : cC mX1_beside 610 (2, 12) [57, 39] [gI a] V (xBeside V a) := by
  intro d I L y H
  obtain ⟨o, ho⟩ : ∃ o, o = xBeside V a := ⟨_, rfl⟩
  rw [← ho]
  have a0 := hw.1.1
  have a2 := hw.1.2.2.1
  have hS := vA4 hw
  refine gEnter 400 [1] kX1_beside rfl rfl ?_
  refine gT_gate 287 (1, 6) rfl rfl rfl rfl rfl dX1_beside_1 (o_mustLand (d + 603) V I L y H) rfl (by decide) (by decide) (fun q h' hx => cX_of (c := 1) (fun e => by rw [ho]; unfold xBeside; rw [e]; exact ⟨rfl, rfl⟩) rfl hx) (fun g1 => ?_)
  have h6 := (hw.2.1 g1).2.2.2.2.2.1
  have hc := cN_lt (show 0 < 25 by decide) (show vA V 6 < 12 by omega) hS
  refine gT_go 400 [6] kX1_beside ?_
  refine gT_gate 266 (2, 12) rfl rfl rfl rfl rfl dX1_beside_6 (o_mustPerson (d + 603) V a I L y H) rfl (by decide) (by decide) (fun q h' hx => cX_of (c := 0) (fun e => by rw [ho]; unfold xBeside; rw [g1, e]; exact ⟨rfl, rfl⟩) rfl hx) (fun g2 => ?_)
  obtain ⟨j, rfl, hj⟩ := gWi_n rfl (by omega) g2
  have ej : gTo (nI j) = j := gTo_n (by omega)
  refine gT_go 400 [] kX1_beside ?_
  refine gTM_use rfl (o_worthV d V hw g1 (some j) (fun i q => by cases q; exact hj) I L y H) (fun v h' q => ?_)
  obtain ⟨rfl, I', L', rfl, fr, H', kn⟩ := q
  refine Exists.intro (j) (And.intro rfl (And.intro (show _ < 5 by omega) ?_))
  refine gP_use (o_begin (d + 607) V I' L' y H'.1.1) ?_
  refine Exists.intro (cN 0 (vA V 6) (vA V 4)) (And.intro rfl (And.intro (show _ < 3900 by omega) ?_))
  have e := kn.2.1.w (hw.2.1 g1) hS hj (Nat.zero_le _) h6 (Nat.le_refl _)
  exact cDone (by rw [ho]; unfold xBeside wAl; rw [g1, g2, ej, ← e]; exact ⟨rfl, congrArg gL (by show _ - wTo V (vA V 4) none (gP0 V) (some j) = -wTo V (vA V 4) none (gP0 V) (some j) + _; grind), rfl⟩) fr.out H'
