/-! ===== public methods of the component: what is told, and set ===== -/
set_option maxRecDepth 100000 in
theorem c2_days (V : VS) (hw : gWf V) (a : Int32) : cC mX1_days 8 (1, 6) [38] [gI a] V (xDays V a) := by
  intro d I L y H
  obtain ⟨o, ho⟩ : ∃ o, o = xDays V a := ⟨_, rfl⟩
  rw [← ho]
  have at16 : ∀ (z : Int32) (lo' : Lo), z = gb (!gWi a 1 12) → glle [some gG0, some (gI a), none] lo' → gT mX1_days (d + 8) (1, 6) (cQr o I L) (cQx [38] o I L) 16 lo' [gI z, gG0] (gH I L y) (0, 0) := by
    intro z lo' hz hl'
    rw [hz]
    refine gT_gate 173 (1, 6) rfl rfl rfl rfl rfl dX1_days_16 (o_wrong (d + 1) V (gWi a 1 12) I L y H) rfl (by decide) (by decide) (fun q h' hx => cX_of (c := 0) (fun e => by rw [ho]; unfold xDays; rw [e]; exact ⟨rfl, rfl⟩) rfl hx) (fun g1 => ?_)
    refine gT_lo _ hl' ?_
    refine gT_go 400 [] kX1_days ?_
    refine gTM_use rfl (o_leads (d + 6) (u3 I 20 0 7 a) L y) (fun v h' q => ?_)
    obtain ⟨rfl, rfl⟩ := q
    refine cDone (by rw [ho]; unfold xDays; rw [g1]; exact ⟨rfl, congrArg gI H.1.2.2.1.2.2.2.1.symm, rfl⟩) (fun b b1 b2 => ⟨(u3_ne1 (by omega)).trans ((u3_ne1 (by omega)).trans (u3_ne1 (by omega))), rfl⟩) ?_
    exact cR_Sl H (fun b hb => u3_ne1 (by omega)) u3_no0 (cSt_len H.1.2.2.1)
  refine gEnter 400 [16] kX1_days rfl rfl ?_
  refine gP_use (o_in (d + 6) a 1 12 _) ?_
  refine bB1 (gWi a 1 12) rfl (fun c => ?_) (fun c => ?_)
  · exact at16 _ _ (by rw [c] <;> rfl) (by (repeat' apply And.intro) <;> first | rfl | trivial | exact congrArg Sum.inl (nI_1 _).symm | exact congrArg Sum.inl (nI_1 _).symm)
  · exact at16 _ _ (by rw [c] <;> rfl) (by (repeat' apply And.intro) <;> first | rfl | trivial | exact congrArg Sum.inl (nI_1 _).symm | exact congrArg Sum.inl (nI_1 _).symm)
set_option maxRecDepth 100000 in
theorem c2_kind (V : VS) (hw : gWf V) (a b : Int32) : cC mX1_kind 8 (2, 12) [57, 38] [gI a, gI b] V (xKind V a b) := by
  intro d I L y H
  obtain ⟨o, ho⟩ : ∃ o, o = xKind V a b := ⟨_, rfl⟩
  rw [← ho]
  have a2 := hw.1.2.2.1
  refine gEnter 400 [2] kX1_kind rfl rfl ?_
  refine gT_gate 266 (1, 6) rfl rfl rfl rfl rfl dX1_kind_2 (o_mustPerson (d + 1) V a I L y H) rfl (by decide) (by decide) (fun q h' hx => cX_of (c := 0) (fun e => by rw [ho]; unfold xKind; rw [e]; exact ⟨rfl, rfl⟩) rfl hx) (fun g1 => ?_)
  obtain ⟨j, rfl, hj⟩ := gWi_n rfl (by omega) g1
  have ej : gTo (nI j) = j := gTo_n (by omega)
  have at20 : ∀ (z : Int32) (lo' : Lo), z = gb (!gWi b 0 5) → glle [some gG0, some (gI (nI j)), some (gI b), none] lo' → gT mX1_kind (d + 8) (2, 12) (cQr o I L) (cQx [57, 38] o I L) 20 lo' [gI z, gG0] (gH I L y) (1, 6) := by
    intro z lo' hz hl'
    rw [hz]
    refine gT_gate 173 (2, 12) rfl rfl rfl rfl rfl dX1_kind_20 (o_wrong (d + 1) V (gWi b 0 5) I L y H) rfl (by decide) (by decide) (fun q h' hx => cX_of (c := 1) (fun e => by rw [ho]; unfold xKind; rw [g1, e]; exact ⟨rfl, rfl⟩) rfl hx) (fun g2 => ?_)
    refine gT_lo _ hl' ?_
    refine gT_go 400 [] kX1_kind ?_
    refine Exists.intro (j) (And.intro rfl (And.intro (show _ < 5 by omega) ?_))
    refine Exists.intro (j) (And.intro rfl (And.intro (show _ < 5 by omega) ?_))
    refine And.intro (Or.inl rfl) ?_
    refine cDone (by rw [ho]; unfold xKind; rw [g1, g2, ej]; exact ⟨rfl, congrArg gI (H.1.2.2.1.1 j (by omega)).symm, rfl⟩) (fun b b1 b2 => ⟨(u3_ne1 (by omega)).trans (u3_ne1 (by omega)), rfl⟩) ?_
    exact cR_Sk H (fun b hb => u3_ne1 (by omega)) u3_no0 (cSt_kind (by omega) H.1.2.2.1)
  refine gT_go 400 [20] kX1_kind ?_
  refine gP_use (o_in (d + 6) b 0 5 _) ?_
  refine bB1 (gWi b 0 5) rfl (fun c => ?_) (fun c => ?_)
  · exact at20 _ _ (by rw [c] <;> rfl) (by (repeat' apply And.intro) <;> first | rfl | trivial | exact congrArg Sum.inl (nI_1 _).symm | exact congrArg Sum.inl (nI_1 _).symm)
  · exact at20 _ _ (by rw [c] <;> rfl) (by (repeat' apply And.intro) <;> first | rfl | trivial | exact congrArg Sum.inl (nI_1 _).symm | exact congrArg Sum.inl (nI_1 _).symm)
set_option maxRecDepth 100000 in
theorem c2_plan (V : VS) (hw : gWf V) (a b : Int32) : cC mX1_plan 8 (1, 6) [38] [gI a, gI b] V (xPlan V a b) := by
  intro d I L y H
  obtain ⟨o, ho⟩ : ∃ o, o = xPlan V a b := ⟨_, rfl⟩
  rw [← ho]
  have e1 := H.1.1.1 1 (by decide)
  have at31 : ∀ (z : Int32) (lo' : Lo), z = gb (!(gWi a 0 23 && gWi b 0 (nI (vA V 1)))) → glle [some gG0, some (gI a), some (gI b), none] lo' → gT mX1_plan (d + 8) (1, 6) (cQr o I L) (cQx [38] o I L) 31 lo' [gI z, gG0] (gH I L y) (0, 0) := by
    intro z lo' hz hl'
    rw [hz]
    refine gT_gate 173 (1, 6) rfl rfl rfl rfl rfl dX1_plan_31 (o_wrong (d + 1) V (gWi a 0 23 && gWi b 0 (nI (vA V 1))) I L y H) rfl (by decide) (by decide) (fun q h' hx => cX_of (c := 0) (fun e => by rw [ho]; unfold xPlan; rw [e]; exact ⟨rfl, rfl⟩) rfl hx) (fun g1 => ?_)
    have g' := (Bool.and_eq_true _ _).mp g1
    obtain ⟨j, rfl, hj⟩ := gWi_m (N := 23) rfl (by decide) g'.1
    have ej : gTo (nI j) = j := gTo_n (by omega)
    refine gT_lo _ hl' ?_
    refine gT_go 400 [] kX1_plan ?_
    refine Exists.intro (j) (And.intro rfl (And.intro (show _ < 24 by omega) ?_))
    refine Exists.intro (j) (And.intro rfl (And.intro (show _ < 24 by omega) ?_))
    refine And.intro (Or.inl rfl) ?_
    refine cDone (by rw [ho]; unfold xPlan; rw [g1, ej]; exact ⟨rfl, congrArg gI (H.1.2.2.1.2.1 j (by omega)).symm, rfl⟩) (fun b b1 b2 => ⟨(u3_ne1 (by omega)).trans (u3_ne1 (by omega)), rfl⟩) ?_
    exact cR_Sk H (fun b hb => u3_ne1 (by omega)) u3_no0 (cSt_plan (by omega) H.1.2.2.1)
  refine gEnter 400 [31] kX1_plan rfl rfl ?_
  refine gP_use (o_in (d + 6) a 0 23 _) ?_
  refine bB0 (gWi a 0 23) rfl (fun c => ?_) (fun c => ?_)
  · exact at31 _ _ (by rw [c] <;> rfl) (by (repeat' apply And.intro) <;> first | rfl | trivial | exact congrArg Sum.inl (nI_1 _).symm | exact congrArg Sum.inl (nI_1 _).symm)
  · refine gP_use (gP_eq (by rw [← e1] <;> rfl) (o_in (d + 6) b 0 (nI (vA V 1)) (gH I L y))) ?_
    refine bB1 (gWi b 0 (nI (vA V 1))) rfl (fun c2 => ?_) (fun c2 => ?_)
    · exact at31 _ _ (by rw [c, c2] <;> rfl) (by (repeat' apply And.intro) <;> first | rfl | trivial | exact congrArg Sum.inl (nI_1 _).symm | exact congrArg Sum.inl (nI_1 _).symm)
    · exact at31 _ _ (by rw [c, c2] <;> rfl) (by (repeat' apply And.intro) <;> first | rfl | trivial | exact congrArg Sum.inl (nI_1 _).symm | exact congrArg Sum.inl (nI_1 _).symm)
set_option maxRecDepth 100000 in
theorem c2_turn (V : VS) (hw : gWf V) (a b : Int32) : cC mX1_turn 8 (2, 12) [57, 38] [gI a, gI b] V (xTurn V a b) := by
  intro d I L y H
  obtain ⟨o, ho⟩ : ∃ o, o = xTurn V a b := ⟨_, rfl⟩
  rw [← ho]
  have at10 : ∀ (u : Nat × Nat) (lo' : Lo), u = (0, 0) ∨ u = (1, 6) → gOne (vA V) b = true → glle [some gG0, some (gI a), some (gI b), none] lo' → gT mX1_turn (d + 8) (2, 12) (cQr o I L) (cQx [57, 38] o I L) 10 lo' [] (gH I L y) u := by
    intro u lo' hu g1 hl'
    have hu2 : u.1 + 1 ≤ 2 ∧ u.2 + 6 ≤ 12 := by rcases hu with rfl | rfl <;> decide
    have at26 : ∀ (z : Int32) (lo' : Lo), z = gb (!gWi a 0 23) → glle [some gG0, some (gI a), some (gI b), none] lo' → gT mX1_turn (d + 8) (2, 12) (cQr o I L) (cQx [57, 38] o I L) 26 lo' [gI z, gG0] (gH I L y) u := by
      intro z lo' hz hl'
      rw [hz]
      refine gT_gate 173 (u.1 + 1, u.2 + 6) rfl rfl rfl rfl rfl dX1_turn_26 (o_wrong (d + 1) V (gWi a 0 23) I L y H) rfl hu2.1 hu2.2 (fun q h' hx => cX_of (c := 1) (fun e => by rw [ho]; unfold xTurn; rw [g1, e]; exact ⟨rfl, rfl⟩) rfl hx) (fun g2 => ?_)
      obtain ⟨j, rfl, hj⟩ := gWi_m (N := 23) rfl (by decide) g2
      have ej : gTo (nI j) = j := gTo_n (by omega)
      refine gT_lo _ hl' ?_
      refine gT_go 400 [] kX1_turn ?_
      refine Exists.intro (j) (And.intro rfl (And.intro (show _ < 24 by omega) ?_))
      refine Exists.intro (j) (And.intro rfl (And.intro (show _ < 24 by omega) ?_))
      refine gTM_use rfl (o_leads (d + 6) (u3 I 23 0 j b) L y) (fun v h' q => ?_)
      obtain ⟨rfl, rfl⟩ := q
      refine cDone (by rw [ho]; unfold xTurn; rw [g1, g2, ej]; exact ⟨rfl, congrArg gI (H.1.2.2.1.2.2.1 j (by omega)).symm, rfl⟩) (fun b b1 b2 => ⟨(u3_ne1 (by omega)).trans ((u3_ne1 (by omega)).trans (u3_ne1 (by omega))), rfl⟩) ?_
      exact cR_Sl H (fun b hb => u3_ne1 (by omega)) u3_no0 (cSt_turn (by omega) H.1.2.2.1)
    refine gT_lo _ hl' ?_
    refine gT_go 400 [26] kX1_turn ?_
    refine gP_use (o_in (d + 6) a 0 23 _) ?_
    refine bB1 (gWi a 0 23) rfl (fun c => ?_) (fun c => ?_)
    · exact at26 _ _ (by rw [c] <;> rfl) (by (repeat' apply And.intro) <;> first | rfl | trivial | exact congrArg Sum.inl (nI_1 _).symm | exact congrArg Sum.inl (nI_1 _).symm)
    · exact at26 _ _ (by rw [c] <;> rfl) (by (repeat' apply And.intro) <;> first | rfl | trivial | exact congrArg Sum.inl (nI_1 _).symm | exact congrArg Sum.inl (nI_1 _).symm)
  refine gEnter 400 [7, 10] kX1_turn rfl rfl ?_
  refine And.intro (fun e => ?_) (fun e => ?_)
  · exact at10 (0, 0) _ (Or.inl rfl) (by unfold gOne; rw [decide_eq_true (show b = -1 from e)] <;> rfl) (by (repeat' apply And.intro) <;> first | rfl | trivial | exact congrArg Sum.inl (nI_1 _).symm | exact congrArg Sum.inl (nI_1 _).symm)
  · have e1 : gOne (vA V) b = gWi b 0 (nI (vA V 2) - 1) := by unfold gOne; rw [decide_eq_false (show ¬ b = -1 from e)] <;> rfl
    refine gT_gate 266 (1, 6) rfl rfl rfl rfl rfl dX1_turn_7 (o_mustPerson (d + 1) V b I L y H) rfl (by decide) (by decide) (fun q h' hx => cX_of (c := 0) (fun z => by rw [ho]; unfold xTurn; rw [e1, z]; exact ⟨rfl, rfl⟩) rfl hx) (fun g1 => ?_)
    exact at10 (1, 6) _ (Or.inr rfl) (e1.trans g1) (by (repeat' apply And.intro) <;> first | rfl | trivial | exact congrArg Sum.inl (nI_1 _).symm | exact congrArg Sum.inl (nI_1 _).symm)
set_option maxRecDepth 100000 in
theorem c2_whose (V : VS) (hw : gWf V) (a : Int32) : cC mX1_whose 8 (2, 12) [38, 39] [gI a] V (xWhose V a) := by
  intro d I L y H
  obtain ⟨o, ho⟩ : ∃ o, o = xWhose V a := ⟨_, rfl⟩
  rw [← ho]
  refine gEnter 400 [1] kX1_whose rfl rfl ?_
  refine gT_gate 287 (1, 6) rfl rfl rfl rfl rfl dX1_whose_1 (o_mustLand (d + 1) V I L y H) rfl (by decide) (by decide) (fun q h' hx => cX_of (c := 1) (fun e => by rw [ho]; unfold xWhose; rw [e]; exact ⟨rfl, rfl⟩) rfl hx) (fun g1 => ?_)
  have at20 : ∀ (z : Int32) (lo' : Lo), z = gb (!gWi a 0 23) → glle [some gG0, some (gI a)] lo' → gT mX1_whose (d + 8) (2, 12) (cQr o I L) (cQx [38, 39] o I L) 20 lo' [gI z, gG0] (gH I L y) (1, 6) := by
    intro z lo' hz hl'
    rw [hz]
    refine gT_gate 173 (2, 12) rfl rfl rfl rfl rfl dX1_whose_20 (o_wrong (d + 1) V (gWi a 0 23) I L y H) rfl (by decide) (by decide) (fun q h' hx => cX_of (c := 0) (fun e => by rw [ho]; unfold xWhose; rw [g1, e]; exact ⟨rfl, rfl⟩) rfl hx) (fun g2 => ?_)
    obtain ⟨j, rfl, hj⟩ := gWi_m (N := 23) rfl (by decide) g2
    have ej : gTo (nI j) = j := gTo_n (by omega)
    have hle := (cLe_V hw g1 H.1).use (d + 6) j (vA V 4) (by omega) hw.1 ((hw.2.1 g1).2.2.1) L y H.1.1
    refine gT_lo _ hl' ?_
    refine gT_go 400 [] kX1_whose ?_
    refine gP_use hle ?_
    refine cDone (by rw [ho]; unfold xWhose; rw [g1, g2, ej]; exact ⟨rfl, congrArg (fun z => gI (nI z)) (cWho_V V j).symm, rfl⟩) (cOut.rf I L) H
  refine gT_go 400 [20] kX1_whose ?_
  refine gP_use (o_in (d + 6) a 0 23 _) ?_
  refine bB1 (gWi a 0 23) rfl (fun c => ?_) (fun c => ?_)
  · exact at20 _ _ (by rw [c] <;> rfl) (by (repeat' apply And.intro) <;> first | rfl | trivial | exact congrArg Sum.inl (nI_1 _).symm | exact congrArg Sum.inl (nI_1 _).symm)
  · exact at20 _ _ (by rw [c] <;> rfl) (by (repeat' apply And.intro) <;> first | rfl | trivial | exact congrArg Sum.inl (nI_1 _).symm | exact congrArg Sum.inl (nI_1 _).symm)
set_option maxRecDepth 100000 in
theorem c2_fault (V : VS) : cC mX1_fault 1 (0, 0) [] [] V (xFault V) := by
  intro d I L y H
  refine gEnter 400 [] kX1_fault rfl rfl ?_
  exact cDone ⟨rfl, congrArg gI H.1.2.2.2.2.2.2.2.2.1.symm, rfl⟩ (cOut.rf I L) H
set_option maxRecDepth 100000 in
theorem c2_ended (V : VS) : cC mX1_ended 1 (0, 0) [] [] V (xEndd V) := by
  intro d I L y H
  have h7 := H.1.2.2.1.2.2.2.2.2.2.1
  have h8 := H.1.2.2.1.2.2.2.2.2.2.2
  refine gEnter 400 [] kX1_ended rfl rfl ?_
  refine cDone ⟨rfl, congrArg gI ?_, rfl⟩ (cOut.rf I L) H
  by_cases c : vS V 79 = 0
  · rw [if_pos c]; exact (h7 c).2.symm
  · rw [if_neg c]; exact (h8 c).2.1.symm
set_option maxRecDepth 100000 in
theorem c2_clear (V : VS) (hw : gWf V) : cC mX1_clear 1 (0, 0) [] [] V (xClear V) := by
  intro d I L y H
  refine gEnter 400 [] kX1_clear rfl rfl ?_
  refine cDone ⟨rfl, congrArg gI H.1.2.2.1.2.2.2.2.1.symm, rfl⟩ (fun b b1 b2 => ⟨u3_ne1 (by omega), rfl⟩) ?_
  exact cR_S2 hw H (fun b hb => u3_ne1 (by omega)) u3_no0 (fun j hj => up1_ne (by omega)) (cSt_clear H.1.2.2.1) (fun h hh => gP0_lt hw hh)
set_option maxRecDepth 100000 in
theorem c2_status (V : VS) (a : Int32) : cC mX1_status 2 (0, 0) [] [gI a] V (xStatus V a) := by
  intro d I L y H
  refine gEnter 400 [] kX1_status rfl rfl ?_
  refine gP_use (o_in d a 0 3 _) ?_
  refine bB0 (gWi a 0 3) rfl (fun c => ?_) (fun c => ?_)
  · exact cDone ⟨rfl, congrArg gI (by rw [c] <;> rfl), rfl⟩ (cOut.rf I L) H
  · obtain ⟨j, rfl, hj⟩ := gWi_m (N := 3) rfl (by decide) c
    have ej : gTo (nI j) = j := gTo_n (by omega)
    refine Exists.intro (j) (And.intro rfl (And.intro (show _ < 4 by omega) ?_))
    exact cDone ⟨rfl, congrArg gI (by rw [c, ej]; exact (H.1.2.2.2.2.2.1 j (by omega)).symm), rfl⟩ (cOut.rf I L) H
set_option maxRecDepth 100000 in
theorem c2_row (V : VS) (hw : gWf V) (a : Int32) : cC mX1_row 8 (1, 6) [38] [gI a] V (xRow V a) := by
  intro d I L y H
  obtain ⟨o, ho⟩ : ∃ o, o = xRow V a := ⟨_, rfl⟩
  rw [← ho]
  have e1 := H.1.1.1 1 (by decide)
  obtain ⟨n, w1, w2, w3⟩ := hw.2.2.2.1.2.2.2.2.2.2
  have e8 := H.1.2.2.1.2.2.2.2.1
  have at21 : ∀ (z : Int32) (lo' : Lo), z = gb (!gWi a 0 (nI (vA V 1))) → glle [some gG0, some (gI a)] lo' → gT mX1_row (d + 8) (1, 6) (cQr o I L) (cQx [38] o I L) 21 lo' [gI z, gG0] (gH I L y) (0, 0) := by
    intro z lo' hz hl'
    rw [hz]
    refine gT_gate 173 (1, 6) rfl rfl rfl rfl rfl dX1_row_21 (o_wrong (d + 1) V (gWi a 0 (nI (vA V 1))) I L y H) rfl (by decide) (by decide) (fun q h' hx => cX_of (c := 0) (fun e => by rw [ho]; unfold xRow; rw [e]; exact ⟨rfl, rfl⟩) rfl hx) (fun g1 => ?_)
    refine gT_lo _ hl' ?_
    refine gT_go 400 [] kX1_row ?_
    refine bNe n 24 (e8.trans w1) rfl (fun c => ?_) (fun c => ?_)
    · have c' : decide (vS V 54 = 24) = false := by rw [w1]; exact decide_eq_false (fun q => c ((nI_eq (a := n) (b := 24) (by omega) (by decide)).mp q))
      refine Exists.intro (n) (And.intro (e8.trans w1) (And.intro (show n < 24 by omega) ?_))
      have en : gTo (vS V 54) = n := by rw [w1]; exact gTo_n (by omega)
      refine cDone (V' := xS V (up1 (up1 (vS V) (55 + n) a) 54 (nI n + 1))) (by rw [ho]; unfold xRow; rw [g1, c', en, w1]; exact ⟨rfl, congrArg (fun z => gI (z + 1)) (e8.trans w1).symm, rfl⟩) (fun b b1 b2 => ⟨(u3_ne1 (by omega)).trans (u3_ne1 (by omega)), rfl⟩) ?_
      have e8' : I 20 0 8 = nI n := e8.trans w1
      show cR _ (u3 (u3 I 24 0 n a) 20 0 8 (I 20 0 8 + 1)) L y
      rw [e8']
      exact cR_S2 hw H (fun b hb => (u3_ne1 (by omega)).trans (u3_ne1 (by omega))) (fun b i k b1 b2 hi => (u3_no0 b i k b1 b2 hi).trans (u3_no0 b i k b1 b2 hi)) (fun j hj => (up1_ne (by omega)).trans (up1_ne (by omega))) (cSt_row (by omega) w1 H.1.2.2.1) (fun h hh => gP0_lt hw hh)
    · have c' : decide (vS V 54 = 24) = true := by rw [w1, c] <;> rfl
      exact cDone (by rw [ho]; unfold xRow; rw [g1, c']; exact ⟨rfl, rfl, rfl⟩) (cOut.rf I L) H
  refine gEnter 400 [21] kX1_row rfl rfl ?_
  refine gP_use (gP_eq (by rw [← e1] <;> rfl) (o_in (d + 6) a 0 (nI (vA V 1)) (gH I L y))) ?_
  refine bB1 (gWi a 0 (nI (vA V 1))) rfl (fun c => ?_) (fun c => ?_)
  · exact at21 _ _ (by rw [c] <;> rfl) (by (repeat' apply And.intro) <;> first | rfl | trivial | exact congrArg Sum.inl (nI_1 _).symm | exact congrArg Sum.inl (nI_1 _).symm)
  · exact at21 _ _ (by rw [c] <;> rfl) (by (repeat' apply And.intro) <;> first | rfl | trivial | exact congrArg Sum.inl (nI_1 _).symm | exact congrArg Sum.inl (nI_1 _).symm)
