/-! ===== public methods of the component: what is there ===== -/
set_option maxRecDepth 100000 in
theorem c2_there (V : VS) (hw : gWf V) (a : Int32) : cC mX1_there 610 (2, 12) [38, 39] [gI a] V (xThere V a) := by
  intro d I L y H
  obtain ⟨o, ho⟩ : ∃ o, o = xThere V a := ⟨_, rfl⟩
  rw [← ho]
  have a0 := hw.1.1
  have hS := vA4 hw
  refine gEnter 400 [1] kX1_there rfl rfl ?_
  refine gT_gate 287 (1, 6) rfl rfl rfl rfl rfl dX1_there_1 (o_mustLand (d + 603) V I L y H) rfl (by decide) (by decide) (fun q h' hx => cX_of (c := 1) (fun e => by rw [ho]; unfold xThere; rw [e]; exact ⟨rfl, rfl⟩) rfl hx) (fun g1 => ?_)
  have hA := hw.2.1 g1
  have h6 := hA.2.2.2.2.2.1
  have hc := cN_lt (show 0 < 25 by decide) (show vA V 6 < 12 by omega) hS
  have at19 : ∀ (z : Int32) (lo' : Lo), z = gb (!gWi a 0 1) → glle [some gG0, some (gI a)] lo' → gT mX1_there (d + 610) (2, 12) (cQr o I L) (cQx [38, 39] o I L) 19 lo' [gI z, gG0] (gH I L y) (1, 6) := by
    intro z lo' hz hl'
    rw [hz]
    refine gT_gate 173 (2, 12) rfl rfl rfl rfl rfl dX1_there_19 (o_wrong (d + 603) V (gWi a 0 1) I L y H) rfl (by decide) (by decide) (fun q h' hx => cX_of (c := 0) (fun e => by rw [ho]; unfold xThere; rw [g1, e]; exact ⟨rfl, rfl⟩) rfl hx) (fun g2 => ?_)
    obtain ⟨j, rfl, hj⟩ := gWi_m (N := 1) rfl (by decide) g2
    have ej : gTo (nI j) = j := gTo_n (by omega)
    refine gT_lo _ hl' ?_
    refine gT_go 400 [] kX1_there ?_
    refine gTM_use rfl (o_findV (d + 1) V hw g1 I L y H) (fun v h' q => ?_)
    obtain ⟨rfl, I', L', rfl, fr, H', kn⟩ := q
    have kt := fun w hw' => kn.there hA hS (gPok_V hw g1) (w := w) hw'
    refine bNe j 0 rfl rfl (fun c => ?_) (fun c => ?_)
    · have e1 : j = 1 := by omega
      refine gP_use (o_begin (d + 607) V I' L' y H'.1.1) ?_
      refine Exists.intro (cN 0 (vA V 6) (vA V 4)) (And.intro rfl (And.intro (show _ < 3900 by omega) ?_))
      exact cDone (by rw [ho]; unfold xThere wMf; rw [g1, g2, ej, e1]; exact ⟨rfl, congrArg gL (kt 2 (Or.inr rfl)).symm, rfl⟩) fr.out H'
    · refine gP_use (o_begin (d + 607) V I' L' y H'.1.1) ?_
      refine Exists.intro (cN 0 (vA V 6) (vA V 4)) (And.intro rfl (And.intro (show _ < 3900 by omega) ?_))
      exact cDone (by rw [ho]; unfold xThere wMf; rw [g1, g2, ej, c]; exact ⟨rfl, congrArg gL (kt 1 (Or.inl rfl)).symm, rfl⟩) fr.out H'
  refine gT_go 400 [19] kX1_there ?_
  refine gP_use (o_in (d + 608) a 0 1 _) ?_
  refine bB1 (gWi a 0 1) rfl (fun c => ?_) (fun c => ?_)
  · exact at19 _ _ (by rw [c] <;> rfl) (by (repeat' apply And.intro) <;> first | rfl | trivial | exact congrArg Sum.inl (nI_1 _).symm | exact congrArg Sum.inl (nI_1 _).symm)
  · exact at19 _ _ (by rw [c] <;> rfl) (by (repeat' apply And.intro) <;> first | rfl | trivial | exact congrArg Sum.inl (nI_1 _).symm | exact congrArg Sum.inl (nI_1 _).symm)
