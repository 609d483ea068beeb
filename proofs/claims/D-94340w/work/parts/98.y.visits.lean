/-! ===== public methods of the component: how often a place is come to ===== -/
set_option maxRecDepth 100000 in
theorem c2_visits (V : VS) (hw : gWf V) (a : Int32) : cC mX1_visits 611 (2, 12) [38, 39] [gI a] V (xVisits V a) := by
  intro d I L y H
  obtain ⟨o, ho⟩ : ∃ o, o = xVisits V a := ⟨_, rfl⟩
  rw [← ho]
  have hS := vA4 hw
  have a0 := hw.1.1
  have a3 := hw.1.2.2.2.1
  have e0 := H.1.1.1 0 (by decide)
  refine gEnter 400 [1] kX1_visits rfl rfl ?_
  refine gT_gate 287 (1, 6) rfl rfl rfl rfl rfl dX1_visits_1 (o_mustLand (d + 604) V I L y H) rfl (by decide) (by decide) (fun q h' hx => cX_of (c := 1) (fun e => by rw [ho]; unfold xVisits; rw [e]; exact ⟨rfl, rfl⟩) rfl hx) (fun g1 => ?_)
  have at27 : ∀ (z : Int32) (lo' : Lo), z = gb (!gWi a 0 (nI (vA V 0) - 1)) → glle [some gG0, some (gI a), none, none, none, none] lo' → gT mX1_visits (d + 611) (2, 12) (cQr o I L) (cQx [38, 39] o I L) 27 lo' [gI z, gG0] (gH I L y) (1, 6) := by
    intro z lo' hz hl'
    rw [hz]
    refine gT_gate 173 (2, 12) rfl rfl rfl rfl rfl dX1_visits_27 (o_wrong (d + 604) V (gWi a 0 (nI (vA V 0) - 1)) I L y H) rfl (by decide) (by decide) (fun q h' hx => cX_of (c := 0) (fun e => by rw [ho]; unfold xVisits; rw [g1, e]; exact ⟨rfl, rfl⟩) rfl hx) (fun g2 => ?_)
    obtain ⟨p, rfl, hp⟩ := gWi_n rfl (by omega) g2
    have ep : gTo (nI p) = p := gTo_n (by omega)
    refine gT_lo _ hl' ?_
    refine gT_go 400 [39] kX1_visits ?_
    refine gTM_use rfl (o_findMass (d + 1) V hw g1 I L y H) (fun v h' q => ?_)
    obtain ⟨rfl, I1, L1, rfl, f1, H1, kn, ms⟩ := q
    have hl := H1.1.1
    obtain ⟨mf, hmf⟩ : ∃ mf, mf = wMf V (vA V 4) (gP0 V) := ⟨_, rfl⟩
    refine gT_for (σ := Unit) (pc := 39) (lo := fun h _ => [some gG0, some (gI (nI p)), some (gL (fVi (vA V) (vA V 4) mf p h)), none, some (gI (nI h)), none]) (hp := fun _ _ => gH I1 L1 y) (Inv := fun _ _ => True) (vA V 3 + 1) ?_ ?_ 0 () (Nat.zero_le _) trivial (by (repeat' apply And.intro) <;> first | rfl | trivial | exact congrArg Sum.inl (nI_1 _).symm | exact congrArg Sum.inl (nI_1 _).symm)
    · intro _ _
      refine gT_go 400 [] kX1_visits ?_
      refine bGt (vA V 3 + 1) (vA V 3) rfl (hl.1 3 (by decide)) (fun _ => ?_) (fun q => absurd q (by omega))
      exact cDone (by rw [ho]; unfold xVisits; rw [g1, g2, ep, hmf]; exact ⟨rfl, rfl, rfl⟩) f1 H1
    · intro h _ hh _ hnext
      refine gT_go 400 [39, 54] kX1_visits ?_
      refine bGt h (vA V 3) rfl (hl.1 3 (by decide)) (fun q => absurd q (by omega)) (fun _ => ?_)
      refine gT_for (σ := Unit) (pc := 54) (lo := fun n _ => [some gG0, some (gI (nI p)), some (gL (fVi (vA V) (vA V 4) mf p h + sNn (fun n => mf h p n * gSc (vA V) h) n)), none, some (gI (nI h)), some (gI (nI n))]) (hp := fun _ _ => gH I1 L1 y) (Inv := fun _ _ => True) (vA V 4 + 1) ?_ ?_ 0 () (Nat.zero_le _) trivial ?_
      · intro _ _
        refine gT_go 400 [39] kX1_visits ?_
        refine bGt (vA V 4 + 1) (vA V 4) rfl hl.2.1 (fun _ => ?_) (fun q => absurd q (by omega))
        exact hnext () _ trivial (by (repeat' apply And.intro) <;> first | rfl | trivial | exact congrArg Sum.inl (nI_1 _).symm | exact congrArg Sum.inl (nI_1 _).symm)
      · intro n _ hn _ hnextn
        have hc := cN_lt (show h < 25 by omega) (show p < 12 by omega) (show n < 13 by omega)
        refine gT_go 400 [54] kX1_visits ?_
        refine bGt n (vA V 4) rfl hl.2.1 (fun q => absurd q (by omega)) (fun _ => ?_)
        refine gP_use (o_state (d + 609) h p n (gH I1 L1 y)) ?_
        refine Exists.intro (cN h p n) (And.intro rfl (And.intro (show _ < 3900 by omega) ?_))
        refine Exists.intro (h) (And.intro rfl (And.intro (show _ < 26 by omega) ?_))
        refine hnextn () _ trivial ⟨rfl, rfl, congrArg (fun q => gL q) ?_, rfl, congrArg (fun q => gI q) (nI_1 n).symm, trivial⟩
        have e1 : L1 94 0 (cN h p n) = mf h p n := by rw [ms _ hc, cMa_v hw.1 hS (by omega) hp (by omega), hmf] <;> rfl
        show fVi (vA V) (vA V 4) mf p h + (sNn (fun n => mf h p n * gSc (vA V) h) n + mf h p n * gSc (vA V) h) = fVi (vA V) (vA V 4) mf p h + sNn (fun n => mf h p n * gSc (vA V) h) n + L1 94 0 (cN h p n) * L1 74 0 h
        rw [e1, kn.1.2 h (by omega), Int64.add_assoc]
      · exact ⟨rfl, rfl, congrArg (fun q => gL q) (Int64.add_zero _), rfl, rfl, trivial⟩
  refine gT_go 400 [27] kX1_visits ?_
  refine gP_use (gP_eq (by rw [← e0] <;> rfl) (o_in (d + 609) a 0 (nI (vA V 0) - 1) (gH I L y))) ?_
  refine bB1 (gWi a 0 (nI (vA V 0) - 1)) rfl (fun c => ?_) (fun c => ?_)
  · exact at27 _ _ (by rw [c] <;> rfl) (by (repeat' apply And.intro) <;> first | rfl | trivial | exact congrArg Sum.inl (nI_1 _).symm | exact congrArg Sum.inl (nI_1 _).symm)
  · exact at27 _ _ (by rw [c] <;> rfl) (by (repeat' apply And.intro) <;> first | rfl | trivial | exact congrArg Sum.inl (nI_1 _).symm | exact congrArg Sum.inl (nI_1 _).symm)
