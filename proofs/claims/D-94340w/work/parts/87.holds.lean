/-! ===== the component: whether all rules hold ===== -/
theorem rYes_v {nm : Nat → Int32} {C : Cd} {b : Bool} (h : ∀ st, rRun nm st C = gb b :: st) : rYes nm C = b := by
  unfold rYes
  rw [h]
  cases b <;> decide
set_option maxRecDepth 100000 in
theorem o_holdsAll (d ht : Nat) (go : Bool) (nm : Nat → Int32) (R : RL) (I : Nat → Nat → Nat → Int32) (L : Nat → Nat → Nat → Int64) (y : Dy) (hR : cRl R ht I y) (hnm : ∀ k, k < 8 → I 73 0 k = nm k) :
    gP mX1_holdsAll (d + ht + 4) [gG0, gI (gb (!go))] (gH I L y) (gI (gb (rHo R none go nm))) := by
  obtain ⟨R1, f, R2, R3⟩ := hR
  have hsz : gP mJ2_size (d + ht + 3) [gR (some (10, y.2.1))] (gH I L y) (gI (nI R.length)) := o_size (d + ht + 2) y.2.1 R.length f I L y R2
  refine gEnter 400 [4] kX1_holdsAll rfl rfl ?_
  -- a rule says no: the end
  have no4 : ∀ (k : Nat) (lo' : Lo), k < R.length → rHo1 R none go nm k = false → glle [some gG0, some (gI (gb (!go))), some (gI (gb false)), some (gI (nI (k + 1)))] lo' → gT mX1_holdsAll (d + ht + 4) (0, 0) (fun v h' => v = [gI (gb (rHo R none go nm))] ∧ h' = gH I L y) (fun _ _ => False) 4 lo' [] (gH I L y) (0, 0) := by
    intro k lo' hk hf hl'
    refine gT_lo _ hl' ?_
    refine gT_go 400 [73] kX1_holdsAll ?_
    refine gP_use (hsz) ?_
    have at73 : ∀ lo', glle [none, none, some (gI (gb false)), none] lo' → gT mX1_holdsAll (d + ht + 4) (0, 0) (fun v h' => v = [gI (gb (rHo R none go nm))] ∧ h' = gH I L y) (fun _ _ => False) 73 lo' [] (gH I L y) (0, 0) := by
      intro lo' hl'
      refine gT_lo _ hl' ?_
      refine gT_go 400 [] kX1_holdsAll ?_
      exact ⟨Or.inl rfl, by rw [rHo_f hk hf], rfl⟩
    refine bGe (k + 1) R.length rfl rfl (fun c => ?_) (fun c => ?_)
    · exact at73 _ (by (repeat' apply And.intro) <;> first | rfl | trivial | exact congrArg Sum.inl (nI_1 _).symm | exact congrArg Sum.inl (nI_1 _).symm)
    · refine bB0 false rfl (fun _ => ?_) (fun q => absurd q (by decide))
      exact at73 _ (by (repeat' apply And.intro) <;> first | rfl | trivial | exact congrArg Sum.inl (nI_1 _).symm | exact congrArg Sum.inl (nI_1 _).symm)
  refine gT_for (σ := Unit) (pc := 4) (lo := fun k _ => [some gG0, some (gI (gb (!go))), some (gI (gb true)), some (gI (nI k))]) (hp := fun _ _ => gH I L y) (Inv := fun k _ => ∀ j, j < k → rHo1 R none go nm j = true) R.length ?_ ?_ 0 () (Nat.zero_le _) (fun j hj => absurd hj (Nat.not_lt_zero _)) (by (repeat' apply And.intro) <;> first | rfl | trivial | exact congrArg Sum.inl (nI_1 _).symm | exact congrArg Sum.inl (nI_1 _).symm)
  · intro _ hv
    refine gT_go 400 [4] kX1_holdsAll ?_
    refine gP_use (hsz) ?_
    refine bGe R.length R.length rfl rfl (fun _ => ?_) (fun c => absurd c (by omega))
    exact ⟨Or.inr rfl, by rw [rHo_t hv], rfl⟩
  · intro k _ hk hv hnext
    obtain ⟨j, ra, g1, g2, g3, g4⟩ := R3 k hk
    obtain ⟨b, q1, p1⟩ := o_is nm hnm L g4
    have p2 : gP (mIs ra.1) (d + ht + 3) [gR (some ra), gNm] (gH I L y) (gI (gb b)) := by
      have q := p1 (d + 2)
      rw [show d + 2 + ht + 1 = d + ht + 3 by omega] at q
      exact q
    have hget : gP mJ2_get (d + ht + 3) [gR (some (10, y.2.1)), gI (nI k)] (gH I L y) (gR (some (12, j))) := by rw [← g1]; exact o_get (d + ht + 1) y.2.1 R.length k f I L y R2 hk
    have at66 : ∀ (x : Bool) (lo' : Lo), x = rHo1 R none go nm k → glle [some gG0, some (gI (gb (!go))), none, some (gI (nI k))] lo' → gT mX1_holdsAll (d + ht + 4) (0, 0) (fun v h' => v = [gI (gb (rHo R none go nm))] ∧ h' = gH I L y) (fun _ _ => False) 66 lo' [gI (gb x)] (gH I L y) (0, 0) := by
      intro x lo' hx hl'
      refine gT_lo _ hl' ?_
      refine gT_go 400 [4] kX1_holdsAll ?_
      cases hv2 : rHo1 R none go nm k with
      | true =>
        rw [hv2] at hx
        subst hx
        refine hnext () _ (fun i hi => ?_) (by (repeat' apply And.intro) <;> first | rfl | trivial | exact congrArg Sum.inl (nI_1 _).symm | exact congrArg Sum.inl (nI_1 _).symm)
        by_cases e : i = k
        · rw [e]; exact hv2
        · exact hv i (by omega)
      | false =>
        rw [hv2] at hx
        subst hx
        exact no4 k _ hk hv2 (by (repeat' apply And.intro) <;> first | rfl | trivial | exact congrArg Sum.inl (nI_1 _).symm | exact congrArg Sum.inl (nI_1 _).symm)
    have at55 : ∀ lo', rG R k = go → glle [some gG0, some (gI (gb (!go))), none, some (gI (nI k))] lo' → gT mX1_holdsAll (d + ht + 4) (0, 0) (fun v h' => v = [gI (gb (rHo R none go nm))] ∧ h' = gH I L y) (fun _ _ => False) 55 lo' [gNm, gR (gRX y 12 j 1)] (gH I L y) (0, 0) := by
      intro lo' hgo hl'
      rw [g3]
      refine gT_lo _ hl' ?_
      have hx : b = rHo1 R none go nm k := by
        unfold rHo1
        rw [hgo, rYes_v q1]
        cases go <;> cases b <;> rfl
      obtain ⟨bb, jj⟩ := ra
      rcases cAs_kind g4 with hb | hb | hb <;> simp only at hb <;> subst hb
      all_goals
        refine gT_go 400 [66] kX1_holdsAll ?_
        refine gP_use p2 ?_
        refine bB0 b rfl (fun c => ?_) (fun c => ?_)
        · exact at66 false _ (by rw [← hx, c]) (by (repeat' apply And.intro) <;> first | rfl | trivial | exact congrArg Sum.inl (nI_1 _).symm | exact congrArg Sum.inl (nI_1 _).symm)
        · exact at66 true _ (by rw [← hx, c]) (by (repeat' apply And.intro) <;> first | rfl | trivial | exact congrArg Sum.inl (nI_1 _).symm | exact congrArg Sum.inl (nI_1 _).symm)
    have at45 : ∀ lo', rG R k = go → glle [some gG0, some (gI (gb (!go))), none, some (gI (nI k))] lo' → gT mX1_holdsAll (d + ht + 4) (0, 0) (fun v h' => v = [gI (gb (rHo R none go nm))] ∧ h' = gH I L y) (fun _ _ => False) 45 lo' [gR (some (12, j))] (gH I L y) (0, 0) := by
      intro lo' hgo hl'
      refine gT_cast (ci := 14) (rr := (RX17, TX17, 2)) (index := 320) (show ¬ 12 = 2 by decide) rfl rfl q1430 dX1_holdsAll_45 ?_
      refine gT_lo _ hl' ?_
      refine gT_go 400 [55] kX1_holdsAll ?_
      exact at55 _ hgo (by (repeat' apply And.intro) <;> first | rfl | trivial | exact congrArg Sum.inl (nI_1 _).symm | exact congrArg Sum.inl (nI_1 _).symm)
    have at27 : ∀ lo', glle [some gG0, some (gI (gb (!go))), none, some (gI (nI k))] lo' → gT mX1_holdsAll (d + ht + 4) (0, 0) (fun v h' => v = [gI (gb (rHo R none go nm))] ∧ h' = gH I L y) (fun _ _ => False) 27 lo' [gR (some (12, j))] (gH I L y) (0, 0) := by
      intro lo' hl'
      refine gT_cast (ci := 14) (rr := (RX17, TX17, 2)) (index := 320) (show ¬ 12 = 2 by decide) rfl rfl q1430 dX1_holdsAll_27 ?_
      refine gT_lo _ hl' ?_
      refine gT_go 400 [45, 66] kX1_holdsAll ?_
      have hne : I 12 j 0 = gb (!go) ↔ rG R k = go := by
        rw [g2]
        cases rG R k <;> cases go <;> decide
      refine And.intro (fun c => ?_) (fun c => ?_)
      · have hgo : ¬ rG R k = go := fun q => c (hne.mpr q)
        refine at66 true _ ?_ (by (repeat' apply And.intro) <;> first | rfl | trivial | exact congrArg Sum.inl (nI_1 _).symm | exact congrArg Sum.inl (nI_1 _).symm)
        unfold rHo1
        cases h1 : rG R k <;> cases h2 : go <;> rw [h1, h2] at hgo <;> first | exact absurd rfl hgo | rfl
      · have hgo : rG R k = go := hne.mp c
        refine gP_use hget ?_
        exact at45 _ hgo (by (repeat' apply And.intro) <;> first | rfl | trivial | exact congrArg Sum.inl (nI_1 _).symm | exact congrArg Sum.inl (nI_1 _).symm)
    refine gT_go 400 [27] kX1_holdsAll ?_
    refine gP_use (hsz) ?_
    refine bGe k R.length rfl rfl (fun c => absurd c (by omega)) (fun _ => ?_)
    refine bB0 true rfl (fun q => absurd q (by decide)) (fun _ => ?_)
    refine gP_use hget ?_
    exact at27 _ (by (repeat' apply And.intro) <;> first | rfl | trivial | exact congrArg Sum.inl (nI_1 _).symm | exact congrArg Sum.inl (nI_1 _).symm)
