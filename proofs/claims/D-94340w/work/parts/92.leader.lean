/-! ===== the component: leaderBy ===== -/
def cLr (z : Nat) : Rf := (glk gLref z).getD (30, 0)
set_option maxRecDepth 100000 in
theorem o_leaderBy (d k : Nat) (hk : k < 5) (P : Option (Nat × Nat)) (hP : ∀ a b, P = some (a, b) → a < 5 ∧ b < 5) (KD : Nat → Nat) (I : Nat → Nat → Nat → Int32) (L : Nat → Nat → Nat → Int64) (y : Dy) (h1 : I 60 0 10 = gOI (P.map (·.1))) (h2 : I 60 0 11 = gOI (P.map (·.2))) (hkd : I 21 0 k = nI (KD k) ∧ KD k < 6) :
    gP mX1_leaderBy (d + 1) [gG0, gI (nI k)] (gH I L y) (gR (some (if gPin P k = true then (33, 0) else cLr (KD k)))) := by
  obtain ⟨k1, k2⟩ := hkd
  have at31 : ∀ lo', gPin P k = false → glle [some gG0, some (gI (nI k))] lo' → gT mX1_leaderBy (d + 1) (0, 0) (fun v h' => v = [gR (some (if gPin P k = true then (33, 0) else cLr (KD k)))] ∧ h' = gH I L y) (fun _ _ => False) 31 lo' [] (gH I L y) (0, 0) := by
    intro lo' hg hl'
    refine gT_lo _ hl' ?_
    refine gT_go 400 [] kX1_leaderBy ?_
    refine Exists.intro (k) (And.intro rfl (And.intro (show _ < 5 by omega) ?_))
    refine Exists.intro (KD k) (And.intro k1 (And.intro (show KD k < 6 by omega) ?_))
    refine ⟨congrArg (fun z => [gR z]) ?_, rfl⟩
    rw [hg]
    show glk gLref (KD k) = some (if false = true then (33, 0) else cLr (KD k))
    have e : ∀ z, z < 6 → glk gLref z = some (cLr z) := by decide +kernel
    exact e _ k2
  cases P with
  | none =>
    refine gEnter 400 [31] kX1_leaderBy rfl rfl ?_
    refine And.intro (fun _ => ?_) (fun q => absurd h1 q)
    exact at31 _ rfl (by (repeat' apply And.intro) <;> first | rfl | trivial | exact congrArg Sum.inl (nI_1 _).symm | exact congrArg Sum.inl (nI_1 _).symm)
  | some ab =>
    obtain ⟨a, b⟩ := ab
    obtain ⟨b1, b2⟩ := hP a b rfl
    have h1' : I 60 0 10 = nI a := h1
    have h2' : I 60 0 11 = nI b := h2
    have at24 : ∀ lo', gPin (some (a, b)) k = true → glle [some gG0, some (gI (nI k))] lo' → gT mX1_leaderBy (d + 1) (0, 0) (fun v h' => v = [gR (some (if gPin (some (a, b)) k = true then (33, 0) else cLr (KD k)))] ∧ h' = gH I L y) (fun _ _ => False) 24 lo' [] (gH I L y) (0, 0) := by
      intro lo' hg hl'
      refine gT_lo _ hl' ?_
      refine gT_go 400 [] kX1_leaderBy ?_
      exact ⟨by rw [hg]; rfl, rfl⟩
    refine gEnter 400 [24, 31] kX1_leaderBy rfl rfl ?_
    refine And.intro (fun q => absurd (h1'.symm.trans q) (gOI_ne (by omega))) (fun _ => ?_)
    refine bEq k a rfl h1' (fun c => ?_) (fun c => ?_)
    · exact at24 _ (by show (Nat.beq k a || Nat.beq k b) = _; rw [gbeqT c] <;> rfl) (by (repeat' apply And.intro) <;> first | rfl | trivial | exact congrArg Sum.inl (nI_1 _).symm | exact congrArg Sum.inl (nI_1 _).symm)
    · refine bNe k b rfl h2' (fun c2 => ?_) (fun c2 => ?_)
      · exact at31 _ (by show (Nat.beq k a || Nat.beq k b) = _; rw [gbeqF c, gbeqF c2] <;> rfl) (by (repeat' apply And.intro) <;> first | rfl | trivial | exact congrArg Sum.inl (nI_1 _).symm | exact congrArg Sum.inl (nI_1 _).symm)
      · exact at24 _ (by show (Nat.beq k a || Nat.beq k b) = _; rw [gbeqT c2, Bool.or_true]) (by (repeat' apply And.intro) <;> first | rfl | trivial | exact congrArg Sum.inl (nI_1 _).symm | exact congrArg Sum.inl (nI_1 _).symm)
