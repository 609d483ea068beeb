/-! ===== public methods of the component: the pact that holds ===== -/
set_option maxRecDepth 100000 in
theorem c2_holds (V : VS) (hw : gWf V) (hf : vL V = true → gFew (vA V)) : cC mX1_holds 612 (1, 6) [39] [] V (xHolds V) := by
  intro d I L y H
  obtain ⟨o, ho⟩ : ∃ o, o = xHolds V := ⟨_, rfl⟩
  rw [← ho]
  have a2 := hw.1.2.2.1
  refine gEnter 400 [1] kX1_holds rfl rfl ?_
  refine gT_gate 287 (1, 6) rfl rfl rfl rfl rfl dX1_holds_1 (o_mustLand (d + 605) V I L y H) rfl (by decide) (by decide) (fun q h' hx => cX_of (c := 0) (fun e => by rw [ho]; unfold xHolds; rw [e]; exact ⟨rfl, rfl⟩) rfl hx) (fun g1 => ?_)
  have hF := hf g1
  refine gT_go 400 [6] kX1_holds ?_
  refine gT_for (σ := (Nat → Nat → Nat → Int32) × (Nat → Nat → Nat → Int64)) (pc := 6) (lo := fun i _ => [some gG0, some (gI (nI i)), none]) (hp := fun _ x => gH x.1 x.2 y) (Inv := fun i x => cOut I L x.1 x.2 ∧ cR V x.1 x.2 y ∧ ∀ a b, a < i → b < vA V 2 → cHolds V a b = false) (vA V 2) ?_ ?_ 0 (I, L) (Nat.zero_le _) ⟨cOut.rf I L, H, fun a b ha _ => absurd ha (Nat.not_lt_zero _)⟩ (by (repeat' apply And.intro) <;> first | rfl | trivial | exact congrArg Sum.inl (nI_1 _).symm | exact congrArg Sum.inl (nI_1 _).symm)
  · intro x ⟨x1, x2, x3⟩
    refine gT_go 400 [] kX1_holds ?_
    refine bGe (vA V 2) (vA V 2) rfl (x2.1.1.1 2 (by decide)) (fun _ => ?_) (fun q => absurd q (by omega))
    exact cDone (by rw [ho]; unfold xHolds; rw [g1, gF2_none x3]; exact ⟨rfl, rfl, rfl⟩) x1 x2
  · intro a x ha ⟨x1, x2, x3⟩ hnexta
    refine gT_go 400 [6, 21] kX1_holds ?_
    refine bGe a (vA V 2) rfl (x2.1.1.1 2 (by decide)) (fun q => absurd q (by omega)) (fun _ => ?_)
    refine gT_for (σ := (Nat → Nat → Nat → Int32) × (Nat → Nat → Nat → Int64)) (pc := 21) (lo := fun i _ => [some gG0, some (gI (nI a)), some (gI (nI i))]) (hp := fun _ x => gH x.1 x.2 y) (Inv := fun i x => cOut I L x.1 x.2 ∧ cR V x.1 x.2 y ∧ (∀ b, b < i → cHolds V a b = false) ∧ a < i) (vA V 2) ?_ ?_ (a + 1) x (by omega) ⟨x1, x2, fun b hb => by unfold cHolds; rw [decide_eq_false (by omega)]; rfl, Nat.lt_succ_self a⟩ (by (repeat' apply And.intro) <;> first | rfl | trivial | exact congrArg Sum.inl (nI_1 _).symm | exact congrArg Sum.inl (nI_1 _).symm)
    · intro x ⟨x1, x2, x4, _⟩
      refine gT_go 400 [6] kX1_holds ?_
      refine bGe (vA V 2) (vA V 2) rfl (x2.1.1.1 2 (by decide)) (fun _ => ?_) (fun q => absurd q (by omega))
      refine hnexta x _ ⟨x1, x2, fun a' b ha' hb => ?_⟩ (by (repeat' apply And.intro) <;> first | rfl | trivial | exact congrArg Sum.inl (nI_1 _).symm | exact congrArg Sum.inl (nI_1 _).symm)
      rcases Nat.lt_or_ge a' a with w | w
      · exact x3 a' b w hb
      · rw [show a' = a by omega]; exact x4 b hb
    · intro b x hb ⟨x1, x2, x4, hab⟩ hnextb
      have at63 : ∀ (x' : (Nat → Nat → Nat → Int32) × (Nat → Nat → Nat → Int64)) (lo' : Lo), cOut I L x'.1 x'.2 → cR V x'.1 x'.2 y → cHolds V a b = false → glle [some gG0, some (gI (nI a)), some (gI (nI b))] lo' → gT mX1_holds (d + 612) (1, 6) (cQr o I L) (cQx [39] o I L) 63 lo' [] (gH x'.1 x'.2 y) (1, 6) := by
        intro x' lo' c1 c2 c3 hl'
        refine gT_lo _ hl' ?_
        refine gT_go 400 [21] kX1_holds ?_
        refine hnextb x' _ ⟨c1, c2, fun j hj => ?_, by omega⟩ (by (repeat' apply And.intro) <;> first | rfl | trivial | exact congrArg Sum.inl (nI_1 _).symm | exact congrArg Sum.inl (nI_1 _).symm)
        rcases Nat.lt_or_ge j b with w | w
        · exact x4 j w
        · rw [show j = b by omega]; exact c3
      refine gT_go 400 [21, 63] kX1_holds ?_
      refine bGe b (vA V 2) rfl (x2.1.1.1 2 (by decide)) (fun q => absurd q (by omega)) (fun _ => ?_)
      refine gTM_use rfl (o_byPact (d + 1) V hw g1 a b a ha hb (by omega) ha x.1 x.2 y x2) (fun v h' q => ?_)
      obtain ⟨rfl, I1, L1, rfl, f1, H1, k1⟩ := q
      refine bcLe (fun c1 => ?_) (fun c1 => ?_)
      · refine at63 (I1, L1) _ (x1.tr f1) H1 ?_ (by (repeat' apply And.intro) <;> first | rfl | trivial | exact congrArg Sum.inl (nI_1 _).symm | exact congrArg Sum.inl (nI_1 _).symm)
        unfold cHolds
        rw [decide_eq_false (fun q => c1 ((k1 hF).mpr q)), Bool.false_and, Bool.and_false]
      · refine gTM_use rfl (o_byPact (d + 1) V hw g1 a b b ha hb (by omega) hb I1 L1 y H1) (fun v h' q => ?_)
        obtain ⟨rfl, I2, L2, rfl, f2, H2, k2⟩ := q
        refine bcLe (fun c2 => ?_) (fun c2 => ?_)
        · refine at63 (I2, L2) _ ((x1.tr f1).tr f2) H2 ?_ (by (repeat' apply And.intro) <;> first | rfl | trivial | exact congrArg Sum.inl (nI_1 _).symm | exact congrArg Sum.inl (nI_1 _).symm)
          unfold cHolds
          rw [decide_eq_false (fun q => c2 ((k2 hF).mpr q)), Bool.and_false, Bool.and_false]
        · have ok2 : cHolds V a b = true := by unfold cHolds; rw [decide_eq_true hab, decide_eq_true ((k1 hF).mp c1), decide_eq_true ((k2 hF).mp c2)] <;> rfl
          have em : nI (10 * a + b) = nI 10 * nI a + nI b := by rw [pk_mul, nI_add]
          exact cDone (by rw [ho]; unfold xHolds; rw [g1, gF2_some ha hb ok2 x3 x4]; exact ⟨rfl, congrArg gI em, rfl⟩) ((x1.tr f1).tr f2) H2
