/-! ===== public methods of the component: who gives, who swaps ===== -/
theorem cR_L {V : VS} {I : Nat → Nat → Nat → Int32} {L L' : Nat → Nat → Nat → Int64} {y : Dy} (H : cR V I L y) (e : ∀ b, b = 74 ∨ b = 84 ∨ b = 85 ∨ b = 161 ∨ b = 162 ∨ b = 163 → L' b = L b) : cR V I L' y := ⟨H.1, cKw_cg rfl rfl e (fun _ _ => rfl) H.2⟩
/-- worths as it is lie in their row -/
def cAk (V : VS) (L : Nat → Nat → Nat → Int64) (n : Nat) : Prop := ∀ k, k < n → L 93 0 k = wTo V (vA V 4) none (gP0 V) (some k)
set_option maxRecDepth 100000 in
theorem c2_give (V : VS) (hw : gWf V) : cC mX1_give 612 (1, 6) [39] [] V (xGive V) := by
  intro d I L y H
  obtain ⟨o, ho⟩ : ∃ o, o = xGive V := ⟨_, rfl⟩
  rw [← ho]
  have a2 := hw.1.2.2.1
  have a3 := hw.1.2.2.2.1
  refine gEnter 400 [1] kX1_give rfl rfl ?_
  refine gT_gate 287 (1, 6) rfl rfl rfl rfl rfl dX1_give_1 (o_mustLand (d + 605) V I L y H) rfl (by decide) (by decide) (fun q h' hx => cX_of (c := 0) (fun e => by rw [ho]; unfold xGive; rw [e]; exact ⟨rfl, rfl⟩) rfl hx) (fun g1 => ?_)
  have hA := hw.2.1 g1
  refine gT_go 400 [6] kX1_give ?_
  refine gT_for (σ := (Nat → Nat → Nat → Int32) × (Nat → Nat → Nat → Int64)) (pc := 6) (lo := fun i _ => [some gG0, some (gI (nI i)), none]) (hp := fun _ x => gH x.1 x.2 y) (Inv := fun i x => cOut I L x.1 x.2 ∧ cR V x.1 x.2 y ∧ cAk V x.2 i) (vA V 2) ?_ ?_ 0 (I, L) (Nat.zero_le _) ⟨cOut.rf I L, H, fun k hk => absurd hk (Nat.not_lt_zero _)⟩ (by (repeat' apply And.intro) <;> first | rfl | trivial | exact congrArg Sum.inl (nI_1 _).symm | exact congrArg Sum.inl (nI_1 _).symm)
  · intro x ⟨x1, x2, x3⟩
    refine gT_go 400 [36] kX1_give ?_
    refine bGe (vA V 2) (vA V 2) rfl (x2.1.1.1 2 (by decide)) (fun _ => ?_) (fun q => absurd q (by omega))
    refine gT_for (σ := (Nat → Nat → Nat → Int32) × (Nat → Nat → Nat → Int64)) (pc := 36) (lo := fun i _ => [some gG0, some (gI (nI i)), none]) (hp := fun _ x => gH x.1 x.2 y) (Inv := fun i x => (cOut I L x.1 x.2 ∧ cR V x.1 x.2 y ∧ cAk V x.2 (vA V 2)) ∧ ∀ h k, h < i → k < vA V 2 → cGive V h k = false) (vA V 3) ?_ ?_ 0 x (Nat.zero_le _) ⟨⟨x1, x2, x3⟩, fun h k hh _ => absurd hh (Nat.not_lt_zero _)⟩ (by (repeat' apply And.intro) <;> first | rfl | trivial | exact congrArg Sum.inl (nI_1 _).symm | exact congrArg Sum.inl (nI_1 _).symm)
    · intro x ⟨⟨x1, x2, x3⟩, x4⟩
      refine gT_go 400 [36] kX1_give ?_
      refine bGe (vA V 3) (vA V 3) rfl (x2.1.1.1 3 (by decide)) (fun _ => ?_) (fun q => absurd q (by omega))
      exact cDone (by rw [ho]; unfold xGive; rw [g1, gF2_none x4]; exact ⟨rfl, rfl, rfl⟩) x1 x2
    · intro h x hh ⟨⟨x1, x2, x3⟩, x4⟩ hnexth
      refine gT_go 400 [49] kX1_give ?_
      refine bGe h (vA V 3) rfl (x2.1.1.1 3 (by decide)) (fun q => absurd q (by omega)) (fun _ => ?_)
      refine gT_for (σ := (Nat → Nat → Nat → Int32) × (Nat → Nat → Nat → Int64)) (pc := 49) (lo := fun i _ => [some gG0, some (gI (nI h)), some (gI (nI i))]) (hp := fun _ x => gH x.1 x.2 y) (Inv := fun i x => (cOut I L x.1 x.2 ∧ cR V x.1 x.2 y ∧ cAk V x.2 (vA V 2)) ∧ ∀ k, k < i → cGive V h k = false) (vA V 2) ?_ ?_ 0 x (Nat.zero_le _) ⟨⟨x1, x2, x3⟩, fun k hk => absurd hk (Nat.not_lt_zero _)⟩ (by (repeat' apply And.intro) <;> first | rfl | trivial | exact congrArg Sum.inl (nI_1 _).symm | exact congrArg Sum.inl (nI_1 _).symm)
      · intro x ⟨⟨x1, x2, x3⟩, x5⟩
        refine gT_go 400 [36] kX1_give ?_
        refine bGe (vA V 2) (vA V 2) rfl (x2.1.1.1 2 (by decide)) (fun _ => ?_) (fun q => absurd q (by omega))
        refine hnexth x _ ⟨⟨x1, x2, x3⟩, fun h' k hh' hk => ?_⟩ (by (repeat' apply And.intro) <;> first | rfl | trivial | exact congrArg Sum.inl (nI_1 _).symm | exact congrArg Sum.inl (nI_1 _).symm)
        rcases Nat.lt_or_ge h' h with w | w
        · exact x4 h' k w hk
        · have : h' = h := by omega
          subst this; exact x5 k hk
      · intro k x hk ⟨⟨x1, x2, x3⟩, x5⟩ hnextk
        have hle := (cLe_V hw g1 x2.1).use (d + 610) h (vA V 4) (by omega) hw.1 hA.2.2.1 x.2 y x2.1.1
        rw [cWho_V V h] at hle
        have hkk := gP0_lt hw hh
        have at87 : ∀ (x' : (Nat → Nat → Nat → Int32) × (Nat → Nat → Nat → Int64)) (lo' : Lo), cOut I L x'.1 x'.2 → cR V x'.1 x'.2 y → cAk V x'.2 (vA V 2) → cGive V h k = false → glle [some gG0, some (gI (nI h)), some (gI (nI k))] lo' → gT mX1_give (d + 612) (1, 6) (cQr o I L) (cQx [39] o I L) 87 lo' [] (gH x'.1 x'.2 y) (1, 6) := by
          intro x' lo' c1 c2 c3 c4 hl'
          refine gT_lo _ hl' ?_
          refine gT_go 400 [49] kX1_give ?_
          refine hnextk x' _ ⟨⟨c1, c2, c3⟩, fun j hj => ?_⟩ (by (repeat' apply And.intro) <;> first | rfl | trivial | exact congrArg Sum.inl (nI_1 _).symm | exact congrArg Sum.inl (nI_1 _).symm)
          rcases Nat.lt_or_ge j k with w | w
          · exact x5 j w
          · rw [show j = k by omega]; exact c4
        refine gT_go 400 [87] kX1_give ?_
        refine bGe k (vA V 2) rfl (x2.1.1.1 2 (by decide)) (fun q => absurd q (by omega)) (fun _ => ?_)
        refine gP_use hle ?_
        refine bEq k ((gP0 V).1 h) rfl rfl (fun c => ?_) (fun c => ?_)
        · exact at87 x _ x1 x2 x3 (by unfold cGive; rw [decide_eq_false (fun q => q c)] <;> rfl) (by (repeat' apply And.intro) <;> first | rfl | trivial | exact congrArg Sum.inl (nI_1 _).symm | exact congrArg Sum.inl (nI_1 _).symm)
        · have hq : pEq (gLed (gP0 V) h k) (gP0 (xS V (sTwo (vS V) h h (nI k) (nI k)))) := by
            have e : sTwo (vS V) h h (nI k) (nI k) = up1 (vS V) (29 + h) (nI k) := by unfold sTwo; rw [if_pos rfl]
            rw [e]
            exact gLed_eq (by omega) (by omega)
          refine gTM_use rfl (o_gain (d + 1) V hw g1 h h k k hh hh hk hk (gLed (gP0 V) h k) hq (gLed_ok hw hk) x.1 x.2 y x2 x3) (fun v h' q => ?_)
          obtain ⟨rfl, I2, L2, rfl, f2, H2, l2⟩ := q
          have k2 : cAk V L2 (vA V 2) := fun j hj => by rw [l2]; exact x3 j hj
          refine bB0 _ rfl (fun c2 => ?_) (fun c2 => ?_)
          · exact at87 (I2, L2) _ (x1.tr f2) H2 k2 (by unfold cGive; rw [c2, Bool.and_false]) (by (repeat' apply And.intro) <;> first | rfl | trivial | exact congrArg Sum.inl (nI_1 _).symm | exact congrArg Sum.inl (nI_1 _).symm)
          · have cg : cGive V h k = true := by unfold cGive; rw [decide_eq_true c, c2] <;> rfl
            have em : nI (10 * h + k) = nI 10 * nI h + nI k := by rw [pk_mul, nI_add]
            exact cDone (by rw [ho]; unfold xGive; rw [g1, gF2_some hh hk cg x4 x5]; exact ⟨rfl, congrArg gI em, rfl⟩) (x1.tr f2) H2
  · intro i x hi ⟨x1, x2, x3⟩ hnext
    refine gT_go 400 [6] kX1_give ?_
    refine bGe i (vA V 2) rfl (x2.1.1.1 2 (by decide)) (fun q => absurd q (by omega)) (fun _ => ?_)
    refine gTM_use rfl (o_worthV (d + 2) V hw g1 (some i) (fun j q => by cases q; exact hi) x.1 x.2 y x2) (fun v h' q => ?_)
    obtain ⟨rfl, I2, L2, rfl, f2, H2, -⟩ := q
    refine Exists.intro (i) (And.intro rfl (And.intro (show _ < 5 by omega) ?_))
    refine hnext (I2, u3 L2 93 0 i (wTo V (vA V 4) none (gP0 V) (some i))) _ ⟨(x1.tr f2.out).tr (fun b b1 b2 => ⟨rfl, u3_ne1 (by omega)⟩), cR_L H2 (fun b hb => u3_ne1 (by omega)), fun k hk => ?_⟩ (by (repeat' apply And.intro) <;> first | rfl | trivial | exact congrArg Sum.inl (nI_1 _).symm | exact congrArg Sum.inl (nI_1 _).symm)
    by_cases e : k = i
    · subst e; exact u3_eq
    · refine (u3_ne3 e).trans ?_
      rw [f2.2.2 93 (by decide) (by decide) (by decide) (by decide) (by decide) (by decide)]
      exact x3 k (by omega)
theorem pEq.tr {P P' P2 : PP} (H : pEq P P') (G : pEq P' P2) : pEq P P2 := ⟨fun h hh => (G.1 h hh).trans (H.1 h hh), fun k hk => (G.2.1 k hk).trans (H.2.1 k hk), G.2.2.1.trans H.2.2.1, G.2.2.2.1.trans H.2.2.2.1, fun h hh => (G.2.2.2.2 h hh).trans (H.2.2.2.2 h hh)⟩
theorem gLed_cg {P P' : PP} {h k : Nat} (H : pEq P P') : pEq (gLed P h k) (gLed P' h k) := by
  refine ⟨fun q hq => ?_, H.2.1, H.2.2.1, H.2.2.2.1, H.2.2.2.2⟩
  show (if q = h then k else P'.1 q) = (if q = h then k else P.1 q)
  rw [H.1 q hq]
theorem gSwp_ok {V : VS} (hw : gWf V) {a b x z : Nat} (hx : x < vA V 2) (hz : z < vA V 2) : gPok (vA V) (gSwp (gP0 V) a b x z) := by
  have a3 := hw.1.2.2.2.1
  refine ⟨fun q hq => ?_, fun q hq => (hw.2.2.2.1.2.1 q (by omega)).2⟩
  show (if q = b then x else if q = a then z else (gP0 V).1 q) < vA V 2
  split
  · exact hx
  · split
    · exact hz
    · exact gP0_lt hw hq
theorem gSwp_eq {V : VS} {a b x z : Nat} (ha : a < 24) (hb : b < 24) (hx : x < 5) (hz : z < 5) (hab : a ≠ b) : pEq (gSwp (gP0 V) a b x z) (gP0 (xS V (sTwo (vS V) a b (nI z) (nI x)))) := by
  have e : sTwo (vS V) a b (nI z) (nI x) = up1 (up1 (vS V) (29 + a) (nI z)) (29 + b) (nI x) := by unfold sTwo; rw [if_neg hab]
  rw [e]
  have q1 := gLed_eq (V := V) ha hz
  have q2 := gLed_eq (V := xS V (up1 (vS V) (29 + a) (nI z))) hb hx
  exact (gLed_cg (h := b) (k := x) q1).tr q2
set_option maxRecDepth 100000 in
theorem c2_swap (V : VS) (hw : gWf V) (a b : Int32) : cC mX1_swap 612 (4, 24) [57, 38, 39] [gI a, gI b] V (xSwap V a b) := by
  intro d I L y H
  obtain ⟨o, ho⟩ : ∃ o, o = xSwap V a b := ⟨_, rfl⟩
  rw [← ho]
  have a2 := hw.1.2.2.1
  have a3 := hw.1.2.2.2.1
  refine gEnter 400 [1] kX1_swap rfl rfl ?_
  refine gT_gate 287 (1, 6) rfl rfl rfl rfl rfl dX1_swap_1 (o_mustLand (d + 605) V I L y H) rfl (by decide) (by decide) (fun q h' hx => cX_of (c := 2) (fun e => by rw [ho]; unfold xSwap; rw [e]; exact ⟨rfl, rfl⟩) rfl hx) (fun g1 => ?_)
  have hA := hw.2.1 g1
  refine gT_go 400 [6] kX1_swap ?_
  refine gT_gate 266 (2, 12) rfl rfl rfl rfl rfl dX1_swap_6 (o_mustPerson (d + 605) V a I L y H) rfl (by decide) (by decide) (fun q h' hx => cX_of (c := 0) (fun e => by rw [ho]; unfold xSwap; rw [g1, e]; exact ⟨rfl, rfl⟩) rfl hx) (fun g2 => ?_)
  refine gT_go 400 [11] kX1_swap ?_
  refine gT_gate 266 (3, 18) rfl rfl rfl rfl rfl dX1_swap_11 (o_mustPerson (d + 605) V b I L y H) rfl (by decide) (by decide) (fun q h' hx => cX_of (c := 0) (fun e => by rw [ho]; unfold xSwap; rw [g1, g2, e]; exact ⟨rfl, rfl⟩) rfl hx) (fun g3 => ?_)
  obtain ⟨x, rfl, hx⟩ := gWi_n rfl (by omega) g2
  obtain ⟨z, rfl, hz⟩ := gWi_n rfl (by omega) g3
  have ex : gTo (nI x) = x := gTo_n (by omega)
  have ez : gTo (nI z) = z := gTo_n (by omega)
  have at25 : ∀ (v : Int32) (lo' : Lo), v = gb (!decide (x ≠ z)) → glle [some gG0, some (gI (nI x)), some (gI (nI z)), none, none] lo' → gT mX1_swap (d + 612) (4, 24) (cQr o I L) (cQx [57, 38, 39] o I L) 25 lo' [gI v, gG0] (gH I L y) (3, 18) := by
    intro v lo' hv hl'
    rw [hv]
    refine gT_gate 173 (4, 24) rfl rfl rfl rfl rfl dX1_swap_25 (o_wrong (d + 605) V (decide (x ≠ z)) I L y H) rfl (by decide) (by decide) (fun q h' hx => cX_of (c := 1) (fun e => by
      have e' : x = z := by
        have q := of_decide_eq_false e
        exact Classical.not_not.mp q
      rw [ho]; unfold xSwap; rw [g1, g2, g3, decide_eq_true (show nI x = nI z by rw [e'])]; exact ⟨rfl, rfl⟩) rfl hx) (fun g4 => ?_)
    have hxz : x ≠ z := of_decide_eq_true g4
    have nxz : decide (nI x = nI z) = false := decide_eq_false (fun q => hxz ((nI_eq (by omega) (by omega)).mp q))
    refine gT_lo _ hl' ?_
    refine gT_go 400 [30] kX1_swap ?_
    refine gT_for (σ := (Nat → Nat → Nat → Int32) × (Nat → Nat → Nat → Int64)) (pc := 30) (lo := fun i _ => [some gG0, some (gI (nI x)), some (gI (nI z)), some (gI (nI i)), none]) (hp := fun _ q => gH q.1 q.2 y) (Inv := fun i q => cOut I L q.1 q.2 ∧ cR V q.1 q.2 y ∧ cAk V q.2 i) (vA V 2) ?_ ?_ 0 (I, L) (Nat.zero_le _) ⟨cOut.rf I L, H, fun k hk => absurd hk (Nat.not_lt_zero _)⟩ (by (repeat' apply And.intro) <;> first | rfl | trivial | exact congrArg Sum.inl (nI_1 _).symm | exact congrArg Sum.inl (nI_1 _).symm)
    · intro q ⟨x1, x2, x3⟩
      refine gT_go 400 [60] kX1_swap ?_
      refine bGe (vA V 2) (vA V 2) rfl (x2.1.1.1 2 (by decide)) (fun _ => ?_) (fun q => absurd q (by omega))
      refine gT_for (σ := (Nat → Nat → Nat → Int32) × (Nat → Nat → Nat → Int64)) (pc := 60) (lo := fun i _ => [some gG0, some (gI (nI x)), some (gI (nI z)), some (gI (nI i)), none]) (hp := fun _ q => gH q.1 q.2 y) (Inv := fun i q => (cOut I L q.1 q.2 ∧ cR V q.1 q.2 y ∧ cAk V q.2 (vA V 2)) ∧ ∀ a b, a < i → b < vA V 3 → cSwap V x z a b = false) (vA V 3) ?_ ?_ 0 q (Nat.zero_le _) ⟨⟨x1, x2, x3⟩, fun h k hh _ => absurd hh (Nat.not_lt_zero _)⟩ (by (repeat' apply And.intro) <;> first | rfl | trivial | exact congrArg Sum.inl (nI_1 _).symm | exact congrArg Sum.inl (nI_1 _).symm)
      · intro q ⟨⟨x1, x2, x3⟩, x4⟩
        refine gT_go 400 [60] kX1_swap ?_
        refine bGe (vA V 3) (vA V 3) rfl (x2.1.1.1 3 (by decide)) (fun _ => ?_) (fun q => absurd q (by omega))
        exact cDone (by rw [ho]; unfold xSwap; rw [g1, g2, g3, nxz, ex, ez, gF2_none x4]; exact ⟨rfl, rfl, rfl⟩) x1 x2
      · intro h q hh ⟨⟨x1, x2, x3⟩, x4⟩ hnexth
        have at131 : ∀ (q' : (Nat → Nat → Nat → Int32) × (Nat → Nat → Nat → Int64)) (lo' : Lo), cOut I L q'.1 q'.2 → cR V q'.1 q'.2 y → cAk V q'.2 (vA V 2) → (∀ b, b < vA V 3 → cSwap V x z h b = false) → glle [some gG0, some (gI (nI x)), some (gI (nI z)), some (gI (nI h)), none] lo' → gT mX1_swap (d + 612) (4, 24) (cQr o I L) (cQx [57, 38, 39] o I L) 131 lo' [] (gH q'.1 q'.2 y) (4, 24) := by
          intro q' lo' c1 c2 c3 c4 hl2
          refine gT_lo _ hl2 ?_
          refine gT_go 400 [60] kX1_swap ?_
          refine hnexth q' _ ⟨⟨c1, c2, c3⟩, fun h' k hh' hk => ?_⟩ (by (repeat' apply And.intro) <;> first | rfl | trivial | exact congrArg Sum.inl (nI_1 _).symm | exact congrArg Sum.inl (nI_1 _).symm)
          rcases Nat.lt_or_ge h' h with w | w
          · exact x4 h' k w hk
          · rw [show h' = h by omega]; exact c4 k hk
        refine gT_go 400 [74] kX1_swap ?_
        refine bGe h (vA V 3) rfl (x2.1.1.1 3 (by decide)) (fun q => absurd q (by omega)) (fun _ => ?_)
        refine gT_for (σ := (Nat → Nat → Nat → Int32) × (Nat → Nat → Nat → Int64)) (pc := 74) (lo := fun i _ => [some gG0, some (gI (nI x)), some (gI (nI z)), some (gI (nI h)), some (gI (nI i))]) (hp := fun _ q => gH q.1 q.2 y) (Inv := fun i q => (cOut I L q.1 q.2 ∧ cR V q.1 q.2 y ∧ cAk V q.2 (vA V 2)) ∧ ∀ b, b < i → cSwap V x z h b = false) (vA V 3) ?_ ?_ 0 q (Nat.zero_le _) ⟨⟨x1, x2, x3⟩, fun k hk => absurd hk (Nat.not_lt_zero _)⟩ (by (repeat' apply And.intro) <;> first | rfl | trivial | exact congrArg Sum.inl (nI_1 _).symm | exact congrArg Sum.inl (nI_1 _).symm)
        · intro q ⟨⟨x1, x2, x3⟩, x5⟩
          refine gT_go 400 [131] kX1_swap ?_
          refine bGe (vA V 3) (vA V 3) rfl (x2.1.1.1 3 (by decide)) (fun _ => ?_) (fun q => absurd q (by omega))
          exact at131 q _ x1 x2 x3 x5 (by (repeat' apply And.intro) <;> first | rfl | trivial | exact congrArg Sum.inl (nI_1 _).symm | exact congrArg Sum.inl (nI_1 _).symm)
        · intro b q hb ⟨⟨x1, x2, x3⟩, x5⟩ hnextb
          have lea := (cLe_V hw g1 x2.1).use (d + 610) h (vA V 4) (by omega) hw.1 hA.2.2.1 q.2 y x2.1.1
          rw [cWho_V V h] at lea
          have leb := (cLe_V hw g1 x2.1).use (d + 610) b (vA V 4) (by omega) hw.1 hA.2.2.1 q.2 y x2.1.1
          rw [cWho_V V b] at leb
          have hka := gP0_lt hw hh
          have hkb := gP0_lt hw hb
          have at125 : ∀ (q' : (Nat → Nat → Nat → Int32) × (Nat → Nat → Nat → Int64)) (lo' : Lo), cOut I L q'.1 q'.2 → cR V q'.1 q'.2 y → cAk V q'.2 (vA V 2) → cSwap V x z h b = false → glle [some gG0, some (gI (nI x)), some (gI (nI z)), some (gI (nI h)), some (gI (nI b))] lo' → gT mX1_swap (d + 612) (4, 24) (cQr o I L) (cQx [57, 38, 39] o I L) 125 lo' [] (gH q'.1 q'.2 y) (4, 24) := by
            intro q' lo' c1 c2 c3 c4 hl2
            refine gT_lo _ hl2 ?_
            refine gT_go 400 [74] kX1_swap ?_
            refine hnextb q' _ ⟨⟨c1, c2, c3⟩, fun j hj => ?_⟩ (by (repeat' apply And.intro) <;> first | rfl | trivial | exact congrArg Sum.inl (nI_1 _).symm | exact congrArg Sum.inl (nI_1 _).symm)
            rcases Nat.lt_or_ge j b with w | w
            · exact x5 j w
            · rw [show j = b by omega]; exact c4
          refine gT_go 400 [125, 131] kX1_swap ?_
          refine bGe b (vA V 3) rfl (x2.1.1.1 3 (by decide)) (fun q => absurd q (by omega)) (fun _ => ?_)
          refine gP_use lea ?_
          refine bNe ((gP0 V).1 h) x rfl rfl (fun c => ?_) (fun c => ?_)
          · exact at131 q _ x1 x2 x3 (fun b' _ => by unfold cSwap; rw [decide_eq_false c] <;> rfl) (by (repeat' apply And.intro) <;> first | rfl | trivial | exact congrArg Sum.inl (nI_1 _).symm | exact congrArg Sum.inl (nI_1 _).symm)
          · refine gP_use leb ?_
            refine bNe ((gP0 V).1 b) z rfl rfl (fun c2 => ?_) (fun c2 => ?_)
            · exact at125 q _ x1 x2 x3 (by unfold cSwap; rw [decide_eq_false c2, Bool.false_and, Bool.and_false]) (by (repeat' apply And.intro) <;> first | rfl | trivial | exact congrArg Sum.inl (nI_1 _).symm | exact congrArg Sum.inl (nI_1 _).symm)
            · have hab : h ≠ b := fun e => hxz (by rw [← c, ← c2, e])
              refine gTM_use rfl (o_gain (d + 1) V hw g1 h b z x hh hb hz hx (gSwp (gP0 V) h b x z) (gSwp_eq (by omega) (by omega) (by omega) (by omega) hab) (gSwp_ok hw hx hz) q.1 q.2 y x2 x3) (fun v h' w => ?_)
              obtain ⟨rfl, I2, L2, rfl, f2, H2, l2⟩ := w
              have k2 : cAk V L2 (vA V 2) := fun j hj => by rw [l2]; exact x3 j hj
              have es : cSwap V x z h b = (decide (wV V (gP0 V) z < wV V (gSwp (gP0 V) h b x z) z) && decide (wV V (gP0 V) ((gP0 V).1 h) < wV V (gSwp (gP0 V) h b x z) ((gP0 V).1 h))) := by
                unfold cSwap
                rw [decide_eq_true c, decide_eq_true c2, c, Bool.true_and, Bool.true_and, Bool.and_comm]
              refine bB0 _ rfl (fun c3 => ?_) (fun c3 => ?_)
              · exact at125 (I2, L2) _ (x1.tr f2) H2 k2 (es.trans c3) (by (repeat' apply And.intro) <;> first | rfl | trivial | exact congrArg Sum.inl (nI_1 _).symm | exact congrArg Sum.inl (nI_1 _).symm)
              · have em : nI (100 * h + b) = nI 100 * nI h + nI b := by rw [pk_mul, nI_add]
                exact cDone (by rw [ho]; unfold xSwap; rw [g1, g2, g3, nxz, ex, ez, gF2_some hh hb (es.trans c3) x4 x5]; exact ⟨rfl, congrArg gI em, rfl⟩) (x1.tr f2) H2
    · intro i q hi ⟨x1, x2, x3⟩ hnext
      refine gT_go 400 [30] kX1_swap ?_
      refine bGe i (vA V 2) rfl (x2.1.1.1 2 (by decide)) (fun q => absurd q (by omega)) (fun _ => ?_)
      refine gTM_use rfl (o_worthV (d + 2) V hw g1 (some i) (fun j q => by cases q; exact hi) q.1 q.2 y x2) (fun v h' w => ?_)
      obtain ⟨rfl, I2, L2, rfl, f2, H2, -⟩ := w
      refine Exists.intro (i) (And.intro rfl (And.intro (show _ < 5 by omega) ?_))
      refine hnext (I2, u3 L2 93 0 i (wTo V (vA V 4) none (gP0 V) (some i))) _ ⟨(x1.tr f2.out).tr (fun b b1 b2 => ⟨rfl, u3_ne1 (by omega)⟩), cR_L H2 (fun b hb => u3_ne1 (by omega)), fun k hk => ?_⟩ (by (repeat' apply And.intro) <;> first | rfl | trivial | exact congrArg Sum.inl (nI_1 _).symm | exact congrArg Sum.inl (nI_1 _).symm)
      by_cases e : k = i
      · subst e; exact u3_eq
      · refine (u3_ne3 e).trans ?_
        rw [f2.2.2 93 (by decide) (by decide) (by decide) (by decide) (by decide) (by decide)]
        exact x3 k (by omega)
  refine gT_go 400 [25] kX1_swap ?_
  refine bNe x z rfl rfl (fun c => ?_) (fun c => ?_)
  · exact at25 _ _ (by rw [decide_eq_true c] <;> rfl) (by (repeat' apply And.intro) <;> first | rfl | trivial | exact congrArg Sum.inl (nI_1 _).symm | exact congrArg Sum.inl (nI_1 _).symm)
  · exact at25 _ _ (by rw [decide_eq_false (fun q => q c)] <;> rfl) (by (repeat' apply And.intro) <;> first | rfl | trivial | exact congrArg Sum.inl (nI_1 _).symm | exact congrArg Sum.inl (nI_1 _).symm)
