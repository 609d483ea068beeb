/-! ===== hours traded ===== -/
/-- a leads hour a, b hour b: the other way about -/
def gSwp (P : PP) (a b x z : Nat) : PP := gLed (gLed P a z) b x
noncomputable def cSwap (V : VS) (x z a b : Nat) : Bool :=
  decide ((gP0 V).1 a = x) && (decide ((gP0 V).1 b = z) && (decide (wV V (gP0 V) x < wV V (gSwp (gP0 V) a b x z) x) && decide (wV V (gP0 V) z < wV V (gSwp (gP0 V) a b x z) z)))
noncomputable def xSwap (V : VS) (a b : Int32) : Int32 × AV × VS :=
  bif vL V then (bif gWi a 0 (nI (vA V 2) - 1) then (bif gWi b 0 (nI (vA V 2) - 1) then (bif decide (a = b) then (2, gI 0, xRef V 2) else (0, gI (gF2 (vA V 3) (vA V 3) (cSwap V (gTo a) (gTo b)) (fun a b => 100 * a + b)), V)) else (1, gI 0, xRef V 0)) else (1, gI 0, xRef V 0)) else (3, gI 0, xRef V 3)
theorem gSwp_back {P : PP} {a b x z : Nat} (ha : P.1 a = x) (hb : P.1 b = z) (hn : a ≠ b) : gLed (gLed (gSwp P a b x z) a x) b z = P := by
  obtain ⟨l, r⟩ := P
  unfold gSwp gLed
  refine Prod.ext (funext fun j => ?_) rfl
  show (if j = b then z else if j = a then x else if j = b then x else if j = a then z else l j) = l j
  have ha' : l a = x := ha
  have hb' : l b = z := hb
  by_cases q : j = b
  · rw [if_pos q, q, hb']
  · rw [if_neg q]
    by_cases q2 : j = a
    · rw [if_pos q2, q2, ha']
    · rw [if_neg q2, if_neg q, if_neg q2]
set_option maxRecDepth 100000 in
theorem c_swap (V : VS) (hw : gWf V) (a b : Int32) : mC mX12_swap 10 [gI a, gI b] V (xSwap V a b) := by
  intro d I L y hm
  have hm0 := mR_thr hm 0
  have a2 := hw.1.2.2.1
  have a3 := hw.1.2.2.2.1
  have a4 := hw.1.2.2.2.2.1
  refine gEnter 400 [58] kX12_swap rfl rfl ?_
  refine gTM_use rfl (p_isHere (d + 7) V 3 (by decide) _ L y hm0 u3_eq) (fun v h' q => ?_)
  rcases q with ⟨g1, rfl, rfl⟩ | ⟨g1, rfl, I', rfl, q1, q2, q3⟩
  rotate_left
  · refine And.intro (fun _ => ?_) (fun q => absurd rfl q)
    exact mGt_no (by unfold xSwap; simp only [g1, cond_true, cond_false] <;> rfl) q1 q2 q3
  refine And.intro (fun q => absurd q (by decide)) (fun _ => ?_)
  refine gTM_use rfl (p_isPerson (d + 7) V a 1 (by decide) _ L y hm0 u3_eq) (fun v h' q => ?_)
  rcases q with ⟨g2, rfl, rfl⟩ | ⟨g2, rfl, I', rfl, q1, q2, q3⟩
  rotate_left
  · refine And.intro (fun _ => ?_) (fun q => absurd rfl q)
    exact mGt_no (by unfold xSwap; simp only [g1,g2, cond_true, cond_false] <;> rfl) q1 q2 q3
  refine And.intro (fun q => absurd q (by decide)) (fun _ => ?_)
  refine gTM_use rfl (p_isPerson (d + 7) V b 1 (by decide) _ L y hm0 u3_eq) (fun v h' q => ?_)
  rcases q with ⟨g3, rfl, rfl⟩ | ⟨g3, rfl, I', rfl, q1, q2, q3⟩
  rotate_left
  · refine And.intro (fun _ => ?_) (fun q => absurd rfl q)
    exact mGt_no (by unfold xSwap; simp only [g1,g2,g3, cond_true, cond_false] <;> rfl) q1 q2 q3
  refine And.intro (fun q => absurd q (by decide)) (fun _ => ?_)
  refine And.intro (fun c => ?_) (fun c => ?_)
  · have g4 : decide (a = b) = true := decide_eq_true c
    refine gTM_use rfl (p_may (d + 8) V false 2 (by decide) 2 (by decide) _ L y hm0 u3_eq) (fun v h' q => ?_)
    rcases q with ⟨g, rfl, rfl⟩ | ⟨g, rfl, I', rfl, q1, q2, q3⟩
    · exact absurd g (by decide)
    · refine And.intro (fun q => absurd rfl q) (fun _ => ?_)
      exact mGt_no (by unfold xSwap; simp only [g1, g2, g3, g4, cond_true, cond_false] <;> rfl) q1 q2 q3
  have g4 : decide (a = b) = false := decide_eq_false c
  refine gTM_use rfl (p_may (d + 8) V true 2 (by decide) 2 (by decide) _ L y hm0 u3_eq) (fun v h' q => ?_)
  rcases q with ⟨g, rfl, rfl⟩ | ⟨g, rfl, I', rfl, q1, q2, q3⟩
  rotate_left
  · exact absurd g (by decide)
  refine And.intro (fun _ => ?_) (fun q => absurd q (by decide))
  obtain ⟨x, rfl, hx⟩ := gWi_n rfl (by omega) g2
  obtain ⟨z, rfl, hz⟩ := gWi_n rfl (by omega) g3
  have ex : gTo (nI x) = x := gTo_n (by omega)
  have ez : gTo (nI z) = z := gTo_n (by omega)
  have hxz : ¬ x = z := fun q => c (by rw [q])
  have hA := hw.2.1 g1
  refine gTM_use rfl (p_keeps d V hw g1 _ L y hm0 u3_eq) (fun v h' q => ?_)
  obtain ⟨rfl, I1, L1, rfl, K1, hp1⟩ := q
  refine gT_for (σ := (Nat → Nat → Nat → Int32) × (Nat → Nat → Nat → Int64)) (pc := 58) (lo := fun i _ => [some gM0, some (gI (nI x)), some (gI (nI z)), some (gI (nI i)), none, none]) (hp := fun _ q => gH q.1 q.2 y)
    (Inv := fun i q => mK V (gP0 V) (u3 I 100 0 0 0) L q.1 q.2 ∧ ∀ a b, a < i → b < vA V 3 → cSwap V x z a b = false) (vA V 3) ?_ ?_ 0 (I1, L1) (Nat.zero_le _) ⟨K1, fun h k hh _ => absurd hh (Nat.not_lt_zero _)⟩ (by (repeat' apply And.intro) <;> first | rfl | trivial | exact congrArg Sum.inl (nI_1 _).symm | exact congrArg Sum.inl (nI_1 _).symm)
  · intro q ⟨K, q2⟩
    refine gT_go 400 [58] kX12_swap ?_
    refine Exists.intro (3) (And.intro rfl (And.intro (show _ < 708 by omega) ?_))
    refine bGe (vA V 3) (vA V 3) rfl (K.2.1.1 3 (by omega)) (fun c => ?_) (fun c => absurd c (by omega))
    exact mDone (o2 := (0, gI (-1), V)) (by unfold xSwap; simp only [g1, g2, g3, g4, cond_true, cond_false]; rw [ex, ez, gF2_none q2]) rfl K.1 K.2.1 K.2.2.2.2
  · intro a q ha ⟨K, q2⟩ hnexta
    refine gT_go 400 [58, 71] kX12_swap ?_
    refine Exists.intro (3) (And.intro rfl (And.intro (show _ < 708 by omega) ?_))
    refine bGe a (vA V 3) rfl (K.2.1.1 3 (by omega)) (fun c => absurd c (by omega)) (fun c => ?_)
    refine gT_for (σ := (Nat → Nat → Nat → Int32) × (Nat → Nat → Nat → Int64)) (pc := 71) (lo := fun i _ => [some gM0, some (gI (nI x)), some (gI (nI z)), some (gI (nI a)), some (gI (nI i)), none]) (hp := fun _ q => gH q.1 q.2 y)
      (Inv := fun i q => mK V (gP0 V) (u3 I 100 0 0 0) L q.1 q.2 ∧ ∀ b, b < i → cSwap V x z a b = false) (vA V 3) ?_ ?_ 0 q (Nat.zero_le _) ⟨K, fun k hk => absurd hk (Nat.not_lt_zero _)⟩ (by (repeat' apply And.intro) <;> first | rfl | trivial | exact congrArg Sum.inl (nI_1 _).symm | exact congrArg Sum.inl (nI_1 _).symm)
    · intro q ⟨K, q3⟩
      refine gT_go 400 [58, 71] kX12_swap ?_
      refine Exists.intro (3) (And.intro rfl (And.intro (show _ < 708 by omega) ?_))
      refine bGe (vA V 3) (vA V 3) rfl (K.2.1.1 3 (by omega)) (fun c => ?_) (fun c => absurd c (by omega))
      refine hnexta q _ ⟨K, fun h' k hh' hk => ?_⟩ (by (repeat' apply And.intro) <;> first | rfl | trivial | exact congrArg Sum.inl (nI_1 _).symm | exact congrArg Sum.inl (nI_1 _).symm)
      rcases Nat.lt_or_ge h' a with w | w
      · exact q2 h' k w hk
      · have : h' = a := by omega
        subst this; exact q3 k hk
    · intro b q hb ⟨K, q3⟩ hnextb
      have nxt : ∀ (q' : (Nat → Nat → Nat → Int32) × (Nat → Nat → Nat → Int64)) (lo' : Lo), mK V (gP0 V) (u3 I 100 0 0 0) L q'.1 q'.2 → cSwap V x z a b = false → glle [some gM0, some (gI (nI x)), some (gI (nI z)), some (gI (nI a)), some (gI (nI b)), none] lo' →
          gT mX12_swap (d + 10) (0, 0) (fun v h' => v = [(xSwap V (nI x) (nI z)).2.1] ∧ ∃ I' L', h' = gH I' L' y ∧ mOut I L I' L' ∧ mR (xSwap V (nI x) (nI z)).2.2 I' L' ∧ I' 100 0 0 = (xSwap V (nI x) (nI z)).1) (fun _ _ => False) 190 lo' [] (gH q'.1 q'.2 y) (0, 0) := by
        intro q' lo' K' e hl'
        refine gT_lo _ hl' ?_
        refine gT_go 400 [71] kX12_swap ?_
        refine hnextb q' _ ⟨K', fun j hj => ?_⟩ (by (repeat' apply And.intro) <;> first | rfl | trivial | exact congrArg Sum.inl (nI_1 _).symm | exact congrArg Sum.inl (nI_1 _).symm)
        rcases Nat.lt_or_ge j b with w | w
        · exact q3 j w
        · have : j = b := by omega
          subst this; exact e
      obtain ⟨l1, l2⟩ := K.2.2.1.2.2.1 a ha
      obtain ⟨l3, l4⟩ := K.2.2.1.2.2.1 b hb
      refine gT_go 400 [71, 160, 190] kX12_swap ?_
      refine Exists.intro (3) (And.intro rfl (And.intro (show _ < 708 by omega) ?_))
      refine bGe b (vA V 3) rfl (K.2.1.1 3 (by omega)) (fun c => absurd c (by omega)) (fun c => ?_)
      refine Exists.intro (a) (And.intro rfl (And.intro (show _ < 24 by omega) ?_))
      refine bNe ((gP0 V).1 a) x l1 rfl (fun c1 => ?_) (fun c1 => ?_)
      · exact nxt q _ K (by unfold cSwap; rw [decide_eq_false c1] <;> rfl) (by (repeat' apply And.intro) <;> first | rfl | trivial | exact congrArg Sum.inl (nI_1 _).symm | exact congrArg Sum.inl (nI_1 _).symm)
      · refine Exists.intro (b) (And.intro rfl (And.intro (show _ < 24 by omega) ?_))
        refine bEq ((gP0 V).1 b) z l3 rfl (fun c2 => ?_) (fun c2 => ?_)
        · have hab : a ≠ b := fun w => hxz (by rw [← c1, ← c2, w])
          refine Exists.intro (a) (And.intro rfl (And.intro (show _ < 24 by omega) ?_))
          refine Exists.intro (b) (And.intro rfl (And.intro (show _ < 24 by omega) ?_))
          have K2 := (K.led a hz).led b hx
          refine gTM_use rfl (p_playsU (d + 2) V hw (vA V 4) (by omega) none _ _ q.2 y K2.2.1.1 K2.2.2.1) (fun v h' w => ?_)
          obtain ⟨rfl, I3, L3, rfl, f3, hp3⟩ := w
          have K3 := K2.fr f3
          have ok := K3.2.2.1.2.2.ok
          have rest : ∀ (g : Bool) (lo' : Lo), g = cSwap V x z a b → glle [some gM0, some (gI (nI x)), some (gI (nI z)), some (gI (nI a)), some (gI (nI b)), none] lo' →
              gT mX12_swap (d + 10) (0, 0) (fun v h' => v = [(xSwap V (nI x) (nI z)).2.1] ∧ ∃ I' L', h' = gH I' L' y ∧ mOut I L I' L' ∧ mR (xSwap V (nI x) (nI z)).2.2 I' L' ∧ I' 100 0 0 = (xSwap V (nI x) (nI z)).1) (fun _ _ => False) 160 lo' [gI (gb g)] (gH I3 L3 y) (0, 0) := by
            intro g lo' hg hl'
            refine gT_lo _ hl' ?_
            refine gT_go 400 [71, 190] kX12_swap ?_
            refine Exists.intro (a) (And.intro rfl (And.intro (show _ < 24 by omega) ?_))
            refine Exists.intro (b) (And.intro rfl (And.intro (show _ < 24 by omega) ?_))
            have K4 := (K3.led a hx).led b hz
            have eP : gLed (gLed (gLed (gLed (gP0 V) a z) b x) a x) b z = gP0 V := gSwp_back c1 c2 hab
            rw [eP] at K4
            refine bB0 g rfl (fun e => ?_) (fun e => ?_)
            · exact nxt (_, L3) _ K4 (by rw [← hg]; exact e) (by (repeat' apply And.intro) <;> first | rfl | trivial | exact congrArg Sum.inl (nI_1 _).symm | exact congrArg Sum.inl (nI_1 _).symm)
            · have e' : cSwap V x z a b = true := by rw [← hg]; exact e
              refine mDone (o2 := (0, gI (nI (100 * a + b)), V)) (by unfold xSwap; simp only [g1, g2, g3, g4, cond_true, cond_false]; rw [ex, ez, gF2_some ha hb e' q2 q3]) ?_ K4.1 K4.2.1 K4.2.2.2.2
              rw [← nI_add, ← pk_mul] <;> rfl
          have eb1 : L3 147 0 x = wV V (gP0 V) x := K3.2.2.2.1 x hx
          have eb2 : L3 147 0 z = wV V (gP0 V) z := K3.2.2.2.1 z hz
          have cs : cSwap V x z a b = (decide (wV V (gP0 V) x < wV V (gSwp (gP0 V) a b x z) x) && decide (wV V (gP0 V) z < wV V (gSwp (gP0 V) a b x z) z)) := by unfold cSwap; rw [decide_eq_true c1, decide_eq_true c2] <;> rfl
          refine gP_use (p_now (d + 6) V hA (vA V 4) (by omega) none _ ok x hx I3 L3 y hp3) ?_
          refine Exists.intro (x) (And.intro rfl (And.intro (show _ < 5 by omega) ?_))
          refine bcLe (fun c3 => ?_) (fun c3 => ?_)
          · have c3' : ¬ wV V (gP0 V) x < wV V (gSwp (gP0 V) a b x z) x := by rw [← eb1]; exact c3
            exact rest false _ (by rw [cs, decide_eq_false c3'] <;> rfl) (by (repeat' apply And.intro) <;> first | rfl | trivial | exact congrArg Sum.inl (nI_1 _).symm | exact congrArg Sum.inl (nI_1 _).symm)
          · have c3' : wV V (gP0 V) x < wV V (gSwp (gP0 V) a b x z) x := by rw [← eb1]; exact c3
            refine gP_use (p_now (d + 6) V hA (vA V 4) (by omega) none _ ok z hz I3 L3 y hp3) ?_
            refine Exists.intro (z) (And.intro rfl (And.intro (show _ < 5 by omega) ?_))
            refine bcLe (fun c4 => ?_) (fun c4 => ?_)
            · have c4' : ¬ wV V (gP0 V) z < wV V (gSwp (gP0 V) a b x z) z := by rw [← eb2]; exact c4
              exact rest false _ (by rw [cs, decide_eq_true c3', decide_eq_false c4'] <;> rfl) (by (repeat' apply And.intro) <;> first | rfl | trivial | exact congrArg Sum.inl (nI_1 _).symm | exact congrArg Sum.inl (nI_1 _).symm)
            · have c4' : wV V (gP0 V) z < wV V (gSwp (gP0 V) a b x z) z := by rw [← eb2]; exact c4
              exact rest true _ (by rw [cs, decide_eq_true c3', decide_eq_true c4'] <;> rfl) (by (repeat' apply And.intro) <;> first | rfl | trivial | exact congrArg Sum.inl (nI_1 _).symm | exact congrArg Sum.inl (nI_1 _).symm)
        · exact nxt q _ K (by unfold cSwap; rw [decide_eq_true c1, decide_eq_false c2] <;> rfl) (by (repeat' apply And.intro) <;> first | rfl | trivial | exact congrArg Sum.inl (nI_1 _).symm | exact congrArg Sum.inl (nI_1 _).symm)
