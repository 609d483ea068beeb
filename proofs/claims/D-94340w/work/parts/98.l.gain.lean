/-! ===== public methods of the component: what two gain ===== -/
theorem gbo_b (b : Bool) : gbo (gb b) := by cases b; exact Or.inl rfl; exact Or.inr rfl
/-- two turns set -/
def sTwo (s : Nat → Int32) (a b : Nat) (v w : Int32) : Nat → Int32 := if a = b then up1 s (29 + a) v else up1 (up1 s (29 + a) v) (29 + b) w
theorem sTwo_back {s : Nat → Int32} {a b : Nat} {v w : Int32} : up1 (up1 (sTwo s a b v w) (29 + b) (s (29 + b))) (29 + a) (s (29 + a)) = s := by
  funext j
  by_cases q : j = 29 + a
  · subst q; exact up1_eq
  · rw [up1_ne q]
    by_cases q2 : j = 29 + b
    · subst q2; exact up1_eq
    · rw [up1_ne q2]
      unfold sTwo
      split
      · exact up1_ne q
      · exact (up1_ne q2).trans (up1_ne q)
set_option maxRecDepth 100000 in
theorem o_gain (d : Nat) (V : VS) (hw : gWf V) (hL : vL V = true) (a b z x : Nat) (ha : a < vA V 3) (hb : b < vA V 3) (hz : z < vA V 2) (hx : x < vA V 2) (Pq : PP) (hq : pEq Pq (gP0 (xS V (sTwo (vS V) a b (nI z) (nI x))))) (hok : gPok (vA V) Pq) (I : Nat → Nat → Nat → Int32) (L : Nat → Nat → Nat → Int64) (y : Dy) (H : cR V I L y) (has : ∀ k, k < vA V 2 → L 93 0 k = wTo V (vA V 4) none (gP0 V) (some k)) :
    gTM mX1_gainBoth (d + 610) (0, 0) [gG0, gI (nI a), gI (nI z), gI (nI b), gI (nI x)] (gH I L y) (fun v h' => v = [gI (gb (decide (wV V (gP0 V) z < wV V Pq z) && decide (wV V (gP0 V) ((gP0 V).1 a) < wV V Pq ((gP0 V).1 a))))] ∧ ∃ I' L', h' = gH I' L' y ∧ cOut I L I' L' ∧ cR V I' L' y ∧ L' 93 = L 93) (fun _ _ => False) := by
  have a2 := hw.1.2.2.1
  have a3 := hw.1.2.2.2.1
  obtain ⟨s1, hs1⟩ : ∃ s1, s1 = sTwo (vS V) a b (nI z) (nI x) := ⟨_, rfl⟩
  rw [← hs1] at hq
  have hw1 : gWf (xS V s1) := by
    rw [hs1]
    unfold sTwo
    have w1 := gSw_turn (k := a) hw.1 hw.2.2.2.1 (by omega) (Or.inr ⟨z, rfl, hz⟩)
    have j1 := gJr_up (k := 29 + a) (v := nI z) (by omega) hw.2.2.2.2.2.2.2.2.1
    split
    · exact gWf_S hw w1 j1
    · exact gWf_S hw (gSw_turn (k := b) hw.1 w1 (by omega) (Or.inr ⟨x, rfl, hx⟩)) (gJr_up (by omega) j1)
  have hk := gP0_lt hw ha
  obtain ⟨k, ek⟩ : ∃ k, k = (gP0 V).1 a := ⟨_, rfl⟩
  rw [← ek] at hk
  have ew : ∀ j, wTo (xS V s1) (vA V 4) none (gP0 (xS V s1)) (some j) = wV V Pq j := fun j => by
    show _ = wTo V (vA V 4) none Pq (some j)
    refine (cWt_V (xS V s1) _ _).trans (Eq.trans ?_ (cWt_V V _ _).symm)
    exact cWt_P hq hw.1 hok.1 (some j)
  have hle := (cLe_V hw hL H.1).use (d + 608) a (vA V 4) (by omega) hw.1 ((hw.2.1 hL).2.2.1) L y H.1.1
  rw [cWho_V V a, ← ek] at hle
  have ea : I 23 0 a = vS V (29 + a) := H.1.2.2.1.2.2.1 a (by omega)
  have eb : I 23 0 b = vS V (29 + b) := H.1.2.2.1.2.2.1 b (by omega)
  rw [← ek]
  have at96 : ∀ (w : Int32) (J : Nat → Nat → Nat → Int32) (K : Nat → Nat → Nat → Int64) (lo' : Lo), w = gb (decide (wV V (gP0 V) z < wV V Pq z) && decide (wV V (gP0 V) k < wV V Pq k)) → cOut I L J K → cR (xS V s1) J K y → K 93 = L 93 → glle [some gG0, some (gI (nI a)), none, some (gI (nI b)), none, none, some (gI (vS V (29 + a))), some (gI (vS V (29 + b))), none] lo' → gT mX1_gainBoth (d + 610) (0, 0) (fun v h' => v = [gI (gb (decide (wV V (gP0 V) z < wV V Pq z) && decide (wV V (gP0 V) k < wV V Pq k)))] ∧ ∃ I' L', h' = gH I' L' y ∧ cOut I L I' L' ∧ cR V I' L' y ∧ L' 93 = L 93) (fun _ _ => False) 96 lo' [gI w] (gH J K y) (0, 0) := by
    intro w J K lo' hwv c1 c2 c3 hl'
    refine gT_lo _ hl' ?_
    refine gT_go 400 [] kX1_gainBoth ?_
    refine Exists.intro (b) (And.intro rfl (And.intro (show _ < 24 by omega) ?_))
    refine Exists.intro (a) (And.intro rfl (And.intro (show _ < 24 by omega) ?_))
    refine gTM_use rfl (o_leads (d + 608) (u3 (u3 J 23 0 b (vS V (29 + b))) 23 0 a (vS V (29 + a))) K y) (fun v h' q => ?_)
    obtain ⟨rfl, rfl⟩ := q
    refine And.intro (by rw [hwv]; exact gbo_b _) ?_
    refine ⟨congrArg (fun q => [gI q]) hwv, _, K, rfl, c1.tr (fun q h1 h2 => ⟨(u3_ne1 (by omega)).trans ((u3_ne1 (by omega)).trans ((u3_ne1 (by omega)).trans (u3_ne1 (by omega)))), rfl⟩), ?_, c3⟩
    have t1 := cSt_turn (k := b) (v := vS V (29 + b)) (by omega) c2.1.2.2.1
    have t2 := cSt_turn (k := a) (v := vS V (29 + a)) (by omega) t1
    have e : up1 (up1 (vS (xS V s1)) (29 + b) (vS V (29 + b))) (29 + a) (vS V (29 + a)) = vS V := by
      show up1 (up1 s1 (29 + b) (vS V (29 + b))) (29 + a) (vS V (29 + a)) = vS V
      rw [hs1]
      exact sTwo_back
    rw [e] at t2
    exact cR_Sl (V := xS V s1) (s' := vS V) c2 (fun q hq => (u3_ne1 (by omega)).trans (u3_ne1 (by omega))) (fun q i j h1 h2 hi => (u3_no0 q i j h1 h2 hi).trans (u3_no0 q i j h1 h2 hi)) t2
  have at55 : ∀ (J : Nat → Nat → Nat → Int32) (lo' : Lo), cOut I L J L → cR (xS V s1) (u3 (u3 J 60 0 30 0) 60 0 31 0) L y → glle [some gG0, some (gI (nI a)), some (gI (nI z)), some (gI (nI b)), none, some (gI (nI k)), some (gI (vS V (29 + a))), some (gI (vS V (29 + b))), none] lo' → gT mX1_gainBoth (d + 610) (0, 0) (fun v h' => v = [gI (gb (decide (wV V (gP0 V) z < wV V Pq z) && decide (wV V (gP0 V) k < wV V Pq k)))] ∧ ∃ I' L', h' = gH I' L' y ∧ cOut I L I' L' ∧ cR V I' L' y ∧ L' 93 = L 93) (fun _ _ => False) 55 lo' [] (gH J L y) (0, 0) := by
    intro J lo' c1 c2 hl'
    refine gT_lo _ hl' ?_
    refine gT_go 400 [96] kX1_gainBoth ?_
    refine gTM_use rfl (o_leads (d + 608) J L y) (fun v h' q => ?_)
    obtain ⟨rfl, rfl⟩ := q
    have c0 : cOut I L (u3 (u3 J 60 0 30 0) 60 0 31 0) L := c1.tr (fun q h1 h2 => ⟨(u3_ne1 (by omega)).trans (u3_ne1 (by omega)), rfl⟩)
    refine gTM_use rfl (o_worthV d (xS V s1) hw1 hL (some z) (fun i q => by cases q; exact hz) _ L y c2) (fun v h' q => ?_)
    obtain ⟨rfl, I2, L2, rfl, f2, H2, -⟩ := q
    have l2 : L2 93 = L 93 := f2.2.2 93 (by decide) (by decide) (by decide) (by decide) (by decide) (by decide)
    refine Exists.intro (z) (And.intro rfl (And.intro (show _ < 5 by omega) ?_))
    have ez : L2 93 0 z = wV V (gP0 V) z := by rw [l2]; exact has z hz
    rw [show wTo (xS V s1) (vA (xS V s1) 4) none (gP0 (xS V s1)) (some z) = wV V Pq z from ew z]
    refine bcLe (fun c => ?_) (fun c => ?_)
    · exact at96 _ I2 L2 _ (by rw [decide_eq_false (by rw [← ez]; exact c)] <;> rfl) (c0.tr f2.out) H2 l2 (by (repeat' apply And.intro) <;> first | rfl | trivial | exact congrArg Sum.inl (nI_1 _).symm | exact congrArg Sum.inl (nI_1 _).symm)
    · refine gTM_use rfl (o_worthV d (xS V s1) hw1 hL (some k) (fun i q => by cases q; exact hk) I2 L2 y H2) (fun v h' q => ?_)
      obtain ⟨rfl, I3, L3, rfl, f3, H3, -⟩ := q
      have l3 : L3 93 = L 93 := (f3.2.2 93 (by decide) (by decide) (by decide) (by decide) (by decide) (by decide)).trans l2
      refine Exists.intro (k) (And.intro rfl (And.intro (show _ < 5 by omega) ?_))
      have e3 : L3 93 0 k = wV V (gP0 V) k := by rw [l3]; exact has k hk
      rw [show wTo (xS V s1) (vA (xS V s1) 4) none (gP0 (xS V s1)) (some k) = wV V Pq k from ew k]
      have c' : wV V (gP0 V) z < wV V Pq z := by rw [← ez]; exact c
      refine bcLe (fun c2 => ?_) (fun c2 => ?_)
      · exact at96 _ I3 L3 _ (by rw [decide_eq_true c', decide_eq_false (by rw [← e3]; exact c2)] <;> rfl) ((c0.tr f2.out).tr f3.out) H3 l3 (by (repeat' apply And.intro) <;> first | rfl | trivial | exact congrArg Sum.inl (nI_1 _).symm | exact congrArg Sum.inl (nI_1 _).symm)
      · exact at96 _ I3 L3 _ (by rw [decide_eq_true c', decide_eq_true (by rw [← e3]; exact c2)] <;> rfl) ((c0.tr f2.out).tr f3.out) H3 l3 (by (repeat' apply And.intro) <;> first | rfl | trivial | exact congrArg Sum.inl (nI_1 _).symm | exact congrArg Sum.inl (nI_1 _).symm)
  refine gEnter 400 [55] kX1_gainBoth rfl rfl ?_
  refine gP_use hle ?_
  refine Exists.intro (a) (And.intro rfl (And.intro (show _ < 24 by omega) ?_))
  refine Exists.intro (b) (And.intro rfl (And.intro (show _ < 24 by omega) ?_))
  refine Exists.intro (a) (And.intro rfl (And.intro (show _ < 24 by omega) ?_))
  have t1 := cSt_turn (k := a) (v := nI z) (by omega) H.1.2.2.1
  refine bEq b a rfl rfl (fun c => ?_) (fun c => ?_)
  · refine at55 _ _ (fun q h1 h2 => ⟨u3_ne1 (by omega), rfl⟩) ?_ ⟨rfl, rfl, rfl, rfl, rfl, congrArg (fun q => gI q) ea.symm, congrArg (fun q => gI q) eb.symm, trivial⟩
    have e : s1 = up1 (vS V) (29 + a) (nI z) := by rw [hs1]; unfold sTwo; rw [if_pos c.symm]
    rw [e]
    exact cR_Sl H (fun q hq => u3_ne1 (by omega)) u3_no0 t1
  · refine Exists.intro (b) (And.intro rfl (And.intro (show _ < 24 by omega) ?_))
    refine at55 _ _ (fun q h1 h2 => ⟨(u3_ne1 (by omega)).trans (u3_ne1 (by omega)), rfl⟩) ?_ ⟨rfl, rfl, rfl, rfl, rfl, congrArg (fun q => gI q) ea.symm, congrArg (fun q => gI q) eb.symm, trivial⟩
    have e : s1 = up1 (up1 (vS V) (29 + a) (nI z)) (29 + b) (nI x) := by rw [hs1]; unfold sTwo; rw [if_neg (fun q => c q.symm)]
    rw [e]
    exact cR_Sl H (fun q hq => (u3_ne1 (by omega)).trans (u3_ne1 (by omega))) (fun q i j h1 h2 hi => (u3_no0 q i j h1 h2 hi).trans (u3_no0 q i j h1 h2 hi)) (cSt_turn (k := b) (v := nI x) (by omega) t1)
