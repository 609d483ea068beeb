/-! ===== the component: the next row of persons ===== -/
def tI (r : Nat → Nat) : Nat → Option Nat
  | 0 => none
  | k + 1 => if r (k + 1) < r k then tI r k else some k
def tJ (r : Nat → Nat) (x : Nat) : Nat → Nat
  | 0 => 0
  | k + 1 => if r k < x then tJ r x k else k
def tS (r : Nat → Nat) (i j : Nat) : Nat → Nat := fun q => if q = j then r i else if q = i then r j else r q
def tR : Nat → (Nat → Nat) → Nat → Nat → (Nat → Nat)
  | 0, r, _, _ => r
  | f + 1, r, a, b => if a < b then tR f (tS r a b) (a + 1) (b - 1) else r
def tN (N : Nat) (r : Nat → Nat) : Option (Nat → Nat) := match tI r (N - 1) with
  | none => none
  | some i => some (tR 5 (tS r i (tJ r (r i) N)) (i + 1) (N - 1))
def cRd (r : Nat → Nat) (N : Nat) (I : Nat → Nat → Nat → Int32) : Prop := ∀ j, j < N → I 72 0 j = nI (r j)
theorem tS_lt {r : Nat → Nat} {i j N c : Nat} (hi : i < N) (hj : j < N) (h : ∀ q, q < N → r q < c) : ∀ q, q < N → tS r i j q < c := by
  intro q hq
  unfold tS
  split
  · exact h i hi
  · split
    · exact h j hj
    · exact h q hq
theorem tI_lt {r : Nat → Nat} : ∀ {k i}, tI r k = some i → i < k := by
  intro k
  induction k with
  | zero => intro i h; cases h
  | succ k ih =>
    intro i h
    rw [tI] at h
    split at h
    · have := ih h; omega
    · cases h; omega
theorem tJ_lt {r : Nat → Nat} {i : Nat} : ∀ {k}, i < k → tJ r (r i) k < k ∧ i ≤ tJ r (r i) k := by
  intro k
  induction k with
  | zero => intro h; exact absurd h (Nat.not_lt_zero _)
  | succ k ih =>
    intro h
    rw [tJ]
    split
    · rename_i c
      have : ¬ i = k := fun e => by rw [e] at c; exact Nat.lt_irrefl _ c
      have := ih (by omega)
      omega
    · omega
theorem nI_p1 {x : Int32} {i : Nat} (h : x + 1 = nI (i + 1)) : x = nI i := by
  have e : x = x + 1 - 1 := by grind
  rw [e, h]
  exact nI_pred i
set_option maxRecDepth 100000 in
theorem o_swaps (d i j : Nat) (hi : i < 5) (hj : j < 5) (I : Nat → Nat → Nat → Int32) (L : Nat → Nat → Nat → Int64) (y : Dy) : gTM mX1_swaps (d + 1) (0, 0) [gG0, gI (nI i), gI (nI j)] (gH I L y) (fun v h' => v = [] ∧ h' = gH (u3 (u3 I 72 0 i (I 72 0 j)) 72 0 j (I 72 0 i)) L y) (fun _ _ => False) := by
  refine gEnter 400 [] kX1_swaps rfl rfl ?_
  refine Exists.intro (i) (And.intro rfl (And.intro (show _ < 5 by omega) ?_))
  refine Exists.intro (j) (And.intro rfl (And.intro (show _ < 5 by omega) ?_))
  refine Exists.intro (i) (And.intro rfl (And.intro (show _ < 5 by omega) ?_))
  refine Exists.intro (j) (And.intro rfl (And.intro (show _ < 5 by omega) ?_))
  exact ⟨rfl, rfl⟩
theorem cRd_sw {r : Nat → Nat} {N i j : Nat} {I : Nat → Nat → Nat → Int32} (hi : i < N) (hj : j < N) (H : cRd r N I) : cRd (tS r i j) N (u3 (u3 I 72 0 i (I 72 0 j)) 72 0 j (I 72 0 i)) := by
  intro q hq
  unfold tS
  by_cases e : q = j
  · subst e
    rw [if_pos rfl]
    exact u3_eq.trans (H i hi)
  · rw [if_neg e]
    refine (u3_ne3 e).trans ?_
    by_cases e2 : q = i
    · subst e2
      rw [if_pos rfl]
      exact u3_eq.trans (H j hj)
    · rw [if_neg e2]
      exact (u3_ne3 e2).trans (H q hq)
set_option maxRecDepth 100000 in
theorem o_turnsRound (d S : Nat) (A : Nat → Nat) (hA : gLd A) (hA2 : 0 < A 2) (r : Nat → Nat) (hr : ∀ q, q < A 2 → r q < 1000) (I : Nat → Nat → Nat → Int32) (L : Nat → Nat → Nat → Int64) (y : Dy) (hl : cLd y.1 S A I) (H : cRd r (A 2) I) :
    gTM mX1_turnsRound (d + 2) (0, 0) [gG0] (gH I L y) (fun v h' => (tN (A 2) r = none ∧ v = [gI 0] ∧ h' = gH I L y) ∨ ∃ r' I', tN (A 2) r = some r' ∧ v = [gI 1] ∧ h' = gH I' L y ∧ (∀ b, b ≠ 72 → I' b = I b) ∧ (∀ i k, 0 < i → I' 72 i k = I 72 i k) ∧ cRd r' (A 2) I') (fun _ _ => False) := by
  have a2 := hA.2.2.1
  have e2 := hl.1 2 (by decide)
  obtain ⟨Qr, hQ⟩ : ∃ Qr : List AV → Hp → Prop, Qr = fun v h' => (tN (A 2) r = none ∧ v = [gI 0] ∧ h' = gH I L y) ∨ ∃ r' I', tN (A 2) r = some r' ∧ v = [gI 1] ∧ h' = gH I' L y ∧ (∀ b, b ≠ 72 → I' b = I b) ∧ (∀ i k, 0 < i → I' 72 i k = I 72 i k) ∧ cRd r' (A 2) I' := ⟨_, rfl⟩
  rw [← hQ]
  have at86 : ∀ (f : Nat) (r1 : Nat → Nat) (a b : Nat) (J : Nat → Nat → Nat → Int32) (lo' : Lo), b < A 2 → b ≤ a + f → a ≤ 5 → (∀ q, q < A 2 → r1 q < 1000) → cRd r1 (A 2) J → (∀ b, b ≠ 72 → J b = I b) → (∀ i k, 0 < i → J 72 i k = I 72 i k) → tN (A 2) r = some (tR f r1 a b) → glle [some gG0, none, none, none, some (gI (nI a)), some (gI (nI b))] lo' → gT mX1_turnsRound (d + 2) (0, 0) Qr (fun _ _ => False) 86 lo' [] (gH J L y) (0, 0) := by
    intro f
    induction f with
    | zero =>
      intro r1 a b J lo' h1 h2 h3 h4 h5 h6 h7 h8 hl'
      refine gT_lo _ hl' ?_
      refine gT_go 400 [86] kX1_turnsRound ?_
      refine bGe a b rfl rfl (fun _ => ?_) (fun q => absurd q (by omega))
      refine And.intro (Or.inr rfl) ?_
      rw [hQ]
      exact Or.inr ⟨_, J, h8, rfl, rfl, h6, h7, h5⟩
    | succ f ih =>
      intro r1 a b J lo' h1 h2 h3 h4 h5 h6 h7 h8 hl'
      refine gT_lo _ hl' ?_
      refine gT_go 400 [86] kX1_turnsRound ?_
      refine bGe a b rfl rfl (fun c => ?_) (fun c => ?_)
      · refine And.intro (Or.inr rfl) ?_
        rw [hQ]
        rw [tR, if_neg (by omega)] at h8
        exact Or.inr ⟨_, J, h8, rfl, rfl, h6, h7, h5⟩
      · rw [tR, if_pos c] at h8
        refine gTM_use rfl (o_swaps d a b (by omega) (by omega) J L y) (fun v h' q => ?_)
        obtain ⟨rfl, rfl⟩ := q
        refine ih (tS r1 a b) (a + 1) (b - 1) _ _ (by omega) (by omega) (by omega) (tS_lt (by omega) h1 h4) (cRd_sw (by omega) h1 h5) (fun q hq => (u3_ne1 hq).trans ((u3_ne1 hq).trans (h6 q hq))) (fun i k hi => (u3_ne (fun q => by have := q.2.1; omega)).trans ((u3_ne (fun q => by have := q.2.1; omega)).trans (h7 i k hi))) h8 ?_
        have eb : nI (b - 1) = nI b + gic (-1) := by
          have e1 : nI b - 1 = nI (b - 1) := pk_sub (b := 1) (by omega)
          rw [← e1]
          show nI b - 1 = nI b + -1
          grind
        exact ⟨rfl, congrArg (fun z => gI z) (nI_1 a).symm, congrArg (fun z => gI z) eb, trivial⟩
  have at49 : ∀ (k i : Nat) (x : Int32) (lo' : Lo), i < k → k ≤ A 2 → i + 1 < A 2 → x + 1 = nI k → tI r (A 2 - 1) = some i → tJ r (r i) (A 2) = tJ r (r i) k → glle [some gG0, some (gI (nI (A 2))), some (gI (nI i)), some (gI x), none, none] lo' → gT mX1_turnsRound (d + 2) (0, 0) Qr (fun _ _ => False) 49 lo' [] (gH I L y) (0, 0) := by
    intro k
    induction k with
    | zero => intro i x lo' h; exact absurd h (Nat.not_lt_zero _)
    | succ k ih =>
      intro i x lo' h1 h2 h3 hx hi hj hl'
      have hxk := nI_p1 hx
      subst hxk
      have r1 := hr k (by omega)
      have r2 := hr i (by omega)
      refine gT_lo _ hl' ?_
      refine gT_go 400 [49, 86] kX1_turnsRound ?_
      refine Exists.intro (k) (And.intro rfl (And.intro (show _ < 5 by omega) ?_))
      refine Exists.intro (i) (And.intro rfl (And.intro (show _ < 5 by omega) ?_))
      refine bGe (r k) (r i) (H k (by omega)) (H i (by omega)) (fun c => ?_) (fun c => ?_)
      · have ej : tJ r (r i) (A 2) = k := by rw [hj, tJ, if_neg (by omega)]
        refine gTM_use rfl (o_swaps d i k (by omega) (by omega) I L y) (fun v h' q => ?_)
        obtain ⟨rfl, rfl⟩ := q
        refine at86 5 (tS r i k) (i + 1) (A 2 - 1) _ _ (by omega) (by omega) (by omega) (tS_lt (by omega) (by omega) hr) (cRd_sw (by omega) (by omega) H) (fun q hq => (u3_ne1 hq).trans (u3_ne1 hq)) (fun i' k' hi' => (u3_ne (fun q => by have := q.2.1; omega)).trans (u3_ne (fun q => by have := q.2.1; omega))) ?_ ?_
        · unfold tN
          rw [hi]
          show some (tR 5 (tS r i (tJ r (r i) (A 2))) (i + 1) (A 2 - 1)) = _
          rw [ej]
        · exact ⟨rfl, congrArg (fun z => gI z) (nI_1 i).symm, congrArg (fun z => gI z) (show nI (A 2 - 1) = nI (A 2) - 1 from (pk_sub (b := 1) (by omega)).symm), trivial⟩
      · have hik : i < k := by
          have : ¬ i = k := fun e => by rw [e] at c; exact Nat.lt_irrefl _ c
          omega
        refine ih i (nI k + gic (-1)) _ hik (by omega) h3 (by show nI k + -1 + 1 = nI k; grind) hi (by rw [hj, tJ, if_pos c]) (by (repeat' apply And.intro) <;> first | rfl | trivial | exact congrArg Sum.inl (nI_1 _).symm | exact congrArg Sum.inl (nI_1 _).symm)
  have at12 : ∀ (k : Nat) (x : Int32) (lo' : Lo), k + 1 ≤ A 2 → x + 1 = nI k → tI r (A 2 - 1) = tI r k → glle [some gG0, some (gI (nI (A 2))), some (gI x), none, none, none] lo' → gT mX1_turnsRound (d + 2) (0, 0) Qr (fun _ _ => False) 12 lo' [] (gH I L y) (0, 0) := by
    intro k
    induction k with
    | zero =>
      intro x lo' h1 hx hi hl'
      have hx1 : x = -1 := by
        have e : x = x + 1 - 1 := by grind
        rw [e, hx] <;> rfl
      subst hx1
      refine gT_lo _ hl' ?_
      refine gT_go 400 [] kX1_turnsRound ?_
      refine And.intro (fun _ => ?_) (fun c => absurd (show (-1 : Int32) < 0 by decide) c)
      refine And.intro (fun c => absurd c (by decide)) (fun _ => ?_)
      refine And.intro (Or.inl rfl) ?_
      rw [hQ]
      refine Or.inl ⟨?_, rfl, rfl⟩
      unfold tN
      rw [hi]
      rfl
    | succ k ih =>
      intro x lo' h1 hx hi hl'
      have hxk := nI_p1 hx
      subst hxk
      have r1 := hr k (by omega)
      have r2 := hr (k + 1) (by omega)
      refine gT_lo _ hl' ?_
      refine gT_go 400 [12, 49] kX1_turnsRound ?_
      refine And.intro (fun c => absurd c (nI_pos (by omega))) (fun _ => ?_)
      refine Exists.intro (k) (And.intro rfl (And.intro (show _ < 5 by omega) ?_))
      refine Exists.intro (k + 1) (And.intro (nI_1 k) (And.intro (show k + 1 < 5 by omega) ?_))
      refine bLe (r k) (r (k + 1)) (H k (by omega)) (H (k + 1) (by omega)) (fun c => ?_) (fun c => ?_)
      · refine And.intro (fun _ => ?_) (fun c => absurd (Int32.not_lt.mp (nI_pos (by omega))) c)
        have ei : tI r (A 2 - 1) = some k := by rw [hi, tI, if_neg (by omega)]
        exact at49 (A 2) k (nI (A 2) - 1) _ (by omega) (Nat.le_refl _) (by omega) (by show nI (A 2) - 1 + 1 = nI (A 2); grind) ei rfl (by (repeat' apply And.intro) <;> first | rfl | trivial | exact congrArg Sum.inl (nI_1 _).symm | exact congrArg Sum.inl (nI_1 _).symm)
      · exact ih (nI k + gic (-1)) _ (by omega) (by show nI k + -1 + 1 = nI k; grind) (by rw [hi, tI, if_pos c]) (by (repeat' apply And.intro) <;> first | rfl | trivial | exact congrArg Sum.inl (nI_1 _).symm | exact congrArg Sum.inl (nI_1 _).symm)
  refine gEnter 400 [12] kX1_turnsRound rfl rfl ?_
  refine at12 (A 2 - 1) (nI (A 2) - 2) _ (by omega) ?_ rfl ⟨rfl, congrArg (fun z => gI z) e2.symm, congrArg (fun z => gI (z - 2)) e2.symm, trivial⟩
  rw [← show nI (A 2) - 1 = nI (A 2 - 1) from pk_sub (b := 1) (by omega)]
  grind
