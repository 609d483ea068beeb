/-! ===== ArrayList: one of a list goes, one comes between ===== -/
def yC (y : Dy) (e sp dp n : Nat) : Dy := (y.1, y.2.1, (fun b i k => if b = 11 ∧ i = e ∧ dp ≤ k ∧ k < dp + n then y.2.2.1 11 e (sp + (k - dp)) else y.2.2.1 b i k), y.2.2.2.1, y.2.2.2.2)
theorem gRX_yC {y : Dy} {e sp dp n : Nat} : gRX (yC y e sp dp n) = fun b i k => if b = 11 ∧ i = e ∧ dp ≤ k ∧ k < dp + n then gRX y 11 e (sp + (k - dp)) else gRX y b i k := by
  funext b i k
  show (match glk (gRt y) b with | some f => f i k | none => if b = 11 ∧ i = e ∧ dp ≤ k ∧ k < dp + n then y.2.2.1 11 e (sp + (k - dp)) else y.2.2.1 b i k) = if b = 11 ∧ i = e ∧ dp ≤ k ∧ k < dp + n then gRX y 11 e (sp + (k - dp)) else gRX y b i k
  by_cases c : b = 11 ∧ i = e ∧ dp ≤ k ∧ k < dp + n
  · rw [if_pos c, if_pos c]
    obtain ⟨rfl, -⟩ := c
    rfl
  · rw [if_neg c, if_neg c]
    unfold gRX
    cases glk (gRt y) b <;> rfl
theorem gCpR_gH {I : Nat → Nat → Nat → Int32} {L : Nat → Nat → Nat → Int64} {y : Dy} {e sp dp n : Nat} : gCpR (gH I L y) 11 e 11 e sp dp n = gH I L (yC y e sp dp n) := by
  show ((I, L, ((fun b' i' k => if b' = 11 ∧ i' = e ∧ dp ≤ k ∧ k < dp + n then gRX y 11 e (sp + (k - dp)) else gRX y b' i' k), gNX y, y.2.2.2.2)) : Hp) = (I, L, (gRX (yC y e sp dp n), gNX y, y.2.2.2.2))
  rw [gRX_yC]
/-- without its i-th -/
def fDel (f : Nat → Option Rf) (i : Nat) : Nat → Option Rf := fun k => if k < i then f k else f (k + 1)
set_option maxRecDepth 100000 in
theorem o_fastAt (d q n e i : Nat) (f : Nat → Option Rf) (I : Nat → Nat → Nat → Int32) (L : Nat → Nat → Nat → Int64) (y : Dy) (hf : ∀ k, k < n + 1 → ∃ j, f k = some (12, j)) (hl : cLi q (n + 1) f I y) (he : gRX y 10 q 1 = some (11, e)) (hN : gNX y 11 e = 10) (hn : n < 10) (hi : i ≤ n) :
    gTM mJ2_fastRemove (d + 2) (0, 0) [gR (some (10, q)), gR (some (11, e)), gI (nI i)] (gH I L y) (fun w h' => w = [] ∧ ∃ I' y', h' = gH I' L y' ∧ lFr q I L y I' L y' ∧ cLi q n (fDel f i) I' y') (fun _ _ => False) := by
  obtain ⟨l1, l2, l3⟩ := hl
  have lf : ∀ k, k < n + 1 → gRX y 11 e k = f k := by
    rcases l3 with ⟨z, -⟩ | ⟨e', l3, -, l5, -⟩
    · omega
    · have : e' = e := congrArg Prod.snd (Option.some.inj (l3.symm.trans he))
      subst this
      exact l5
  refine gEnter 400 [2] kJ2_fastRemove rfl rfl ?_
  refine gT_getM rfl dJ2_fastRemove_2 ?_
  refine gT_go 400 [7] kJ2_fastRemove ?_
  refine gT_putM rfl dJ2_fastRemove_7 ?_
  obtain ⟨J, hJ⟩ : ∃ J, J = u3 I 10 q 0 (I 10 q 0 + 1) := ⟨_, rfl⟩
  change gT _ _ _ _ _ _ _ _ (gH (u3 I 10 q 0 (I 10 q 0 + 1)) L y) _
  rw [← hJ]
  have j2 : J 10 q 2 - 1 = nI n := by
    rw [hJ, u3_ne3 (by decide), l1]
    exact pk_sub (a := n + 1) (b := 1) (by omega)
  have j2' : J 10 q 2 - gic 1 = nI n := j2
  -- the tail: the last place gets null
  have at34 : ∀ (z : Dy) (lo' : Lo), z.1 = y.1 → z.2.1 = y.2.1 → (∀ b, b ≠ 11 → gRX z b = gRX y b) → (∀ i k, i ≠ e → gRX z 11 i k = gRX y 11 i k) → gNX z = gNX y → z.2.2.2.2 = y.2.2.2.2 → (∀ k, k < n → gRX z 11 e k = fDel f i k) → glle [some (gR (some (10, q))), some (gR (some (11, e))), some (gI (nI i)), some (gI (nI n))] lo' → gT mJ2_fastRemove (d + 2) (0, 0) (fun w h' => w = [] ∧ ∃ I' y', h' = gH I' L y' ∧ lFr q I L y I' L y' ∧ cLi q n (fDel f i) I' y') (fun _ _ => False) 34 lo' [] (gH J L z) (0, 0) := by
    intro z lo' z1 z2 z3 z4 z5 z6 z7 hl'
    refine gT_lo _ hl' ?_
    refine gT_go 400 [42] kJ2_fastRemove ?_
    refine gT_ast0 (j := e) (n := n) (by decide) rfl rfl (by show n < gNX z 11 e; rw [z5]; omega) dJ2_fastRemove_42 ?_
    change gT _ _ _ _ _ _ _ _ (sR (gH (u3 J 10 q 2 (nI n)) L z) 11 e n none) _
    rw [sR_gH rfl]
    refine gT_go 400 [] kJ2_fastRemove ?_
    have fr : lFr q J L y (u3 J 10 q 2 (nI n)) L (yR z 11 e n none) := by
      refine ⟨fun b b1 b2 => u3_ne1 b1, fun b b2 => rfl, fun i k hi => u3_ne (fun w => hi w.2.1), z1, z2, fun b b1 b2 => ?_, fun b b2 => ⟨by show gNX z b = _; rw [z5], by show z.2.2.2.2 b = _; rw [z6]⟩, fun i k hi => ?_, e, ?_, Or.inl he, fun i k hi => ?_, fun i hi => by show gNX z 11 i = _; rw [z5]⟩
      · rw [gRX_yR rfl, u3_ne1 b2]; exact z3 b b2
      · rw [gRX_yR rfl, u3_ne1 (by decide), z3 10 (by decide)]
      · rw [gRX_yR rfl, u3_ne1 (by decide), z3 10 (by decide)]; exact he
      · rw [gRX_yR rfl, u3_ne (fun w => hi w.2.1)]; exact z4 i k hi
    refine ⟨rfl, _, _, rfl, lFr_M2 hJ fr, u3_eq, by omega, Or.inr ⟨e, ?_, ?_, fun k hk => ?_, ?_⟩⟩
    · rw [gRX_yR rfl, u3_ne1 (by decide), z3 10 (by decide)]; exact he
    · show n ≤ gNX z 11 e
      rw [z5]; omega
    · rw [gRX_yR rfl, u3_ne3 (by omega)]; exact z7 k hk
    · show gNX z 11 e = 10
      rw [z5]; exact hN
  have at18 : ∀ (x : Int32) (lo' : Lo), x = nI n → glle [some (gR (some (10, q))), some (gR (some (11, e))), some (gI (nI i)), some (gI x)] lo' → gT mJ2_fastRemove (d + 2) (0, 0) (fun w h' => w = [] ∧ ∃ I' y', h' = gH I' L y' ∧ lFr q I L y I' L y' ∧ cLi q n (fDel f i) I' y') (fun _ _ => False) 18 lo' [gI x] (gH J L y) (0, 0) := by
    intro x lo' hx hl'
    subst hx
    refine gT_lo _ hl' ?_
    refine gT_go 400 [31, 34] kJ2_fastRemove ?_
    refine bLe n i rfl rfl (fun c => ?_) (fun c => ?_) (by omega) (by omega)
    · refine at34 y _ rfl rfl (fun _ _ => rfl) (fun _ _ _ => rfl) rfl rfl (fun k hk => ?_) (by (repeat' apply And.intro) <;> first | rfl | trivial | exact congrArg Sum.inl (nI_1 _).symm | exact congrArg Sum.inl (nI_1 _).symm)
      have : i = n := by omega
      rw [lf k (by omega)]
      unfold fDel
      rw [if_pos (by omega)]
    · have e1 : nI i + gic 1 = nI (i + 1) := nI_1 i
      have e2 : nI n - nI i = nI (n - i) := pk_sub (by omega)
      change gT _ _ _ _ _ _ _ [gI (nI n - nI i), gI (nI i), gR (some (11, e)), gI (nI i + gic 1), gR (some (11, e))] _ _
      rw [e1, e2]
      refine gT_acpR (vb := 12) (ci := 14) (by decide) rfl rfl q2875 (fun t ht => ?_) (by show i + 1 + (n - i) ≤ gNX y 11 e; omega) (by show i + (n - i) ≤ gNX y 11 e; omega) q695 rfl dJ2_fastRemove_31 ?_
      · obtain ⟨j, hj⟩ := hf (i + 1 + t) (by omega)
        exact ⟨j, (lf (i + 1 + t) (by omega)).trans hj⟩
      · rw [gCpR_gH]
        refine at34 (yC y e (i + 1) i (n - i)) _ rfl rfl (fun b hb => ?_) (fun i' k hi' => ?_) rfl rfl (fun k hk => ?_) (by (repeat' apply And.intro) <;> first | rfl | trivial | exact congrArg Sum.inl (nI_1 _).symm | exact congrArg Sum.inl (nI_1 _).symm)
        · rw [gRX_yC]; funext i' k; exact if_neg (fun w => hb w.1)
        · rw [gRX_yC]; exact if_neg (fun w => hi' w.2.1)
        · rw [gRX_yC]
          unfold fDel
          show (if 11 = 11 ∧ e = e ∧ i ≤ k ∧ k < i + (n - i) then gRX y 11 e (i + 1 + (k - i)) else gRX y 11 e k) = if k < i then f k else f (k + 1)
          by_cases w : k < i
          · rw [if_neg (by omega), if_pos w]; exact lf k (by omega)
          · rw [if_pos ⟨rfl, rfl, by omega, by omega⟩, if_neg w, show i + 1 + (k - i) = k + 1 by omega]; exact lf (k + 1) (by omega)
  refine gT_go 400 [18] kJ2_fastRemove ?_
  exact at18 _ _ j2' (by (repeat' apply And.intro) <;> first | rfl | trivial | exact congrArg Sum.inl (nI_1 _).symm | exact congrArg Sum.inl (nI_1 _).symm)
set_option maxRecDepth 100000 in
theorem o_removeAt (d q n i : Nat) (f : Nat → Option Rf) (I : Nat → Nat → Nat → Int32) (L : Nat → Nat → Nat → Int64) (y : Dy) (hf : ∀ k, k < n + 1 → ∃ j, f k = some (12, j)) (hl : cLi q (n + 1) f I y) (hi : i ≤ n) :
    gTM mJ2_remove (d + 3) (0, 0) [gR (some (10, q)), gI (nI i)] (gH I L y) (fun w h' => w = [gR (f i)] ∧ ∃ I' y', h' = gH I' L y' ∧ lFr q I L y I' L y' ∧ cLi q n (fDel f i) I' y') (fun _ _ => False) := by
  obtain ⟨e, he, h5, hN, hnn⟩ : ∃ e, gRX y 10 q 1 = some (11, e) ∧ gRX y 11 e i = f i ∧ gNX y 11 e = 10 ∧ n < 10 := by
    rcases hl.2.2 with ⟨z, -⟩ | ⟨e, l3, l4, l5, l6⟩
    · omega
    · exact ⟨e, l3, l5 i (by omega), l6, by omega⟩
  have hM := o_fastAt d q n e i f I L y hf hl he hN hnn hi
  have at13 : ∀ lo', glle [some (gR (some (10, q))), some (gI (nI i)), none, none] lo' → gT mJ2_remove (d + 3) (0, 0) (fun w h' => w = [gR (f i)] ∧ ∃ I' y', h' = gH I' L y' ∧ lFr q I L y I' L y' ∧ cLi q n (fDel f i) I' y') (fun _ _ => False) 13 lo' [gR (gRX y 10 q 1)] (gH I L y) (0, 0) := by
    intro lo' hl'
    rw [he]
    refine gT_lo _ hl' ?_
    refine gT_go 400 [21] kJ2_remove ?_
    refine Exists.intro i (And.intro rfl (And.intro (show i < gNX y 11 e by omega) ?_))
    refine gT_callV (k := (0, 0)) rfl rfl rfl rfl rfl dJ2_remove_21 hM (by decide) (by decide) (fun w h' q' => ?_) (fun _ _ q' => q'.elim)
    obtain ⟨rfl, I', y', rfl, f1, f2⟩ := q'
    refine gT_go 400 [] kJ2_remove ?_
    exact ⟨congrArg (fun z => [gR z]) h5, I', y', rfl, f1, f2⟩
  have at5 : ∀ (x : Int32) lo', x = nI (n + 1) → glle [some (gR (some (10, q))), some (gI (nI i)), none, none] lo' → gT mJ2_remove (d + 3) (0, 0) (fun w h' => w = [gR (f i)] ∧ ∃ I' y', h' = gH I' L y' ∧ lFr q I L y I' L y' ∧ cLi q n (fDel f i) I' y') (fun _ _ => False) 5 lo' [gI x, gI (nI i)] (gH I L y) (0, 0) := by
    intro x lo' hx hl'
    subst hx
    refine gT_lo _ hl' ?_
    refine gT_ci rfl dJ2_remove_5 (by omega) hl.2.1 rfl ?_
    refine gT_go 400 [13] kJ2_remove ?_
    exact at13 _ (by (repeat' apply And.intro) <;> first | rfl | trivial | exact congrArg Sum.inl (nI_1 _).symm | exact congrArg Sum.inl (nI_1 _).symm)
  refine gEnter 400 [5] kJ2_remove rfl rfl ?_
  exact at5 _ _ hl.1 (by (repeat' apply And.intro) <;> first | rfl | trivial | exact congrArg Sum.inl (nI_1 _).symm | exact congrArg Sum.inl (nI_1 _).symm)
/-- with v as its i-th -/
def fIns (f : Nat → Option Rf) (i : Nat) (v : Rf) : Nat → Option Rf := fun k => if k < i then f k else if k = i then some v else f (k - 1)
set_option maxRecDepth 100000 in
theorem o_rangeAdd (d q n i : Nat) (f : Nat → Option Rf) (I : Nat → Nat → Nat → Int32) (L : Nat → Nat → Nat → Int64) (y : Dy) (hl : cLi q n f I y) (hi : i ≤ n) (hn : n < 11) :
    gTM mJ2_rangeCheckForAdd (d + 1) (0, 0) [gR (some (10, q)), gI (nI i)] (gH I L y) (fun w h' => w = [] ∧ h' = gH I L y) (fun _ _ => False) := by
  refine gEnter 400 [12] kJ2_rangeCheckForAdd rfl rfl ?_
  refine bGt i n rfl hl.1 (fun c => absurd c (by omega)) (fun _ => ?_) (by omega) (by omega)
  refine And.intro (fun _ => ⟨rfl, rfl⟩) (fun c => absurd (Int32.not_lt.mp (nI_pos (by omega))) c)
set_option maxRecDepth 100000 in
theorem o_addAt (d q n e i : Nat) (f : Nat → Option Rf) (v : Rf) (hv : v.1 = 20 ∨ v.1 = 12) (I : Nat → Nat → Nat → Int32) (L : Nat → Nat → Nat → Int64) (y : Dy) (hf : ∀ k, k < n → ∃ j, f k = some (12, j)) (hl : cLi q n f I y) (he : gRX y 10 q 1 = some (11, e)) (hN : gNX y 11 e = 10) (hn : n < 10) (hi : i ≤ n) :
    gTM mJ2_add_3 (d + 3) (0, 0) [gR (some (10, q)), gI (nI i), gR (some v)] (gH I L y) (fun w h' => w = [] ∧ ∃ I' y', h' = gH I' L y' ∧ lFr q I L y I' L y' ∧ cLi q (n + 1) (fIns f i v) I' y') (fun _ _ => False) := by
  obtain ⟨l1, l2, l3⟩ := id hl
  have lf : ∀ k, k < n → gRX y 11 e k = f k := by
    rcases l3 with ⟨z, -⟩ | ⟨e', l3, -, l5, -⟩
    · intro k hk; omega
    · have : e' = e := congrArg Prod.snd (Option.some.inj (l3.symm.trans he))
      subst this
      exact l5
  refine gEnter 400 [7] kJ2_add_3 rfl rfl ?_
  refine gTM_use rfl (o_rangeAdd (d + 1) q n i f I L y hl hi (by omega)) (fun w h' q' => ?_)
  obtain ⟨rfl, rfl⟩ := q'
  refine gT_getM rfl dJ2_add_3_7 ?_
  refine gT_go 400 [12] kJ2_add_3 ?_
  refine gT_putM rfl dJ2_add_3_12 ?_
  obtain ⟨J, hJ⟩ : ∃ J, J = u3 I 10 q 0 (I 10 q 0 + 1) := ⟨_, rfl⟩
  change gT _ _ _ _ _ _ _ _ (gH (u3 I 10 q 0 (I 10 q 0 + 1)) L y) _
  rw [← hJ]
  have j2 : J 10 q 2 = nI n := by rw [hJ, u3_ne3 (by decide)]; exact l1
  have at25 : ∀ (x : Int32) (lo' : Lo), x = nI n → glle [some (gR (some (10, q))), some (gI (nI i)), some (gR (some v)), some (gI x), none] lo' → gT mJ2_add_3 (d + 3) (0, 0) (fun w h' => w = [] ∧ ∃ I' y', h' = gH I' L y' ∧ lFr q I L y I' L y' ∧ cLi q (n + 1) (fIns f i v) I' y') (fun _ _ => False) 25 lo' [gR (gRX y 10 q 1), gI x] (gH J L y) (0, 0) := by
    intro x lo' hx hl'
    subst hx
    rw [he]
    refine gT_lo _ hl' ?_
    refine gT_go 400 [32, 49] kJ2_add_3 ?_
    refine bNe n (gNX y 11 e) rfl rfl (fun _ => ?_) (fun c => absurd c (by omega)) (by omega) (by omega)
    have e1 : nI i + gic 1 = nI (i + 1) := nI_1 i
    have e2 : nI n - nI i = nI (n - i) := pk_sub (by omega)
    change gT _ _ _ _ _ _ _ [gI (nI n - nI i), gI (nI i + gic 1), gR (some (11, e)), gI (nI i), gR (some (11, e))] _ _
    rw [e1, e2]
    refine gT_acpR (vb := 12) (ci := 14) (by decide) rfl rfl q2875 (fun t ht => ?_) (by show i + (n - i) ≤ gNX y 11 e; omega) (by show i + 1 + (n - i) ≤ gNX y 11 e; omega) q695 rfl dJ2_add_3_49 ?_
    · obtain ⟨j, hj⟩ := hf (i + t) (by omega)
      exact ⟨j, (lf (i + t) (by omega)).trans hj⟩
    · rw [gCpR_gH]
      obtain ⟨z, hz⟩ : ∃ z, z = yC y e i (i + 1) (n - i) := ⟨_, rfl⟩
      have z3 : ∀ b, b ≠ 11 → gRX z b = gRX y b := fun b hb => by rw [hz, gRX_yC]; funext i' k; exact if_neg (fun w => hb w.1)
      have z4 : ∀ i' k, i' ≠ e → gRX z 11 i' k = gRX y 11 i' k := fun i' k hi' => by rw [hz, gRX_yC]; exact if_neg (fun w => hi' w.2.1)
      have z7 : ∀ k, k < n + 1 → k ≠ i → gRX z 11 e k = fIns f i v k := by
        intro k hk hki
        rw [hz, gRX_yC]
        unfold fIns
        show (if 11 = 11 ∧ e = e ∧ i + 1 ≤ k ∧ k < i + 1 + (n - i) then gRX y 11 e (i + (k - (i + 1))) else gRX y 11 e k) = if k < i then f k else if k = i then some v else f (k - 1)
        by_cases w : k < i
        · rw [if_neg (by omega), if_pos w]; exact lf k (by omega)
        · rw [if_pos ⟨rfl, rfl, by omega, by omega⟩, if_neg w, if_neg hki, show i + (k - (i + 1)) = k - 1 by omega]; exact lf (k - 1) (by omega)
      have z1 : z.1 = y.1 := by rw [hz] <;> rfl
      have z2 : z.2.1 = y.2.1 := by rw [hz] <;> rfl
      have z5 : gNX z = gNX y := by rw [hz] <;> rfl
      have z6 : z.2.2.2.2 = y.2.2.2.2 := by rw [hz] <;> rfl
      rw [← hz]
      refine gT_go 400 [56] kJ2_add_3 ?_
      refine gT_astO hv rfl (by rw [z5]; omega) dJ2_add_3_56 ?_
      refine gT_go 400 [] kJ2_add_3 ?_
      have e3 : nI n + gic 1 = nI (n + 1) := nI_1 n
      have fr : lFr q J L y (u3 J 10 q 2 (nI (n + 1))) L (yR z 11 e i (some v)) := by
        refine ⟨fun b b1 b2 => u3_ne1 b1, fun b b2 => rfl, fun i k hi => u3_ne (fun w => hi w.2.1), z1, z2, fun b b1 b2 => ?_, fun b b2 => ⟨by show gNX z b = _; rw [z5], by show z.2.2.2.2 b = _; rw [z6]⟩, fun i k hi => ?_, e, ?_, Or.inl he, fun i k hi => ?_, fun i hi => by show gNX z 11 i = _; rw [z5]⟩
        · rw [gRX_yR rfl, u3_ne1 b2]; exact z3 b b2
        · rw [gRX_yR rfl, u3_ne1 (by decide), z3 10 (by decide)]
        · rw [gRX_yR rfl, u3_ne1 (by decide), z3 10 (by decide)]; exact he
        · rw [gRX_yR rfl, u3_ne (fun w => hi w.2.1)]; exact z4 i k hi
      refine ⟨rfl, u3 J 10 q 2 (nI (n + 1)), yR z 11 e i (some v), by rw [← e3], lFr_M2 hJ fr, u3_eq, by omega, Or.inr ⟨e, ?_, ?_, fun k hk => ?_, ?_⟩⟩
      · rw [gRX_yR rfl, u3_ne1 (by decide), z3 10 (by decide)]; exact he
      · show n + 1 ≤ gNX z 11 e
        rw [z5]; omega
      · by_cases w : k = i
        · subst w
          rw [gRX_yR rfl]
          unfold fIns
          rw [if_neg (Nat.lt_irrefl _), if_pos rfl]
          exact u3_eq
        · rw [gRX_yR rfl, u3_ne3 w]; exact z7 k hk w
      · show gNX z 11 e = 10
        rw [z5]; exact hN
  refine gT_go 400 [25] kJ2_add_3 ?_
  exact at25 _ _ j2 (by (repeat' apply And.intro) <;> first | rfl | trivial | exact congrArg Sum.inl (nI_1 _).symm | exact congrArg Sum.inl (nI_1 _).symm)
