/-! ===== ArrayList: cleared, made ===== -/
/-- references of the moving regions are z -/
def yZ (y : Dy) (z : Nat → Nat → Nat → Option Rf) : Dy := (y.1, y.2.1, z, y.2.2.2.1, y.2.2.2.2)
/-- what a list that is cleared leaves -/
def lCl (q : Nat) (I : Nat → Nat → Nat → Int32) (L : Nat → Nat → Nat → Int64) (y : Dy) (h' : Hp) : Prop := ∃ I' z, h' = gH I' L (yZ y z) ∧ (∀ b, b ≠ 10 → I' b = I b) ∧ (∀ i k, i ≠ q → I' 10 i k = I 10 i k) ∧ I' 10 q 2 = 0 ∧ ∀ b i k, (b = 11 ∧ gRX y 10 q 1 = some (11, i)) ∨ z b i k = y.2.2.1 b i k
set_option maxRecDepth 100000 in
theorem o_clear (d q n : Nat) (f : Nat → Option Rf) (I : Nat → Nat → Nat → Int32) (L : Nat → Nat → Nat → Int64) (y : Dy) (hl : cLi q n f I y) :
    gTM mJ2_clear (d + 2) (0, 0) [gR (some (10, q))] (gH I L y) (fun w h' => w = [] ∧ lCl q I L y h') (fun _ _ => False) := by
  refine gEnter 400 [2] kJ2_clear rfl rfl ?_
  refine gT_getM rfl dJ2_clear_2 ?_
  refine gT_go 400 [7] kJ2_clear ?_
  refine gT_putM rfl dJ2_clear_7 ?_
  obtain ⟨J, hJ⟩ : ∃ J, J = u3 I 10 q 0 (I 10 q 0 + 1) := ⟨_, rfl⟩
  change gT _ _ _ _ _ _ _ _ (gH (u3 I 10 q 0 (I 10 q 0 + 1)) L y) _
  rw [← hJ]
  have j2 : J 10 q 2 = nI n := by rw [hJ, u3_ne3 (by decide)]; exact hl.1
  have fin : ∀ z, (∀ b i k, (b = 11 ∧ gRX y 10 q 1 = some (11, i)) ∨ z b i k = y.2.2.1 b i k) → lCl q I L y (gH (u3 J 10 q 2 0) L (yZ y z)) := by
    intro z hz
    refine ⟨_, z, rfl, fun b hb => by rw [u3_ne1 hb, hJ, u3_ne1 hb], fun i k hi => ?_, u3_eq, hz⟩
    rw [u3_ne (fun w => hi w.2.1), hJ, u3_ne (fun w => hi w.2.1)]
  have at27 : ∀ (x : Int32) (s : Rf) (lo' : Lo), x = nI n → (0 < n → ∃ e, s = (11, e) ∧ gRX y 10 q 1 = some (11, e) ∧ gNX y 11 e = 10 ∧ n ≤ 10) → glle [some (gR (some (10, q))), some (gR (some s)), some (gI x), some (gI 0)] lo' → gT mJ2_clear (d + 2) (0, 0) (fun w h' => w = [] ∧ lCl q I L y h') (fun _ _ => False) 27 lo' [] (gH (u3 J 10 q 2 0) L y) (0, 0) := by
    intro x s lo' hx hs hl'
    subst hx
    refine gT_lo _ hl' ?_
    refine gT_for (σ := Nat → Nat → Nat → Option Rf) (pc := 27) (lo := fun i _ => [some (gR (some (10, q))), some (gR (some s)), some (gI (nI n)), some (gI (nI i))]) (hp := fun _ z => gH (u3 J 10 q 2 0) L (yZ y z)) (Inv := fun i z => ∀ b i k, (b = 11 ∧ gRX y 10 q 1 = some (11, i)) ∨ z b i k = y.2.2.1 b i k) n ?_ ?_ 0 y.2.2.1 (Nat.zero_le _) (fun _ _ _ => Or.inr rfl) (by (repeat' apply And.intro) <;> first | rfl | trivial | exact congrArg Sum.inl (nI_1 _).symm | exact congrArg Sum.inl (nI_1 _).symm)
    · intro z hz
      refine gT_go 400 [] kJ2_clear ?_
      refine bGe n n rfl rfl (fun _ => ?_) (fun c => absurd c (by omega)) hl.2.1 hl.2.1
      exact ⟨rfl, fin z hz⟩
    · intro i z hi hz hnext
      obtain ⟨e, rfl, he, hN, hn10⟩ := hs (by omega)
      refine gT_go 400 [35] kJ2_clear ?_
      refine bGe i n rfl rfl (fun c => absurd c (by omega)) (fun _ => ?_) (by omega) (by omega)
      refine gT_ast0 (j := e) (n := i) (by decide) rfl rfl (by show i < gNX y 11 e; omega) dJ2_clear_35 ?_
      rw [sR_gH rfl]
      refine gT_go 400 [27] kJ2_clear ?_
      refine hnext (u3 z 11 e i none) _ (fun b i' k => ?_) (by (repeat' apply And.intro) <;> first | rfl | trivial | exact congrArg Sum.inl (nI_1 _).symm | exact congrArg Sum.inl (nI_1 _).symm)
      by_cases w : b = 11 ∧ i' = e
      · exact Or.inl ⟨w.1, by rw [w.2]; exact he⟩
      · rcases hz b i' k with c | c
        · exact Or.inl c
        · exact Or.inr ((u3_ne (fun t => w ⟨t.1, t.2.1⟩)).trans c)
  have at14 : ∀ lo', glle [some (gR (some (10, q))), none, none, none] lo' → gT mJ2_clear (d + 2) (0, 0) (fun w h' => w = [] ∧ lCl q I L y h') (fun _ _ => False) 14 lo' [gR (gRX y 10 q 1)] (gH J L y) (0, 0) := by
    intro lo' hl'
    refine gT_lo _ hl' ?_
    rcases hl.2.2 with ⟨z, w⟩ | ⟨e, w, l4, -, l6⟩
    · rw [w]
      refine gT_go 400 [27] kJ2_clear ?_
      refine at27 (J 10 q 2) (3, 0) _ j2 (fun c => absurd c (by omega)) ?_
      exact (by (repeat' apply And.intro) <;> first | rfl | trivial | exact congrArg Sum.inl (nI_1 _).symm | exact congrArg Sum.inl (nI_1 _).symm)
    · rw [w]
      refine gT_go 400 [27] kJ2_clear ?_
      refine at27 (J 10 q 2) (11, e) _ j2 (fun _ => ⟨e, rfl, w, l6, by omega⟩) ?_
      exact (by (repeat' apply And.intro) <;> first | rfl | trivial | exact congrArg Sum.inl (nI_1 _).symm | exact congrArg Sum.inl (nI_1 _).symm)
  refine gT_go 400 [14] kJ2_clear ?_
  exact at14 _ (by (repeat' apply And.intro) <;> first | rfl | trivial | exact congrArg Sum.inl (nI_1 _).symm | exact congrArg Sum.inl (nI_1 _).symm)
