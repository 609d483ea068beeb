/-! ===== what both systems stand for; the plain form's part of the heap ===== -/
/-- land, whether there is one, rules, what images keep, images (their number), refusals, tape (taped), fault -/
abbrev VS : Type := (Nat → Nat) × Bool × RL × (Nat → Int32) × (Nat × (Nat → Nat → Int32)) × (Nat → Int32) × (Nat × (Nat → Nat)) × Int32
abbrev vA (V : VS) : Nat → Nat := V.1
abbrev vL (V : VS) : Bool := V.2.1
abbrev vR (V : VS) : RL := V.2.2.1
abbrev vS (V : VS) : Nat → Int32 := V.2.2.2.1
abbrev vI (V : VS) : Nat × (Nat → Nat → Int32) := V.2.2.2.2.1
abbrev vQ (V : VS) : Nat → Int32 := V.2.2.2.2.2.1
abbrev vT (V : VS) : Nat × (Nat → Nat) := V.2.2.2.2.2.2.1
abbrev vF (V : VS) : Int32 := V.2.2.2.2.2.2.2
def gTo (x : Int32) : Nat := x.toNatClampNeg
theorem gTo_n {n : Nat} (h : n < 2 ^ 31) : gTo (nI n) = n := nI_clamp h
/-- of what images keep: kinds, plan, turns, length -/
def sKd (s : Nat → Int32) (k : Nat) : Nat := gTo (s k)
def sPl (s : Nat → Int32) (h : Nat) : Nat := gTo (s (5 + h))
def sTn (s : Nat → Int32) (h : Nat) : Option Nat := if s (29 + h) = -1 then none else some (gTo (s (29 + h)))
def sLn (s : Nat → Int32) : Nat := gTo (s 53)
def gSw (A : Nat → Nat) (s : Nat → Int32) : Prop :=
  (∀ k, k < 5 → s k = nI (sKd s k) ∧ sKd s k < 6) ∧ (∀ h, h < 24 → s (5 + h) = nI (sPl s h) ∧ sPl s h ≤ A 1) ∧ (∀ h, h < 24 → s (29 + h) = gOI (sTn s h) ∧ ∀ k, sTn s h = some k → k < A 2) ∧ s 53 = nI (sLn s) ∧ 0 < sLn s ∧ sLn s < 13 ∧
  (∃ n, s 54 = nI n ∧ n ≤ 24 ∧ ∀ k, k < n → ∃ m, s (55 + k) = nI m ∧ m ≤ A 1)
def gJr (s : Nat → Int32) : Prop := s 79 = 0 ∨ ∃ g, s 80 = nI g ∧ g ≤ 24
def gWf (V : VS) : Prop :=
  gLd (vA V) ∧ (vL V = true → gLg (vA V)) ∧ (vL V = false → ∀ j, vA V j = 0) ∧ gSw (vA V) (vS V) ∧ (vI V).1 ≤ 3 ∧ (∀ k, k < (vI V).1 → gSw (vA V) ((vI V).2 k)) ∧ (vT V).1 ≤ 600 ∧ (∀ j, j < (vT V).1 → (vT V).2 j < 256) ∧ gJr (vS V) ∧ ∀ k, k < (vI V).1 → gJr ((vI V).2 k)
/-- the plain form's part of the heap stands for V -/
def mR (V : VS) (I : Nat → Nat → Nat → Int32) (L : Nat → Nat → Nat → Int64) : Prop :=
  gLx I (vA V) ∧ I 100 0 12 = gb (vL V) ∧ gRm (vR V) I ∧ (∀ j, j < 156 → I 125 0 j = vS V j) ∧ I 100 0 27 = nI (vI V).1 ∧ (∀ k j, k < (vI V).1 → j < 156 → I 126 0 (156 * k + j) = (vI V).2 k j) ∧ (∀ k, k < 4 → I 101 0 k = vQ V k) ∧
  I 100 0 2 = nI (vT V).1 ∧ (∀ j, j < (vT V).1 → I 109 0 j = nI ((vT V).2 j)) ∧ I 100 0 8 = vF V ∧ I 100 0 32 = -1 ∧ I 100 0 33 = -1 ∧ I 100 0 34 = -1 ∧ I 100 0 35 = 0 ∧
  ∃ kn : Bool, I 100 0 28 = gb kn ∧ (kn = true → vL V = true ∧ gKn (vA V) (vA V 4) (vR V) none I L)
/-- what of the heap mR looks at -/
def mSame (I : Nat → Nat → Nat → Int32) (L : Nat → Nat → Nat → Int64) (I' : Nat → Nat → Nat → Int32) (L' : Nat → Nat → Nat → Int64) : Prop :=
  I' 101 = I 101 ∧ I' 109 = I 109 ∧ I' 110 = I 110 ∧ I' 115 = I 115 ∧ I' 116 = I 116 ∧ I' 119 = I 119 ∧ I' 120 = I 120 ∧ I' 125 = I 125 ∧ I' 126 = I 126 ∧ I' 136 = I 136 ∧ I' 142 = I 142 ∧ L' 138 = L 138 ∧ L' 140 = L 140 ∧
  (∀ k, k = 2 ∨ k = 8 ∨ k = 12 ∨ k = 13 ∨ k = 27 ∨ k = 28 ∨ k = 32 ∨ k = 33 ∨ k = 34 ∨ k = 35 → I' 100 0 k = I 100 0 k)
theorem gKn_cg {A : Nat → Nat} {S : Nat} {R : RL} {om : Option Nat} {I I' : Nat → Nat → Nat → Int32} {L L' : Nat → Nat → Nat → Int64} (h1 : I' 136 = I 136) (h2 : I' 142 = I 142) (h3 : L' 138 = L 138) (h4 : L' 140 = L 140) (H : gKn A S R om I L) : gKn A S R om I' L' := by
  unfold gKn gLw at H ⊢
  rw [h1, h2, h3, h4]
  exact H
theorem gRm_cg {R : RL} {I I' : Nat → Nat → Nat → Int32} (h1 : I' 115 = I 115) (h2 : I' 116 = I 116) (h3 : I' 119 = I 119) (h4 : I' 120 = I 120) (h5 : I' 100 0 13 = I 100 0 13) (H : gRm R I) : gRm R I' := by
  unfold gRm gCo at H ⊢
  rw [h1, h2, h3, h4, h5]
  exact H
theorem mR_cg {V : VS} {I I' : Nat → Nat → Nat → Int32} {L L' : Nat → Nat → Nat → Int64} (m : mSame I L I' L') (H : mR V I L) : mR V I' L' := by
  obtain ⟨m1, m2, m3, m4, m5, m6, m7, m8, m9, m10, m11, m12, m13, m14⟩ := m
  obtain ⟨h1, h2, h3, h4, h5, h6, h7, h8, h9, h10, h11, h12, h13, h14, kn, h15, h16⟩ := H
  refine ⟨fun j hj => by rw [m3]; exact h1 j hj, by rw [m14 12 (by omega)]; exact h2, gRm_cg m4 m5 m6 m7 (m14 13 (by omega)) h3, fun j hj => by rw [m8]; exact h4 j hj, by rw [m14 27 (by omega)]; exact h5, fun k j hk hj => by rw [m9]; exact h6 k j hk hj, fun k hk => by rw [m1]; exact h7 k hk, by rw [m14 2 (by omega)]; exact h8, fun j hj => by rw [m2]; exact h9 j hj, by rw [m14 8 (by omega)]; exact h10, by rw [m14 32 (by omega)]; exact h11, by rw [m14 33 (by omega)]; exact h12, by rw [m14 34 (by omega)]; exact h13, by rw [m14 35 (by omega)]; exact h14, kn, by rw [m14 28 (by omega)]; exact h15, fun e => ⟨(h16 e).1, gKn_cg m10 m11 m12 m13 (h16 e).2⟩⟩
/-- nothing outside the plain form -/
def mOut (I : Nat → Nat → Nat → Int32) (L : Nat → Nat → Nat → Int64) (I' : Nat → Nat → Nat → Int32) (L' : Nat → Nat → Nat → Int64) : Prop := ∀ b, (b < 100 ∨ 160 ≤ b) → I' b = I b ∧ L' b = L b
theorem mOut.rf (I : Nat → Nat → Nat → Int32) (L : Nat → Nat → Nat → Int64) : mOut I L I L := fun _ _ => ⟨rfl, rfl⟩
theorem mOut.tr {I1 I2 I3 : Nat → Nat → Nat → Int32} {L1 L2 L3 : Nat → Nat → Nat → Int64} (a : mOut I1 L1 I2 L2) (b : mOut I2 L2 I3 L3) : mOut I1 L1 I3 L3 := fun q hq => ⟨(b q hq).1.trans (a q hq).1, (b q hq).2.trans (a q hq).2⟩
/-- the play as all is told -/
def gP0 (V : VS) : PP := (gWho (sTn (vS V)) (sLn (vS V)) (vA V 2), sKd (vS V), none, false, sPl (vS V))
theorem gWho_lt {V : VS} (hw : gWf V) (hL : vL V = true) {h : Nat} (hh : h < 24) : gWho (sTn (vS V)) (sLn (vS V)) (vA V 2) h < vA V 2 := by
  have h2 := (hw.2.1 hL).2.2.1
  unfold gWho
  cases q : sTn (vS V) h with
  | none => exact Nat.mod_lt _ h2
  | some k => exact (hw.2.2.2.1.2.2.1 h hh).2 k q
/-- all is set up for a play: stores, what is known (without a rule), who leads and how -/
def mU (V : VS) (S : Nat) (om : Option Nat) (P : PP) (I : Nat → Nat → Nat → Int32) (L : Nat → Nat → Nat → Int64) : Prop :=
  I 100 0 31 = nI S ∧ gKn (vA V) S (vR V) om I L ∧ gPf (vA V) P I
set_option maxRecDepth 100000 in
theorem p_setUp (d : Nat) (V : VS) (hw : gWf V) (hL : vL V = true) (I : Nat → Nat → Nat → Int32) (L : Nat → Nat → Nat → Int64) (y : Dy) (hm : mR V I L) :
    gTM mX12_setUp (d + 7) (0, 0) [gM0] (gH I L y) (fun v h' => v = [] ∧ ∃ I' L', h' = gH I' L' y ∧ mOut I L I' L' ∧ mR V I' L' ∧ mU V (vA V 4) none (gP0 V) I' L' ∧ I' 100 0 0 = I 100 0 0 ∧ I' 100 0 28 = 1) (fun _ _ => False) := by
  have hA := hw.1
  have a2 := hA.2.2.1
  have a3 := hA.2.2.2.1
  have a4 := hA.2.2.2.2.1
  obtain ⟨h1, h2, h3, h4, h5, h6, h7, h8, h9, h10, h11, h12, h13, h14, kn, h15, h16⟩ := id hm
  obtain ⟨w1, w2, w3, w4, w5, w6, w7⟩ := hw.2.2.2.1
  have e4 : I 110 0 4 = nI (vA V 4) := h1 4 (by omega)
  -- from pc 21 on: known
  have rest : ∀ (x : Nat → Nat → Nat → Int32) (xL : Nat → Nat → Nat → Int64) (lo0 : Lo), (∀ b, b ≠ 100 → b ≠ 123 → b ≠ 124 → b ≠ 136 → b ≠ 142 → x b = I b) → (∀ k, k ≠ 31 → x 100 0 k = I 100 0 k) → x 100 0 31 = nI (vA V 4) → (∀ b, b ≠ 138 → b ≠ 140 → xL b = L b) → gKn (vA V) (vA V 4) (vR V) none x xL →
      glle [some gM0, none] lo0 → gT mX12_setUp (d + 7) (0, 0) (fun v h' => v = [] ∧ ∃ I' L', h' = gH I' L' y ∧ mOut I L I' L' ∧ mR V I' L' ∧ mU V (vA V 4) none (gP0 V) I' L' ∧ I' 100 0 0 = I 100 0 0 ∧ I' 100 0 28 = 1) (fun _ _ => False) 21 lo0 [] (gH x xL y) (0, 0) := by
    intro x xL lo0 x1 x2 x3 x4 x5 hlo
    refine gT_lo _ hlo ?_
    refine gT_go 400 [28] kX12_setUp ?_
    refine And.intro (Or.inr rfl) ?_
    have z1 : ∀ b, b ≠ 100 → b ≠ 123 → b ≠ 124 → b ≠ 136 → b ≠ 142 → u3 x 100 0 28 1 b = I b := fun b g1 g2 g3 g4 g5 => (u3_ne1 g1).trans (x1 b g1 g2 g3 g4 g5)
    refine gT_for (σ := Nat → Nat → Nat → Int32) (pc := 28) (lo := fun i _ => [some gM0, some (gI (nI i))]) (hp := fun _ z => gH z xL y) (Inv := fun i z => (∀ b, b ≠ 129 → z b = u3 x 100 0 28 1 b) ∧ ∀ h, h < i → z 129 0 h = nI (gWho (sTn (vS V)) (sLn (vS V)) (vA V 2) h)) (vA V 3) ?_ ?_ 0 _ (Nat.zero_le _) ⟨fun _ _ => rfl, fun h hh => absurd hh (Nat.not_lt_zero _)⟩ (by (repeat' apply And.intro) <;> first | rfl | trivial | exact congrArg Sum.inl (nI_1 _).symm | exact congrArg Sum.inl (nI_1 _).symm)
    · intro z ⟨y1, y2⟩
      have y110 : gLx z (vA V) := fun j hj => by rw [y1 110 (by decide), z1 110 (by decide) (by decide) (by decide) (by decide) (by decide)]; exact h1 j hj
      refine gT_go 400 [28, 57] kX12_setUp ?_
      refine Exists.intro (3) (And.intro rfl (And.intro (show _ < 708 by omega) ?_))
      refine bGe (vA V 3) (vA V 3) rfl (y110 3 (by omega)) (fun c => ?_) (fun c => absurd c (by omega))
      refine gT_for (σ := Nat → Nat → Nat → Int32) (pc := 57) (lo := fun i _ => [some gM0, some (gI (nI i))]) (hp := fun _ z => gH z xL y) (Inv := fun i z => (∀ b, b ≠ 129 → b ≠ 130 → z b = u3 x 100 0 28 1 b) ∧ (∀ h, h < vA V 3 → z 129 0 h = nI (gWho (sTn (vS V)) (sLn (vS V)) (vA V 2) h)) ∧ ∀ k, k < i → z 130 0 k = vS V k) (vA V 2) ?_ ?_ 0 z (Nat.zero_le _) ⟨fun b g _ => y1 b g, y2, fun h hh => absurd hh (Nat.not_lt_zero _)⟩ (by (repeat' apply And.intro) <;> first | rfl | trivial | exact congrArg Sum.inl (nI_1 _).symm | exact congrArg Sum.inl (nI_1 _).symm)
      · intro z ⟨y1, y2, y3⟩
        have y110 : gLx z (vA V) := fun j hj => by rw [y1 110 (by decide) (by decide), z1 110 (by decide) (by decide) (by decide) (by decide) (by decide)]; exact h1 j hj
        have y125 : z 125 = I 125 := (y1 125 (by decide) (by decide)).trans (z1 125 (by decide) (by decide) (by decide) (by decide) (by decide))
        have y100 : ∀ k, k ≠ 28 → z 100 0 k = x 100 0 k := fun k hk => by rw [y1 100 (by decide) (by decide)]; exact u3_ne3 hk
        have yk : gKn (vA V) (vA V 4) (vR V) none z xL := gKn_cg (by rw [y1 136 (by decide) (by decide)]; exact u3_ne1 (by decide)) (by rw [y1 142 (by decide) (by decide)]; exact u3_ne1 (by decide)) rfl rfl x5
        have y28 : z 100 0 28 = 1 := by rw [y1 100 (by decide) (by decide)]; exact u3_eq
        have yb : ∀ b, b ≠ 100 → b ≠ 123 → b ≠ 124 → b ≠ 129 → b ≠ 130 → b ≠ 136 → b ≠ 142 → z b = I b := fun b g1 g2 g3 g4 g5 g6 g7 => (y1 b g4 g5).trans (z1 b g1 g2 g3 g6 g7)
        refine gT_go 400 [28, 57] kX12_setUp ?_
        refine Exists.intro (2) (And.intro rfl (And.intro (show _ < 708 by omega) ?_))
        refine bGe (vA V 2) (vA V 2) rfl (y110 2 (by omega)) (fun c => ?_) (fun c => absurd c (by omega))
        refine ⟨rfl, z, xL, rfl, fun b hb => ⟨yb b (by omega) (by omega) (by omega) (by omega) (by omega) (by omega) (by omega), x4 b (by omega) (by omega)⟩, ?_, ⟨(y100 31 (by decide)).trans x3, yk, ?_⟩, (y100 0 (by decide)).trans (x2 0 (by decide)), y28⟩
        · have f : ∀ k, k ≠ 28 → k ≠ 31 → z 100 0 k = I 100 0 k := fun k g1 g2 => (y100 k g1).trans (x2 k g2)
          refine ⟨y110, by rw [f 12 (by decide) (by decide)]; exact h2, gRm_cg (yb 115 (by decide) (by decide) (by decide) (by decide) (by decide) (by decide) (by decide)) (yb 116 (by decide) (by decide) (by decide) (by decide) (by decide) (by decide) (by decide)) (yb 119 (by decide) (by decide) (by decide) (by decide) (by decide) (by decide) (by decide)) (yb 120 (by decide) (by decide) (by decide) (by decide) (by decide) (by decide) (by decide)) (f 13 (by decide) (by decide)) h3, fun j hj => by rw [y125]; exact h4 j hj, by rw [f 27 (by decide) (by decide)]; exact h5, fun k j hk hj => by rw [yb 126 (by decide) (by decide) (by decide) (by decide) (by decide) (by decide) (by decide)]; exact h6 k j hk hj, fun k hk => by rw [yb 101 (by decide) (by decide) (by decide) (by decide) (by decide) (by decide) (by decide)]; exact h7 k hk, by rw [f 2 (by decide) (by decide)]; exact h8, fun j hj => by rw [yb 109 (by decide) (by decide) (by decide) (by decide) (by decide) (by decide) (by decide)]; exact h9 j hj, by rw [f 8 (by decide) (by decide)]; exact h10, by rw [f 32 (by decide) (by decide)]; exact h11, by rw [f 33 (by decide) (by decide)]; exact h12, by rw [f 34 (by decide) (by decide)]; exact h13, by rw [f 35 (by decide) (by decide)]; exact h14, true, y28, fun _ => ⟨hL, yk⟩⟩
        · refine ⟨fun h hh => ⟨y2 h hh, gWho_lt hw hL (by omega)⟩, fun k hk => ⟨(y3 k hk).trans (w1 k (by omega)).1, (w1 k (by omega)).2⟩, ⟨by rw [y100 33 (by decide), x2 33 (by decide)]; exact h12, by rw [y100 34 (by decide), x2 34 (by decide)]; exact h13⟩, by rw [y100 35 (by decide), x2 35 (by decide)]; exact h14, fun h hh => ?_⟩
          rw [y125]
          exact ⟨(h4 (5 + h) (by omega)).trans (w2 h (by omega)).1, (w2 h (by omega)).2⟩
      · intro i z hi ⟨y1, y2, y3⟩ hnext
        have y110 : gLx z (vA V) := fun j hj => by rw [y1 110 (by decide) (by decide), z1 110 (by decide) (by decide) (by decide) (by decide) (by decide)]; exact h1 j hj
        have y125 : z 125 = I 125 := (y1 125 (by decide) (by decide)).trans (z1 125 (by decide) (by decide) (by decide) (by decide) (by decide))
        refine gT_go 400 [28, 57] kX12_setUp ?_
        refine Exists.intro (2) (And.intro rfl (And.intro (show _ < 708 by omega) ?_))
        refine bGe i (vA V 2) rfl (y110 2 (by omega)) (fun c => absurd c (by omega)) (fun c => ?_)
        refine Exists.intro (i) (And.intro (by show 0 + nI i = nI i; exact (nI_add 0 i).trans (by rw [Nat.zero_add])) (And.intro (show i < 156 by omega) ?_))
        refine Exists.intro (i) (And.intro rfl (And.intro (show _ < 5 by omega) ?_))
        refine hnext _ _ ⟨fun b g1 g2 => (u3_ne1 g2).trans (y1 b g1 g2), fun h hh => by rw [u3_ne1 (by decide)]; exact y2 h hh, fun k hk => ?_⟩ (by (repeat' apply And.intro) <;> first | rfl | trivial | exact congrArg Sum.inl (nI_1 _).symm | exact congrArg Sum.inl (nI_1 _).symm)
        by_cases e : k = i
        · subst e; exact u3_eq.trans (by show z 125 0 k = _; rw [y125]; exact h4 k (by omega))
        · exact (u3_ne3 e).trans (y3 k (by omega))
    · intro i z hi ⟨y1, y2⟩ hnext
      have y110 : gLx z (vA V) := fun j hj => by rw [y1 110 (by decide), z1 110 (by decide) (by decide) (by decide) (by decide) (by decide)]; exact h1 j hj
      have y125 : z 125 = I 125 := (y1 125 (by decide)).trans (z1 125 (by decide) (by decide) (by decide) (by decide) (by decide))
      refine gT_go 400 [28, 57] kX12_setUp ?_
      refine Exists.intro (3) (And.intro rfl (And.intro (show _ < 708 by omega) ?_))
      refine bGe i (vA V 3) rfl (y110 3 (by omega)) (fun c => absurd c (by omega)) (fun c => ?_)
      refine gP_use (p_leader (d + 5) i (by omega) (vA V) z y110 hA ((hw.2.1 hL).2.2.1) (sTn (vS V)) (sLn (vS V)) w5 w6 (by rw [y125]; exact (h4 (29 + i) (by omega)).trans (w3 i (by omega)).1) (fun k hk => by have := (w3 i (by omega)).2 k hk; omega) (by rw [y125]; exact (h4 53 (by omega)).trans w4) xL y) ?_
      refine Exists.intro (i) (And.intro rfl (And.intro (show _ < 24 by omega) ?_))
      refine hnext _ _ ⟨fun b g1 => (u3_ne1 g1).trans (y1 b g1), fun h hh => ?_⟩ (by (repeat' apply And.intro) <;> first | rfl | trivial | exact congrArg Sum.inl (nI_1 _).symm | exact congrArg Sum.inl (nI_1 _).symm)
      by_cases e : h = i
      · subst e; exact u3_eq
      · exact (u3_ne3 e).trans (y2 h (by omega))
  refine gEnter 400 [21] kX12_setUp rfl rfl ?_
  refine Exists.intro (4) (And.intro rfl (And.intro (show _ < 708 by omega) ?_))
  refine bB1 kn (show u3 I 100 0 31 (I 110 0 4) 100 0 28 = gb kn from (u3_ne3 (by decide)).trans h15) (fun c => ?_) (fun c => ?_)
  · exact rest (u3 I 100 0 31 (I 110 0 4)) L _ (fun b g1 _ _ _ _ => u3_ne1 g1) (fun k hk => u3_ne3 hk) (u3_eq.trans e4) (fun _ _ _ => rfl) (gKn_cg (u3_ne1 (by decide)) (u3_ne1 (by decide)) rfl rfl (h16 c).2) (by (repeat' apply And.intro) <;> first | rfl | trivial | exact congrArg Sum.inl (nI_1 _).symm | exact congrArg Sum.inl (nI_1 _).symm)
  · refine gTM_use rfl (p_learns d (vA V) (u3 I 100 0 31 (I 110 0 4)) (fun j hj => by rw [u3_ne1 (by decide)]; exact h1 j hj) hA (vA V 4) (u3_eq.trans e4) (by omega) (vR V) (gRm_cg (u3_ne1 (by decide)) (u3_ne1 (by decide)) (u3_ne1 (by decide)) (u3_ne1 (by decide)) (u3_ne3 (by decide)) h3) none (by rw [u3_ne3 (by decide)]; exact h11) (fun k hk => by cases hk) L y) (fun v h' q => ?_)
    obtain ⟨rfl, x, xL, rfl, f1, f2, f3⟩ := q
    have f100 : x 100 = u3 I 100 0 31 (I 110 0 4) 100 := f1 100 (by decide) (by decide) (by decide) (by decide)
    refine rest x xL _ (fun b g1 g2 g3 g4 g5 => (f1 b g2 g3 g4 g5).trans (u3_ne1 g1)) (fun k hk => by rw [f100]; exact u3_ne3 hk) (by rw [f100]; exact u3_eq.trans e4) f2 f3 (by (repeat' apply And.intro) <;> first | rfl | trivial | exact congrArg Sum.inl (nI_1 _).symm | exact congrArg Sum.inl (nI_1 _).symm)
