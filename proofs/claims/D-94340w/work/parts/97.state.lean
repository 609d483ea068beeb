/-! ===== the component stands for V; refusals by exceptions ===== -/
def fNw {α : Type} (f : Nat → Nat → Nat → α) (z : α) (b c : Nat) : Nat → Nat → Nat → α := fun b' i k => bif Nat.beq b' b && Nat.beq i c then z else f b' i k
def yNw (y : Dy) (b n : Nat) : Dy := (y.1, y.2.1, fNw y.2.2.1 none b (y.2.2.2.2 b), fun b' i => bif Nat.beq b' b && Nat.beq i (y.2.2.2.2 b) then n else y.2.2.2.1 b' i, gUp y.2.2.2.2 b)
theorem fNw_ne {α : Type} {f : Nat → Nat → Nat → α} {z : α} {b c b' : Nat} (h : ¬ b' = b) : fNw f z b c b' = f b' := by
  funext i k
  show (bif Nat.beq b' b && Nat.beq i c then z else f b' i k) = f b' i k
  rw [gbeqF h] <;> rfl
theorem gNw_gH {I : Nat → Nat → Nat → Int32} {L : Nat → Nat → Nat → Int64} {y : Dy} {b : Nat} (n : Nat) (hR0 : glk (gRt y) b = none) (hN0 : glk gNt b = none) : gNw (gH I L y) b n = gH (fNw I 0 b (y.2.2.2.2 b)) (fNw L 0 b (y.2.2.2.2 b)) (yNw y b n) := by
  have nb : ∀ b', ¬ glk (gRt y) b' = none ∨ ¬ glk gNt b' = none → Nat.beq b' b = false := by
    intro b' h
    cases q : Nat.beq b' b with
    | false => rfl
    | true =>
      have e := Nat.eq_of_beq_eq_true q
      subst e
      rcases h with h | h
      · exact absurd hR0 h
      · exact absurd hN0 h
  unfold gNw
  refine Prod.ext rfl (Prod.ext rfl (Prod.ext ?_ (Prod.ext ?_ rfl)))
  · funext b' i k
    show (bif Nat.beq b' b && Nat.beq i (y.2.2.2.2 b) then none else gRX y b' i k) = (match glk (gRt y) b' with | some f => f i k | none => (bif Nat.beq b' b && Nat.beq i (y.2.2.2.2 b) then none else y.2.2.1 b' i k))
    unfold gRX
    cases hq : glk (gRt y) b' with
    | none => rfl
    | some f =>
      rw [nb b' (Or.inl (by rw [hq]; exact fun z => by cases z))]
      rfl
  · funext b' i
    show (bif Nat.beq b' b && Nat.beq i (y.2.2.2.2 b) then n else gNX y b' i) = (match glk gNt b' with | some z => z | none => (bif Nat.beq b' b && Nat.beq i (y.2.2.2.2 b) then n else y.2.2.2.1 b' i))
    unfold gNX
    cases hq : glk gNt b' with
    | none => rfl
    | some f =>
      rw [nb b' (Or.inr (by rw [hq]; exact fun z => by cases z))]
      rfl
theorem gRX_nw {y : Dy} {b n b' : Nat} (h : ¬ b' = b) : gRX (yNw y b n) b' = gRX y b' := by
  funext i k
  show (match glk (gRt y) b' with | some f => f i k | none => fNw y.2.2.1 none b (y.2.2.2.2 b) b' i k) = _
  rw [fNw_ne h]
  rfl
theorem gNX_nw {y : Dy} {b n b' : Nat} (h : ¬ b' = b) : gNX (yNw y b n) b' = gNX y b' := by
  funext i
  show (match glk gNt b' with | some z => z | none => (bif Nat.beq b' b && Nat.beq i (y.2.2.2.2 b) then n else y.2.2.2.1 b' i)) = _
  rw [gbeqF h]
  rfl
/-- a byte of the tape -/
def gBy (x : Nat) : Int32 := (nI x).toInt8.toInt32
/-- what an image keeps, in the object i -/
def cSt (i : Nat) (s : Nat → Int32) (I : Nat → Nat → Nat → Int32) : Prop :=
  (∀ k, k < 5 → I 21 i k = s k) ∧ (∀ h, h < 24 → I 22 i h = s (5 + h)) ∧ (∀ h, h < 24 → I 23 i h = s (29 + h)) ∧ I 20 i 7 = s 53 ∧ I 20 i 8 = s 54 ∧ (∀ n k, s 54 = nI n → n ≤ 24 → k < n → I 24 i k = s (55 + k)) ∧
  (s 79 = 0 → I 20 i 9 = -1 ∧ I 20 i 10 = -1) ∧ (¬ s 79 = 0 → I 20 i 9 = s 80 ∧ I 20 i 10 = s 81 ∧ ∀ g h, s 80 = nI g → g ≤ 24 → h ≤ g → I 25 i h = s (82 + h) ∧ I 26 i h = s (107 + h) ∧ I 27 i h = (if h = g then -1 else s (132 + h)))
/-- the two lists are two, with two arrays -/
def cCt (C : Nat → Nat) : Prop := (∀ b, 21 ≤ b → b ≤ 27 → C b = C 20) ∧ (∀ b, 47 ≤ b → b ≤ 53 → C b = C 40) ∧ C 54 = 24 * C 40 ∧ C 55 = 5 * C 40
theorem cCt_cg {C C' : Nat → Nat} (e : ∀ b, b < 37 ∨ (40 ≤ b ∧ b < 56) → C' b = C b) (H : cCt C) : cCt C' := by
  obtain ⟨h1, h2, h3, h4⟩ := H
  exact ⟨fun b b1 b2 => by rw [e b (by omega), e 20 (by decide)]; exact h1 b b1 b2, fun b b1 b2 => by rw [e b (by omega), e 40 (by decide)]; exact h2 b b1 b2, by rw [e 54 (by decide), e 40 (by decide)]; exact h3, by rw [e 55 (by decide), e 40 (by decide)]; exact h4⟩
/-- and objects that hold arrays are numbered as these are -/
def cSep (y : Dy) : Prop := y.2.1 ≠ 1 ∧ (∀ e, gRX y 10 y.2.1 1 = some (11, e) → gRX y 10 1 1 ≠ some (11, e)) ∧ cCt y.2.2.2.2
theorem cSep_cg {y y' : Dy} (er : gRX y' 10 = gRX y 10) (ey : y'.2.1 = y.2.1) (ec : ∀ b, b < 37 ∨ (40 ≤ b ∧ b < 56) → y'.2.2.2.2 b = y.2.2.2.2 b) (H : cSep y) : cSep y' := by
  unfold cSep at H ⊢
  rw [er, ey]
  exact ⟨H.1, H.2.1, cCt_cg ec H.2.2⟩
def cIm (V : VS) (I : Nat → Nat → Nat → Int32) (y : Dy) : Prop := ∃ g : Nat → Nat, (cLi 1 (vI V).1 (fun k => some (20, g k)) I y ∧ cSep y) ∧ ∀ k, k < (vI V).1 → 0 < g k ∧ cSt (g k) ((vI V).2 k) I
/-- the component's part of the heap stands for V, but for its tables -/
def cRb (V : VS) (I : Nat → Nat → Nat → Int32) (y : Dy) : Prop :=
  cLd y.1 (vA V 4) (vA V) I ∧ (∃ ht, ht ≤ 600 ∧ cRl (vR V) ht I y) ∧ cSt 0 (vS V) I ∧ cIm V I y ∧ I 60 0 2 = gb (vL V) ∧ (∀ k, k < 4 → I 65 0 k = vQ V k) ∧ I 60 0 7 = nI (vT V).1 ∧ (∀ j, j < (vT V).1 → I 66 0 j = gBy ((vT V).2 j)) ∧ I 60 0 8 = vF V ∧
  I 60 0 10 = -1 ∧ I 60 0 11 = -1 ∧ I 60 0 32 = 0 ∧ ∀ j, j < 5 → I 72 0 j = nI j
def cR (V : VS) (I : Nat → Nat → Nat → Int32) (L : Nat → Nat → Nat → Int64) (y : Dy) : Prop := cRb V I y ∧ cKw (vA V) (vA V 4) (vR V) (gP0 V) I L
/-- what cRb looks at -/
def cSm (I : Nat → Nat → Nat → Int32) (y : Dy) (I' : Nat → Nat → Nat → Int32) (y' : Dy) : Prop :=
  (∀ b, b < 37 ∨ (40 ≤ b ∧ b < 56) ∨ (61 ≤ b ∧ b < 73) → I' b = I b) ∧ (∀ j, j = 2 ∨ j = 7 ∨ j = 8 ∨ j = 10 ∨ j = 11 ∨ j = 32 → I' 60 0 j = I 60 0 j) ∧ y'.1 = y.1 ∧ y'.2.1 = y.2.1 ∧ (∀ b, b < 37 → gRX y' b = gRX y b ∧ gNX y' b = gNX y b) ∧ ∀ b, b < 37 ∨ (40 ≤ b ∧ b < 56) → y'.2.2.2.2 b = y.2.2.2.2 b
theorem cTm_cg2 {I I' : Nat → Nat → Nat → Int32} {y y' : Dy} (e : ∀ b, b < 20 → I' b = I b) (er : ∀ b, b < 20 → gRX y' b = gRX y b) : ∀ {h : Nat} {r : Rf} {C : Cd}, cTm I y h r C → cTm I' y' h r C := by
  intro h
  induction h with
  | zero => intro r C H; exact cT0_cg e H
  | succ h ih =>
    intro r C H
    rcases H with H | ⟨i, r1, r2, C1, C2, o, sg, a, b, c, d, t1, t2, f, g⟩
    · exact Or.inl (cT0_cg e H)
    · exact Or.inr ⟨i, r1, r2, C1, C2, o, sg, a, b, by rw [er 18 (by decide)]; exact c, by rw [er 18 (by decide)]; exact d, ih t1, ih t2, by rw [e 18 (by decide)]; exact f, g⟩
theorem cAs_cg2 {I I' : Nat → Nat → Nat → Int32} {y y' : Dy} (e : ∀ b, b < 20 → I' b = I b) (er : ∀ b, b < 20 → gRX y' b = gRX y b) : ∀ {h : Nat} {r : Rf} {C : Cd}, cAs I y h r C → cAs I' y' h r C := by
  intro h
  induction h with
  | zero => intro r C H; exact H.elim
  | succ h ih =>
    intro r C H
    rcases H with ⟨i, r1, r2, C1, C2, o, sg, a, b, c, d, t1, t2, f, g⟩ | ⟨i, r1, C1, a, b, c, d⟩ | ⟨i, r1, r2, C1, C2, b, a, b2, c, d, t1, t2, g⟩
    · exact Or.inl ⟨i, r1, r2, C1, C2, o, sg, a, b, by rw [er 15 (by decide)]; exact c, by rw [er 15 (by decide)]; exact d, cTm_cg2 e er t1, cTm_cg2 e er t2, by rw [e 15 (by decide)]; exact f, g⟩
    · exact Or.inr (Or.inl ⟨i, r1, C1, a, b, by rw [er 13 (by decide)]; exact c, ih d⟩)
    · exact Or.inr (Or.inr ⟨i, r1, r2, C1, C2, b, a, b2, by rw [er 14 (by decide)]; exact c, by rw [er 14 (by decide)]; exact d, ih t1, ih t2, by rw [e 14 (by decide)]; exact g⟩)
theorem cLi_cg2 {I I' : Nat → Nat → Nat → Int32} {y y' : Dy} {q n : Nat} {f : Nat → Option Rf} (e : I' 10 = I 10) (er : ∀ b, b < 20 → gRX y' b = gRX y b) (en : gNX y' 11 = gNX y 11) (H : cLi q n f I y) : cLi q n f I' y' := by
  obtain ⟨h1, h2, h3⟩ := H
  refine ⟨by rw [e]; exact h1, h2, ?_⟩
  rcases h3 with ⟨a, b⟩ | ⟨z, a, b, c, h10⟩
  · exact Or.inl ⟨a, by rw [er 10 (by decide)]; exact b⟩
  · exact Or.inr ⟨z, by rw [er 10 (by decide)]; exact a, by rw [en]; exact b, fun k hk => by rw [er 11 (by decide)]; exact c k hk, by rw [en]; exact h10⟩
theorem cSt_cg {i : Nat} {s : Nat → Int32} {I I' : Nat → Nat → Nat → Int32} (e : ∀ b, 20 ≤ b → b < 28 → I' b = I b) (H : cSt i s I) : cSt i s I' := by
  unfold cSt at H ⊢
  rw [e 21 (by decide) (by decide), e 22 (by decide) (by decide), e 23 (by decide) (by decide), e 20 (by decide) (by decide), e 24 (by decide) (by decide), e 25 (by decide) (by decide), e 26 (by decide) (by decide), e 27 (by decide) (by decide)]
  exact H
theorem cLd_cg2 {i S : Nat} {A : Nat → Nat} {I I' : Nat → Nat → Nat → Int32} (e : ∀ b, 40 ≤ b → b < 56 → I' b = I b) (H : cLd i S A I) : cLd i S A I' := by
  unfold cLd at H ⊢
  rw [e 40 (by decide) (by decide), e 47 (by decide) (by decide), e 48 (by decide) (by decide), e 49 (by decide) (by decide), e 50 (by decide) (by decide), e 51 (by decide) (by decide), e 55 (by decide) (by decide), e 54 (by decide) (by decide)]
  exact H
theorem cRl_cg2 {R : RL} {ht : Nat} {I I' : Nat → Nat → Nat → Int32} {y y' : Dy} (e : ∀ b, b < 20 → I' b = I b) (er : ∀ b, b < 20 → gRX y' b = gRX y b) (en : gNX y' 11 = gNX y 11) (ey : y'.2.1 = y.2.1) (H : cRl R ht I y) : cRl R ht I' y' := by
  obtain ⟨h1, f, h2, h5⟩ := H
  refine ⟨h1, f, by rw [ey]; exact cLi_cg2 (e 10 (by decide)) er en h2, fun k hk => ?_⟩
  obtain ⟨j, ra, g1, g2, g3, g4⟩ := h5 k hk
  exact ⟨j, ra, g1, by rw [e 12 (by decide)]; exact g2, by rw [er 12 (by decide)]; exact g3, cAs_cg2 e er g4⟩
theorem cRb_cg {V : VS} {I I' : Nat → Nat → Nat → Int32} {y y' : Dy} (m : cSm I y I' y') (H : cRb V I y) : cRb V I' y' := by
  obtain ⟨m1, m2, m3, m4, m5⟩ := m
  obtain ⟨h1, ⟨ht, ht6, h2⟩, h3, ⟨g, h4, h4b⟩, h5, h6, h7, h8, h9, h10, h11, h12, h13⟩ := H
  have er : ∀ b, b < 20 → gRX y' b = gRX y b := fun b hb => (m5.1 b (by omega)).1
  have en : gNX y' 11 = gNX y 11 := (m5.1 11 (by decide)).2
  refine ⟨by rw [m3]; exact cLd_cg2 (fun b b1 b2 => m1 b (by omega)) h1, ⟨ht, ht6, cRl_cg2 (fun b hb => m1 b (by omega)) er en m4 h2⟩, cSt_cg (fun b b1 b2 => m1 b (by omega)) h3, ⟨g, ⟨cLi_cg2 (m1 10 (by decide)) er en h4.1, cSep_cg (er 10 (by decide)) m4 m5.2 h4.2⟩, fun k hk => ⟨(h4b k hk).1, cSt_cg (fun b b1 b2 => m1 b (by omega)) (h4b k hk).2⟩⟩, (m2 2 (by decide)).trans h5, fun k hk => by rw [m1 65 (by decide)]; exact h6 k hk, (m2 7 (by decide)).trans h7, fun j hj => by rw [m1 66 (by decide)]; exact h8 j hj, (m2 8 (by decide)).trans h9, (m2 10 (by decide)).trans h10, (m2 11 (by decide)).trans h11, (m2 32 (by decide)).trans h12, fun j hj => by rw [m1 72 (by decide)]; exact h13 j hj⟩
theorem cSm.tr {I1 I2 I3 : Nat → Nat → Nat → Int32} {y1 y2 y3 : Dy} (a : cSm I1 y1 I2 y2) (b : cSm I2 y2 I3 y3) : cSm I1 y1 I3 y3 :=
  ⟨fun q h => (b.1 q h).trans (a.1 q h), fun q h => (b.2.1 q h).trans (a.2.1 q h), b.2.2.1.trans a.2.2.1, b.2.2.2.1.trans a.2.2.2.1, fun q h => ⟨(b.2.2.2.2.1 q h).1.trans (a.2.2.2.2.1 q h).1, (b.2.2.2.2.1 q h).2.trans (a.2.2.2.2.1 q h).2⟩, fun q h => (b.2.2.2.2.2 q h).trans (a.2.2.2.2.2 q h)⟩
theorem cFr.sm {I I' : Nat → Nat → Nat → Int32} {L L' : Nat → Nat → Nat → Int64} (f : cFr I L I' L') (y : Dy) : cSm I y I' y := ⟨fun b hb => f.1 b (by omega) (by omega) (by omega) (by omega) (by omega), fun j hj => f.2.1 j (by omega) (by omega) (by omega) (by omega), rfl, rfl, fun _ _ => ⟨rfl, rfl⟩, fun _ _ => rfl⟩
/-- a new cell of an exception -/
theorem cSm_nw {I : Nat → Nat → Nat → Int32} {y : Dy} {b n : Nat} (hb : b = 38 ∨ b = 39 ∨ b = 56 ∨ b = 57) : cSm I y (fNw I 0 b (y.2.2.2.2 b)) (yNw y b n) :=
  ⟨fun q hq => fNw_ne (by omega), fun j hj => congrFun (congrFun (fNw_ne (by omega)) 0) j, rfl, rfl, fun q hq => ⟨gRX_nw (by omega), gNX_nw (by omega)⟩, fun q hq => gUp_ne (by omega)⟩
theorem cKw_cg {A : Nat → Nat} {S : Nat} {R : RL} {P : PP} {I I' : Nat → Nat → Nat → Int32} {L L' : Nat → Nat → Nat → Int64} (h1 : I' 160 = I 160) (h2 : I' 86 = I 86) (h3 : ∀ b, b = 74 ∨ b = 84 ∨ b = 85 ∨ b = 161 ∨ b = 162 ∨ b = 163 → L' b = L b) (h4 : ∀ j, j = 28 ∨ j = 29 ∨ j = 31 → I' 60 0 j = I 60 0 j) (H : cKw A S R P I L) : cKw A S R P I' L' := by
  obtain ⟨b, c, f, k1, k2, k3, k4, k5, k6⟩ := H
  have kl : cKl A S R I L → cKl A S R I' L' := cKl_cg h1 (h3 74 (by decide))
  have ka : cKa A S R L → cKa A S R L' := cKa_cg (h3 162 (by decide))
  refine ⟨b, c, f, (h4 28 (by decide)).trans k1, (h4 29 (by decide)).trans k2, (h4 31 (by decide)).trans k3, fun e => kl (k4 e), fun e => ka (k5 e), fun e => ?_⟩
  obtain ⟨q1, q2, q3, q4⟩ := k6 e
  exact ⟨kl q1, ka q2, cKo_cg (h3 163 (by decide)) q3, cPl_cg h2 (h3 84 (by decide)) (h3 85 (by decide)) (h3 161 (by decide)) (h3 162 (by decide)) (h3 163 (by decide)) q4⟩
/-- nothing of the model -/
def cOut (I : Nat → Nat → Nat → Int32) (L : Nat → Nat → Nat → Int64) (I' : Nat → Nat → Nat → Int32) (L' : Nat → Nat → Nat → Int64) : Prop := ∀ b, 100 ≤ b → b < 160 → I' b = I b ∧ L' b = L b
theorem cOut.rf (I : Nat → Nat → Nat → Int32) (L : Nat → Nat → Nat → Int64) : cOut I L I L := fun _ _ _ => ⟨rfl, rfl⟩
theorem cOut.tr {I1 I2 I3 : Nat → Nat → Nat → Int32} {L1 L2 L3 : Nat → Nat → Nat → Int64} (a : cOut I1 L1 I2 L2) (b : cOut I2 L2 I3 L3) : cOut I1 L1 I3 L3 := fun q h1 h2 => ⟨(b q h1 h2).1.trans (a q h1 h2).1, (b q h1 h2).2.trans (a q h1 h2).2⟩
theorem cFr.out {I I' : Nat → Nat → Nat → Int32} {L L' : Nat → Nat → Nat → Int64} (f : cFr I L I' L') : cOut I L I' L' := fun b h1 h2 => ⟨f.1 b (by omega) (by omega) (by omega) (by omega) (by omega), f.2.2 b (by omega) (by omega) (by omega) (by omega) (by omega) (by omega)⟩
/-- each keeps clear of the other -/
theorem cOut.mR {V : VS} {I I' : Nat → Nat → Nat → Int32} {L L' : Nat → Nat → Nat → Int64} (f : cOut I L I' L') (H : mR V I L) : mR V I' L' := by
  refine mR_cg ⟨(f 101 (by decide) (by decide)).1, (f 109 (by decide) (by decide)).1, (f 110 (by decide) (by decide)).1, (f 115 (by decide) (by decide)).1, (f 116 (by decide) (by decide)).1, (f 119 (by decide) (by decide)).1, (f 120 (by decide) (by decide)).1, (f 125 (by decide) (by decide)).1, (f 126 (by decide) (by decide)).1, (f 136 (by decide) (by decide)).1, (f 142 (by decide) (by decide)).1, (f 138 (by decide) (by decide)).2, (f 140 (by decide) (by decide)).2, fun k _ => by rw [(f 100 (by decide) (by decide)).1]⟩ H
theorem mOut.cR {V : VS} {I I' : Nat → Nat → Nat → Int32} {L L' : Nat → Nat → Nat → Int64} {y : Dy} (f : mOut I L I' L') (H : cR V I L y) : cR V I' L' y :=
  ⟨cRb_cg ⟨fun b hb => (f b (by omega)).1, fun j _ => by rw [(f 60 (by decide)).1], rfl, rfl, fun _ _ => ⟨rfl, rfl⟩, fun _ _ => rfl⟩ H.1, cKw_cg (f 160 (by decide)).1 (f 86 (by decide)).1 (fun b hb => (f b (by omega)).2) (fun j _ => by rw [(f 60 (by decide)).1]) H.2⟩
/-- what a public method of the component leaves: it stands for V' -/
def cEnd (V' : VS) (I : Nat → Nat → Nat → Int32) (L : Nat → Nat → Nat → Int64) (h' : Hp) : Prop := ∃ (I' : Nat → Nat → Nat → Int32) (L' : Nat → Nat → Nat → Int64) (y' : Dy), h' = gH I' L' y' ∧ cOut I L I' L' ∧ cR V' I' L' y'
abbrev cQr (o : Int32 × AV × VS) (I : Nat → Nat → Nat → Int32) (L : Nat → Nat → Nat → Int64) : List AV → Hp → Prop := fun v h' => o.1 = 0 ∧ v = [o.2.1] ∧ cEnd o.2.2 I L h'
abbrev cQx (X : List Nat) (o : Int32 × AV × VS) (I : Nat → Nat → Nat → Int32) (L : Nat → Nat → Nat → Int64) : Rf → Hp → Prop := fun q h' => (∃ c, X[c]? = some q.1 ∧ o.1 = nI (c + 1)) ∧ cEnd o.2.2 I L h'
/-- a public method of the component: X tells the exceptions by the codes of refusals -/
def cC (m : GM) (D : Nat) (B : Nat × Nat) (X : List Nat) (av : List AV) (V : VS) (o : Int32 × AV × VS) : Prop :=
  ∀ (d : Nat) (I : Nat → Nat → Nat → Int32) (L : Nat → Nat → Nat → Int64) (y : Dy), cR V I L y → gTM m (d + D) B (gG0 :: av) (gH I L y) (cQr o I L) (cQx X o I L)
theorem cEnd_ref {V : VS} {I : Nat → Nat → Nat → Int32} {L : Nat → Nat → Nat → Int64} {y : Dy} (H : cR V I L y) (k b : Nat) (hk : k < 4) (hb : b = 38 ∨ b = 39 ∨ b = 56 ∨ b = 57) : cEnd (xRef V k) I L (gNw (gH (u3 I 65 0 k (I 65 0 k + 1)) L y) b 0) := by
  have hR0 : glk (gRt y) b = none := by rcases hb with rfl | rfl | rfl | rfl <;> rfl
  have hN0 : glk gNt b = none := by rcases hb with rfl | rfl | rfl | rfl <;> rfl
  refine ⟨_, _, _, gNw_gH 0 hR0 hN0, fun q h1 h2 => ⟨(fNw_ne (by omega)).trans (u3_ne1 (by omega)), fNw_ne (by omega)⟩, cRb_cg (cSm_nw hb) ?_, cKw_cg ((fNw_ne (by omega)).trans (u3_ne1 (by decide))) ((fNw_ne (by omega)).trans (u3_ne1 (by decide))) (fun q hq => fNw_ne (by omega)) (fun j _ => congrFun (congrFun ((fNw_ne (by omega)).trans (u3_ne1 (by decide))) 0) j) H.2⟩
  obtain ⟨⟨h1, ⟨ht, ht6, h2⟩, h3, ⟨g, h4, h4b⟩, h5, h6, h7, h8, h9, h10, h11, h12, h13⟩, -⟩ := H
  have e : ∀ q, q ≠ 65 → u3 I 65 0 k (I 65 0 k + 1) q = I q := fun q hq => u3_ne1 hq
  have e60 : ∀ j, u3 I 65 0 k (I 65 0 k + 1) 60 0 j = I 60 0 j := fun j => by rw [e 60 (by decide)]
  refine ⟨cLd_cg2 (fun q q1 q2 => e q (by omega)) h1, ⟨ht, ht6, cRl_cg (fun q hq => e q (by omega)) h2⟩, cSt_cg (fun q q1 q2 => e q (by omega)) h3, ⟨g, ⟨cLi_cg2 (e 10 (by decide)) (fun _ _ => rfl) rfl h4.1, h4.2⟩, fun j hj => ⟨(h4b j hj).1, cSt_cg (fun q q1 q2 => e q (by omega)) (h4b j hj).2⟩⟩, (e60 2).trans h5, fun j hj => ?_, (e60 7).trans h7, fun j hj => by rw [e 66 (by decide)]; exact h8 j hj, (e60 8).trans h9, (e60 10).trans h10, (e60 11).trans h11, (e60 32).trans h12, fun j hj => by rw [e 72 (by decide)]; exact h13 j hj⟩
  show _ = if j = k then vQ V j + 1 else vQ V j
  by_cases q : j = k
  · rw [if_pos q, q]
    exact u3_eq.trans (congrArg (fun z => z + 1) (by rw [h6 k hk]))
  · rw [if_neg q]
    exact (u3_ne3 q).trans (h6 j hj)
section GTA
variable {m : GM} {d : Nat} {B : Nat × Nat} {Qr : List AV → Hp → Prop} {Qx : Rf → Hp → Prop} {u : Nat × Nat} {pc : Nat} {lo : Lo} {h : Hp}
theorem gT_thrA (ho : gmO m = "GlassLeaders") (h0 : gmH m = []) (d0 : decode (gmC m) pc = .ok (.new 147, 3)) (d3 : decode (gmC m) (pc + 3) = .ok (.dup, 1)) (d4 : decode (gmC m) (pc + 4) = .ok (.invokespecial 149, 3)) (d7 : decode (gmC m) (pc + 7) = .ok (.athrow, 1)) (hu1 : u.1 + 1 ≤ B.1) (hu2 : u.2 + 6 ≤ B.2) (hQ : Qx (38, hC h 38) (gNw h 38 0)) : gT m (d + 6) B Qr Qx pc lo [] h u :=
  gT_thr 38 (ci := 22) (X := "java/lang/IllegalArgumentException") (by decide) rfl rfl ho h0 d0 d3 d4 d7 q728 q152 (by decide +kernel) gxlA_g gxlA_b gxlA_n gxlA_o hu1 hu2 hQ
theorem gT_thrN (ho : gmO m = "GlassLeaders") (h0 : gmH m = []) (d0 : decode (gmC m) pc = .ok (.new 150, 3)) (d3 : decode (gmC m) (pc + 3) = .ok (.dup, 1)) (d4 : decode (gmC m) (pc + 4) = .ok (.invokespecial 152, 3)) (d7 : decode (gmC m) (pc + 7) = .ok (.athrow, 1)) (hu1 : u.1 + 1 ≤ B.1) (hu2 : u.2 + 6 ≤ B.2) (hQ : Qx (56, hC h 56) (gNw h 56 0)) : gT m (d + 6) B Qr Qx pc lo [] h u :=
  gT_thr 56 (ci := 24) (X := "java/util/NoSuchElementException") (by decide) rfl rfl ho h0 d0 d3 d4 d7 q1246 q175 (by decide +kernel) gxlN_g gxlN_b gxlN_n gxlN_o hu1 hu2 hQ
theorem gT_thrS (ho : gmO m = "GlassLeaders") (h0 : gmH m = []) (d0 : decode (gmC m) pc = .ok (.new 157, 3)) (d3 : decode (gmC m) (pc + 3) = .ok (.dup, 1)) (d4 : decode (gmC m) (pc + 4) = .ok (.invokespecial 159, 3)) (d7 : decode (gmC m) (pc + 7) = .ok (.athrow, 1)) (hu1 : u.1 + 1 ≤ B.1) (hu2 : u.2 + 6 ≤ B.2) (hQ : Qx (39, hC h 39) (gNw h 39 0)) : gT m (d + 6) B Qr Qx pc lo [] h u :=
  gT_thr 39 (ci := 23) (X := "java/lang/IllegalStateException") (by decide) rfl rfl ho h0 d0 d3 d4 d7 q1359 q178 (by decide +kernel) gxlS_g gxlS_b gxlS_n gxlS_o hu1 hu2 hQ
theorem gT_thrB (ho : gmO m = "GlassLeaders") (h0 : gmH m = []) (d0 : decode (gmC m) pc = .ok (.new 167, 3)) (d3 : decode (gmC m) (pc + 3) = .ok (.dup, 1)) (d4 : decode (gmC m) (pc + 4) = .ok (.invokespecial 169, 3)) (d7 : decode (gmC m) (pc + 7) = .ok (.athrow, 1)) (hu1 : u.1 + 1 ≤ B.1) (hu2 : u.2 + 6 ≤ B.2) (hQ : Qx (57, hC h 57) (gNw h 57 0)) : gT m (d + 6) B Qr Qx pc lo [] h u :=
  gT_thr 57 (ci := 25) (X := "java/lang/IndexOutOfBoundsException") (by decide) rfl rfl ho h0 d0 d3 d4 d7 q1304 q176 (by decide +kernel) gxlB_g gxlB_b gxlB_n gxlB_o hu1 hu2 hQ
end GTA
/-- a gate: open, or thrown out of -/
def cGr (g : Bool) (h : Hp) : List AV → Hp → Prop := fun v h' => g = true ∧ v = [] ∧ h' = h
def cGx (V : VS) (k b : Nat) (g : Bool) (I : Nat → Nat → Nat → Int32) (L : Nat → Nat → Nat → Int64) : Rf → Hp → Prop := fun q h' => g = false ∧ q.1 = b ∧ cEnd (xRef V k) I L h'
set_option maxRecDepth 100000 in
theorem o_in (d : Nat) (v lo hi : Int32) (H : Hp) : gP mX1_in (d + 1) [gI v, gI lo, gI hi] H (gI (gb (gWi v lo hi))) := by
  refine gEnter 400 [] kX1_in rfl rfl ?_
  refine And.intro (fun c => ?_) (fun c => ?_)
  · have e : gWi v lo hi = false := by unfold gWi; rw [decide_eq_false (by rw [Int32.not_le]; exact c)] <;> rfl
    exact ⟨Or.inl rfl, by rw [e]; rfl, rfl⟩
  · have e1 : lo ≤ v := Int32.not_lt.mp c
    refine And.intro (fun c2 => ?_) (fun c2 => ?_)
    · have e : gWi v lo hi = false := by unfold gWi; rw [decide_eq_true e1, decide_eq_false (by rw [Int32.not_le]; exact c2)] <;> rfl
      exact ⟨Or.inl rfl, by rw [e]; rfl, rfl⟩
    · have e2 : v ≤ hi := Int32.not_lt.mp c2
      have e : gWi v lo hi = true := by unfold gWi; rw [decide_eq_true e1, decide_eq_true e2] <;> rfl
      exact ⟨Or.inr rfl, by rw [e]; rfl, rfl⟩
set_option maxRecDepth 100000 in
theorem o_wrong (d : Nat) (V : VS) (g : Bool) (I : Nat → Nat → Nat → Int32) (L : Nat → Nat → Nat → Int64) (y : Dy) (H : cR V I L y) : gTM mX1_wrong (d + 6) (1, 6) [gG0, gI (gb (!g))] (gH I L y) (cGr g (gH I L y)) (cGx V 2 38 g I L) := by
  refine gEnter 400 [15] kX1_wrong rfl rfl ?_
  refine bB1 (!g) rfl (fun c => ?_) (fun c => ?_)
  · have c' : g = false := by cases g with | false => rfl | true => cases c
    refine Exists.intro (2) (And.intro rfl (And.intro (show _ < 4 by omega) ?_))
    refine Exists.intro (2) (And.intro rfl (And.intro (show _ < 4 by omega) ?_))
    exact gT_thrA rfl rfl dX1_wrong_15 dX1_wrong_18 dX1_wrong_19 dX1_wrong_22 (by decide) (by decide) ⟨c', rfl, cEnd_ref H 2 38 (by decide) (by decide)⟩
  · have c' : g = true := by cases g with | true => rfl | false => cases c
    exact ⟨c', rfl, rfl⟩
set_option maxRecDepth 100000 in
theorem o_missing (d : Nat) (V : VS) (g : Bool) (I : Nat → Nat → Nat → Int32) (L : Nat → Nat → Nat → Int64) (y : Dy) (H : cR V I L y) : gTM mX1_missing (d + 6) (1, 6) [gG0, gI (gb (!g))] (gH I L y) (cGr g (gH I L y)) (cGx V 1 56 g I L) := by
  refine gEnter 400 [15] kX1_missing rfl rfl ?_
  refine bB1 (!g) rfl (fun c => ?_) (fun c => ?_)
  · have c' : g = false := by cases g with | false => rfl | true => cases c
    refine Exists.intro (1) (And.intro rfl (And.intro (show _ < 4 by omega) ?_))
    refine Exists.intro (1) (And.intro rfl (And.intro (show _ < 4 by omega) ?_))
    exact gT_thrN rfl rfl dX1_missing_15 dX1_missing_18 dX1_missing_19 dX1_missing_22 (by decide) (by decide) ⟨c', rfl, cEnd_ref H 1 56 (by decide) (by decide)⟩
  · have c' : g = true := by cases g with | true => rfl | false => cases c
    exact ⟨c', rfl, rfl⟩
set_option maxRecDepth 100000 in
theorem o_mustLand (d : Nat) (V : VS) (I : Nat → Nat → Nat → Int32) (L : Nat → Nat → Nat → Int64) (y : Dy) (H : cR V I L y) : gTM mX1_mustLand (d + 6) (1, 6) [gG0] (gH I L y) (cGr (vL V) (gH I L y)) (cGx V 3 39 (vL V) I L) := by
  refine gEnter 400 [18] kX1_mustLand rfl rfl ?_
  refine bB0 (vL V) H.1.2.2.2.2.1 (fun c => ?_) (fun c => ?_)
  · refine Exists.intro (3) (And.intro rfl (And.intro (show _ < 4 by omega) ?_))
    refine Exists.intro (3) (And.intro rfl (And.intro (show _ < 4 by omega) ?_))
    exact gT_thrS rfl rfl dX1_mustLand_18 dX1_mustLand_21 dX1_mustLand_22 dX1_mustLand_25 (by decide) (by decide) ⟨c, rfl, cEnd_ref H 3 39 (by decide) (by decide)⟩
  · exact ⟨c, rfl, rfl⟩
set_option maxRecDepth 100000 in
theorem o_mustPerson (d : Nat) (V : VS) (x : Int32) (I : Nat → Nat → Nat → Int32) (L : Nat → Nat → Nat → Int64) (y : Dy) (H : cR V I L y) : gTM mX1_mustPerson (d + 6) (1, 6) [gG0, gI x] (gH I L y) (cGr (gWi x 0 (nI (vA V 2) - 1)) (gH I L y)) (cGx V 0 57 (gWi x 0 (nI (vA V 2) - 1)) I L) := by
  have e2 := H.1.1.1 2 (by decide)
  refine gEnter 400 [28] kX1_mustPerson rfl rfl ?_
  refine gP_use (gP_eq (by rw [← e2] <;> rfl) (o_in (d + 4) x 0 (nI (vA V 2) - 1) (gH I L y))) ?_
  refine bB0 (gWi x 0 (nI (vA V 2) - 1)) rfl (fun c => ?_) (fun c => ?_)
  · refine Exists.intro (0) (And.intro rfl (And.intro (show _ < 4 by omega) ?_))
    refine Exists.intro (0) (And.intro rfl (And.intro (show _ < 4 by omega) ?_))
    exact gT_thrB rfl rfl dX1_mustPerson_28 dX1_mustPerson_31 dX1_mustPerson_32 dX1_mustPerson_35 (by decide) (by decide) ⟨c, rfl, cEnd_ref H 0 57 (by decide) (by decide)⟩
  · exact ⟨c, rfl, rfl⟩
theorem cX_of {V : VS} {k b c : Nat} {g : Bool} {I : Nat → Nat → Nat → Int32} {L : Nat → Nat → Nat → Int64} {q : Rf} {h' : Hp} {X : List Nat} {o : Int32 × AV × VS} (ho : g = false → o.1 = nI (c + 1) ∧ o.2.2 = xRef V k) (hX : X[c]? = some b) (hx : cGx V k b g I L q h') : (∃ c, X[c]? = some q.1 ∧ o.1 = nI (c + 1)) ∧ cEnd o.2.2 I L h' := by
  obtain ⟨h1, h2, h3⟩ := hx
  obtain ⟨q1, q2⟩ := ho h1
  rw [q2]
  exact ⟨⟨c, by rw [h2]; exact hX, q1⟩, h3⟩
theorem cDone {V' : VS} {o : Int32 × AV × VS} {r : AV} {I I' : Nat → Nat → Nat → Int32} {L L' : Nat → Nat → Nat → Int64} {y' : Dy} (ho : o.1 = 0 ∧ o.2.1 = r ∧ o.2.2 = V') (h1 : cOut I L I' L') (h2 : cR V' I' L' y') : o.1 = 0 ∧ [r] = [o.2.1] ∧ cEnd o.2.2 I L (gH I' L' y') := by
  obtain ⟨q1, q2, q3⟩ := ho
  rw [q2, q3]
  exact ⟨q1, rfl, I', L', y', rfl, h1, h2⟩
/-- a gate in a method of the component -/
theorem gT_gate {m m' : GM} {d n : Nat} {B : Nat × Nat} {Qr : List AV → Hp → Prop} {Qx X : Rf → Hp → Prop} {u : Nat × Nat} {pc : Nat} {lo : Lo} {h : Hp} {st av r : List AV} {al : Bool} {tb : List (Nat × GM)} (idx : Nat) {g : Bool} (u' : Nat × Nat) (h0 : gmH m = []) (e1 : gcv (gmo m) idx = some (n, al, tb)) (e3 : glk tb 0 = some m') (hst : gtk n [] st = some (av, gR (some (60, 0)) :: r)) (hr : Nat.ble (gsum r) 16 = true) (hd : decode (gmC m) pc = .ok (.invokevirtual idx, 3))
    (hM : gTM m' d (1, 6) (gR (some (60, 0)) :: av) h (cGr g h) X) (hu : (u.1 + 1, u.2 + 6) = u') (hu1 : u'.1 ≤ B.1) (hu2 : u'.2 ≤ B.2) (kx : ∀ q h', X q h' → Qx q h') (kk : g = true → gT m (d + 1) B Qr Qx (pc + 3) lo r h u') : gT m (d + 1) B Qr Qx pc lo st h u := by
  subst hu
  refine gT_callV (b := 60) (j := 0) (ci := 0) (k := (1, 6)) e1 rfl e3 hst hr hd hM hu1 hu2 (fun v h' q => ?_) (fun q h' hq => gTX_out h0 (kx q h' hq))
  obtain ⟨g1, rfl, rfl⟩ := q
  exact kk g1
/-- plays that are one -/
def pEq (P P' : PP) : Prop := (∀ h, h < 24 → P'.1 h = P.1 h) ∧ (∀ k, k < 5 → P'.2.1 k = P.2.1 k) ∧ P'.2.2.1 = P.2.2.1 ∧ P'.2.2.2.1 = P.2.2.2.1 ∧ ∀ h, h < 24 → P'.2.2.2.2 h = P.2.2.2.2 h
theorem pEq.sm {P P' : PP} (H : pEq P P') : pEq P' P := ⟨fun h hh => (H.1 h hh).symm, fun k hk => (H.2.1 k hk).symm, H.2.2.1.symm, H.2.2.2.1.symm, fun h hh => (H.2.2.2.2 h hh).symm⟩
theorem cCh_P {A : Nat → Nat} {S : Nat} {R : RL} {P P' : PP} {L : Nat → Nat → Nat → Int64} {h p n : Nat} (e : pEq P P') (hA : gLd A) (hh : h < 24) (hk : P.1 h < A 2) : cCh A S R P' L h p n = cCh A S R P L h p n := by
  have a2 := hA.2.2.1
  unfold cCh gCh gChk
  rw [e.1 h hh, e.2.2.1, e.2.2.2.1, e.2.2.2.2 h hh, e.2.1 _ (show P.1 h < 5 by omega)]
theorem cKn_P {A : Nat → Nat} {S : Nat} {R : RL} {P P' : PP} {I : Nat → Nat → Nat → Int32} {L : Nat → Nat → Nat → Int64} (e : pEq P P') (hA : gLd A) (hk : ∀ h, h < A 3 → P.1 h < A 2) (H : cKn A S R P I L) : cKn A S R P' I L := by
  have a2 := hA.2.2.1
  have a3 := hA.2.2.2.1
  obtain ⟨k1, k2, k3, k4⟩ := H
  refine ⟨k1, k2, fun k kk k4 h p n b1 b2 b3 => ?_, fun h p n b1 b2 b3 => ?_⟩
  · rw [e.2.1 k (by omega)] at k4
    have q := k3 k kk k4 h p n b1 b2 b3
    unfold gSf at q ⊢
    by_cases z : aEnd A h p n = 0
    · have hh3 : h < A 3 := by have := (aEnd_0 z).2; omega
      rw [if_pos z] at q ⊢
      rw [q]
      show gBr A S (gSn A h) (vw (fun s => L 163 k s)) h p n ((gBs (gMv (gMw A R none (P.1 h) h p n)) (gBr A S (gSn A h) (vw (fun s => L 163 k s)) h p n) (decide (P.1 h ≠ k)) (A 1 + 1)).getD 0) = gBr A S (gSn A h) (vw (fun s => L 163 k s)) h p n ((gBs (gMv (gMw A R none (P'.1 h) h p n)) (gBr A S (gSn A h) (vw (fun s => L 163 k s)) h p n) (decide (P'.1 h ≠ k)) (A 1 + 1)).getD 0)
      rw [e.1 h (by omega)]
    · rw [if_neg z] at q ⊢
      exact q
  · obtain ⟨q1, q2, q3, q4⟩ := k4 h p n b1 b2 b3
    unfold cQ
    by_cases z : aEnd A h p n = 0
    · have hh3 : h < A 3 := by have := (aEnd_0 z).2; omega
      rw [cCh_P e hA (by omega) (hk h hh3)]
      exact ⟨q1, q2, q3, q4⟩
    · rw [if_neg z] at q1 q3 q4
      refine ⟨by rw [if_neg z]; exact q1, fun q hq => ?_, by rw [if_neg z]; exact q3, by rw [if_neg z]; exact q4⟩
      have w := q2 q hq
      rw [if_neg z] at w ⊢
      exact w
theorem cKw_P {A : Nat → Nat} {S : Nat} {R : RL} {P P' : PP} {I : Nat → Nat → Nat → Int32} {L : Nat → Nat → Nat → Int64} (e : pEq P P') (hA : gLd A) (hk : ∀ h, h < A 3 → P.1 h < A 2) (H : cKw A S R P I L) : cKw A S R P' I L := by
  obtain ⟨b, c, f, k1, k2, k3, k4, k5, k6⟩ := H
  exact ⟨b, c, f, k1, k2, k3, k4, k5, fun z => cKn_P e hA hk (k6 z)⟩
theorem gP0_eq {V : VS} {s' : Nat → Int32} (h : ∀ j, j < 54 → s' j = vS V j) : pEq (gP0 V) (gP0 (xS V s')) := by
  have hT : ∀ q, q < 24 → sTn s' q = sTn (vS V) q := fun q hq => by unfold sTn; rw [h (29 + q) (by omega)]
  refine ⟨fun q hq => ?_, fun k hk => ?_, (rfl : (none : Option (Nat × Nat)) = none), (rfl : false = false), fun q hq => ?_⟩
  · show gWho (sTn s') (sLn s') (vA V 2) q = gWho (sTn (vS V)) (sLn (vS V)) (vA V 2) q
    unfold gWho
    rw [hT q hq, show sLn s' = sLn (vS V) by unfold sLn; rw [h 53 (by decide)]]
  · show sKd s' k = sKd (vS V) k
    unfold sKd
    rw [h k (by omega)]
  · show sPl s' q = sPl (vS V) q
    unfold sPl
    rw [h (5 + q) (by omega)]
theorem cSt_pos {i : Nat} {s : Nat → Int32} {I I' : Nat → Nat → Nat → Int32} (e : ∀ b k, 20 ≤ b → b < 28 → I' b i k = I b i k) (H : cSt i s I) : cSt i s I' := by
  obtain ⟨h1, h2, h3, h4, h5, h6, h7, h8⟩ := H
  have e20 : ∀ k, I' 20 i k = I 20 i k := fun k => e 20 k (by decide) (by decide)
  refine ⟨fun k hk => (e 21 k (by decide) (by decide)).trans (h1 k hk), fun k hk => (e 22 k (by decide) (by decide)).trans (h2 k hk), fun k hk => (e 23 k (by decide) (by decide)).trans (h3 k hk), (e20 7).trans h4, (e20 8).trans h5, fun n k g1 g2 g3 => (e 24 k (by decide) (by decide)).trans (h6 n k g1 g2 g3), fun g => ⟨(e20 9).trans (h7 g).1, (e20 10).trans (h7 g).2⟩, fun g => ⟨(e20 9).trans (h8 g).1, (e20 10).trans (h8 g).2.1, fun g' h a b c => ?_⟩⟩
  obtain ⟨q1, q2, q3⟩ := (h8 g).2.2 g' h a b c
  exact ⟨(e 25 h (by decide) (by decide)).trans q1, (e 26 h (by decide) (by decide)).trans q2, (e 27 h (by decide) (by decide)).trans q3⟩
theorem cIm_pos {V : VS} {I I' : Nat → Nat → Nat → Int32} {y : Dy} (e10 : I' 10 = I 10) (e : ∀ b i k, 20 ≤ b → b < 28 → 0 < i → I' b i k = I b i k) (H : cIm V I y) : cIm V I' y := by
  obtain ⟨g, h4, h4b⟩ := H
  exact ⟨g, ⟨cLi_cg2 e10 (fun _ _ => rfl) rfl h4.1, h4.2⟩, fun k hk => ⟨(h4b k hk).1, cSt_pos (fun b j b1 b2 => e b (g k) j b1 b2 (h4b k hk).1) (h4b k hk).2⟩⟩
theorem cRb_S {V : VS} {s' : Nat → Int32} {I I' : Nat → Nat → Nat → Int32} {y : Dy} (H : cRb V I y) (e1 : ∀ b, b ≠ 60 → (b < 20 ∨ 28 ≤ b) → I' b = I b) (e2 : ∀ j, j = 2 ∨ j = 7 ∨ j = 8 ∨ j = 10 ∨ j = 11 ∨ j = 32 → I' 60 0 j = I 60 0 j) (e4 : ∀ b i k, 20 ≤ b → b < 28 → 0 < i → I' b i k = I b i k) (hs : cSt 0 s' I') : cRb (xS V s') I' y := by
  obtain ⟨h1, ⟨ht, ht6, h2⟩, h3, h4, h5, h6, h7, h8, h9, h10, h11, h12, h13⟩ := H
  exact ⟨cLd_cg2 (fun q q1 q2 => e1 q (by omega) (by omega)) h1, ⟨ht, ht6, cRl_cg (fun q hq => e1 q (by omega) (by omega)) h2⟩, hs, cIm_pos (e1 10 (by decide) (by decide)) e4 h4, (e2 2 (by decide)).trans h5, fun j hj => by rw [e1 65 (by decide) (by decide)]; exact h6 j hj, (e2 7 (by decide)).trans h7, fun j hj => by rw [e1 66 (by decide) (by decide)]; exact h8 j hj, (e2 8 (by decide)).trans h9, (e2 10 (by decide)).trans h10, (e2 11 (by decide)).trans h11, (e2 32 (by decide)).trans h12, fun j hj => by rw [e1 72 (by decide) (by decide)]; exact h13 j hj⟩
/-- what images keep has changed, and nothing is known of the play any more -/
theorem cR_S {V : VS} {s' : Nat → Int32} {I I' : Nat → Nat → Nat → Int32} {L : Nat → Nat → Nat → Int64} {y : Dy} (H : cR V I L y) (e1 : ∀ b, b ≠ 60 → (b < 20 ∨ 28 ≤ b) → I' b = I b) (e2 : ∀ j, j ≠ 30 → j ≠ 31 → I' 60 0 j = I 60 0 j) (e3 : I' 60 0 31 = 0) (e4 : ∀ b i k, 20 ≤ b → b < 28 → 0 < i → I' b i k = I b i k) (hs : cSt 0 s' I') : cR (xS V s') I' L y := by
  refine ⟨cRb_S H.1 e1 (fun j hj => e2 j (by omega) (by omega)) e4 hs, ?_⟩
  obtain ⟨b, c, f, k1, k2, k3, k4, k5, k6⟩ := H.2
  exact ⟨b, c, false, (e2 28 (by decide) (by decide)).trans k1, (e2 29 (by decide) (by decide)).trans k2, e3, fun e => cKl_cg (e1 160 (by decide) (by decide)) rfl (k4 e), k5, fun e => by cases e⟩
/-- what images keep has changed, but not what a play asks -/
theorem cR_S2 {V : VS} {s' : Nat → Int32} {I I' : Nat → Nat → Nat → Int32} {L : Nat → Nat → Nat → Int64} {y : Dy} (hw : gWf V) (H : cR V I L y) (e1 : ∀ b, (b < 20 ∨ 28 ≤ b) → I' b = I b) (e4 : ∀ b i k, 20 ≤ b → b < 28 → 0 < i → I' b i k = I b i k) (h54 : ∀ j, j < 54 → s' j = vS V j) (hs : cSt 0 s' I') (hk : ∀ h, h < vA V 3 → (gP0 V).1 h < vA V 2) : cR (xS V s') I' L y :=
  ⟨cRb_S H.1 (fun b _ hb => e1 b hb) (fun j _ => by rw [e1 60 (by decide)]) e4 hs, cKw_P (gP0_eq h54) hw.1 hk (cKw_cg (e1 160 (by decide)) (e1 86 (by decide)) (fun _ _ => rfl) (fun j _ => by rw [e1 60 (by decide)]) H.2)⟩
theorem cR_Sl {V : VS} {s' : Nat → Int32} {I I1 : Nat → Nat → Nat → Int32} {L : Nat → Nat → Nat → Int64} {y : Dy} (H : cR V I L y) (e1 : ∀ b, (b < 20 ∨ 28 ≤ b) → I1 b = I b) (e4 : ∀ b i k, 20 ≤ b → b < 28 → 0 < i → I1 b i k = I b i k) (hs : cSt 0 s' I1) : cR (xS V s') (u3 (u3 I1 60 0 30 0) 60 0 31 0) L y :=
  cR_S H (fun b b1 b2 => (u3_ne1 b1).trans ((u3_ne1 b1).trans (e1 b b2))) (fun j j1 j2 => (u3_ne3 j2).trans ((u3_ne3 j1).trans (by rw [e1 60 (by decide)]))) u3_eq (fun b i k b1 b2 hi => by rw [u3_ne1 (by omega), u3_ne1 (by omega)]; exact e4 b i k b1 b2 hi) (cSt_cg (fun b b1 b2 => (u3_ne1 (by omega)).trans (u3_ne1 (by omega))) hs)
theorem cR_Sk {V : VS} {s' : Nat → Int32} {I I1 : Nat → Nat → Nat → Int32} {L : Nat → Nat → Nat → Int64} {y : Dy} (H : cR V I L y) (e1 : ∀ b, (b < 20 ∨ 28 ≤ b) → I1 b = I b) (e4 : ∀ b i k, 20 ≤ b → b < 28 → 0 < i → I1 b i k = I b i k) (hs : cSt 0 s' I1) : cR (xS V s') (u3 I1 60 0 31 0) L y :=
  cR_S H (fun b b1 b2 => (u3_ne1 b1).trans (e1 b b2)) (fun j j1 j2 => (u3_ne3 j2).trans (by rw [e1 60 (by decide)])) u3_eq (fun b i k b1 b2 hi => by rw [u3_ne1 (by omega)]; exact e4 b i k b1 b2 hi) (cSt_cg (fun b b1 b2 => u3_ne1 (by omega)) hs)
theorem u3_no0 {I : Nat → Nat → Nat → Int32} {b0 k0 : Nat} {v : Int32} : ∀ b i k, 20 ≤ b → b < 28 → 0 < i → u3 I b0 0 k0 v b i k = I b i k := fun b i k _ _ hi => u3_ne (fun q => by have := q.2.1; omega)
set_option maxRecDepth 100000 in
theorem o_leads (d : Nat) (I : Nat → Nat → Nat → Int32) (L : Nat → Nat → Nat → Int64) (y : Dy) : gTM mX1_leads (d + 1) (0, 0) [gG0] (gH I L y) (fun v h' => v = [] ∧ h' = gH (u3 (u3 I 60 0 30 0) 60 0 31 0) L y) (fun _ _ => False) := by
  refine gEnter 400 [] kX1_leads rfl rfl ?_
  refine And.intro (Or.inl rfl) (And.intro (Or.inl rfl) ?_)
  exact ⟨rfl, rfl⟩
set_option maxRecDepth 100000 in
theorem o_changes (d : Nat) (I : Nat → Nat → Nat → Int32) (L : Nat → Nat → Nat → Int64) (y : Dy) : gTM mX1_changes (d + 2) (0, 0) [gG0] (gH I L y) (fun v h' => v = [] ∧ h' = gH (u3 (u3 (u3 (u3 I 60 0 28 0) 60 0 29 0) 60 0 30 0) 60 0 31 0) L y) (fun _ _ => False) := by
  refine gEnter 400 [] kX1_changes rfl rfl ?_
  refine And.intro (Or.inl rfl) (And.intro (Or.inl rfl) ?_)
  refine gTM_use rfl (o_leads d _ L y) (fun v h' q => ?_)
  obtain ⟨rfl, rfl⟩ := q
  exact ⟨rfl, rfl⟩
/-- the same where a number has been drawn -/
theorem cR_S3 {V : VS} {s' : Nat → Int32} {I I' : Nat → Nat → Nat → Int32} {L : Nat → Nat → Nat → Int64} {y : Dy} (hw : gWf V) (H : cR V I L y) (e1 : ∀ b, b ≠ 60 → (b < 20 ∨ 28 ≤ b) → I' b = I b) (e2 : ∀ j, j ≠ 9 → I' 60 0 j = I 60 0 j) (e4 : ∀ b i k, 20 ≤ b → b < 28 → 0 < i → I' b i k = I b i k) (h54 : ∀ j, j < 54 → s' j = vS V j) (hs : cSt 0 s' I') (hk : ∀ h, h < vA V 3 → (gP0 V).1 h < vA V 2) : cR (xS V s') I' L y :=
  ⟨cRb_S H.1 e1 (fun j hj => e2 j (by omega)) e4 hs, cKw_P (gP0_eq h54) hw.1 hk (cKw_cg (e1 160 (by decide) (by decide)) (e1 86 (by decide) (by decide)) (fun _ _ => rfl) (fun j hj => e2 j (by omega)) H.2)⟩
