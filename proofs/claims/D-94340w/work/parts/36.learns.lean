/-! ===== what is known of a land and its law ===== -/
def gSn (A : Nat → Nat) (h : Nat) : Bool := decide (h < A 3) && gSnw A h
def gScF (A : Nat → Nat) : Nat → Int64
  | 0 => 1
  | j + 1 => bif gSn A (A 3 - j) then gScF A j * 16 else gScF A j
/-- as whole numbers of an hour: parts from it on -/
def gSc (A : Nat → Nat) (h : Nat) : Int64 := gScF A (A 3 + 1 - h)
abbrev gMw (A : Nat → Nat) (R : RL) (om : Option Nat) : Nat → Nat → Nat → Nat → Nat := fun k h p n => gLb A R om k h p n (A 1)
/-- the equation of a table of worths alone -/
def gAl (A : Nat → Nat) (S : Nat) (R : RL) (om : Option Nat) (k : Nat) (r : Nat → Int64) : Prop :=
  ∀ h p n, h ≤ A 3 → p < A 0 → n ≤ S → gSf A S (gSn A) (gSc A) (fun h p n => gMv (gMw A R om k h p n)) (fun _ => false) k r h p n
def gKn (A : Nat → Nat) (S : Nat) (R : RL) (om : Option Nat) (I : Nat → Nat → Nat → Int32) (L : Nat → Nat → Nat → Int64) : Prop :=
  gLw A S (gMw A R om) I ∧ (∀ h, h ≤ A 3 → I 142 0 h = gb (gSn A h)) ∧ (∀ h, h ≤ A 3 → L 138 0 h = gSc A h) ∧ ∀ k, k < A 2 → gAl A S R om k (fun j => L 140 0 (k * 3900 + j))
theorem gEn_cg {A : Nat → Nat} {sc sc' : Nat → Int64} {k h p e : Nat} (hs : sc h = sc' h) : gEn A sc k h p e = gEn A sc' k h p e := by unfold gEn; rw [hs]
theorem gSf_sc {A : Nat → Nat} {S : Nat} {sn : Nat → Bool} {sc sc' : Nat → Int64} {B : Nat → Nat → Nat → Nat} {l : Nat → Bool} {k : Nat} {r : Nat → Int64} {h p n : Nat} (hs : sc h = sc' h) (H : gSf A S sn sc B l k r h p n) : gSf A S sn sc' B l k r h p n := by
  unfold gSf at H ⊢
  rw [H]
  by_cases e : aEnd A h p n = 0
  · rw [if_pos e, if_pos e]
  · rw [if_neg e, if_neg e]; exact gEn_cg hs
theorem gMw_ok {A : Nat → Nat} (hA : gLd A) (R : RL) (om : Option Nat) (k h p n : Nat) : gMw A R om k h p n < 2 ^ 26 ∧ ∃ m0, m0 ≤ A 1 ∧ (gMv (gMw A R om k h p n)).testBit m0 = true := by
  have a1 := hA.2.1
  have h1 := gLb_lt A R om k h p n (A 1)
  have h2 : 2 ^ (A 1 + 1) ≤ 2 ^ 25 := Nat.pow_le_pow_right (by decide) (by omega)
  exact ⟨by show gLb A R om k h p n (A 1) < 2 ^ 26; omega, gMv_bit h1⟩
def gBu (k h p n k' h' p' n' : Nat) : Prop := k' < k ∨ (k' = k ∧ (h' < h ∨ (h' = h ∧ (p' < p ∨ (p' = p ∧ n' < n)))))
set_option maxRecDepth 100000 in
theorem t_learns3 {Qr : List AV → Hp → Prop} {Qx : Rf → Hp → Prop} (d : Nat) (A : Nat → Nat) (I : Nat → Nat → Nat → Int32) (hl : gLx I A) (hA : gLd A) (S : Nat) (hS : I 100 0 31 = nI S) (hS2 : S < 13) (sn : Nat → Bool) (hsn : ∀ h, h < A 3 → I 142 0 h = gb (sn h)) (M : Nat → Nat → Nat → Nat → Nat) (hM : gLw A S M I) (L : Nat → Nat → Nat → Int64) (y : Dy)
    (hQ : ∀ L', (∀ b, b ≠ 140 → L' b = L b) → (∀ k, k < A 2 → ∀ h p n, h ≤ A 3 → p < A 0 → n ≤ S → gSf A S sn (L 138 0) (fun h p n => gMv (M k h p n)) (fun _ => false) k (fun j => L' 140 0 (k * 3900 + j)) h p n) → Qr [] (gH I L' y))
    {lo0 : Lo} (h0 : glle [some gM0, none, none, some (gI (nI 0)), none] lo0) : gT mX12_learns (d + 6) (0, 0) Qr Qx 182 lo0 [] (gH I L y) (0, 0) := by
  have a0 := hA.1
  have a2 := hA.2.2.1
  have a3 := hA.2.2.2.1
  refine gT_for (σ := Nat → Nat → Nat → Int64) (pc := 182) (lo := fun i _ => [some gM0, none, none, some (gI (nI i)), none]) (hp := fun _ x => gH I x y)
    (Inv := fun i x => (∀ b, b ≠ 140 → x b = L b) ∧ ∀ k, k < i → ∀ h p n, h ≤ A 3 → p < A 0 → n ≤ S → gSf A S sn (L 138 0) (fun h p n => gMv (M k h p n)) (fun _ => false) k (fun j => x 140 0 (k * 3900 + j)) h p n) (A 2) ?_ ?_ 0 L (Nat.zero_le _) ⟨fun _ _ => rfl, fun k hk => absurd hk (Nat.not_lt_zero _)⟩ h0
  · intro x ⟨x1, x2⟩
    refine gT_go 400 [182] kX12_learns ?_
    refine Exists.intro (2) (And.intro rfl (And.intro (show _ < 708 by omega) ?_))
    refine bGe (A 2) (A 2) rfl (hl 2 (by omega)) (fun c => ?_) (fun c => absurd c (by omega))
    exact hQ x x1 x2
  · intro i x hi ⟨x1, x2⟩ hnext
    refine gT_go 400 [182] kX12_learns ?_
    refine Exists.intro (2) (And.intro rfl (And.intro (show _ < 708 by omega) ?_))
    refine bGe i (A 2) rfl (hl 2 (by omega)) (fun c => absurd c (by omega)) (fun c => ?_)
    refine gTM_use rfl (p_findAlone d i A hi I hl hA S hS hS2 sn hsn M hM x y) (fun v h' q => ?_)
    obtain ⟨rfl, L', rfl, f1, f2, f3⟩ := q
    refine hnext L' _ ⟨fun b hb => (f1 b hb).trans (x1 b hb), fun k hk h p n g1 g2 g3 => ?_⟩ (by (repeat' apply And.intro) <;> first | rfl | trivial | exact congrArg Sum.inl (nI_1 _).symm | exact congrArg Sum.inl (nI_1 _).symm)
    rcases Nat.lt_or_ge k i with q | q
    · refine gSf_cg2 hA hS2 (by omega) (by omega) (fun e t j ht hj => ?_) ?_ (x2 k q h p n g1 g2 g3)
      · have hh3 : h < A 3 := by have := (aEnd_0 e).2; omega
        have hs2 := sN_lt (h := h + 1) (p := t) (n := j) (by omega) ht hj
        exact (f2 _ (by omega)).symm
      · have hs2 := sN_lt (h := h) (p := p) (n := n) (by omega) (by omega) (by omega)
        exact (f2 _ (by omega)).symm
    · have : k = i := by omega
      subst this
      rw [← x1 138 (by decide)]
      exact f3 h p n g1 g2 g3
set_option maxRecDepth 100000 in
theorem t_learns2 {Qr : List AV → Hp → Prop} {Qx : Rf → Hp → Prop} (d : Nat) (A : Nat → Nat) (I : Nat → Nat → Nat → Int32) (hl : gLx I A) (hA : gLd A) (S : Nat) (hS : I 100 0 31 = nI S) (hS2 : S < 13) (R : RL) (om : Option Nat) (hM : gLw A S (gMw A R om) I) (L : Nat → Nat → Nat → Int64) (y : Dy)
    (hQ : ∀ I' L', (∀ b, b ≠ 142 → I' b = I b) → (∀ b, b ≠ 138 → b ≠ 140 → L' b = L b) → gKn A S R om I' L' → Qr [] (gH I' L' y))
    {lo0 : Lo} (h0 : glle [some gM0, none, none, none, none] lo0) : gT mX12_learns (d + 6) (0, 0) Qr Qx 110 lo0 [] (gH I L y) (0, 0) := by
  have a0 := hA.1
  have a1 := hA.2.1
  have a2 := hA.2.2.1
  have a3 := hA.2.2.2.1
  refine gT_lo _ h0 ?_
  refine gT_go 400 [119] kX12_learns ?_
  refine Exists.intro (3) (And.intro rfl (And.intro (show _ < 708 by omega) ?_))
  refine gT_dn (σ := (Nat → Nat → Nat → Int32) × (Nat → Nat → Nat → Int64) × Int64) (pc := 119) (lo := fun z x => [some gM0, some (gL x.2.2), none, some (gI z), none]) (hp := fun _ x => gH x.1 x.2.1 y)
    (Inv := fun i x => i ≤ A 3 + 1 ∧ (∀ b, b ≠ 142 → x.1 b = I b) ∧ (∀ b, b ≠ 138 → x.2.1 b = L b) ∧ x.2.2 = gScF A (A 3 + 1 - i) ∧ ∀ h, i ≤ h → h ≤ A 3 → x.1 142 0 h = gb (gSn A h) ∧ x.2.1 138 0 h = gSc A h) ?_ ?_ (A 3) (I, L, 1) ⟨Nat.le_refl _, fun _ _ => rfl, fun _ _ => rfl, by rw [Nat.sub_self]; rfl, fun h q1 q2 => absurd q1 (by omega)⟩ (by rw [← hl 3 (by omega)]; exact (by (repeat' apply And.intro) <;> first | rfl | trivial | exact congrArg Sum.inl (nI_1 _).symm | exact congrArg Sum.inl (nI_1 _).symm))
  · intro x ⟨_, x1, x2, x3, x4⟩
    refine gT_go 400 [182] kX12_learns ?_
    refine And.intro (fun c => ?_) (fun c => absurd (show (-1 : Int32) < 0 by decide) c)
    have hM' : gLw A S (gMw A R om) x.1 := by unfold gLw; rw [x1 136 (by decide)]; exact hM
    refine t_learns3 d A x.1 (fun j hj => by rw [x1 110 (by decide)]; exact hl j hj) hA S (by rw [x1 100 (by decide)]; exact hS) hS2 (gSn A) (fun h hh => (x4 h (Nat.zero_le _) (by omega)).1) (gMw A R om) hM' x.2.1 y (fun L' f1 f2 => ?_) (by (repeat' apply And.intro) <;> first | rfl | trivial | exact congrArg Sum.inl (nI_1 _).symm | exact congrArg Sum.inl (nI_1 _).symm)
    refine hQ x.1 L' x1 (fun b g1 g2 => (f1 b g2).trans (x2 b g1)) ⟨hM', fun h hh => (x4 h (Nat.zero_le _) hh).1, fun h hh => ?_, fun k hk h p n g1 g2 g3 => ?_⟩
    · rw [f1 138 (by decide)]; exact (x4 h (Nat.zero_le _) hh).2
    · exact gSf_sc (x4 h (Nat.zero_le _) g1).2 (f2 k hk h p n g1 g2 g3)
  · intro i x ⟨x0, x1, x2, x3, x4⟩ hnext
    have hlx : gLx x.1 A := fun j hj => by rw [x1 110 (by decide)]; exact hl j hj
    have ej : A 3 - (A 3 - i) = i := by omega
    have e1 : gScF A (A 3 + 1 - i) = bif gSn A i then gScF A (A 3 - i) * 16 else gScF A (A 3 - i) := by
      rw [show A 3 + 1 - i = (A 3 - i) + 1 by omega, gScF, ej]
    have x3' : x.2.2 = gScF A (A 3 - i) := by rw [x3, show A 3 + 1 - (i + 1) = A 3 - i by omega]
    have tail : ∀ (b : Bool) (lo' : Lo), b = gSn A i → glle [some gM0, some (gL x.2.2), none, some (gI (nI i)), none] lo' → (∀ (x' : (Nat → Nat → Nat → Int32) × (Nat → Nat → Nat → Int64) × Int64) (y' : Int32) (lo' : Lo), (i ≤ A 3 + 1 ∧ (∀ b, b ≠ 142 → x'.1 b = I b) ∧ (∀ b, b ≠ 138 → x'.2.1 b = L b) ∧ x'.2.2 = gScF A (A 3 + 1 - i) ∧ ∀ h, i ≤ h → h ≤ A 3 → x'.1 142 0 h = gb (gSn A h) ∧ x'.2.1 138 0 h = gSc A h) → y' + 1 = nI i → glle [some gM0, some (gL x'.2.2), none, some (gI y'), none] lo' → gT mX12_learns (d + 6) (0, 0) Qr Qx 119 lo' [] (gH x'.1 x'.2.1 y) (0, 0)) →
        gT mX12_learns (d + 6) (0, 0) Qr Qx 152 lo' [] (gH (u3 x.1 142 0 i (gb b)) x.2.1 y) (0, 0) := by
      intro b lo' hb hl' hnext
      subst hb
      refine gT_lo _ hl' ?_
      refine gT_go 400 [119] kX12_learns ?_
      refine Exists.intro (i) (And.intro rfl (And.intro (show _ < 25 by omega) ?_))
      refine bB0 (gSn A i) u3_eq (fun c => ?_) (fun c => ?_)
      · refine Exists.intro (i) (And.intro rfl (And.intro (show _ < 25 by omega) ?_))
        refine hnext (u3 x.1 142 0 i (gb (gSn A i)), u3 x.2.1 138 0 i x.2.2, x.2.2) (nI i + gic (-1)) _ ⟨by omega, fun b hb => (u3_ne1 hb).trans (x1 b hb), fun b hb => (u3_ne1 hb).trans (x2 b hb), by rw [e1, c]; exact x3', fun h q1 q2 => ?_⟩ (by show nI i + -1 + 1 = nI i; grind) (by (repeat' apply And.intro) <;> first | rfl | trivial | exact congrArg Sum.inl (nI_1 _).symm | exact congrArg Sum.inl (nI_1 _).symm)
        by_cases e : h = i
        · subst e
          exact ⟨u3_eq, u3_eq.trans (by unfold gSc; rw [e1, c]; exact x3')⟩
        · exact ⟨(u3_ne3 e).trans (x4 h (by omega) q2).1, (u3_ne3 e).trans (x4 h (by omega) q2).2⟩
      · refine Exists.intro (i) (And.intro rfl (And.intro (show _ < 25 by omega) ?_))
        refine hnext (u3 x.1 142 0 i (gb (gSn A i)), u3 x.2.1 138 0 i (x.2.2 * 16), x.2.2 * 16) (nI i + gic (-1)) _ ⟨by omega, fun b hb => (u3_ne1 hb).trans (x1 b hb), fun b hb => (u3_ne1 hb).trans (x2 b hb), by rw [e1, c]; exact congrArg (fun z => z * 16) x3', fun h q1 q2 => ?_⟩ (by show nI i + -1 + 1 = nI i; grind) (by (repeat' apply And.intro) <;> first | rfl | trivial | exact congrArg Sum.inl (nI_1 _).symm | exact congrArg Sum.inl (nI_1 _).symm)
        by_cases e : h = i
        · subst e
          exact ⟨u3_eq, u3_eq.trans (by unfold gSc; rw [e1, c]; exact congrArg (fun z => z * 16) x3')⟩
        · exact ⟨(u3_ne3 e).trans (x4 h (by omega) q2).1, (u3_ne3 e).trans (x4 h (by omega) q2).2⟩
    refine gT_go 400 [119, 152] kX12_learns ?_
    refine And.intro (fun c => absurd c (nI_pos (by omega))) (fun c => ?_)
    refine Exists.intro (3) (And.intro rfl (And.intro (show _ < 708 by omega) ?_))
    refine bGe i (A 3) rfl (hlx 3 (by omega)) (fun c => ?_) (fun c => ?_)
    · refine And.intro (Or.inl rfl) ?_
      refine Exists.intro (i) (And.intro rfl (And.intro (show _ < 25 by omega) ?_))
      exact tail false _ (by unfold gSn; rw [decide_eq_false (by omega)] <;> rfl) (by (repeat' apply And.intro) <;> first | rfl | trivial | exact congrArg Sum.inl (nI_1 _).symm | exact congrArg Sum.inl (nI_1 _).symm) hnext
    · refine gP_use (p_snows (d + 4) i (by omega) A hA.2.1 hA.lt x.1 hlx x.2.1 y) ?_
      refine bB0 (gSnw A i) rfl (fun c2 => ?_) (fun c2 => ?_)
      · refine And.intro (Or.inl rfl) ?_
        refine Exists.intro (i) (And.intro rfl (And.intro (show _ < 25 by omega) ?_))
        exact tail false _ (by unfold gSn; rw [c2, Bool.and_false]) (by (repeat' apply And.intro) <;> first | rfl | trivial | exact congrArg Sum.inl (nI_1 _).symm | exact congrArg Sum.inl (nI_1 _).symm) hnext
      · refine And.intro (Or.inr rfl) ?_
        refine Exists.intro (i) (And.intro rfl (And.intro (show _ < 25 by omega) ?_))
        exact tail true _ (by unfold gSn; rw [c2, decide_eq_true c] <;> rfl) (by (repeat' apply And.intro) <;> first | rfl | trivial | exact congrArg Sum.inl (nI_1 _).symm | exact congrArg Sum.inl (nI_1 _).symm) hnext
set_option maxRecDepth 100000 in
theorem p_learns (d : Nat) (A : Nat → Nat) (I : Nat → Nat → Nat → Int32) (hl : gLx I A) (hA : gLd A) (S : Nat) (hS : I 100 0 31 = nI S) (hS2 : S < 13) (R : RL) (hR : gRm R I) (om : Option Nat) (hom : I 100 0 32 = gOI om) (hom2 : ∀ k, om = some k → k < 10) (L : Nat → Nat → Nat → Int64) (y : Dy) :
    gTM mX12_learns (d + 6) (0, 0) [gM0] (gH I L y) (fun v h' => v = [] ∧ ∃ I' L', h' = gH I' L' y ∧ (∀ b, b ≠ 123 → b ≠ 124 → b ≠ 136 → b ≠ 142 → I' b = I b) ∧ (∀ b, b ≠ 138 → b ≠ 140 → L' b = L b) ∧ gKn A S R om I' L') (fun _ _ => False) := by
  have a0 := hA.1
  have a1 := hA.2.1
  have a2 := hA.2.2.1
  have a3 := hA.2.2.2.1
  have tr : ∀ x : Nat → Nat → Nat → Int32, (∀ b, b ≠ 123 → b ≠ 124 → b ≠ 136 → x b = I b) → gLx x A ∧ x 100 0 31 = nI S ∧ gRm R x ∧ x 100 0 32 = gOI om := by
    intro x hx
    refine ⟨fun j hj => by rw [hx 110 (by decide) (by decide) (by decide)]; exact hl j hj, by rw [hx 100 (by decide) (by decide) (by decide)]; exact hS, ?_, by rw [hx 100 (by decide) (by decide) (by decide)]; exact hom⟩
    unfold gRm gCo
    rw [hx 100 (by decide) (by decide) (by decide), hx 119 (by decide) (by decide) (by decide), hx 120 (by decide) (by decide) (by decide), hx 115 (by decide) (by decide) (by decide), hx 116 (by decide) (by decide) (by decide)]
    exact hR
  refine gEnter 400 [2] kX12_learns rfl rfl ?_
  refine gT_for (σ := Nat → Nat → Nat → Int32) (pc := 2) (lo := fun k _ => [some gM0, some (gI (nI k)), none, none, none]) (hp := fun _ x => gH x L y)
    (Inv := fun k x => (∀ b, b ≠ 123 → b ≠ 124 → b ≠ 136 → x b = I b) ∧ ∀ k' h' p' n', k' < A 2 → h' < A 3 → p' < A 0 → n' ≤ S → gBu k 0 0 0 k' h' p' n' → aEnd A h' p' n' = 0 → x 136 0 (k' * 3900 + sN h' p' n') = nI (gMw A R om k' h' p' n')) (A 2) ?_ ?_ 0 I (Nat.zero_le _) ⟨fun _ _ _ _ => rfl, fun k' h' p' n' _ _ _ _ q => absurd q (by unfold gBu; omega)⟩ (by (repeat' apply And.intro) <;> first | rfl | trivial | exact congrArg Sum.inl (nI_1 _).symm | exact congrArg Sum.inl (nI_1 _).symm)
  · intro x ⟨x1, x2⟩
    refine gT_go 400 [110] kX12_learns ?_
    refine Exists.intro (2) (And.intro rfl (And.intro (show _ < 708 by omega) ?_))
    refine bGe (A 2) (A 2) rfl ((tr x x1).1 2 (by omega)) (fun c => ?_) (fun c => absurd c (by omega))
    refine t_learns2 d A x (tr x x1).1 hA S (tr x x1).2.1 hS2 R om (fun k h p n g1 g2 g3 g4 e => ⟨x2 k h p n g1 g2 g3 g4 (by unfold gBu; omega) e, gMw_ok hA R om k h p n⟩) L y (fun I' L' f1 f2 f3 => ?_) (by (repeat' apply And.intro) <;> first | rfl | trivial | exact congrArg Sum.inl (nI_1 _).symm | exact congrArg Sum.inl (nI_1 _).symm)
    exact ⟨rfl, I', L', rfl, fun b g1 g2 g3 g4 => (f1 b g4).trans (x1 b g1 g2 g3), f2, f3⟩
  · intro k x hk ⟨x1, x2⟩ hnextk
    refine gT_go 400 [2, 14] kX12_learns ?_
    refine Exists.intro (2) (And.intro rfl (And.intro (show _ < 708 by omega) ?_))
    refine bGe k (A 2) rfl ((tr x x1).1 2 (by omega)) (fun c => absurd c (by omega)) (fun c => ?_)
    refine gT_for (σ := Nat → Nat → Nat → Int32) (pc := 14) (lo := fun h _ => [some gM0, some (gI (nI k)), some (gI (nI h)), none, none]) (hp := fun _ x => gH x L y)
      (Inv := fun h x => (∀ b, b ≠ 123 → b ≠ 124 → b ≠ 136 → x b = I b) ∧ ∀ k' h' p' n', k' < A 2 → h' < A 3 → p' < A 0 → n' ≤ S → gBu k h 0 0 k' h' p' n' → aEnd A h' p' n' = 0 → x 136 0 (k' * 3900 + sN h' p' n') = nI (gMw A R om k' h' p' n')) (A 3) ?_ ?_ 0 x (Nat.zero_le _) ⟨x1, x2⟩ (by (repeat' apply And.intro) <;> first | rfl | trivial | exact congrArg Sum.inl (nI_1 _).symm | exact congrArg Sum.inl (nI_1 _).symm)
    · intro x ⟨x1, x2⟩
      refine gT_go 400 [2, 14] kX12_learns ?_
      refine Exists.intro (3) (And.intro rfl (And.intro (show _ < 708 by omega) ?_))
      refine bGe (A 3) (A 3) rfl ((tr x x1).1 3 (by omega)) (fun c => ?_) (fun c => absurd c (by omega))
      exact hnextk x _ ⟨x1, fun k' h' p' n' g1 g2 g3 g4 q => x2 k' h' p' n' g1 g2 g3 g4 (by unfold gBu at q ⊢; omega)⟩ (by (repeat' apply And.intro) <;> first | rfl | trivial | exact congrArg Sum.inl (nI_1 _).symm | exact congrArg Sum.inl (nI_1 _).symm)
    · intro h x hh ⟨x1, x2⟩ hnexth
      refine gT_go 400 [14, 26] kX12_learns ?_
      refine Exists.intro (3) (And.intro rfl (And.intro (show _ < 708 by omega) ?_))
      refine bGe h (A 3) rfl ((tr x x1).1 3 (by omega)) (fun c => absurd c (by omega)) (fun c => ?_)
      refine gT_for (σ := Nat → Nat → Nat → Int32) (pc := 26) (lo := fun p _ => [some gM0, some (gI (nI k)), some (gI (nI h)), some (gI (nI p)), none]) (hp := fun _ x => gH x L y)
        (Inv := fun p x => (∀ b, b ≠ 123 → b ≠ 124 → b ≠ 136 → x b = I b) ∧ ∀ k' h' p' n', k' < A 2 → h' < A 3 → p' < A 0 → n' ≤ S → gBu k h p 0 k' h' p' n' → aEnd A h' p' n' = 0 → x 136 0 (k' * 3900 + sN h' p' n') = nI (gMw A R om k' h' p' n')) (A 0) ?_ ?_ 0 x (Nat.zero_le _) ⟨x1, x2⟩ (by (repeat' apply And.intro) <;> first | rfl | trivial | exact congrArg Sum.inl (nI_1 _).symm | exact congrArg Sum.inl (nI_1 _).symm)
      · intro x ⟨x1, x2⟩
        refine gT_go 400 [14, 26] kX12_learns ?_
        refine Exists.intro (0) (And.intro rfl (And.intro (show _ < 708 by omega) ?_))
        refine bGe (A 0) (A 0) rfl ((tr x x1).1 0 (by omega)) (fun c => ?_) (fun c => absurd c (by omega))
        exact hnexth x _ ⟨x1, fun k' h' p' n' g1 g2 g3 g4 q => x2 k' h' p' n' g1 g2 g3 g4 (by unfold gBu at q ⊢; omega)⟩ (by (repeat' apply And.intro) <;> first | rfl | trivial | exact congrArg Sum.inl (nI_1 _).symm | exact congrArg Sum.inl (nI_1 _).symm)
      · intro p x hp ⟨x1, x2⟩ hnextp
        refine gT_go 400 [26, 39] kX12_learns ?_
        refine Exists.intro (0) (And.intro rfl (And.intro (show _ < 708 by omega) ?_))
        refine bGe p (A 0) rfl ((tr x x1).1 0 (by omega)) (fun c => absurd c (by omega)) (fun c => ?_)
        refine gT_for (σ := Nat → Nat → Nat → Int32) (pc := 39) (lo := fun n _ => [some gM0, some (gI (nI k)), some (gI (nI h)), some (gI (nI p)), some (gI (nI n))]) (hp := fun _ x => gH x L y)
          (Inv := fun n x => (∀ b, b ≠ 123 → b ≠ 124 → b ≠ 136 → x b = I b) ∧ ∀ k' h' p' n', k' < A 2 → h' < A 3 → p' < A 0 → n' ≤ S → gBu k h p n k' h' p' n' → aEnd A h' p' n' = 0 → x 136 0 (k' * 3900 + sN h' p' n') = nI (gMw A R om k' h' p' n')) (S + 1) ?_ ?_ 0 x (Nat.zero_le _) ⟨x1, x2⟩ (by (repeat' apply And.intro) <;> first | rfl | trivial | exact congrArg Sum.inl (nI_1 _).symm | exact congrArg Sum.inl (nI_1 _).symm)
        · intro x ⟨x1, x2⟩
          refine gT_go 400 [26, 39] kX12_learns ?_
          refine bGt (S + 1) S rfl (tr x x1).2.1 (fun c => ?_) (fun c => absurd c (by omega))
          exact hnextp x _ ⟨x1, fun k' h' p' n' g1 g2 g3 g4 q => x2 k' h' p' n' g1 g2 g3 g4 (by unfold gBu at q ⊢; omega)⟩ (by (repeat' apply And.intro) <;> first | rfl | trivial | exact congrArg Sum.inl (nI_1 _).symm | exact congrArg Sum.inl (nI_1 _).symm)
        · intro n x hn ⟨x1, x2⟩ hnextn
          obtain ⟨t1, t2, t3, t4⟩ := tr x x1
          have hs := sN_lt (h := h) (p := p) (n := n) (by omega) (by omega) (by omega)
          refine gT_go 400 [39] kX12_learns ?_
          refine bGt n S rfl t2 (fun c => absurd c (by omega)) (fun c => ?_)
          refine gP_use (p_ended (d + 4) h p n (by omega) (by omega) (by omega) A x t1 hA.lt L y) ?_
          refine bNe (aEnd A h p n) 0 rfl rfl (fun c => ?_) (fun c => ?_) (by have := aEnd_lt A h p n; omega) (by decide)
          · refine hnextn x _ ⟨x1, fun k' h' p' n' g1 g2 g3 g4 q e => ?_⟩ (by (repeat' apply And.intro) <;> first | rfl | trivial | exact congrArg Sum.inl (nI_1 _).symm | exact congrArg Sum.inl (nI_1 _).symm)
            by_cases z : k' = k ∧ h' = h ∧ p' = p ∧ n' = n
            · obtain ⟨rfl, rfl, rfl, rfl⟩ := z; exact absurd e c
            · exact x2 k' h' p' n' g1 g2 g3 g4 (by unfold gBu at q ⊢; omega) e
          · refine gP_use (p_state (d + 4) h p n (gH x L y)) ?_
            refine gTM_use rfl (p_lawfulIn (d + 2) k h p n (by omega) A hA hh (by omega) (by omega) R om x t1 t3 t4 hom2 L y) (fun v h' q => ?_)
            obtain ⟨rfl, x', rfl, hx'⟩ := q
            refine Exists.intro (k * 3900 + sN h p n) (And.intro (by rw [← nI_add, ← pk_mul] <;> rfl) (And.intro (show k * 3900 + sN h p n < 19500 by omega) ?_))
            refine hnextn _ _ ⟨fun b g1 g2 g3 => (u3_ne1 g3).trans ((hx' b g1 g2).trans (x1 b g1 g2 g3)), fun k' h' p' n' g1 g2 g3 g4 q e => ?_⟩ (by (repeat' apply And.intro) <;> first | rfl | trivial | exact congrArg Sum.inl (nI_1 _).symm | exact congrArg Sum.inl (nI_1 _).symm)
            have hs2 := sN_lt (h := h') (p := p') (n := n') (by omega) (by omega) (by omega)
            by_cases z : k' = k ∧ h' = h ∧ p' = p ∧ n' = n
            · obtain ⟨rfl, rfl, rfl, rfl⟩ := z; exact u3_eq
            · refine (u3_ne3 (fun w => z ?_)).trans ?_
              · have e1 : k' = k := by omega
                subst e1
                have := sN_inj (h := h') (h' := h) (by omega) (by omega) (by omega) (by omega) (Nat.add_left_cancel w)
                exact ⟨rfl, this⟩
              · exact (congrFun (congrFun (hx' 136 (by decide) (by decide)) 0) _).trans (x2 k' h' p' n' g1 g2 g3 g4 (by unfold gBu at q ⊢; omega) e)
