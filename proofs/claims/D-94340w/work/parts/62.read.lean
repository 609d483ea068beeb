/-! ===== reading: runs of signs, numbers, words ===== -/
/-- where a run of signs ends -/
def rn (P : Nat → Bool) : Nat → Nat → Nat
  | 0, a => a
  | f + 1, a => bif P a then rn P f (a + 1) else a
theorem rn_spec (P : Nat → Bool) : ∀ f a, a ≤ rn P f a ∧ rn P f a ≤ a + f ∧ (∀ i, a ≤ i → i < rn P f a → P i = true) ∧ (rn P f a < a + f → P (rn P f a) = false) := by
  intro f
  induction f with
  | zero => intro a; exact ⟨Nat.le_refl _, Nat.le_refl _, fun i h1 h2 => absurd h2 (by show ¬ i < a; omega), fun h => absurd h (by show ¬ a < a + 0; omega)⟩
  | succ f ih =>
    intro a
    cases h : P a with
    | true =>
      have e : rn P (f + 1) a = rn P f (a + 1) := by rw [rn, h] <;> rfl
      obtain ⟨h1, h2, h3, h4⟩ := ih (a + 1)
      rw [e]
      refine ⟨by omega, by omega, fun i g1 g2 => ?_, fun g => h4 (by omega)⟩
      by_cases q : i = a
      · rw [q]; exact h
      · exact h3 i (by omega) g2
    | false =>
      have e : rn P (f + 1) a = a := by rw [rn, h] <;> rfl
      rw [e]
      exact ⟨Nat.le_refl _, by omega, fun i h1 h2 => absurd h2 (by omega), fun _ => h⟩
def tSm (c : Nat) : Bool := Nat.ble 97 c && Nat.ble c 122
def tDg (c : Nat) : Bool := Nat.ble 48 c && Nat.ble c 57
/-- behind the spaces; behind the letters; behind the digits -/
def sk (T : Nat → Nat) (N a : Nat) : Nat := rn (fun i => Nat.beq (T i) 32) (N - a) a
def wE (T : Nat → Nat) (N a : Nat) : Nat := rn (fun i => tSm (T i)) (N - a) a
def dE (T : Nat → Nat) (N a : Nat) : Nat := rn (fun i => tDg (T i)) (N - a) a
/-- the sign at a place -/
def cAt (T : Nat → Nat) (N a : Nat) : Nat := bif Nat.blt a N then T a else 0
/-- the reader stands at a -/
def rD (T : Nat → Nat) (N a : Nat) (I : Nat → Nat → Nat → Int32) : Prop := I 100 0 3 = nI N ∧ N ≤ 600 ∧ I 100 0 4 = nI a ∧ a ≤ N ∧ ∀ j, j < N → I 109 0 j = nI (T j) ∧ T j < 256
/-- nothing but the place -/
def rFr (I I' : Nat → Nat → Nat → Int32) : Prop := (∀ b, b ≠ 100 → I' b = I b) ∧ ∀ j, j ≠ 4 → I' 100 0 j = I 100 0 j
theorem rFr.rf (I : Nat → Nat → Nat → Int32) : rFr I I := ⟨fun _ _ => rfl, fun _ _ => rfl⟩
theorem rFr.tr {I I1 I2 : Nat → Nat → Nat → Int32} (a : rFr I I1) (b : rFr I1 I2) : rFr I I2 := ⟨fun q h => (b.1 q h).trans (a.1 q h), fun j h => (b.2 j h).trans (a.2 j h)⟩
theorem rFr.put (I : Nat → Nat → Nat → Int32) (v : Int32) : rFr I (u3 I 100 0 4 v) := ⟨fun q h => u3_ne1 h, fun j h => u3_ne3 h⟩
theorem rD.fr {T : Nat → Nat} {N a a' : Nat} {I I' : Nat → Nat → Nat → Int32} (H : rD T N a I) (f : rFr I I') (h : I' 100 0 4 = nI a') (ha : a' ≤ N) : rD T N a' I' :=
  ⟨(f.2 3 (by decide)).trans H.1, H.2.1, h, ha, fun j hj => by rw [f.1 109 (by decide)]; exact H.2.2.2.2 j hj⟩
theorem nbeq {a b : Nat} (h : Nat.beq a b = true) : a = b := Nat.eq_of_beq_eq_true h
theorem nblt_t {a b : Nat} (h : a < b) : Nat.blt a b = true := Nat.ble_eq_true_of_le h
theorem nblt_f {a b : Nat} (h : b ≤ a) : Nat.blt a b = false := by
  cases q : Nat.blt a b with
  | false => rfl
  | true => exact absurd (Nat.le_of_ble_eq_true q) (by omega)
theorem cAt_in {T : Nat → Nat} {N a : Nat} (h : a < N) : cAt T N a = T a := by unfold cAt; rw [nblt_t h] <;> rfl
theorem cAt_out {T : Nat → Nat} {N a : Nat} (h : N ≤ a) : cAt T N a = 0 := by unfold cAt; rw [nblt_f h] <;> rfl
theorem sk_ok {T : Nat → Nat} {N a : Nat} (h : a ≤ N) : a ≤ sk T N a ∧ sk T N a ≤ N ∧ (∀ i, a ≤ i → i < sk T N a → T i = 32) ∧ (sk T N a < N → ¬ T (sk T N a) = 32) := by
  obtain ⟨h1, h2, h3, h4⟩ := rn_spec (fun i => Nat.beq (T i) 32) (N - a) a
  unfold sk
  refine ⟨h1, by omega, fun i g1 g2 => nbeq (h3 i g1 g2), fun g e => ?_⟩
  have := h4 (by omega)
  rw [gbeqT e] at this
  cases this
theorem wE_ok {T : Nat → Nat} {N a : Nat} (h : a ≤ N) : a ≤ wE T N a ∧ wE T N a ≤ N ∧ (∀ i, a ≤ i → i < wE T N a → tSm (T i) = true) ∧ (wE T N a < N → tSm (T (wE T N a)) = false) := by
  obtain ⟨h1, h2, h3, h4⟩ := rn_spec (fun i => tSm (T i)) (N - a) a
  unfold wE
  exact ⟨h1, by omega, h3, fun g => h4 (by omega)⟩
theorem dE_ok {T : Nat → Nat} {N a : Nat} (h : a ≤ N) : a ≤ dE T N a ∧ dE T N a ≤ N ∧ (∀ i, a ≤ i → i < dE T N a → tDg (T i) = true) ∧ (dE T N a < N → tDg (T (dE T N a)) = false) := by
  obtain ⟨h1, h2, h3, h4⟩ := rn_spec (fun i => tDg (T i)) (N - a) a
  unfold dE
  exact ⟨h1, by omega, h3, fun g => h4 (by omega)⟩
theorem nble_f {a b : Nat} (h : b < a) : Nat.ble a b = false := by
  cases q : Nat.ble a b with
  | false => rfl
  | true => exact absurd (Nat.le_of_ble_eq_true q) (by omega)
set_option maxRecDepth 100000 in
theorem p_isSmall (d c : Nat) (hc : c < 256) (H : Hp) : gP mX12_isSmall (d + 1) [gI (nI c)] H (gI (gb (tSm c))) := by
  refine gEnter 400 [] kX12_isSmall rfl rfl ?_
  refine bLt c 97 rfl rfl (fun q => ?_) (fun q => ?_)
  · exact ⟨Or.inl rfl, by unfold tSm; rw [nble_f q]; rfl, rfl⟩
  · refine bGt c 122 rfl rfl (fun q2 => ?_) (fun q2 => ?_)
    · exact ⟨Or.inl rfl, by unfold tSm; rw [nble_f q2, Bool.and_false]; rfl, rfl⟩
    · exact ⟨Or.inr rfl, by unfold tSm; rw [Nat.ble_eq_true_of_le q, Nat.ble_eq_true_of_le q2]; rfl, rfl⟩
set_option maxRecDepth 100000 in
theorem p_isDigit (d c : Nat) (hc : c < 256) (H : Hp) : gP mX12_isDigit (d + 1) [gI (nI c)] H (gI (gb (tDg c))) := by
  refine gEnter 400 [] kX12_isDigit rfl rfl ?_
  refine bLt c 48 rfl rfl (fun q => ?_) (fun q => ?_)
  · exact ⟨Or.inl rfl, by unfold tDg; rw [nble_f q]; rfl, rfl⟩
  · refine bGt c 57 rfl rfl (fun q2 => ?_) (fun q2 => ?_)
    · exact ⟨Or.inl rfl, by unfold tDg; rw [nble_f q2, Bool.and_false]; rfl, rfl⟩
    · exact ⟨Or.inr rfl, by unfold tDg; rw [Nat.ble_eq_true_of_le q, Nat.ble_eq_true_of_le q2]; rfl, rfl⟩
theorem cAt_lt {T : Nat → Nat} {N a : Nat} {I : Nat → Nat → Nat → Int32} (H : rD T N a I) (b : Nat) : cAt T N b < 256 := by
  rcases Nat.lt_or_ge b N with q | q
  · rw [cAt_in q]; exact (H.2.2.2.2 b q).2
  · rw [cAt_out q]; decide
set_option maxRecDepth 100000 in
theorem p_here (d : Nat) (T : Nat → Nat) (N a : Nat) (I : Nat → Nat → Nat → Int32) (L : Nat → Nat → Nat → Int64) (y : Dy) (H : rD T N a I) :
    gTM mX12_here (d + 1) (0, 0) [gM0] (gH I L y) (fun v h' => v = [gI (nI (cAt T N (sk T N a)))] ∧ ∃ I', h' = gH I' L y ∧ rFr I I' ∧ rD T N (sk T N a) I') (fun _ _ => False) := by
  obtain ⟨k1, k2, k3, k4⟩ := sk_ok (T := T) H.2.2.2.1
  have hN := H.2.1
  refine gTM_of kX12_here rfl rfl ?_
  refine gT_for (σ := Nat → Nat → Nat → Int32) (pc := 0) (lo := fun _ _ => [some gM0]) (hp := fun _ z => gH z L y) (Inv := fun i z => a ≤ i ∧ rFr I z ∧ z 100 0 4 = nI i) (sk T N a) ?_ ?_ a I k1 ⟨Nat.le_refl _, rFr.rf I, H.2.2.1⟩ (by (repeat' apply And.intro) <;> first | rfl | trivial | exact congrArg Sum.inl (nI_1 _).symm | exact congrArg Sum.inl (nI_1 _).symm)
  · intro z ⟨_, z1, z2⟩
    have zD := H.fr z1 z2 k2
    refine gT_go 400 [0, 38] kX12_here ?_
    have fin : ∀ lo', glle [some gM0] lo' → gT mX12_here (d + 1) (0, 0) (fun v h' => v = [gI (nI (cAt T N (sk T N a)))] ∧ ∃ I', h' = gH I' L y ∧ rFr I I' ∧ rD T N (sk T N a) I') (fun _ _ => False) 38 lo' [] (gH z L y) (0, 0) := by
      intro lo' hl
      refine gT_lo _ hl ?_
      refine gT_go 400 [0] kX12_here ?_
      refine bGe (sk T N a) N z2 zD.1 (fun q => ?_) (fun q => ?_)
      · exact ⟨by rw [cAt_out q]; rfl, z, rfl, z1, zD⟩
      · refine Exists.intro (sk T N a) (And.intro (z2) (And.intro (show sk T N a < 600 by omega) ?_))
        exact ⟨by rw [cAt_in q, ← (zD.2.2.2.2 _ q).1], z, rfl, z1, zD⟩
    refine bGe (sk T N a) N z2 zD.1 (fun q => ?_) (fun q => ?_)
    · exact fin _ (by (repeat' apply And.intro) <;> first | rfl | trivial | exact congrArg Sum.inl (nI_1 _).symm | exact congrArg Sum.inl (nI_1 _).symm)
    · refine Exists.intro (sk T N a) (And.intro (z2) (And.intro (show sk T N a < 600 by omega) ?_))
      obtain ⟨t1, t2⟩ := zD.2.2.2.2 _ q
      refine bNe (T (sk T N a)) 32 t1 rfl (fun _ => ?_) (fun w => absurd w (k4 q))
      exact fin _ (by (repeat' apply And.intro) <;> first | rfl | trivial | exact congrArg Sum.inl (nI_1 _).symm | exact congrArg Sum.inl (nI_1 _).symm)
  · intro i z hi ⟨hai, z1, z2⟩ hnext
    have hiN : i < N := by omega
    have zD := H.fr z1 z2 (by omega)
    refine gT_go 400 [0, 38] kX12_here ?_
    refine bGe i N z2 zD.1 (fun q => absurd q (by omega)) (fun _ => ?_)
    refine Exists.intro (i) (And.intro (z2) (And.intro (show i < 600 by omega) ?_))
    obtain ⟨t1, t2⟩ := zD.2.2.2.2 _ hiN
    refine bNe (T i) 32 t1 rfl (fun w => absurd (k3 i hai hi) w) (fun _ => ?_)
    refine hnext (u3 z 100 0 4 (z 100 0 4 + 1)) _ ⟨by omega, z1.tr (rFr.put z _), u3_eq.trans (by rw [z2]; exact nI_1 i)⟩ (by (repeat' apply And.intro) <;> first | rfl | trivial | exact congrArg Sum.inl (nI_1 _).symm | exact congrArg Sum.inl (nI_1 _).symm)
set_option maxRecDepth 100000 in
theorem p_pass (d : Nat) (T : Nat → Nat) (N a : Nat) (I : Nat → Nat → Nat → Int32) (L : Nat → Nat → Nat → Int64) (y : Dy) (H : rD T N a I) :
    gTM mX12_pass (d + 2) (0, 0) [gM0] (gH I L y) (fun v h' => v = [] ∧ ∃ I', h' = gH I' L y ∧ rFr I I' ∧ rD T N (wE T N a) I') (fun _ _ => False) := by
  obtain ⟨k1, k2, k3, k4⟩ := wE_ok (T := T) H.2.2.2.1
  have hN := H.2.1
  refine gTM_of kX12_pass rfl rfl ?_
  refine gT_for (σ := Nat → Nat → Nat → Int32) (pc := 0) (lo := fun _ _ => [some gM0]) (hp := fun _ z => gH z L y) (Inv := fun i z => a ≤ i ∧ rFr I z ∧ z 100 0 4 = nI i) (wE T N a) ?_ ?_ a I k1 ⟨Nat.le_refl _, rFr.rf I, H.2.2.1⟩ (by (repeat' apply And.intro) <;> first | rfl | trivial | exact congrArg Sum.inl (nI_1 _).symm | exact congrArg Sum.inl (nI_1 _).symm)
  · intro z ⟨_, z1, z2⟩
    have zD := H.fr z1 z2 k2
    refine gT_go 400 [0] kX12_pass ?_
    refine bGe (wE T N a) N z2 zD.1 (fun q => ?_) (fun q => ?_)
    · exact ⟨rfl, z, rfl, z1, zD⟩
    · refine Exists.intro (wE T N a) (And.intro (z2) (And.intro (show wE T N a < 600 by omega) ?_))
      obtain ⟨t1, t2⟩ := zD.2.2.2.2 _ q
      refine gP_use (gP_eq (by rw [← t1] <;> rfl) (p_isSmall d (T (wE T N a)) t2 (gH z L y))) ?_
      refine bB0 _ rfl (fun _ => ?_) (fun w => absurd ((k4 q).symm.trans w) (by decide))
      exact ⟨rfl, z, rfl, z1, zD⟩
  · intro i z hi ⟨hai, z1, z2⟩ hnext
    have hiN : i < N := by omega
    have zD := H.fr z1 z2 (by omega)
    refine gT_go 400 [0] kX12_pass ?_
    refine bGe i N z2 zD.1 (fun q => absurd q (by omega)) (fun _ => ?_)
    refine Exists.intro (i) (And.intro (z2) (And.intro (show i < 600 by omega) ?_))
    obtain ⟨t1, t2⟩ := zD.2.2.2.2 _ hiN
    refine gP_use (gP_eq (by rw [← t1] <;> rfl) (p_isSmall d (T i) t2 (gH z L y))) ?_
    refine bB0 _ rfl (fun w => absurd ((k3 i hai hi).symm.trans w) (by decide)) (fun _ => ?_)
    refine hnext (u3 z 100 0 4 (z 100 0 4 + 1)) _ ⟨by omega, z1.tr (rFr.put z _), u3_eq.trans (by rw [z2]; exact nI_1 i)⟩ (by (repeat' apply And.intro) <;> first | rfl | trivial | exact congrArg Sum.inl (nI_1 _).symm | exact congrArg Sum.inl (nI_1 _).symm)
set_option maxRecDepth 100000 in
theorem p_isMore (d : Nat) (T : Nat → Nat) (N a : Nat) (I : Nat → Nat → Nat → Int32) (L : Nat → Nat → Nat → Int64) (y : Dy) (H : rD T N a I) :
    gTM mX12_isMore (d + 2) (0, 0) [gM0] (gH I L y) (fun v h' => v = [gI (gb (Nat.blt (sk T N a) N))] ∧ ∃ I', h' = gH I' L y ∧ rFr I I' ∧ rD T N (sk T N a) I') (fun _ _ => False) := by
  have hN := H.2.1
  refine gEnter 400 [] kX12_isMore rfl rfl ?_
  refine gTM_use rfl (p_here d T N a I L y H) (fun v h' q => ?_)
  obtain ⟨rfl, I', rfl, f, D⟩ := q
  refine bGe (sk T N a) N D.2.2.1 D.1 (fun q => ?_) (fun q => ?_) (by have := D.2.2.2.1; omega)
  · exact ⟨Or.inl rfl, by rw [nblt_f q]; rfl, I', rfl, f, D⟩
  · exact ⟨Or.inr rfl, by rw [nblt_t q]; rfl, I', rfl, f, D⟩
