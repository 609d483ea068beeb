/-! ===== reading: faults, signs, numbers, words ===== -/
/-- the fault so far: its kind and place -/
def rEr (e : Option (Nat × Nat)) (I : Nat → Nat → Nat → Int32) : Prop := match e with
  | none => I 100 0 5 = -1
  | some (k, p) => I 100 0 5 = nI p ∧ I 100 0 6 = nI k ∧ p ≤ 600
theorem rEr.fr {e : Option (Nat × Nat)} {I I' : Nat → Nat → Nat → Int32} (H : rEr e I) (f : rFr I I') : rEr e I' := by
  unfold rEr at H ⊢
  cases e with
  | none => exact (f.2 5 (by decide)).trans H
  | some q =>
    obtain ⟨k, p⟩ := q
    exact ⟨(f.2 5 (by decide)).trans H.1, (f.2 6 (by decide)).trans H.2.1, H.2.2⟩
/-- nothing but the place and the fault -/
def rFe (I I' : Nat → Nat → Nat → Int32) : Prop := (∀ b, b ≠ 100 → I' b = I b) ∧ ∀ j, j ≠ 4 → j ≠ 5 → j ≠ 6 → I' 100 0 j = I 100 0 j
theorem rFe.rf (I : Nat → Nat → Nat → Int32) : rFe I I := ⟨fun _ _ => rfl, fun _ _ _ _ => rfl⟩
theorem rFe.tr {I I1 I2 : Nat → Nat → Nat → Int32} (a : rFe I I1) (b : rFe I1 I2) : rFe I I2 := ⟨fun q h => (b.1 q h).trans (a.1 q h), fun j h1 h2 h3 => (b.2 j h1 h2 h3).trans (a.2 j h1 h2 h3)⟩
theorem rFr.fe {I I' : Nat → Nat → Nat → Int32} (f : rFr I I') : rFe I I' := ⟨f.1, fun j h _ _ => f.2 j h⟩
theorem rD.fe {T : Nat → Nat} {N a a' : Nat} {I I' : Nat → Nat → Nat → Int32} (H : rD T N a I) (f : rFe I I') (h : I' 100 0 4 = nI a') (ha : a' ≤ N) : rD T N a' I' :=
  ⟨(f.2 3 (by decide) (by decide) (by decide)).trans H.1, H.2.1, h, ha, fun j hj => by rw [f.1 109 (by decide)]; exact H.2.2.2.2 j hj⟩
set_option maxRecDepth 100000 in
theorem p_fine (d : Nat) (e : Option (Nat × Nat)) (I : Nat → Nat → Nat → Int32) (L : Nat → Nat → Nat → Int64) (y : Dy) (H : rEr e I) : gP mX12_fine (d + 1) [gM0] (gH I L y) (gI (gb e.isNone)) := by
  refine gEnter 400 [] kX12_fine rfl rfl ?_
  cases e with
  | none =>
    refine And.intro (fun q => absurd H q) (fun _ => ?_)
    exact ⟨Or.inr rfl, rfl, rfl⟩
  | some q =>
    obtain ⟨k, p⟩ := q
    refine And.intro (fun _ => ?_) (fun q => absurd (H.1.symm.trans q) (gOI_ne (by have := H.2.2; omega)))
    exact ⟨Or.inl rfl, rfl, rfl⟩
set_option maxRecDepth 100000 in
theorem p_wrong (d : Nat) (e : Option (Nat × Nat)) (k p : Nat) (hp : p ≤ 600) (I : Nat → Nat → Nat → Int32) (L : Nat → Nat → Nat → Int64) (y : Dy) (H : rEr e I) :
    gTM mX12_wrong (d + 1) (0, 0) [gM0, gI (nI k), gI (nI p)] (gH I L y) (fun v h' => v = [] ∧ ∃ I', h' = gH I' L y ∧ rFe I I' ∧ I' 100 0 4 = I 100 0 4 ∧ rEr (e.or (some (k, p))) I') (fun _ _ => False) := by
  refine gEnter 400 [] kX12_wrong rfl rfl ?_
  cases e with
  | none =>
    refine And.intro (fun _ => ?_) (fun q => absurd H q)
    exact ⟨rfl, u3 (u3 I 100 0 5 (nI p)) 100 0 6 (nI k), rfl, ⟨fun b hb => (u3_ne1 hb).trans (u3_ne1 hb), fun j h1 h2 h3 => (u3_ne3 h3).trans (u3_ne3 h2)⟩, rfl, rfl, rfl, hp⟩
  | some q =>
    obtain ⟨k', p'⟩ := q
    refine And.intro (fun q => absurd (H.1.symm.trans q) (gOI_ne (by have := H.2.2; omega))) (fun _ => ?_)
    exact ⟨rfl, I, rfl, rFe.rf I, rfl, H⟩
/-- what a reading comes to: a fault, or an answer and the place behind it -/
abbrev RR (α : Type) : Type := (Nat × Nat) ⊕ (α × Nat)
/-- the answer of a reading; of a fault 0 -/
def rVl (r : RR Nat) : Nat := match r with
  | .inl _ => 0
  | .inr q => q.1
def rSign (T : Nat → Nat) (N c a : Nat) : RR Unit := bif Nat.blt (sk T N a) N && Nat.beq (T (sk T N a)) c then .inr ((), sk T N a + 1) else .inl (1, sk T N a)
/-- what a reading leaves behind: its fault and its place -/
def rOut {α : Type} (T : Nat → Nat) (N : Nat) (r : RR α) (I : Nat → Nat → Nat → Int32) : Prop := match r with
  | .inl kp => rEr (some kp) I ∧ ∃ a', rD T N a' I
  | .inr xa => rEr none I ∧ rD T N xa.2 I
set_option maxRecDepth 100000 in
theorem p_sign (d : Nat) (T : Nat → Nat) (N a c : Nat) (hc : c < 256) (hc0 : 0 < c) (I : Nat → Nat → Nat → Int32) (L : Nat → Nat → Nat → Int64) (y : Dy) (H : rD T N a I) (E : rEr none I) :
    gTM mX12_sign (d + 2) (0, 0) [gM0, gI (nI c)] (gH I L y) (fun v h' => v = [] ∧ ∃ I', h' = gH I' L y ∧ rFe I I' ∧ rOut T N (rSign T N c a) I') (fun _ _ => False) := by
  have hN := H.2.1
  refine gEnter 400 [24] kX12_sign rfl rfl ?_
  refine gP_use (p_fine d none I L y E) ?_
  refine And.intro (fun q => absurd q (by decide)) (fun _ => ?_)
  refine gTM_use rfl (p_here d T N a I L y H) (fun v h' q => ?_)
  obtain ⟨rfl, I1, rfl, f1, D1⟩ := q
  have E1 := E.fr f1
  have hcl := cAt_lt H (sk T N a)
  refine bEq (cAt T N (sk T N a)) c rfl rfl (fun q => ?_) (fun q => ?_)
  · have hlt : sk T N a < N := by
      rcases Nat.lt_or_ge (sk T N a) N with w | w
      · exact w
      · rw [cAt_out w] at q; omega
    have er : rSign T N c a = .inr ((), sk T N a + 1) := by
      unfold rSign
      rw [nblt_t hlt, gbeqT (by rw [← cAt_in (T := T) hlt]; exact q)]
      rfl
    refine gT_go 400 [] kX12_sign ?_
    refine gP_use (p_fine d none I1 L y E1) ?_
    refine And.intro (fun q => absurd q (by decide)) (fun _ => ?_)
    refine ⟨rfl, u3 I1 100 0 4 (I1 100 0 4 + 1), rfl, (f1.tr (rFr.put I1 _)).fe, ?_⟩
    rw [er]
    exact ⟨E1.fr (rFr.put I1 _), D1.fr (rFr.put I1 _) (u3_eq.trans (by rw [D1.2.2.1]; exact nI_1 _)) hlt⟩
  · have er : rSign T N c a = .inl (1, sk T N a) := by
      unfold rSign
      rcases Nat.lt_or_ge (sk T N a) N with w | w
      · rw [nblt_t w, gbeqF (by rw [← cAt_in (T := T) w]; exact q)] <;> rfl
      · rw [nblt_f w] <;> rfl
    refine gTM_use (av' := [gM0, gI (nI 1), gI (nI (sk T N a))]) (by rw [← D1.2.2.1] <;> rfl) (p_wrong d none 1 (sk T N a) (by have := D1.2.2.2.1; omega) I1 L y E1) (fun v h' q => ?_)
    obtain ⟨rfl, I2, rfl, f2, e2, E2⟩ := q
    refine gT_go 400 [] kX12_sign ?_
    refine gP_use (p_fine d (some (1, sk T N a)) I2 L y E2) ?_
    refine And.intro (fun _ => ?_) (fun q => absurd rfl q)
    refine ⟨rfl, I2, rfl, f1.fe.tr f2, ?_⟩
    rw [er]
    exact ⟨E2, _, D1.fe f2 (e2.trans D1.2.2.1) D1.2.2.2.1⟩
/-- a number out of its digits; what is too great stays so -/
def nV (T : Nat → Nat) (s : Nat) : Nat → Nat
  | 0 => 0
  | i + 1 => if 9999 < nV T s i then 10000 else 10 * nV T s i + T (s + i) - 48
/-- a number from lo on, below hi -/
def rNum (T : Nat → Nat) (N lo hi a : Nat) : RR Nat :=
  bif Nat.blt (sk T N a) (dE T N (sk T N a)) then (bif Nat.ble lo (nV T (sk T N a) (dE T N (sk T N a) - sk T N a)) && Nat.blt (nV T (sk T N a) (dE T N (sk T N a) - sk T N a)) hi then .inr (nV T (sk T N a) (dE T N (sk T N a) - sk T N a), dE T N (sk T N a)) else .inl (2, sk T N a)) else .inl (1, sk T N a)
theorem nV_le {T : Nat → Nat} {s : Nat} : ∀ i, (∀ j, j < i → tDg (T (s + j)) = true) → nV T s i ≤ 99999 := by
  intro i
  induction i with
  | zero => intro _; exact Nat.zero_le _
  | succ i ih =>
    intro h
    have h1 := ih (fun j hj => h j (by omega))
    have h2 := (Bool.and_eq_true _ _).mp (h i (by omega))
    have h3 : T (s + i) ≤ 57 := Nat.le_of_ble_eq_true h2.2
    rw [nV]
    split <;> omega
set_option maxRecDepth 100000 in
theorem p_readNumber (d : Nat) (T : Nat → Nat) (N a lo hi : Nat) (hlo : lo < 100) (hhi : hi ≤ 10000) (hx : Int32) (hhx : hx = nI hi - 1) (I : Nat → Nat → Nat → Int32) (L : Nat → Nat → Nat → Int64) (y : Dy) (H : rD T N a I) (E : rEr none I) :
    gTM mX12_readNumber (d + 2) (0, 0) [gM0, gI (nI lo), gI hx] (gH I L y) (fun v h' => v = [gI (nI (rVl (rNum T N lo hi a)))] ∧ ∃ I', h' = gH I' L y ∧ rFe I I' ∧ rOut T N (rNum T N lo hi a) I') (fun _ _ => False) := by
  have hN := H.2.1
  refine gEnter 400 [41] kX12_readNumber rfl rfl ?_
  refine gP_use (p_fine d none I L y E) ?_
  refine And.intro (fun _ => ?_) (fun q => absurd q (by decide))
  refine gTM_use rfl (p_here d T N a I L y H) (fun v h' q => ?_)
  obtain ⟨rfl, I1, rfl, f1, D1⟩ := q
  have E1 := E.fr f1
  have hs := D1.2.2.2.1
  obtain ⟨k1, k2, k3, k4⟩ := dE_ok (T := T) hs
  refine gP_use (p_isDigit d (cAt T N (sk T N a)) (cAt_lt H _) _) ?_
  refine bB1 (tDg (cAt T N (sk T N a))) rfl (fun q => ?_) (fun q => ?_)
  · have hlt : sk T N a < N := by
      rcases Nat.lt_or_ge (sk T N a) N with w | w
      · exact w
      · rw [cAt_out w] at q; exact absurd q (by decide)
    have hse : sk T N a < dE T N (sk T N a) := by
      rcases Nat.lt_or_ge (sk T N a) (dE T N (sk T N a)) with w | w
      · exact w
      · have e : dE T N (sk T N a) = sk T N a := by omega
        have := k4 (by omega)
        rw [e, ← cAt_in (T := T) hlt, q] at this
        cases this
    have nv := fun i (hi : i ≤ dE T N (sk T N a) - sk T N a) => nV_le (T := T) (s := sk T N a) i (fun j hj => k3 (sk T N a + j) (by omega) (by omega))
    refine gT_for (σ := Nat → Nat → Nat → Int32) (pc := 41) (lo := fun i _ => [some gM0, some (gI (nI lo)), some (gI hx), none, some (gI (nI (sk T N a))), some (gI (nI (nV T (sk T N a) (i - sk T N a))))]) (hp := fun _ z => gH z L y) (Inv := fun i z => sk T N a ≤ i ∧ rFr I1 z ∧ z 100 0 4 = nI i) (dE T N (sk T N a)) ?_ ?_ (sk T N a) I1 k1 ⟨Nat.le_refl _, rFr.rf I1, D1.2.2.1⟩ (by rw [Nat.sub_self, ← D1.2.2.1]; exact (by (repeat' apply And.intro) <;> first | rfl | trivial | exact congrArg Sum.inl (nI_1 _).symm | exact congrArg Sum.inl (nI_1 _).symm))
    · intro z ⟨_, z1, z2⟩
      have zD := D1.fr z1 z2 k2
      have zE := E1.fr z1
      have hv := nv _ (Nat.le_refl _)
      have er : rNum T N lo hi a = bif Nat.ble lo (nV T (sk T N a) (dE T N (sk T N a) - sk T N a)) && Nat.blt (nV T (sk T N a) (dE T N (sk T N a) - sk T N a)) hi then .inr (nV T (sk T N a) (dE T N (sk T N a) - sk T N a), dE T N (sk T N a)) else .inl (2, sk T N a) := by unfold rNum; rw [nblt_t hse] <;> rfl
      generalize hvv : nV T (sk T N a) (dE T N (sk T N a) - sk T N a) = vv at hv er
      refine gT_go 400 [41, 114, 126] kX12_readNumber ?_
      have bad : ∀ (lo' : Lo), rNum T N lo hi a = .inl (2, sk T N a) → glle [some gM0, some (gI (nI lo)), some (gI hx), none, some (gI (nI (sk T N a))), some (gI (nI vv))] lo' →
          gT mX12_readNumber (d + 2) (0, 0) (fun v h' => v = [gI (nI (rVl (rNum T N lo hi a)))] ∧ ∃ I', h' = gH I' L y ∧ rFe I I' ∧ rOut T N (rNum T N lo hi a) I') (fun _ _ => False) 126 lo' [] (gH z L y) (0, 0) := by
        intro lo' e hl'
        refine gT_lo _ hl' ?_
        refine gT_go 400 [] kX12_readNumber ?_
        refine gTM_use rfl (p_wrong d none 2 (sk T N a) (by omega) z L y zE) (fun v h' q => ?_)
        obtain ⟨rfl, I2, rfl, f2, e2, E2⟩ := q
        refine ⟨by rw [e] <;> rfl, I2, rfl, (f1.fe.tr z1.fe).tr f2, ?_⟩
        rw [e]
        exact ⟨E2, _, zD.fe f2 (e2.trans z2) k2⟩
      have at114 : ∀ (lo' : Lo), glle [some gM0, some (gI (nI lo)), some (gI hx), none, some (gI (nI (sk T N a))), some (gI (nI vv))] lo' →
          gT mX12_readNumber (d + 2) (0, 0) (fun v h' => v = [gI (nI (rVl (rNum T N lo hi a)))] ∧ ∃ I', h' = gH I' L y ∧ rFe I I' ∧ rOut T N (rNum T N lo hi a) I') (fun _ _ => False) 114 lo' [] (gH z L y) (0, 0) := by
        intro lo' hl'
        refine gT_lo _ hl' ?_
        refine gT_go 400 [126] kX12_readNumber ?_
        refine bLt vv lo rfl rfl (fun w => ?_) (fun w => ?_)
        · exact bad _ (by rw [er, nble_f w] <;> rfl) (by (repeat' apply And.intro) <;> first | rfl | trivial | exact congrArg Sum.inl (nI_1 _).symm | exact congrArg Sum.inl (nI_1 _).symm)
        · have ok : vv < hi → [gI (nI vv)] = [gI (nI vv)] → [gI (nI vv)] = [gI (nI (rVl (rNum T N lo hi a)))] ∧ ∃ I', gH z L y = gH I' L y ∧ rFe I I' ∧ rOut T N (rNum T N lo hi a) I' := by
            intro w2 _
            have e : rNum T N lo hi a = .inr (vv, dE T N (sk T N a)) := by rw [er, Nat.ble_eq_true_of_le w, nblt_t w2] <;> rfl
            refine ⟨by rw [e] <;> rfl, z, rfl, f1.fe.tr z1.fe, ?_⟩
            rw [e]
            exact ⟨zE, zD⟩
          have no : hi ≤ vv → rNum T N lo hi a = .inl (2, sk T N a) := fun w2 => by rw [er, nblt_f w2, Bool.and_false] <;> rfl
          rcases Nat.eq_zero_or_pos hi with h0 | h0
          · have e1 : hx = -1 := by rw [hhx, h0] <;> rfl
            refine And.intro (fun w2 => ?_) (fun _ => ?_)
            · exfalso
              rw [e1] at w2
              exact absurd (Int32.le_trans (nI_pos' (show vv < 2 ^ 31 by omega)) w2) (by decide)
            · exact bad _ (no (by omega)) (by (repeat' apply And.intro) <;> first | rfl | trivial | exact congrArg Sum.inl (nI_1 _).symm | exact congrArg Sum.inl (nI_1 _).symm)
          · refine bLe vv (hi - 1) rfl (hhx.trans (pk_sub (b := 1) h0)) (fun w2 => ?_) (fun w2 => ?_)
            · exact ok (by omega) rfl
            · exact bad _ (no (by omega)) (by (repeat' apply And.intro) <;> first | rfl | trivial | exact congrArg Sum.inl (nI_1 _).symm | exact congrArg Sum.inl (nI_1 _).symm)
      refine bGe (dE T N (sk T N a)) N z2 zD.1 (fun q => ?_) (fun q => ?_)
      · exact at114 _ (by rw [← hvv]; exact (by (repeat' apply And.intro) <;> first | rfl | trivial | exact congrArg Sum.inl (nI_1 _).symm | exact congrArg Sum.inl (nI_1 _).symm))
      · refine Exists.intro (dE T N (sk T N a)) (And.intro (z2) (And.intro (show dE T N (sk T N a) < 600 by omega) ?_))
        obtain ⟨t1, t2⟩ := zD.2.2.2.2 _ q
        refine gP_use (gP_eq (by rw [← t1] <;> rfl) (p_isDigit d (T (dE T N (sk T N a))) t2 (gH z L y))) ?_
        refine bB0 _ rfl (fun _ => ?_) (fun w => absurd ((k4 q).symm.trans w) (by decide))
        exact at114 _ (by rw [← hvv]; exact (by (repeat' apply And.intro) <;> first | rfl | trivial | exact congrArg Sum.inl (nI_1 _).symm | exact congrArg Sum.inl (nI_1 _).symm))
    · intro i z hi0 ⟨hai, z1, z2⟩ hnext
      have hiN : i < N := by omega
      have zD := D1.fr z1 z2 (by omega)
      have hv := nv (i - sk T N a) (by omega)
      have ei : sk T N a + (i - sk T N a) = i := by omega
      have en : nV T (sk T N a) (i + 1 - sk T N a) = if 9999 < nV T (sk T N a) (i - sk T N a) then 10000 else 10 * nV T (sk T N a) (i - sk T N a) + T i - 48 := by rw [show i + 1 - sk T N a = (i - sk T N a) + 1 by omega, nV, ei]
      have hd := (Bool.and_eq_true _ _).mp (k3 i hai hi0)
      have hd1 : 48 ≤ T i := Nat.le_of_ble_eq_true hd.1
      refine gT_go 400 [41, 114] kX12_readNumber ?_
      refine bGe i N z2 zD.1 (fun q => absurd q (by omega)) (fun _ => ?_)
      refine Exists.intro (i) (And.intro (z2) (And.intro (show i < 600 by omega) ?_))
      obtain ⟨t1, t2⟩ := zD.2.2.2.2 _ hiN
      refine gP_use (gP_eq (by rw [← t1] <;> rfl) (p_isDigit d (T i) t2 (gH z L y))) ?_
      refine bB0 _ rfl (fun w => absurd ((k3 i hai hi0).symm.trans w) (by decide)) (fun _ => ?_)
      refine bLe (nV T (sk T N a) (i - sk T N a)) 9999 rfl rfl (fun w => ?_) (fun w => ?_)
      · refine Exists.intro (i) (And.intro (z2) (And.intro (show i < 600 by omega) ?_))
        refine hnext (u3 z 100 0 4 (z 100 0 4 + 1)) _ ⟨by omega, z1.tr (rFr.put z _), u3_eq.trans (by rw [z2]; exact nI_1 i)⟩ ?_
        rw [en, if_neg (by omega), ← pk_sub (show 48 ≤ 10 * nV T (sk T N a) (i - sk T N a) + T i by omega), ← nI_add, ← pk_mul, ← t1]
        exact (by (repeat' apply And.intro) <;> first | rfl | trivial | exact congrArg Sum.inl (nI_1 _).symm | exact congrArg Sum.inl (nI_1 _).symm)
      · refine hnext (u3 z 100 0 4 (z 100 0 4 + 1)) _ ⟨by omega, z1.tr (rFr.put z _), u3_eq.trans (by rw [z2]; exact nI_1 i)⟩ ?_
        rw [en, if_pos w]
        exact (by (repeat' apply And.intro) <;> first | rfl | trivial | exact congrArg Sum.inl (nI_1 _).symm | exact congrArg Sum.inl (nI_1 _).symm)
  · have hse : dE T N (sk T N a) = sk T N a := by
      rcases Nat.lt_or_ge (sk T N a) (dE T N (sk T N a)) with w | w
      · have := k3 _ (Nat.le_refl _) w
        rw [cAt_in (by omega)] at q
        rw [this] at q; cases q
      · omega
    have er : rNum T N lo hi a = .inl (1, sk T N a) := by unfold rNum; rw [nblt_f (by omega)] <;> rfl
    refine gTM_use (av' := [gM0, gI (nI 1), gI (nI (sk T N a))]) (by rw [← D1.2.2.1] <;> rfl) (p_wrong d none 1 (sk T N a) (by omega) I1 L y E1) (fun v h' q => ?_)
    obtain ⟨rfl, I2, rfl, f2, e2, E2⟩ := q
    refine ⟨by rw [er] <;> rfl, I2, rfl, f1.fe.tr f2, ?_⟩
    rw [er]
    exact ⟨E2, _, D1.fe f2 (e2.trans D1.2.2.1) hs⟩
