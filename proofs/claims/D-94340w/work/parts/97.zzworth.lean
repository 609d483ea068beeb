/-! ===== the component: what a play is worth at the beginning ===== -/
theorem gPlay_P {A : Nat → Nat} {S : Nat} {M : Nat → Nat → Nat → Nat → Nat} {P P' : PP} (e : pEq P P') (hA : gLd A) (hk : ∀ h, h < A 3 → P.1 h < A 2) {T : Nat → Int32} {W rA rB : Nat → Int64} (H : gPlay A S M P T W rA rB) : gPlay A S M P' T W rA rB := by
  have a2 := hA.2.2.1
  have a3 := hA.2.2.2.1
  obtain ⟨h1, h2, h3⟩ := H
  have ec : ∀ h p n, h < A 3 → gCh A S (gSn A) P' M W rA rB h p n = gCh A S (gSn A) P M W rA rB h p n := fun h p n hh => by
    have := hk h hh
    unfold gCh gChk
    rw [e.1 h (by omega), e.2.2.1, e.2.2.2.1, e.2.2.2.2 h (by omega), e.2.1 _ (show P.1 h < 5 by omega)]
  refine ⟨h1, fun k kk k4 h p n b1 b2 b3 => ?_, fun h p n b1 b2 b3 => ?_⟩
  · rw [e.2.1 k (by omega)] at k4
    have q := h2 k kk k4 h p n b1 b2 b3
    unfold gSf at q ⊢
    by_cases z : aEnd A h p n = 0
    · have hh3 : h < A 3 := by have := (aEnd_0 z).2; omega
      rw [if_pos z] at q ⊢
      rw [q]
      show gBr A S (gSn A h) (fun j => rB (k * 3900 + j)) h p n ((gBs (gMv (M (P.1 h) h p n)) (gBr A S (gSn A h) (fun j => rB (k * 3900 + j)) h p n) (decide (P.1 h ≠ k)) (A 1 + 1)).getD 0) = gBr A S (gSn A h) (fun j => rB (k * 3900 + j)) h p n ((gBs (gMv (M (P'.1 h) h p n)) (gBr A S (gSn A h) (fun j => rB (k * 3900 + j)) h p n) (decide (P'.1 h ≠ k)) (A 1 + 1)).getD 0)
      rw [e.1 h (by omega)]
    · rw [if_neg z] at q ⊢
      exact q
  · obtain ⟨q1, q2⟩ := h3 h p n b1 b2 b3
    by_cases z : aEnd A h p n = 0
    · have hh3 : h < A 3 := by have := (aEnd_0 z).2; omega
      refine ⟨by rw [ec h p n hh3]; exact q1, fun k hk' => ?_⟩
      rw [q2 k hk']
      unfold gPr
      rw [ec h p n hh3]
    · rw [if_neg z] at q1
      refine ⟨by rw [if_neg z]; exact q1, fun k hk' => ?_⟩
      rw [q2 k hk']
      unfold gPr
      rw [if_neg z, if_neg z]
theorem gTab_P {A : Nat → Nat} {S : Nat} {M : Nat → Nat → Nat → Nat → Nat} {P P' : PP} (e : pEq P P') (hA : gLd A) (hk : ∀ h, h < A 3 → P.1 h < A 2) : gTab A S M P' = gTab A S M P := by
  have a3 := hA.2.2.2.1
  have hk' : ∀ h, h < A 3 → P'.1 h < A 2 := fun h hh => by rw [e.1 h (by omega)]; exact hk h hh
  unfold gTab
  have : (fun t : (Nat → Int32) × (Nat → Int64) × (Nat → Int64) × (Nat → Int64) => gPlay A S M P' t.1 t.2.1 t.2.2.1 t.2.2.2) = (fun t => gPlay A S M P t.1 t.2.1 t.2.2.1 t.2.2.2) :=
    funext fun t => propext ⟨fun H => gPlay_P e.sm hA hk' H, fun H => gPlay_P e hA hk H⟩
  rw [this]
/-- the worth of a play to one, or to all, at the beginning -/
noncomputable def cWt (A : Nat → Nat) (S : Nat) (R : RL) (P : PP) : Option Nat → Int64
  | none => gSu none (fun q => wW A S (gMw A R none) P q 0 (A 6) S) (A 2)
  | some k => wW A S (gMw A R none) P k 0 (A 6) S
theorem cWt_V (V : VS) (P : PP) (k : Option Nat) : wTo V (vA V 4) none P k = cWt (vA V) (vA V 4) (vR V) P k := by
  cases k <;> rfl
theorem cWt_P {A : Nat → Nat} {S : Nat} {R : RL} {P P' : PP} (e : pEq P P') (hA : gLd A) (hk : ∀ h, h < A 3 → P.1 h < A 2) (k : Option Nat) : cWt A S R P' k = cWt A S R P k := by
  cases k with
  | none => unfold cWt wW; rw [gTab_P e hA hk]
  | some j => unfold cWt wW; rw [gTab_P e hA hk]
set_option maxRecDepth 100000 in
theorem o_worthP (d ht S : Nat) (A : Nat → Nat) (hA : gLg A) (hS : S < 13) (R : RL) (T : Nat → Option Nat) (RD : Nat → Nat) (K : Nat) (P : PP) (hok : gPok A P) (k : Option Nat) (hk : ∀ j, k = some j → j < A 2) (I : Nat → Nat → Nat → Int32) (L : Nat → Nat → Nat → Int64) (y : Dy) (hl : cLd y.1 S A I) (hR : cRl R ht I y) (hw : cKw A S R P I L) (hP : cPy A T RD K P I) :
    gTM mX1_worthOf (d + ht + 9) (0, 0) [gG0, gI (gOI k)] (gH I L y) (fun v h' => v = [gL (cWt A S R P k)] ∧ ∃ I' L', h' = gH I' L' y ∧ cFr I L I' L' ∧ cKw A S R P I' L' ∧ cKn A S R P I' L') (fun _ _ => False) := by
  have a0 := hA.1.1
  have a2 := hA.1.2.2.1
  have h6 := hA.2.2.2.2.2.1
  have hc := cN_lt (show 0 < 25 by decide) (show A 6 < 12 by omega) hS
  refine gEnter 400 [26] kX1_worthOf rfl rfl ?_
  refine gTM_use rfl (o_find d ht S A hA hS R T RD K P I L y hl hR hw hP) (fun v h' q => ?_)
  obtain ⟨rfl, I', L', rfl, fr, k1, k2⟩ := q
  have hl' : cLd y.1 S A I' := cLd_cg2 (fun b b1 b2 => fr.1 b (by omega) (by omega) (by omega) (by omega) (by omega)) hl
  have e2 := hl'.1 2 (by decide)
  have hv : ∀ j, j < A 2 → L' 161 j (cN 0 (A 6) S) = wW A S (gMw A R none) P j 0 (A 6) S := fun j hj => (k2.w hA hS hok (Nat.zero_le _) h6 (Nat.le_refl _)).2 j hj
  have hb : gP mX1_begin (d + ht + 6 + 2) [gG0] (gH I' L' y) (gI (nI (cN 0 (A 6) S))) := by
    refine gEnter 400 [] kX1_begin rfl rfl ?_
    refine gP_use (gP_eq (by rw [← hl'.2.1, ← hl'.2.2.2.1] <;> rfl) (o_state (d + ht + 6) 0 (A 6) S (gH I' L' y))) ?_
    exact ⟨rfl, rfl⟩
  cases k with
  | some j =>
    have hj := hk j rfl
    refine And.intro (fun q => absurd q (gOI_ne (by omega))) (fun _ => ?_)
    refine Exists.intro (j) (And.intro rfl (And.intro (show _ < 5 by omega) ?_))
    refine gP_use hb ?_
    refine Exists.intro (cN 0 (A 6) S) (And.intro rfl (And.intro (show _ < 3900 by omega) ?_))
    exact ⟨congrArg (fun z => [gL z]) (hv j hj), I', L', rfl, fr, k1, k2⟩
  | none =>
    refine And.intro (fun _ => ?_) (fun q => absurd rfl q)
    refine gT_for (σ := Unit) (pc := 26) (lo := fun i _ => [some gG0, none, some (gL (gSu none (fun q => wW A S (gMw A R none) P q 0 (A 6) S) i)), none, some (gI (nI i))]) (hp := fun _ _ => gH I' L' y) (Inv := fun _ _ => True) (A 2) ?_ ?_ 0 () (Nat.zero_le _) trivial (by (repeat' apply And.intro) <;> first | rfl | trivial | exact congrArg Sum.inl (nI_1 _).symm | exact congrArg Sum.inl (nI_1 _).symm)
    · intro _ _
      refine gT_go 400 [] kX1_worthOf ?_
      refine bGe (A 2) (A 2) rfl e2 (fun _ => ?_) (fun q => absurd q (by omega))
      exact ⟨rfl, I', L', rfl, fr, k1, k2⟩
    · intro i _ hi _ hnext
      refine gT_go 400 [26] kX1_worthOf ?_
      refine bGe i (A 2) rfl e2 (fun q => absurd q (by omega)) (fun _ => ?_)
      refine Exists.intro (i) (And.intro rfl (And.intro (show _ < 5 by omega) ?_))
      refine gP_use hb ?_
      refine Exists.intro (cN 0 (A 6) S) (And.intro rfl (And.intro (show _ < 3900 by omega) ?_))
      refine hnext () _ trivial ?_
      rw [gSu_t rfl, ← hv i hi]
      exact (by (repeat' apply And.intro) <;> first | rfl | trivial | exact congrArg Sum.inl (nI_1 _).symm | exact congrArg Sum.inl (nI_1 _).symm)
theorem tOne_x {A : Nat → Nat} {x : Int32} (hA : gLd A) (h : gOne A x = true) : x = gOI (tOne x) ∧ ∀ j, tOne x = some j → j < A 2 := by
  have a2 := hA.2.2.1
  unfold gOne at h
  by_cases c : x = -1
  · refine ⟨by unfold tOne; rw [if_pos c]; exact c, fun j q => by unfold tOne at q; rw [if_pos c] at q; cases q⟩
  · rw [decide_eq_false c, Bool.false_or] at h
    obtain ⟨j, rfl, hj⟩ := gWi_n rfl (by omega) h
    have e : tOne (nI j) = some j := by unfold tOne; rw [if_neg c, gTo_n (by omega)]
    rw [e]
    exact ⟨rfl, fun j' q => by cases q; exact hj⟩
set_option maxRecDepth 100000 in
theorem o_worthV (d : Nat) (V : VS) (hw : gWf V) (hL : vL V = true) (k : Option Nat) (hk : ∀ j, k = some j → j < vA V 2) (I : Nat → Nat → Nat → Int32) (L : Nat → Nat → Nat → Int64) (y : Dy) (H : cR V I L y) :
    gTM mX1_worthOf (d + 609) (0, 0) [gG0, gI (gOI k)] (gH I L y) (fun v h' => v = [gL (wTo V (vA V 4) none (gP0 V) k)] ∧ ∃ I' L', h' = gH I' L' y ∧ cFr I L I' L' ∧ cR V I' L' y ∧ cKn (vA V) (vA V 4) (vR V) (gP0 V) I' L') (fun _ _ => False) := by
  obtain ⟨ht, h6, hR⟩ := H.1.2.1
  rw [show d + 609 = (d + (600 - ht)) + ht + 9 by omega]
  refine gTM_use rfl (o_worthP (d + (600 - ht)) ht (vA V 4) (vA V) (hw.2.1 hL) (vA4 hw) (vR V) _ _ _ (gP0 V) (gPok_V hw hL) k hk I L y H.1.1 hR H.2 (cPy_V hw hL H.1)) (fun v h' q => ?_)
  obtain ⟨rfl, I', L', rfl, f, k1, k2⟩ := q
  exact ⟨congrArg (fun z => [gL z]) (cWt_V V _ k).symm, I', L', rfl, f, ⟨cRb_cg (f.sm y) H.1, k1⟩, k2⟩
