/-! ===== the component: findWorst ===== -/
/-- the worst is known for those who are blind -/
def cKo (A : Nat → Nat) (S : Nat) (R : RL) (KD : Nat → Nat) (ld : Nat → Nat) (L : Nat → Nat → Nat → Int64) : Prop := ∀ k, k < A 2 → KD k = 4 → ∀ h p n, h ≤ A 3 → p < A 0 → n ≤ S → gSf A S (gSn A) (gSc A) (fun h p n => gMv (gMw A R none (ld h) h p n)) (fun h => decide (ld h ≠ k)) k (vw (fun s => L 163 k s)) h p n
set_option maxRecDepth 100000 in
theorem o_findWorst (d S : Nat) (A : Nat → Nat) (hA : gLd A) (hA0 : 0 < A 0) (hS : S < 13) (R : RL) (KD : Nat → Nat) (T : Nat → Option Nat) (RD : Nat → Nat) (K : Nat) (I : Nat → Nat → Nat → Int32) (L : Nat → Nat → Nat → Int64) (y : Dy) (hl : cLd y.1 S A I) (kl : cKl A S R I L) (hle : cLe T RD K A I) (h0 : I 60 0 30 = 0) (hkd : ∀ k, k < 5 → I 21 0 k = nI (KD k) ∧ KD k < 6) :
    gTM mX1_findWorst (d + 6) (0, 0) [gG0] (gH I L y) (fun v h' => v = [] ∧ ∃ L', h' = gH (u3 I 60 0 30 1) L' y ∧ (∀ q, q ≠ 163 → L' q = L q) ∧ cKo A S R KD (cWho T RD K (A 2)) L') (fun _ _ => False) := by
  have a2 := hA.2.2.1
  have e2 := hl.1 2 (by decide)
  refine gEnter 400 [10] kX1_findWorst rfl rfl ?_
  refine bB0 false h0 (fun _ => ?_) (fun q => absurd q (by decide))
  refine gT_for (σ := Nat → Nat → Nat → Int64) (pc := 10) (lo := fun k _ => [some gG0, some (gI (nI k))]) (hp := fun _ x => gH I x y) (Inv := fun k x => (∀ q, q ≠ 163 → x q = L q) ∧ ∀ j, j < k → KD j = 4 → ∀ h p n, h ≤ A 3 → p < A 0 → n ≤ S → gSf A S (gSn A) (gSc A) (fun h p n => gMv (gMw A R none (cWho T RD K (A 2) h) h p n)) (fun h => decide (cWho T RD K (A 2) h ≠ j)) j (vw (fun s => x 163 j s)) h p n) (A 2) ?_ ?_ 0 L (Nat.zero_le _) ⟨fun _ _ => rfl, fun j hj => absurd hj (Nat.not_lt_zero _)⟩ (by (repeat' apply And.intro) <;> first | rfl | trivial | exact congrArg Sum.inl (nI_1 _).symm | exact congrArg Sum.inl (nI_1 _).symm)
  · intro x ⟨x1, x2⟩
    refine gT_go 400 [10] kX1_findWorst ?_
    refine bGe (A 2) (A 2) rfl e2 (fun _ => ?_) (fun q => absurd q (by omega))
    refine And.intro (Or.inr rfl) ?_
    exact ⟨rfl, x, rfl, x1, x2⟩
  · intro k x hk0 ⟨x1, x2⟩ hnext
    obtain ⟨k1, k2⟩ := hkd k (by omega)
    refine gT_go 400 [10] kX1_findWorst ?_
    refine bGe k (A 2) rfl e2 (fun q => absurd q (by omega)) (fun _ => ?_)
    refine Exists.intro (k) (And.intro rfl (And.intro (show _ < 5 by omega) ?_))
    refine bNe (KD k) 4 k1 rfl (fun c => ?_) (fun c => ?_)
    · refine hnext x _ ⟨x1, fun j hj h4 => ?_⟩ (by (repeat' apply And.intro) <;> first | rfl | trivial | exact congrArg Sum.inl (nI_1 _).symm | exact congrArg Sum.inl (nI_1 _).symm)
      by_cases e : j = k
      · subst e; exact absurd h4 c
      · exact x2 j (by omega) h4
    · refine gTM_use rfl (o_findAlone1 d k A hk0 hA hA0 S hS I (gMw A R none) (kl.lw hA) T RD K hle x y hl) (fun v h' q => ?_)
      obtain ⟨rfl, x', rfl, g1, g2, g3⟩ := q
      refine hnext x' _ ⟨fun q hq => (g1 q hq).trans (x1 q hq), fun j hj h4 => ?_⟩ (by (repeat' apply And.intro) <;> first | rfl | trivial | exact congrArg Sum.inl (nI_1 _).symm | exact congrArg Sum.inl (nI_1 _).symm)
      by_cases e : j = k
      · subst e
        intro h p n b1 b2 b3
        exact gSf_scl (by rw [x1 74 (by decide)]; exact kl.2 h b1) (g3 h p n b1 b2 b3)
      · rw [g2 j e]
        exact x2 j (by omega) h4
