/-! ===== the component: all tables of a play ===== -/
/-- the equations of a play's tables at a state -/
def cQ (A : Nat → Nat) (S : Nat) (R : RL) (P : PP) (I : Nat → Nat → Nat → Int32) (L : Nat → Nat → Nat → Int64) (h p n : Nat) : Prop :=
  I 86 0 (cN h p n) = (if aEnd A h p n = 0 then nI (cCh A S R P L h p n) else -1) ∧
  (∀ q, q < A 2 → L 161 q (cN h p n) = if aEnd A h p n = 0 then gBr A S (gSn A h) (vw (L 161 q)) h p n (cCh A S R P L h p n) else gEn A (gSc A) q h p (aEnd A h p n)) ∧
  L 84 0 (cN h p n) = (if aEnd A h p n = 0 then gBr A S (gSn A h) (vw (L 84 0)) h p n (cCh A S R P L h p n) else if aEnd A h p n = 1 then gSc A h else 0) ∧
  L 85 0 (cN h p n) = (if aEnd A h p n = 0 then gBr A S (gSn A h) (vw (L 85 0)) h p n (cCh A S R P L h p n) else if aEnd A h p n = 2 then gSc A h else 0)
def cAg (L L' : Nat → Nat → Nat → Int64) (s : Nat) : Prop := L' 84 0 s = L 84 0 s ∧ L' 85 0 s = L 85 0 s ∧ ∀ q, L' 161 q s = L 161 q s
theorem cCh_cg {A : Nat → Nat} {S : Nat} {R : RL} {P : PP} {L L' : Nat → Nat → Nat → Int64} {h p n : Nat} (hA : gLd A) (hS : S < 13) (hn : n < 13) (hp : p < 12) (hh : h < 24) (hk : P.1 h < A 2) (e2 : L' 162 = L 162) (e3 : L' 163 = L 163) (hg : ∀ t j, t < 12 → j < 13 → cAg L L' (cN (h + 1) t j)) : cCh A S R P L' h p n = cCh A S R P L h p n := by
  unfold cCh
  rw [e2, e3]
  exact gCh_cg hA hS hn hp hk (fun q t j hq ht hj => by rw [wOf_s (sN_lt (by omega) ht hj), wOf_s (sN_lt (by omega) ht hj), vw_s ht hj, vw_s ht hj]; exact (hg t j ht hj).2.2 q)
theorem cCh_le {A : Nat → Nat} {S : Nat} {R : RL} {P : PP} {L : Nat → Nat → Nat → Int64} {h p n : Nat} (hpl : P.2.2.2.2 h ≤ A 1) : cCh A S R P L h p n ≤ A 1 := gChk_le hpl
theorem cQ_cg {A : Nat → Nat} {S : Nat} {R : RL} {P : PP} {I I' : Nat → Nat → Nat → Int32} {L L' : Nat → Nat → Nat → Int64} {h p n : Nat} (hA : gLd A) (hS : S < 13) (hn : n < 13) (hp : p < 12) (hh : h ≤ A 3) (hk : h < A 3 → P.1 h < A 2) (hpl : h < A 3 → P.2.2.2.2 h ≤ A 1) (e2 : L' 162 = L 162) (e3 : L' 163 = L 163) (e86 : I' 86 0 (cN h p n) = I 86 0 (cN h p n)) (eL : cAg L L' (cN h p n)) (hg : h < A 3 → ∀ t j, t < 12 → j < 13 → cAg L L' (cN (h + 1) t j)) (H : cQ A S R P I L h p n) : cQ A S R P I' L' h p n := by
  have a1 := hA.2.1
  have a3 := hA.2.2.2.1
  obtain ⟨h1, h2, h3, h4⟩ := H
  by_cases e : aEnd A h p n = 0
  · have hh3 : h < A 3 := by have := (aEnd_0 e).2; omega
    have ec : cCh A S R P L' h p n = cCh A S R P L h p n := cCh_cg hA hS hn hp (by omega) (hk hh3) e2 e3 (hg hh3)
    have hc : cCh A S R P L h p n ≤ A 1 := cCh_le (hpl hh3)
    rw [if_pos e] at h1 h3 h4
    refine ⟨?_, fun q hq => ?_, ?_, ?_⟩
    · rw [if_pos e, e86, h1, ec]
    · have h2q := h2 q hq
      rw [if_pos e] at h2q
      rw [if_pos e, eL.2.2 q, h2q, ec]
      exact gBr_cg hA hS hn hp (by omega) (fun t j ht hj => by rw [vw_s ht hj, vw_s ht hj]; exact ((hg hh3 t j ht hj).2.2 q).symm)
    · rw [if_pos e, eL.1, h3, ec]
      exact gBr_cg hA hS hn hp (by omega) (fun t j ht hj => by rw [vw_s ht hj, vw_s ht hj]; exact (hg hh3 t j ht hj).1.symm)
    · rw [if_pos e, eL.2.1, h4, ec]
      exact gBr_cg hA hS hn hp (by omega) (fun t j ht hj => by rw [vw_s ht hj, vw_s ht hj]; exact (hg hh3 t j ht hj).2.1.symm)
  · rw [if_neg e] at h1 h3 h4
    refine ⟨?_, fun q hq => ?_, ?_, ?_⟩
    · rw [if_neg e, e86, h1]
    · have h2q := h2 q hq
      rw [if_neg e] at h2q
      rw [if_neg e, eL.2.2 q, h2q]
    · rw [if_neg e, eL.1, h3]
    · rw [if_neg e, eL.2.1, h4]
/-- what finds writes satisfies the equations, there and later -/
theorem cFd.put {A : Nat → Nat} {S : Nat} {R : RL} {P : PP} {I I' : Nat → Nat → Nat → Int32} {L L' : Nat → Nat → Nat → Int64} {h p n : Nat} (hA : gLd A) (hS : S < 13) (hn : n < 13) (hp : p < 12) (hh : h ≤ A 3) (hk : ∀ h, h < A 3 → P.1 h < A 2) (hpl : ∀ h, h < A 3 → P.2.2.2.2 h ≤ A 1) (hsc : L 74 0 h = gSc A h) (H : cFd A S R P h p n I L I' L') :
    cQ A S R P I' L' h p n ∧ ∀ h' p' n', p' < 12 → n' < 13 → h' ≤ A 3 → h ≤ h' → ¬ (h' = h ∧ p' = p ∧ n' = n) → cQ A S R P I L h' p' n' → cQ A S R P I' L' h' p' n' := by
  have a1 := hA.2.1
  have a3 := hA.2.2.2.1
  obtain ⟨f1, f2, f3, f4, f5, f6, f7, f8⟩ := H
  have ag : ∀ s, s ≠ cN h p n → cAg L L' s := fun s hs => f4 s hs
  have e2 : L' 162 = L 162 := f3 162 (by decide) (by decide) (by decide)
  have e3 : L' 163 = L 163 := f3 163 (by decide) (by decide) (by decide)
  have nx : ∀ h', h ≤ h' → ∀ t j, t < 12 → j < 13 → cAg L L' (cN (h' + 1) t j) := fun h' b t j ht hj => ag _ (fun q => by have := cN_inj ht hj hp hn q; omega)
  refine ⟨?_, fun h' p' n' b1 b2 b3 b4 b5 Q => ?_⟩
  · by_cases e : aEnd A h p n = 0
    · have hh3 : h < A 3 := by have := (aEnd_0 e).2; omega
      have ec : cCh A S R P L' h p n = cCh A S R P L h p n := cCh_cg hA hS hn hp (by omega) (hk h hh3) e2 e3 (nx h (Nat.le_refl _))
      have hc : cCh A S R P L h p n ≤ A 1 := cCh_le (hpl h hh3)
      rw [if_pos e] at f5 f7 f8
      refine ⟨?_, fun q hq => ?_, ?_, ?_⟩
      · rw [if_pos e, f5, ec]
      · have f6q := f6 q hq
        rw [if_pos e] at f6q
        rw [if_pos e, f6q, ec]
        exact gBr_cg hA hS hn hp (by omega) (fun t j ht hj => by rw [vw_s ht hj, vw_s ht hj]; exact ((nx h (Nat.le_refl _) t j ht hj).2.2 q).symm)
      · rw [if_pos e, f7, ec]
        exact gBr_cg hA hS hn hp (by omega) (fun t j ht hj => by rw [vw_s ht hj, vw_s ht hj]; exact (nx h (Nat.le_refl _) t j ht hj).1.symm)
      · rw [if_pos e, f8, ec]
        exact gBr_cg hA hS hn hp (by omega) (fun t j ht hj => by rw [vw_s ht hj, vw_s ht hj]; exact (nx h (Nat.le_refl _) t j ht hj).2.1.symm)
    · rw [if_neg e, hsc] at f7 f8
      rw [if_neg e] at f5
      refine ⟨?_, fun q hq => ?_, ?_, ?_⟩
      · rw [if_neg e, f5]
      · have f6q := f6 q hq
        rw [if_neg e] at f6q
        rw [if_neg e, f6q]
        exact gEn_cg hsc
      · rw [if_neg e, f7]
      · rw [if_neg e, f8]
  · have hne : cN h' p' n' ≠ cN h p n := fun q => b5 (by have := cN_inj b1 b2 hp hn q; omega)
    exact cQ_cg hA hS b2 b1 b3 (hk h') (hpl h') e2 e3 (f2 _ hne) (ag _ hne) (fun _ => nx h' b4) Q
def cPl (A : Nat → Nat) (S : Nat) (R : RL) (P : PP) (I : Nat → Nat → Nat → Int32) (L : Nat → Nat → Nat → Int64) : Prop := ∀ h p n, h ≤ A 3 → p < A 0 → n ≤ S → cQ A S R P I L h p n
/-- all is known of a play -/
def cKn (A : Nat → Nat) (S : Nat) (R : RL) (P : PP) (I : Nat → Nat → Nat → Int32) (L : Nat → Nat → Nat → Int64) : Prop :=
  cKl A S R I L ∧ cKa A S R L ∧ cKo A S R P.2.1 P.1 L ∧ cPl A S R P I L
/-- what is marked as known is known -/
def cKw (A : Nat → Nat) (S : Nat) (R : RL) (P : PP) (I : Nat → Nat → Nat → Int32) (L : Nat → Nat → Nat → Int64) : Prop :=
  ∃ b c f : Bool, I 60 0 28 = gb b ∧ I 60 0 29 = gb c ∧ I 60 0 31 = gb f ∧ (b = true → cKl A S R I L) ∧ (c = true → cKa A S R L) ∧ (f = true → cKn A S R P I L)
/-- what the tables' makers write -/
def cFr (I : Nat → Nat → Nat → Int32) (L : Nat → Nat → Nat → Int64) (I' : Nat → Nat → Nat → Int32) (L' : Nat → Nat → Nat → Int64) : Prop :=
  (∀ b, b ≠ 60 → b ≠ 73 → b ≠ 86 → b ≠ 95 → b ≠ 160 → I' b = I b) ∧ (∀ j, j ≠ 28 → j ≠ 29 → j ≠ 30 → j ≠ 31 → I' 60 0 j = I 60 0 j) ∧ (∀ b, b ≠ 74 → b ≠ 84 → b ≠ 85 → b ≠ 161 → b ≠ 162 → b ≠ 163 → L' b = L b)
theorem cFr.rf (I : Nat → Nat → Nat → Int32) (L : Nat → Nat → Nat → Int64) : cFr I L I L := ⟨fun _ _ _ _ _ _ => rfl, fun _ _ _ _ _ => rfl, fun _ _ _ _ _ _ _ => rfl⟩
theorem cFr.tr {I1 I2 I3 : Nat → Nat → Nat → Int32} {L1 L2 L3 : Nat → Nat → Nat → Int64} (a : cFr I1 L1 I2 L2) (b : cFr I2 L2 I3 L3) : cFr I1 L1 I3 L3 :=
  ⟨fun q h1 h2 h3 h4 h5 => (b.1 q h1 h2 h3 h4 h5).trans (a.1 q h1 h2 h3 h4 h5), fun q h1 h2 h3 h4 => (b.2.1 q h1 h2 h3 h4).trans (a.2.1 q h1 h2 h3 h4), fun q h1 h2 h3 h4 h5 h6 => (b.2.2 q h1 h2 h3 h4 h5 h6).trans (a.2.2 q h1 h2 h3 h4 h5 h6)⟩
theorem cPl_cg {A : Nat → Nat} {S : Nat} {R : RL} {P : PP} {I I' : Nat → Nat → Nat → Int32} {L L' : Nat → Nat → Nat → Int64} (h1 : I' 86 = I 86) (h2 : L' 84 = L 84) (h3 : L' 85 = L 85) (h4 : L' 161 = L 161) (h5 : L' 162 = L 162) (h6 : L' 163 = L 163) (H : cPl A S R P I L) : cPl A S R P I' L' := by
  unfold cPl cQ cCh at H ⊢
  rw [h1, h2, h3, h4, h5, h6]
  exact H
theorem cKl_cg {A : Nat → Nat} {S : Nat} {R : RL} {I I' : Nat → Nat → Nat → Int32} {L L' : Nat → Nat → Nat → Int64} (h1 : I' 160 = I 160) (h2 : L' 74 = L 74) (H : cKl A S R I L) : cKl A S R I' L' := by
  unfold cKl at H ⊢
  rw [h1, h2]
  exact H
theorem cKa_cg {A : Nat → Nat} {S : Nat} {R : RL} {L L' : Nat → Nat → Nat → Int64} (h2 : L' 162 = L 162) (H : cKa A S R L) : cKa A S R L' := by
  unfold cKa at H ⊢
  rw [h2]
  exact H
theorem cKo_cg {A : Nat → Nat} {S : Nat} {R : RL} {KD ld : Nat → Nat} {L L' : Nat → Nat → Nat → Int64} (h2 : L' 163 = L 163) (H : cKo A S R KD ld L) : cKo A S R KD ld L' := by
  unfold cKo at H ⊢
  rw [h2]
  exact H
set_option maxRecDepth 100000 in
theorem o_findLawW (d ht S : Nat) (A : Nat → Nat) (hA : gLg A) (hS : S < 13) (R : RL) (P : PP) (I : Nat → Nat → Nat → Int32) (L : Nat → Nat → Nat → Int64) (y : Dy) (hl : cLd y.1 S A I) (hR : cRl R ht I y) (hw : cKw A S R P I L) :
    gTM mX1_findLaw (d + ht + 6) (0, 0) [gG0] (gH I L y) (fun v h' => v = [] ∧ ∃ I' L', h' = gH I' L' y ∧ cFr I L I' L' ∧ cKw A S R P I' L' ∧ cKl A S R I' L') (fun _ _ => False) := by
  obtain ⟨b, c, f, hb, hc, hf, kb, kc, kf⟩ := hw
  refine gTM_use rfl (o_findLaw d ht S A hA.1 hA.2.1 hS R b I L y hl hR hb kb) (fun v h' q => ?_)
  obtain ⟨rfl, I', L', rfl, f1, f2, f3, f4, kl⟩ := q
  refine ⟨rfl, I', L', rfl, ⟨fun q h1 h2 _ _ h5 => f1 q h1 h2 h5, fun q h1 _ _ _ => f2 q h1, fun q h1 _ _ _ _ _ => f4 q h1⟩, ⟨true, c, f, f3, (f2 29 (by decide)).trans hc, (f2 31 (by decide)).trans hf, fun _ => kl, fun e => cKa_cg (f4 162 (by decide)) (kc e), fun e => ?_⟩, kl⟩
  obtain ⟨_, k2, k3, k4⟩ := kf e
  exact ⟨kl, cKa_cg (f4 162 (by decide)) k2, cKo_cg (f4 163 (by decide)) k3, cPl_cg (f1 86 (by decide) (by decide) (by decide)) (f4 84 (by decide)) (f4 85 (by decide)) (f4 161 (by decide)) (f4 162 (by decide)) (f4 163 (by decide)) k4⟩
/-- worths alone are one table of its equations: where both hold, the play's rows stay -/
theorem cKa_uq {A : Nat → Nat} {S : Nat} {R : RL} {L L' : Nat → Nat → Nat → Int64} (hA : gLg A) (H : cKa A S R L) (H' : cKa A S R L') {k h p n : Nat} (hk : k < A 2) (hh : h ≤ A 3) (hp : p < A 0) (hn : n ≤ S) : vw (L' 162 k) (sN h p n) = vw (L 162 k) (sN h p n) :=
  gSf_uq hA (H' k hk) (H k hk) (A 3) h p n (by omega) hh hp hn
set_option maxRecDepth 100000 in
theorem o_find (d ht S : Nat) (A : Nat → Nat) (hA : gLg A) (hS : S < 13) (R : RL) (T : Nat → Option Nat) (RD : Nat → Nat) (K : Nat) (P : PP) (I : Nat → Nat → Nat → Int32) (L : Nat → Nat → Nat → Int64) (y : Dy) (hl : cLd y.1 S A I) (hR : cRl R ht I y) (hw : cKw A S R P I L) (hP : cPy A T RD K P I) :
    gTM mX1_find (d + ht + 8) (0, 0) [gG0] (gH I L y) (fun v h' => v = [] ∧ ∃ I' L', h' = gH I' L' y ∧ cFr I L I' L' ∧ cKw A S R P I' L' ∧ cKn A S R P I' L') (fun _ _ => False) := by
  have hLd := hA.1
  have hA0 := hA.2.1
  have hA2 := hA.2.2.1
  have a0 := hLd.1
  have a1 := hLd.2.1
  have a3 := hLd.2.2.2.1
  obtain ⟨b, c, f, hb, hc, hf, kb, kc, kf⟩ := hw
  have at29 : ∀ (z : Nat → Nat → Nat → Int32) (L2 : Nat → Nat → Nat → Int64) (lo' : Lo), cFr I L z L2 → z 60 0 28 = 1 → z 60 0 29 = 1 → cKl A S R z L2 → cKa A S R L2 → cKo A S R P.2.1 P.1 L2 → glle [some gG0, some (gI (nI (A 3))), none, none] lo' → gT mX1_find (d + ht + 8) (0, 0) (fun v h' => v = [] ∧ ∃ I' L', h' = gH I' L' y ∧ cFr I L I' L' ∧ cKw A S R P I' L' ∧ cKn A S R P I' L') (fun _ _ => False) 29 lo' [] (gH z L2 y) (0, 0) := by
    intro z L2 lo' fz z28 z29 kl ka ko hl'
    have hlz : cLd y.1 S A z := cLd_cg (fun q _ _ => fz.1 q (by omega) (by omega) (by omega) (by omega) (by omega)) hl
    have hPz : cPy A T RD K P z := cPy_cg (fz.1 20 (by decide) (by decide) (by decide) (by decide) (by decide)) (fz.1 21 (by decide) (by decide) (by decide) (by decide) (by decide)) (fz.1 22 (by decide) (by decide) (by decide) (by decide) (by decide)) (fz.1 23 (by decide) (by decide) (by decide) (by decide) (by decide)) (fz.1 72 (by decide) (by decide) (by decide) (by decide) (by decide)) (fz.2.1 10 (by decide) (by decide) (by decide) (by decide)) (fz.2.1 11 (by decide) (by decide) (by decide) (by decide)) (fz.2.1 32 (by decide) (by decide) (by decide) (by decide)) hP
    have hk : ∀ h, h < A 3 → P.1 h < A 2 := fun h hh => by rw [hP.2.1 h]; exact hP.1.lt hA2 (by omega)
    have hpl : ∀ h, h < A 3 → P.2.2.2.2 h ≤ A 1 := fun h hh => (hP.2.2.2.1 h (by omega)).2
    refine gT_grid2 (σ := (Nat → Nat → Nat → Int32) × (Nat → Nat → Nat → Int64)) 29 35 48 (fun w _ => [some gG0, some (gI w), none, none]) (fun h n _ => [some gG0, some (gI (nI h)), some (gI (nI n)), none]) (fun h n p _ => [some gG0, some (gI (nI h)), some (gI (nI n)), some (gI (nI p))]) (fun x => gH x.1 x.2 y)
      (fun _ x => (∀ b, b ≠ 86 → b ≠ 95 → x.1 b = z b) ∧ (∀ b, b ≠ 84 → b ≠ 85 → b ≠ 161 → x.2 b = L2 b)) (fun h n p x => cQ A S R P x.1 x.2 h p n) (A 3) (S + 1) (A 0 - 1) ?_ ?_ ?_ ?_ ?_ ?_ (z, L2) ⟨fun _ _ _ => rfl, fun _ _ _ _ => rfl⟩ hl'
    · intro x ⟨x1, x2⟩ hC
      have l162 : x.2 162 = L2 162 := x2 162 (by decide) (by decide) (by decide)
      have l163 : x.2 163 = L2 163 := x2 163 (by decide) (by decide) (by decide)
      have l74 : x.2 74 = L2 74 := x2 74 (by decide) (by decide) (by decide)
      have e60 : x.1 60 = z 60 := x1 60 (by decide) (by decide)
      have kl' : cKl A S R (u3 x.1 60 0 31 1) x.2 := cKl_cg ((u3_ne1 (by decide)).trans (x1 160 (by decide) (by decide))) l74 kl
      have ka' : cKa A S R x.2 := cKa_cg l162 ka
      have kn : cKn A S R P (u3 x.1 60 0 31 1) x.2 := ⟨kl', ka', cKo_cg l163 ko, cPl_cg (I := x.1) (L := x.2) (u3_ne1 (by decide)) rfl rfl rfl rfl rfl (fun h p n b1 b2 b3 => hC h n p b1 (by omega) (by omega))⟩
      refine gT_go 400 [29, 35, 48] kX1_find ?_
      refine And.intro (fun c => ?_) (fun c => absurd (show (-1 : Int32) < 0 by decide) c)
      refine And.intro (Or.inr rfl) ?_
      refine ⟨rfl, u3 x.1 60 0 31 1, x.2, rfl, ⟨fun q h1 h2 h3 h4 h5 => (u3_ne1 h1).trans ((x1 q h3 h4).trans (fz.1 q h1 h2 h3 h4 h5)), fun j h1 h2 h3 h4 => (u3_ne3 h4).trans (by rw [e60]; exact fz.2.1 j h1 h2 h3 h4), fun q h1 h2 h3 h4 h5 h6 => (x2 q h2 h3 h4).trans (fz.2.2 q h1 h2 h3 h4 h5 h6)⟩, ⟨true, true, true, (u3_ne3 (by decide)).trans (by rw [e60]; exact z28), (u3_ne3 (by decide)).trans (by rw [e60]; exact z29), u3_eq, fun _ => kl', fun _ => ka', fun _ => kn⟩, kn⟩
    · intro h x hh hF hnext
      refine gT_go 400 [29, 35, 48] kX1_find ?_
      refine And.intro (fun c => absurd c (nI_pos (by omega))) (fun _ => ?_)
      exact hnext x _ hF (fun _ _ _ q => q) (by (repeat' apply And.intro) <;> first | rfl | trivial | exact congrArg Sum.inl (nI_1 _).symm | exact congrArg Sum.inl (nI_1 _).symm)
    · intro h n x hh hn hF hnext
      have e4 := (cLd_cg (I' := x.1) (fun q _ _ => hF.1 q (by omega) (by omega)) hlz).2.1
      refine gT_go 400 [29, 35, 48] kX1_find ?_
      refine bGt n S rfl e4 (fun c => absurd c (by omega)) (fun c => ?_)
      exact hnext _ (by (repeat' apply And.intro) <;> first | rfl | trivial | exact congrArg Sum.inl (nI_1 _).symm | exact congrArg Sum.inl (nI_1 _).symm)
    · intro h x hh hF hnext
      have e4 := (cLd_cg (I' := x.1) (fun q _ _ => hF.1 q (by omega) (by omega)) hlz).2.1
      refine gT_go 400 [29, 35, 48] kX1_find ?_
      refine bGt (S + 1) S rfl e4 (fun c => ?_) (fun c => absurd c (by omega))
      exact hnext (nI h + gic (-1)) _ (by show nI h + -1 + 1 = nI h; grind) (by (repeat' apply And.intro) <;> first | rfl | trivial | exact congrArg Sum.inl (nI_1 _).symm | exact congrArg Sum.inl (nI_1 _).symm)
    · intro h n x hh hn hF hnext
      have e0 := (cLd_cg (I' := x.1) (fun q _ _ => hF.1 q (by omega) (by omega)) hlz).1 0 (by decide)
      refine gT_go 400 [29, 35, 48] kX1_find ?_
      refine bGe (A 0 - 1 + 1) (A 0) rfl e0 (fun c => ?_) (fun c => absurd c (by omega))
      exact hnext _ (by (repeat' apply And.intro) <;> first | rfl | trivial | exact congrArg Sum.inl (nI_1 _).symm | exact congrArg Sum.inl (nI_1 _).symm)
    · intro h n p x hh hn hp hF hC hnext
      have hlx := cLd_cg (I' := x.1) (fun q _ _ => hF.1 q (by omega) (by omega)) hlz
      have e0 := hlx.1 0 (by decide)
      have hPx : cPy A T RD K P x.1 := cPy_cg (hF.1 20 (by decide) (by decide)) (hF.1 21 (by decide) (by decide)) (hF.1 22 (by decide) (by decide)) (hF.1 23 (by decide) (by decide)) (hF.1 72 (by decide) (by decide)) (by rw [hF.1 60 (by decide) (by decide)]) (by rw [hF.1 60 (by decide) (by decide)]) (by rw [hF.1 60 (by decide) (by decide)]) hPz
      have klx : cKl A S R x.1 x.2 := cKl_cg (hF.1 160 (by decide) (by decide)) (hF.2 74 (by decide) (by decide) (by decide)) kl
      refine gT_go 400 [48] kX1_find ?_
      refine bGe p (A 0) rfl e0 (fun c => absurd c (by omega)) (fun c => ?_)
      refine gP_use (o_state (d + ht + 6) h p n (gH x.1 x.2 y)) ?_
      refine gTM_use rfl (o_finds (d + ht + 1) h p n S A hLd hA2 hh (by omega) (by omega) hS R T RD K P x.1 x.2 y hlx klx hPx) (fun v h' q => ?_)
      obtain ⟨rfl, I', L', rfl, q⟩ := q
      obtain ⟨w1, w2⟩ := q.put hLd hS (show n < 13 by omega) (show p < 12 by omega) hh hk hpl (klx.2 h hh)
      refine hnext (I', L') _ ⟨fun b b1 b2 => (q.1 b b1 b2).trans (hF.1 b b1 b2), fun b b1 b2 b3 => (q.2.2.1 b b1 b2 b3).trans (hF.2 b b1 b2 b3)⟩ (fun h' n' p' b1 b2 b3 b4 => ?_) w1 (by (repeat' apply And.intro) <;> first | rfl | trivial | exact congrArg Sum.inl (nI_1 _).symm | exact congrArg Sum.inl (nI_1 _).symm)
      have b4' : h < h' ∨ (h' = h ∧ (n' < n ∨ (n' = n ∧ p' < p))) := b4
      exact w2 h' p' n' (by omega) (by omega) b1 (by omega) (by omega) (hC h' n' p' b1 b2 b3 b4)
  refine gEnter 400 [29] kX1_find rfl rfl ?_
  refine bB0 f hf (fun q => ?_) (fun q => ?_)
  · refine gTM_use rfl (o_findAlone d ht S A hLd hA0 hS R b c I L y hl hR hb kb hc kc) (fun v h' q => ?_)
    obtain ⟨rfl, I1, L1, rfl, f1, f2, f28, f29, f4, kl, ka⟩ := q
    refine And.intro (Or.inl rfl) ?_
    have g1 : ∀ q, q ≠ 60 → q ≠ 73 → q ≠ 160 → u3 I1 60 0 30 0 q = I q := fun q h1 h2 h3 => (u3_ne1 h1).trans (f1 q h1 h2 h3)
    have hl1 : cLd y.1 S A (u3 I1 60 0 30 0) := cLd_cg (fun q _ _ => g1 q (by omega) (by omega) (by omega)) hl
    have kl1 : cKl A S R (u3 I1 60 0 30 0) L1 := cKl_cg (u3_ne1 (by decide)) rfl kl
    have hle1 : cLe T RD K A (u3 I1 60 0 30 0) := by
      have q := hP.1
      unfold cLe at q ⊢
      rw [g1 23 (by decide) (by decide) (by decide), g1 20 (by decide) (by decide) (by decide), g1 72 (by decide) (by decide) (by decide)]
      exact q
    have hkd1 : ∀ k, k < 5 → u3 I1 60 0 30 0 21 0 k = nI (P.2.1 k) ∧ P.2.1 k < 6 := fun k hk => by rw [g1 21 (by decide) (by decide) (by decide)]; exact hP.2.2.1 k hk
    refine gTM_use rfl (o_findWorst (d + ht + 1) S A hLd hA0 hS R P.2.1 T RD K (u3 I1 60 0 30 0) L1 y hl1 kl1 hle1 u3_eq hkd1) (fun v h' q => ?_)
    obtain ⟨rfl, L2, rfl, g2, ko⟩ := q
    refine at29 _ L2 _ ⟨fun q h1 h2 _ _ h5 => (u3_ne1 h1).trans (g1 q h1 h2 h5), fun j j1 j2 j3 _ => (u3_ne3 j3).trans ((u3_ne3 j3).trans (f2 j j1 j2)), fun q h1 _ _ _ h5 h6 => (g2 q h6).trans (f4 q h1 h5)⟩ ((u3_ne3 (by decide)).trans ((u3_ne3 (by decide)).trans f28)) ((u3_ne3 (by decide)).trans ((u3_ne3 (by decide)).trans f29)) (cKl_cg (u3_ne1 (by decide)) (g2 74 (by decide)) kl1) (cKa_cg (g2 162 (by decide)) ka) ?_ ?_
    · have e : P.1 = cWho T RD K (A 2) := funext hP.2.1
      rw [e]
      exact ko
    · exact ⟨rfl, congrArg (fun z => gI z) (hl1.1 3 (by decide)).symm, trivial⟩
  · exact ⟨rfl, I, L, rfl, cFr.rf I L, ⟨b, c, f, hb, hc, hf, kb, kc, kf⟩, kf q⟩
