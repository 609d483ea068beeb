/-! ===== the component: what is known is what the plain form knows ===== -/
theorem cKn.play {A : Nat → Nat} {S : Nat} {R : RL} {P : PP} {I : Nat → Nat → Nat → Int32} {L : Nat → Nat → Nat → Int64} (hA : gLg A) (hS : S < 13) (hpl : ∀ h, h < A 3 → P.2.2.2.2 h ≤ A 1) (H : cKn A S R P I L) : gPlay A S (gMw A R none) P (vw (I 86 0)) (wOf (L 161)) (wOf (L 162)) (wOf (L 163)) := by
  have hLd := hA.1
  have a0 := hLd.1
  have a1 := hLd.2.1
  have a3 := hLd.2.2.2.1
  obtain ⟨_, ka, ko, kp⟩ := H
  refine ⟨fun k hk h p n b1 b2 b3 => ?_, fun k hk k4 h p n b1 b2 b3 => ?_, fun h p n b1 b2 b3 => ?_⟩
  · refine gSf_cg2 hLd hS (by omega) (by omega) (fun e t j ht hj => ?_) ?_ (ka k hk h p n b1 b2 b3)
    · have := (aEnd_0 e).2
      exact (wOf_s (sN_lt (by omega) ht hj)).symm
    · exact (wOf_s (sN_lt (by omega) (by omega) (by omega))).symm
  · refine gSf_cg2 hLd hS (by omega) (by omega) (fun e t j ht hj => ?_) ?_ (ko k hk k4 h p n b1 b2 b3)
    · have := (aEnd_0 e).2
      exact (wOf_s (sN_lt (by omega) ht hj)).symm
    · exact (wOf_s (sN_lt (by omega) (by omega) (by omega))).symm
  · obtain ⟨q1, q2, -, -⟩ := kp h p n b1 b2 b3
    have hp12 : p < 12 := by omega
    have hn13 : n < 13 := by omega
    refine ⟨(vw_s hp12 hn13).trans q1, fun k hk => ?_⟩
    rw [wOf_s (sN_lt (by omega) hp12 hn13), vw_s hp12 hn13, q2 k hk]
    unfold gPr
    by_cases e : aEnd A h p n = 0
    · have hh3 : h < A 3 := by have := (aEnd_0 e).2; omega
      rw [if_pos e, if_pos e]
      exact (gBw hLd hS (by omega) hn13 hp12 (Nat.le_trans (cCh_le (R := R) (S := S) (L := L) (p := p) (n := n) (hpl h hh3)) a1)).symm
    · rw [if_neg e, if_neg e]
theorem cKn.w {A : Nat → Nat} {S : Nat} {R : RL} {P : PP} {I : Nat → Nat → Nat → Int32} {L : Nat → Nat → Nat → Int64} (hA : gLg A) (hS : S < 13) (hP : gPok A P) (H : cKn A S R P I L) {h p n : Nat} (q2 : h ≤ A 3) (q3 : p < A 0) (q4 : n ≤ S) :
    I 86 0 (cN h p n) = wT A S (gMw A R none) P h p n ∧ ∀ k, k < A 2 → L 161 k (cN h p n) = wW A S (gMw A R none) P k h p n := by
  have a0 := hA.1.1
  have a3 := hA.1.2.2.2.1
  obtain ⟨u1, u2⟩ := gPlay_w hA hP.1 hP.2 (H.play hA hS hP.2) q2 q3 q4
  refine ⟨(vw_s (by omega) (by omega)).symm.trans u1, fun k hk => ?_⟩
  have e := u2 k hk
  rw [wOf_s (sN_lt (by omega) (by omega) (by omega)), vw_s (by omega) (by omega)] at e
  exact e
theorem cKa.w {A : Nat → Nat} {S : Nat} {R : RL} {L : Nat → Nat → Nat → Int64} (hA : gLg A) (hS : S < 13) (H : cKa A S R L) {k h p n : Nat} (hk : k < A 2) (q2 : h ≤ A 3) (q3 : p < A 0) (q4 : n ≤ S) : L 162 k (cN h p n) = wA A S (gMw A R none) k h p n := by
  have a0 := hA.1.1
  have e := gAl_w (S := S) (M := gMw A R none) (k := k) hA (H k hk) q2 q3 q4
  rw [vw_s (by omega) (by omega)] at e
  exact e
/-- the move that is taken, of the tables that are told by their equations -/
theorem wT_le {A : Nat → Nat} {S : Nat} {R : RL} {P : PP} {I : Nat → Nat → Nat → Int32} {L : Nat → Nat → Nat → Int64} (hA : gLg A) (hS : S < 13) (hP : gPok A P) (H : cKn A S R P I L) {h p n : Nat} (q2 : h ≤ A 3) (q3 : p < A 0) (q4 : n ≤ S) (e : aEnd A h p n = 0) : ∃ m, m ≤ A 1 ∧ I 86 0 (cN h p n) = nI m ∧ m = cCh A S R P L h p n := by
  have hh3 : h < A 3 := by have := (aEnd_0 e).2; omega
  have q := (H.2.2.2 h p n q2 q3 q4).1
  rw [if_pos e] at q
  exact ⟨_, cCh_le (hP.2 h hh3), q, rfl⟩
