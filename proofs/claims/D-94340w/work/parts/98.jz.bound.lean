/-! ===== plain law: how large worths can be ===== -/
/-- a number of at most B, up or down -/
def bD (x : Int64) (B : Nat) : Prop := ∃ z : Int, z.natAbs ≤ B ∧ x = Int64.ofInt z
theorem bD.le {x : Int64} {B C : Nat} (H : bD x B) (h : B ≤ C) : bD x C := by
  obtain ⟨z, h1, h2⟩ := H
  exact ⟨z, Nat.le_trans h1 h, h2⟩
theorem bD.add {x y : Int64} {B C : Nat} (H : bD x B) (G : bD y C) : bD (x + y) (B + C) := by
  obtain ⟨z, h1, rfl⟩ := H
  obtain ⟨w, g1, rfl⟩ := G
  exact ⟨z + w, by omega, (Int64.ofInt_add z w).symm⟩
theorem bD_lN (n : Nat) : lN n = Int64.ofInt (n : Int) := (Int64.ofInt_eq_ofNat).symm
theorem bD.mulN {x : Int64} {B : Nat} (n : Nat) (H : bD x B) : bD (lN n * x) (n * B) := by
  obtain ⟨z, h1, rfl⟩ := H
  refine ⟨(n : Int) * z, ?_, ?_⟩
  · rw [Int.natAbs_mul, Int.natAbs_natCast]
    exact Nat.mul_le_mul_left n h1
  · rw [bD_lN, Int64.ofInt_mul]
/-- snowy hours among the last j -/
def cF (A : Nat → Nat) : Nat → Nat
  | 0 => 0
  | j + 1 => bif gSn A (A 3 - j) then cF A j + 1 else cF A j
theorem cF_le (A : Nat → Nat) : ∀ i j, j ≤ i → cF A j ≤ cF A i := by
  intro i
  induction i with
  | zero => intro j h; rw [Nat.le_zero.mp h]; exact Nat.le_refl _
  | succ i ih =>
    intro j h
    rcases Nat.lt_or_ge j (i + 1) with q | q
    · have := ih j (by omega)
      rw [cF]
      cases gSn A (A 3 - i)
      · exact this
      · exact Nat.le_succ_of_le this
    · rw [show j = i + 1 by omega]; exact Nat.le_refl _
/-- few hours have snow -/
def gFew (A : Nat → Nat) : Prop := cF A (A 3 + 1) ≤ 10
theorem gScF_i (A : Nat → Nat) : ∀ j, gScF A j = Int64.ofInt ((16 ^ cF A j : Nat) : Int) := by
  intro j
  induction j with
  | zero => rfl
  | succ j ih =>
    rw [gScF, cF]
    cases gSn A (A 3 - j)
    · exact ih
    · show gScF A j * 16 = Int64.ofInt ((16 ^ (cF A j + 1) : Nat) : Int)
      rw [ih, Nat.pow_succ, Int.natCast_mul, Int64.ofInt_mul]
      rfl
theorem bD_sc {x : Int64} {A : Nat → Nat} {B : Nat} (h : Nat) (H : bD x B) : bD (x * gSc A h) (B * 16 ^ cF A (A 3 + 1 - h)) := by
  obtain ⟨z, h1, rfl⟩ := H
  refine ⟨z * ((16 ^ cF A (A 3 + 1 - h) : Nat) : Int), ?_, ?_⟩
  · rw [Int.natAbs_mul, Int.natAbs_natCast]
    exact Nat.mul_le_mul_right _ h1
  · unfold gSc
    rw [gScF_i, Int64.ofInt_mul]
theorem bD_en {A : Nat → Nat} (hA : gLd A) {k h p e : Nat} (hk : k < 5) (hp : p < 12) (hh : h ≤ 24) : bD (gEn A (gSc A) k h p e) (315 * 16 ^ cF A (A 3 + 1 - h)) := by
  unfold gEn
  refine bD_sc h ?_
  have a5 := hA.2.2.2.2.2.1
  have a67 := hA.2.2.2.2.2.2.2.2.1 k hk
  have a72 := hA.2.2.2.2.2.2.2.2.2.1 (12 * k + p) (by omega)
  have ehk : h * A (67 + k) ≤ 24 * 9 := Nat.mul_le_mul hh a67
  obtain ⟨z, hz, ez⟩ : ∃ z : Int, z.natAbs ≤ 99 ∧ (bif Nat.beq e 2 then -nI (A 5) else nI (A (72 + 12 * k + p))) = Int32.ofInt z := by
    cases Nat.beq e 2
    · exact ⟨(A (72 + 12 * k + p) : Int), by rw [show 72 + 12 * k + p = 72 + (12 * k + p) by omega]; omega, Int32.ofInt_eq_ofNat.symm⟩
    · refine ⟨-(A 5 : Int), by omega, ?_⟩
      rw [Int32.ofInt_neg]
      exact congrArg (fun q => -q) Int32.ofInt_eq_ofNat.symm
  have eh : nI h * nI (A (67 + k)) = Int32.ofInt ((h * A (67 + k) : Nat) : Int) := (pk_mul _ _).trans Int32.ofInt_eq_ofNat.symm
  refine ⟨z - ((h * A (67 + k) : Nat) : Int), by omega, ?_⟩
  rw [ez, eh, ← Int32.ofInt_sub]
  have m1 : Int32.minValue.toInt = -2147483648 := by decide
  have m2 : Int32.maxValue.toInt = 2147483647 := by decide
  exact Int32.toInt64_ofInt (by omega) (by omega)
theorem bD_br {A : Nat → Nat} (hA : gLd A) {S : Nat} {sn : Bool} {r : Nat → Int64} {h p n m B : Nat} (hm : m ≤ 24) (hh : h < 24) (b0 : bD (r (aBh A S h n p)) B) (b1 : 0 < m → bD (r (aBh A S h n (aOth A (m - 1) p))) B) : bD (gBr A S sn r h p n m) (bif sn then 16 * B else B) := by
  unfold gBr
  by_cases c : m = 0
  · rw [if_pos c]
    cases sn
    · exact b0
    · exact b0.mulN 16
  · rw [if_neg c]
    have q := b1 (by omega)
    cases sn
    · exact q
    · have g := hA.2.2.2.2.2.2.2.2.2.2.1 (24 * (m - 1) + h) (by omega)
      have g' : gSnA A (m - 1) h ≤ 16 := by
        unfold gSnA
        rw [show 132 + 24 * (m - 1) + h = 132 + (24 * (m - 1) + h) by omega]
        exact g
      refine ((b0.mulN (gSnA A (m - 1) h)).add (q.mulN (16 - gSnA A (m - 1) h))).le ?_
      show _ ≤ 16 * B
      rw [← Nat.add_mul]
      exact Nat.mul_le_mul_right B (by omega)
theorem gW_bd {A : Nat → Nat} {S : Nat} {M : Nat → Nat → Nat → Nat → Nat} {P : PP} {T : Nat → Int32} {W rA rB : Nat → Int64} (hA : gLg A) (hP : gPok A P) (H : gPlay A S M P T W rA rB) : ∀ i h p n, A 3 ≤ h + i → h ≤ A 3 → p < A 0 → n ≤ S → ∀ k, k < A 2 → bD (W (k * 3900 + sN h p n)) (315 * 16 ^ cF A (A 3 + 1 - h)) := by
  have a0 := hA.1.1
  have a1 := hA.1.2.1
  have a2 := hA.1.2.2.1
  have a3 := hA.1.2.2.2.1
  intro i
  induction i with
  | zero =>
    intro h p n b0 b1 b2 b3 k hk
    rw [(H.2.2 h p n b1 b2 b3).2 k hk]
    unfold gPr
    rw [if_neg (fun e => by have := (aEnd_0 e).2; omega)]
    exact bD_en hA.1 (by omega) (by omega) (by omega)
  | succ i ih =>
    intro h p n b0 b1 b2 b3 k hk
    rw [(H.2.2 h p n b1 b2 b3).2 k hk]
    unfold gPr
    by_cases e : aEnd A h p n = 0
    · rw [if_pos e]
      have hh3 : h < A 3 := by have := (aEnd_0 e).2; omega
      obtain ⟨m, hm⟩ : ∃ m, m = gCh A S (gSn A) P M W rA rB h p n := ⟨_, rfl⟩
      have hm1 : m ≤ A 1 := by rw [hm]; exact gChk_le (hP.2 h hh3)
      rw [← hm]
      have q := bD_br hA.1 (S := S) (sn := gSn A h) (r := fun j => W (k * 3900 + j)) (h := h) (p := p) (n := n) (m := m) (by omega) (by omega) (ih (h + 1) p _ (by omega) (by omega) b2 (aNx_le b3) k hk) (fun m0 => ih (h + 1) _ _ (by omega) (by omega) (aOth_ltR hA (by omega)) (aNx_le b3) k hk)
      refine q.le ?_
      have e1 : A 3 + 1 - h = (A 3 - h) + 1 := by omega
      have e2 : A 3 + 1 - (h + 1) = A 3 - h := by omega
      rw [e1, e2, cF, show A 3 - (A 3 - h) = h by omega]
      cases gSn A h
      · exact Nat.le_refl _
      · show 16 * (315 * 16 ^ cF A (A 3 - h)) ≤ 315 * 16 ^ (cF A (A 3 - h) + 1)
        rw [Nat.pow_succ]
        omega
    · rw [if_neg e]
      exact bD_en hA.1 (by omega) (by omega) (by omega)
/-- numbers that are not too large: which is more, and whether their difference is more than nothing -/
theorem bD_lt {x y : Int64} (H : bD x (2 ^ 61)) (G : bD y (2 ^ 61)) : 0 < x - y ↔ y < x := by
  obtain ⟨z, h1, rfl⟩ := H
  obtain ⟨w, g1, rfl⟩ := G
  have e : (2 : Nat) ^ 61 = 2305843009213693952 := by decide
  rw [← Int64.ofInt_sub, Int64.lt_iff_toInt_lt, Int64.lt_iff_toInt_lt, Int64.toInt_ofInt_of_le (by omega) (by omega), Int64.toInt_ofInt_of_le (by omega) (by omega), Int64.toInt_ofInt_of_le (by omega) (by omega)]
  show (0 : Int) < z - w ↔ w < z
  omega
theorem wV_bd {V : VS} {P : PP} {T : Nat → Int32} {W rA rB : Nat → Int64} (hA : gLg (vA V)) (hf : gFew (vA V)) (hP : gPok (vA V) P) (h4 : vA V 6 < vA V 0) (H : gPlay (vA V) (vA V 4) (gMw (vA V) (vR V) none) P T W rA rB) {k : Nat} (hk : k < vA V 2) : bD (wV V P k) (2 ^ 61) := by
  have q := gW_bd hA hP H (vA V 3) 0 (vA V 6) (vA V 4) (by omega) (Nat.zero_le _) h4 (Nat.le_refl _) k hk
  rw [(gPlay_w hA hP.1 hP.2 H (Nat.zero_le _) h4 (Nat.le_refl _)).2 k hk] at q
  have e : 16 ^ cF (vA V) (vA V 3 + 1) ≤ 16 ^ 10 := Nat.pow_le_pow_right (by decide) hf
  exact q.le (Nat.le_trans (Nat.mul_le_mul_left 315 e) (by decide))
