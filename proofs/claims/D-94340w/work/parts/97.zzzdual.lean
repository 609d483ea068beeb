/-! ===== plain law: chances summed forward are chances mixed backward ===== -/
theorem sNn_add {f g : Nat → Int64} : ∀ N, sNn (fun n => f n + g n) N = sNn f N + sNn g N := by
  intro N
  induction N with
  | zero => rfl
  | succ N ih =>
    rw [sNn, sNn, sNn, ih]
    grind
theorem sNn_mulr {f : Nat → Int64} {c : Int64} : ∀ N, sNn f N * c = sNn (fun n => f n * c) N := by
  intro N
  induction N with
  | zero => exact Int64.zero_mul
  | succ N ih => rw [sNn, sNn, ← ih, Int64.add_mul]
theorem sNn_cg {f g : Nat → Int64} : ∀ N, (∀ n, n < N → f n = g n) → sNn f N = sNn g N := by
  intro N
  induction N with
  | zero => intro _; rfl
  | succ N ih =>
    intro h
    rw [sNn, sNn, ih (fun n hn => h n (by omega)), h N (by omega)]
theorem sNn_z : ∀ N, sNn (fun _ => 0) N = 0 := by
  intro N
  induction N with
  | zero => rfl
  | succ N ih => rw [sNn, ih] <;> rfl
theorem sP_add {f g : Nat → Nat → Int64} {N : Nat} : ∀ P, sP (fun p n => f p n + g p n) N P = sP f N P + sP g N P := by
  intro P
  induction P with
  | zero => rfl
  | succ P ih =>
    rw [sP, sP, sP, ih, sNn_add]
    grind
theorem sP_mulr {f : Nat → Nat → Int64} {c : Int64} {N : Nat} : ∀ P, sP f N P * c = sP (fun p n => f p n * c) N P := by
  intro P
  induction P with
  | zero => exact Int64.zero_mul
  | succ P ih => rw [sP, sP, ← ih, ← sNn_mulr, Int64.add_mul]
theorem sP_cg {f g : Nat → Nat → Int64} {N : Nat} : ∀ P, (∀ p n, p < P → n < N → f p n = g p n) → sP f N P = sP g N P := by
  intro P
  induction P with
  | zero => intro _; rfl
  | succ P ih =>
    intro h
    rw [sP, sP, ih (fun p n hp hn => h p n (by omega) hn), sNn_cg N (fun n hn => h P n (by omega) hn)]
theorem sP_z {N : Nat} : ∀ P, sP (fun _ _ => 0) N P = 0 := by
  intro P
  induction P with
  | zero => rfl
  | succ P ih => rw [sP, ih, sNn_z] <;> rfl
theorem sNn_swap {F : Nat → Nat → Nat → Int64} {N' P' : Nat} : ∀ N, sNn (fun n => sP (F n) N' P') N = sP (fun t j => sNn (fun n => F n t j) N) N' P' := by
  intro N
  induction N with
  | zero => exact (sP_z P').symm
  | succ N ih =>
    rw [sNn, ih, ← sP_add]
    rfl
theorem sP_swap {F : Nat → Nat → Nat → Nat → Int64} {N N' P' : Nat} : ∀ P, sP (fun p n => sP (F p n) N' P') N P = sP (fun t j => sP (fun p n => F p n t j) N P) N' P' := by
  intro P
  induction P with
  | zero => exact (sP_z P').symm
  | succ P ih =>
    rw [sP, ih, sNn_swap, ← sP_add]
    rfl
theorem sNn_one {v : Nat → Int64} {j0 : Nat} : ∀ N, sNn (fun j => if j = j0 then v j else 0) N = if j0 < N then v j0 else 0 := by
  intro N
  induction N with
  | zero => rw [if_neg (Nat.not_lt_zero _)] <;> rfl
  | succ N ih =>
    rw [sNn, ih]
    by_cases c : N = j0
    · subst c
      rw [if_neg (Nat.lt_irrefl N), if_pos rfl, if_pos (Nat.lt_succ_self N), Int64.zero_add]
    · rw [if_neg c, Int64.add_zero]
      by_cases c2 : j0 < N
      · rw [if_pos c2, if_pos (show j0 < N + 1 by omega)]
      · rw [if_neg c2, if_neg (show ¬ j0 < N + 1 by omega)]
theorem sP_one {v : Nat → Nat → Int64} {t0 j0 N : Nat} (hj : j0 < N) : ∀ P, sP (fun t j => if t = t0 ∧ j = j0 then v t j else 0) N P = if t0 < P then v t0 j0 else 0 := by
  intro P
  induction P with
  | zero => rw [if_neg (Nat.not_lt_zero _)] <;> rfl
  | succ P ih =>
    rw [sP, ih]
    by_cases c : P = t0
    · subst c
      have e : sNn (fun j => if P = P ∧ j = j0 then v P j else 0) N = v P j0 := by
        rw [sNn_cg N (g := fun j => if j = j0 then v P j else 0) (fun n _ => by simp), sNn_one, if_pos hj]
      rw [if_neg (Nat.lt_irrefl P), if_pos (Nat.lt_succ_self P), e, Int64.zero_add]
    · have e : sNn (fun j => if P = t0 ∧ j = j0 then v P j else 0) N = 0 := by
        rw [sNn_cg N (g := fun _ => 0) (fun n _ => if_neg (fun q => c q.1)), sNn_z]
      rw [e, Int64.add_zero]
      by_cases c2 : t0 < P
      · rw [if_pos c2, if_pos (show t0 < P + 1 by omega)]
      · rw [if_neg c2, if_neg (show ¬ t0 < P + 1 by omega)]
/-- mixing backward, as a law of D -/
def dBk (A : Nat → Nat) (S : Nat) (T : Nat → Nat → Nat → Nat) (D : Nat → Nat → Nat → Int64) (h p n : Nat) : Int64 :=
  lN (eSn A (T h p n) h) * D (h + 1) p (aNx A S n p) + lN (ePt A h - eSn A (T h p n) h) * D (h + 1) (gGo A (T h p n) p) (aNx A S n (gGo A (T h p n) p))
theorem gGo_ltR {A : Nat → Nat} (h : gLg A) {m p : Nat} (hm : m ≤ A 1) (hp : p < A 0) : gGo A m p < A 0 := by
  unfold gGo
  by_cases c : m = 0
  · rw [if_pos c]; exact hp
  · rw [if_neg c]; exact aOth_ltR h (by omega)
theorem mC1_mix {A : Nat → Nat} {S : Nat} {T : Nat → Nat → Nat → Nat} {D : Nat → Nat → Nat → Int64} {v : Int64} {h p n : Nat} (hA : gLg A) (hp : p < A 0) (hn : n ≤ S) (hT : aEnd A h p n = 0 → T h p n ≤ A 1) :
    sP (fun t j => mC1 A S T v h p n t j * D (h + 1) t j) (S + 1) (A 0) = if aEnd A h p n = 0 then v * dBk A S T D h p n else 0 := by
  by_cases e : aEnd A h p n = 0
  · rw [if_pos e]
    have e1 : ∀ t j, mC1 A S T v h p n t j * D (h + 1) t j = (if t = p ∧ j = aNx A S n p then v * lN (eSn A (T h p n) h) * D (h + 1) t j else 0) + (if t = gGo A (T h p n) p ∧ j = aNx A S n (gGo A (T h p n) p) then v * lN (ePt A h - eSn A (T h p n) h) * D (h + 1) t j else 0) := by
      intro t j
      unfold mC1
      rw [if_pos e, Int64.add_mul]
      by_cases c1 : t = p ∧ j = aNx A S n p
      · rw [if_pos c1, if_pos c1]
        by_cases c2 : t = gGo A (T h p n) p ∧ j = aNx A S n (gGo A (T h p n) p)
        · rw [if_pos c2, if_pos c2]
        · rw [if_neg c2, if_neg c2, Int64.zero_mul]
      · rw [if_neg c1, if_neg c1, Int64.zero_mul]
        by_cases c2 : t = gGo A (T h p n) p ∧ j = aNx A S n (gGo A (T h p n) p)
        · rw [if_pos c2, if_pos c2]
        · rw [if_neg c2, if_neg c2, Int64.zero_mul]
    rw [sP_cg (A 0) (fun t j _ _ => e1 t j), sP_add, sP_one (v := fun t j => v * lN (eSn A (T h p n) h) * D (h + 1) t j) (Nat.lt_succ_of_le (aNx_le hn)), sP_one (v := fun t j => v * lN (ePt A h - eSn A (T h p n) h) * D (h + 1) t j) (Nat.lt_succ_of_le (aNx_le hn)), if_pos hp, if_pos (gGo_ltR hA (hT e) hp)]
    unfold dBk
    grind
  · rw [if_neg e, sP_cg (g := fun _ _ => 0) (A 0) (fun t j _ _ => by unfold mC1; rw [if_neg e, Int64.zero_mul]), sP_z]
theorem dual {A : Nat → Nat} {S w : Nat} {T : Nat → Nat → Nat → Nat} {D : Nat → Nat → Nat → Int64} (hA : gLg A) (hw : 0 < w) (hT : ∀ h p n, h < A 3 → p < A 0 → n ≤ S → aEnd A h p n = 0 → T h p n ≤ A 1)
    (hD : ∀ h p n, h ≤ A 3 → p < A 0 → n ≤ S → D h p n = if aEnd A h p n = 0 then dBk A S T D h p n else if aEnd A h p n = w then gSc A h else 0) :
    fAl A S (mFl A S T) w (A 3 + 1) = D 0 (A 6) S := by
  have h6 := hA.2.2.2.2.2.1
  have pt : ∀ h p n, h ≤ A 3 → p < A 0 → n ≤ S → mFl A S T h p n * D h p n = (if aEnd A h p n = w then mFl A S T h p n * gSc A h else 0) + (if aEnd A h p n = 0 then mFl A S T h p n * dBk A S T D h p n else 0) := by
    intro h p n b1 b2 b3
    rw [hD h p n b1 b2 b3]
    by_cases e : aEnd A h p n = 0
    · rw [if_pos e, if_pos e, if_neg (by omega), Int64.zero_add]
    · rw [if_neg e, if_neg e, Int64.add_zero]
      by_cases e2 : aEnd A h p n = w
      · rw [if_pos e2, if_pos e2]
      · rw [if_neg e2, if_neg e2, Int64.mul_zero]
  have st : ∀ h, h < A 3 → sP (fun p n => mFl A S T h p n * D h p n) (S + 1) (A 0) = fEn A S (mFl A S T) h w + sP (fun t j => mFl A S T (h + 1) t j * D (h + 1) t j) (S + 1) (A 0) := by
    intro h hh
    have e1 : sP (fun t j => mFl A S T (h + 1) t j * D (h + 1) t j) (S + 1) (A 0) = sP (fun p n => if aEnd A h p n = 0 then mFl A S T h p n * dBk A S T D h p n else 0) (S + 1) (A 0) := by
      have q : ∀ t j, mFl A S T (h + 1) t j * D (h + 1) t j = sP (fun p n => mC1 A S T (mFl A S T h p n) h p n t j * D (h + 1) t j) (S + 1) (A 0) := by
        intro t j
        rw [mFl, sP_mulr]
      rw [sP_cg (A 0) (fun t j _ _ => q t j), ← sP_swap (F := fun p n t j => mC1 A S T (mFl A S T h p n) h p n t j * D (h + 1) t j)]
      exact sP_cg (A 0) (fun p n hp hn => mC1_mix hA hp (by omega) (hT h p n hh hp (by omega)))
    rw [e1, sP_cg (A 0) (fun p n hp hn => pt h p n (by omega) hp (by omega)), sP_add]
    rfl
  have en : sP (fun p n => mFl A S T (A 3) p n * D (A 3) p n) (S + 1) (A 0) = fEn A S (mFl A S T) (A 3) w := by
    refine sP_cg (A 0) (fun p n hp hn => ?_)
    have z : ¬ aEnd A (A 3) p n = 0 := fun z => (aEnd_0 z).2 rfl
    rw [pt (A 3) p n (Nat.le_refl _) hp (by omega), if_neg z, Int64.add_zero]
  have z0 : sP (fun p n => mFl A S T 0 p n * D 0 p n) (S + 1) (A 0) = D 0 (A 6) S := by
    have q : ∀ p n, mFl A S T 0 p n * D 0 p n = if p = A 6 ∧ n = S then D 0 p n else 0 := by
      intro p n
      rw [mFl]
      by_cases c : p = A 6 ∧ n = S
      · rw [if_pos c, if_pos c, Int64.one_mul]
      · rw [if_neg c, if_neg c, Int64.zero_mul]
    rw [sP_cg (A 0) (fun p n _ _ => q p n), sP_one (Nat.lt_succ_self S), if_pos h6]
  have ac : ∀ h, h ≤ A 3 → fAl A S (mFl A S T) w h + sP (fun p n => mFl A S T h p n * D h p n) (S + 1) (A 0) = D 0 (A 6) S := by
    intro h
    induction h with
    | zero =>
      intro _
      rw [z0]
      exact Int64.zero_add _
    | succ h ih =>
      intro hh
      have i1 := ih (by omega)
      rw [st h (by omega)] at i1
      rw [fAl, Int64.add_assoc]
      exact i1
  have a := ac (A 3) (Nat.le_refl _)
  rw [en] at a
  rw [fAl]
  exact a
theorem eSn_0 {A : Nat → Nat} {m h : Nat} (hA : gLd A) (hm : m ≤ A 1) (hh : h < A 3) (hs : gSn A h = false) : eSn A m h = 0 := by
  have q := (eSn_pt hA hm hh).1
  unfold eSn
  by_cases c : m = 0
  · rw [if_pos c]
  · rw [if_neg c]
    unfold gSn at hs
    rw [decide_eq_true hh, Bool.true_and] at hs
    unfold gSnw at hs
    rw [List.any_eq_false] at hs
    have w := hs (m - 1) (List.mem_range.mpr (by omega))
    have w2 : ¬ 0 < A (132 + 24 * (m - 1) + h) := fun z => w (decide_eq_true z)
    show A (132 + 24 * (m - 1) + h) = 0
    omega
theorem gBr_e {A : Nat → Nat} {S : Nat} {r : Nat → Int64} {h p n m : Nat} (hA : gLd A) (hm : m ≤ A 1) (hh : h < A 3) : gBr A S (gSn A h) r h p n m = lN (eSn A m h) * r (aBh A S h n p) + lN (ePt A h - eSn A m h) * r (aBh A S h n (gGo A m p)) := by
  unfold gBr gGo ePt
  cases hs : gSn A h with
  | true =>
    by_cases c : m = 0
    · have e0 : eSn A m h = 0 := by unfold eSn; rw [if_pos c]
      rw [if_pos c, if_pos c, e0]
      show 16 * _ = (0 : Int64) * _ + 16 * _
      rw [Int64.zero_mul, Int64.zero_add]
    · have e0 : eSn A m h = gSnA A (m - 1) h := by unfold eSn; rw [if_neg c]
      rw [if_neg c, if_neg c, e0]
      rfl
  | false =>
    rw [eSn_0 hA hm hh hs]
    by_cases c : m = 0
    · rw [if_pos c, if_pos c]
      show _ = (0 : Int64) * _ + 1 * _
      rw [Int64.zero_mul, Int64.zero_add, Int64.one_mul]
      rfl
    · rw [if_neg c, if_neg c]
      show _ = (0 : Int64) * _ + 1 * _
      rw [Int64.zero_mul, Int64.zero_add, Int64.one_mul]
      rfl
/-- what is there, or lost, by the component's tables -/
theorem cKn.there {A : Nat → Nat} {S : Nat} {R : RL} {P : PP} {I : Nat → Nat → Nat → Int32} {L : Nat → Nat → Nat → Int64} (hA : gLg A) (hS : S < 13) (hok : gPok A P) (H : cKn A S R P I L) {w : Nat} (hw : w = 1 ∨ w = 2) : L (83 + w) 0 (cN 0 (A 6) S) = fAl A S (mFl A S (wM A S (gMw A R none) P)) w (A 3 + 1) := by
  have a0 := hA.1.1
  have a3 := hA.1.2.2.2.1
  have hm : ∀ h p n, h < A 3 → p < A 0 → n ≤ S → aEnd A h p n = 0 → wM A S (gMw A R none) P h p n = cCh A S R P L h p n ∧ cCh A S R P L h p n ≤ A 1 := by
    intro h p n b1 b2 b3 e
    obtain ⟨m, q1, q2, q3⟩ := wT_le hA hS hok H (by omega) b2 b3 e
    have a1 := hA.1.2.1
    have q := (H.w hA hS hok (show h ≤ A 3 by omega) b2 b3).1
    rw [q2] at q
    unfold wM
    rw [← q, gTo_n (by omega), ← q3]
    exact ⟨rfl, q1⟩
  refine (dual (D := fun h p n => L (83 + w) 0 (cN h p n)) hA (by omega) (fun h p n b1 b2 b3 e => ?_) (fun h p n b1 b2 b3 => ?_)).symm
  · rw [(hm h p n b1 b2 b3 e).1]
    exact (hm h p n b1 b2 b3 e).2
  · obtain ⟨-, -, q3, q4⟩ := H.2.2.2 h p n b1 b2 b3
    have key : ∀ r : Nat → Int64, aEnd A h p n = 0 → gBr A S (gSn A h) (vw r) h p n (cCh A S R P L h p n) = dBk A S (wM A S (gMw A R none) P) (fun h p n => r (cN h p n)) h p n := by
      intro r e
      have hh3 : h < A 3 := by have := (aEnd_0 e).2; omega
      obtain ⟨u1, u2⟩ := hm h p n hh3 b2 b3 e
      have g := gGo_ltR hA u2 b2
      unfold dBk
      rw [u1, gBr_e hA.1 u2 hh3]
      have v1 : vw r (aBh A S h n p) = r (cN (h + 1) p (aNx A S n p)) := vw_s (by omega) (aNx_lt hS (by omega))
      have v2 : vw r (aBh A S h n (gGo A (cCh A S R P L h p n) p)) = r (cN (h + 1) (gGo A (cCh A S R P L h p n) p) (aNx A S n (gGo A (cCh A S R P L h p n) p))) := vw_s (by omega) (aNx_lt hS (by omega))
      rw [v1, v2]
    rcases hw with rfl | rfl
    · show L 84 0 (cN h p n) = _
      rw [q3]
      by_cases e : aEnd A h p n = 0
      · rw [if_pos e, if_pos e]; exact key (L 84 0) e
      · rw [if_neg e, if_neg e]
    · show L 85 0 (cN h p n) = _
      rw [q4]
      by_cases e : aEnd A h p n = 0
      · rw [if_pos e, if_pos e]; exact key (L 85 0) e
      · rw [if_neg e, if_neg e]
