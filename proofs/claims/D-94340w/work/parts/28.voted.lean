/-! ===== a vote ===== -/
theorem u3_ne3 {α : Type} {f : Nat → Nat → Nat → α} {b i k b' i' k' : Nat} {v : α} (hn : ¬ k' = k) : u3 f b i k v b' i' k' = f b' i' k' := u3_ne (fun q => hn q.2.2)
theorem u3_ne1 {α : Type} {f : Nat → Nat → Nat → α} {b i k b' : Nat} {v : α} (hn : ¬ b' = b) : u3 f b i k v b' = f b' := by
  funext i' k'; exact u3_ne (fun q => hn q.1)
theorem gBs_some {B m : Nat} {v : Nat → Int64} {l : Bool} (ht : B.testBit m = true) : ∀ k, m < k → ∃ b, gBs B v l k = some b := by
  intro k
  induction k with
  | zero => intro h; exact absurd h (Nat.not_lt_zero _)
  | succ k ih =>
    intro h
    cases hb : B.testBit k with
    | false =>
      rw [gBs_o hb]
      refine ih ?_
      rcases Nat.lt_or_ge m k with q | q
      · exact q
      · have : m = k := by omega
        subst this
        exact absurd (ht.symm.trans hb) (by decide)
    | true =>
      cases hg : gBs B v l k with
      | none => exact ⟨k, gBs_n hb hg⟩
      | some b =>
        rw [gBs, hb, hg]
        simp only [cond_true]
        cases (bif l then decide (v k < v b) else decide (v b < v k)) with
        | true => exact ⟨k, rfl⟩
        | false => exact ⟨b, rfl⟩
def gCt (f : Nat → Nat) (m : Nat) : Nat → Nat
  | 0 => 0
  | k + 1 => if f k = m then gCt f m k + 1 else gCt f m k
theorem gCt_le (f : Nat → Nat) (m : Nat) : ∀ k, gCt f m k ≤ k := by
  intro k
  induction k with
  | zero => exact Nat.le_refl _
  | succ k ih => unfold gCt; split <;> omega
/-- who has most, of the first n + 1 -/
def gVw (c : Nat → Nat) : Nat → Nat
  | 0 => 0
  | n + 1 => if c (gVw c n) < c (n + 1) then n + 1 else gVw c n
theorem gVw_le (c : Nat → Nat) : ∀ n, gVw c n ≤ n := by
  intro n
  induction n with
  | zero => exact Nat.le_refl _
  | succ n ih => unfold gVw; split <;> omega
def gXb (B : Nat) (v : Nat → Int64) (W : Nat) : Nat := (gBs B v false (W + 1)).getD 0
set_option maxRecDepth 100000 in
theorem p_voted (d B h p n m0 : Nat) (hB : B < 2 ^ 31) (hh : h < 24) (hp : p < 12) (hn : 0 < n) (hn2 : n < 13) (A : Nat → Nat) (I : Nat → Nat → Nat → Int32) (hl : gLx I A) (hA : gLd A) (hm0 : B.testBit m0 = true) (hm1 : m0 ≤ A 1) (S : Nat) (hS : I 100 0 31 = nI S) (hS2 : S < 13) (sn : Bool) (hsn : I 142 0 h = gb sn) (L : Nat → Nat → Nat → Int64) (y : Dy) (V : Nat → Nat → Int64) (hV : ∀ k, gBr A S sn (fun j => L 139 0 (k * 3900 + j)) h p n = V k) :
    gTM mX12_voted (d + 5) (0, 0) [gM0, gI (nI B), gI (nI h), gI (nI p), gI (nI n)] (gH I L y)
      (fun v h' => v = [gI (nI (gVw (fun m => gCt (fun k => gXb B (V k) (A 1)) m (A 2)) (A 1)))] ∧ ∃ I', h' = gH I' L y ∧ ∀ b, b ≠ 143 → I' b = I b) (fun _ _ => False) := by
  have hA1 := hA.2.1
  have a2 := hA.2.2.1
  refine gEnter 400 [3, 31, 83] kX12_voted rfl rfl ?_
  refine gT_for (σ := Nat → Nat → Nat → Int32) (pc := 3) (lo := fun i _ => [some gM0, some (gI (nI B)), some (gI (nI h)), some (gI (nI p)), some (gI (nI n)), some (gI (nI i)), none]) (hp := fun _ x => gH x L y) (Inv := fun i x => (∀ b, b ≠ 143 → x b = I b) ∧ ∀ m, m < i → x 143 0 m = nI 0) (A 1 + 1) ?_ ?_ 0 I (Nat.zero_le _) ⟨fun _ _ => rfl, fun m hm => absurd hm (Nat.not_lt_zero _)⟩ (by (repeat' apply And.intro) <;> first | rfl | trivial | exact congrArg Sum.inl (nI_1 _).symm | exact congrArg Sum.inl (nI_1 _).symm)
  · intro x ⟨hx1, hx2⟩
    refine gT_go 400 [3, 31, 83] kX12_voted ?_
    refine Exists.intro (1) (And.intro rfl (And.intro (show _ < 708 by omega) ?_))
    have hlx : gLx x A := by intro j hj; rw [hx1 110 (by decide)]; exact hl j hj
    refine bGt (A 1 + 1) (A 1) rfl (hlx 1 (by omega)) (fun c => ?_) (fun c => absurd c (by omega))
    refine gT_for (σ := Nat → Nat → Nat → Int32) (pc := 31) (lo := fun i _ => [some gM0, some (gI (nI B)), some (gI (nI h)), some (gI (nI p)), some (gI (nI n)), some (gI (nI i)), none]) (hp := fun _ x => gH x L y) (Inv := fun i x => (∀ b, b ≠ 143 → x b = I b) ∧ ∀ m, m < A 1 + 1 → x 143 0 m = nI (gCt (fun k => gXb B (V k) (A 1)) m i)) (A 2) ?_ ?_ 0 x (Nat.zero_le _) ⟨hx1, hx2⟩ (by (repeat' apply And.intro) <;> first | rfl | trivial | exact congrArg Sum.inl (nI_1 _).symm | exact congrArg Sum.inl (nI_1 _).symm)
    · intro x ⟨hx1, hx2⟩
      have hlx : gLx x A := by intro j hj; rw [hx1 110 (by decide)]; exact hl j hj
      refine gT_go 400 [3, 31, 83] kX12_voted ?_
      refine Exists.intro (2) (And.intro rfl (And.intro (show _ < 708 by omega) ?_))
      refine bGe (A 2) (A 2) rfl (hlx 2 (by omega)) (fun c => ?_) (fun c => absurd c (by omega))
      refine gT_for (σ := Unit) (pc := 83) (lo := fun i _ => [some gM0, some (gI (nI B)), some (gI (nI h)), some (gI (nI p)), some (gI (nI n)), some (gI (nI (gVw (fun m => gCt (fun k => gXb B (V k) (A 1)) m (A 2)) i))), some (gI (nI (i + 1)))]) (hp := fun _ _ => gH x L y) (Inv := fun _ _ => True) (A 1) ?_ ?_ 0 () (Nat.zero_le _) trivial (by (repeat' apply And.intro) <;> first | rfl | trivial | exact congrArg Sum.inl (nI_1 _).symm | exact congrArg Sum.inl (nI_1 _).symm)
      · intro _ _
        refine gT_go 400 [3, 31, 83] kX12_voted ?_
        refine Exists.intro (1) (And.intro rfl (And.intro (show _ < 708 by omega) ?_))
        refine bGt (A 1 + 1) (A 1) rfl (hlx 1 (by omega)) (fun c => ?_) (fun c => absurd c (by omega))
        exact ⟨rfl, x, rfl, hx1⟩
      · intro i _ hi _ hnext
        refine gT_go 400 [3, 31, 83] kX12_voted ?_
        refine Exists.intro (1) (And.intro rfl (And.intro (show _ < 708 by omega) ?_))
        refine bGt (i + 1) (A 1) rfl (hlx 1 (by omega)) (fun c => absurd c (by omega)) (fun c => ?_)
        have w := gVw_le (fun m => gCt (fun k => gXb B (V k) (A 1)) m (A 2)) i
        have c1 := gCt_le (fun k => gXb B (V k) (A 1)) (i + 1) (A 2)
        have c2 := gCt_le (fun k => gXb B (V k) (A 1)) (gVw (fun m => gCt (fun k => gXb B (V k) (A 1)) m (A 2)) i) (A 2)
        refine Exists.intro (i + 1) (And.intro rfl (And.intro (show _ < 25 by omega) ?_))
        refine Exists.intro (gVw (fun m => gCt (fun k => gXb B (V k) (A 1)) m (A 2)) i) (And.intro rfl (And.intro (show _ < 25 by omega) ?_))
        refine bLe _ _ (hx2 (i + 1) (by omega)) (hx2 (gVw (fun m => gCt (fun k => gXb B (V k) (A 1)) m (A 2)) i) (by omega)) (fun c => ?_) (fun c => ?_)
        · refine hnext () _ trivial ?_
          rw [gVw, if_neg (by omega)]
          exact (by (repeat' apply And.intro) <;> first | rfl | trivial | exact congrArg Sum.inl (nI_1 _).symm | exact congrArg Sum.inl (nI_1 _).symm)
        · refine hnext () _ trivial ?_
          rw [gVw, if_pos c]
          exact (by (repeat' apply And.intro) <;> first | rfl | trivial | exact congrArg Sum.inl (nI_1 _).symm | exact congrArg Sum.inl (nI_1 _).symm)
    · intro i x hi ⟨hx1, hx2⟩ hnext
      have hlx : gLx x A := by intro j hj; rw [hx1 110 (by decide)]; exact hl j hj
      have hbe := p_best d 139 (i * 3900) B h p n false (Or.inl rfl) (by omega) hB hh hp hn hn2 A x hlx hA S (by rw [hx1 100 (by decide)]; exact hS) hS2 sn (by rw [hx1 142 (by decide)]; exact hsn) L y
      obtain ⟨b, hb⟩ := gBs_some (v := V i) (l := false) hm0 (A 1 + 1) (by omega)
      have hb2 := gBs_lt hb
      rw [hV i, hb] at hbe
      refine gT_go 400 [3, 31, 83] kX12_voted ?_
      refine Exists.intro (2) (And.intro rfl (And.intro (show _ < 708 by omega) ?_))
      refine bGe i (A 2) rfl (hlx 2 (by omega)) (fun c => absurd c (by omega)) (fun c => ?_)
      refine gP_use (gP_eq (by rw [← pk_mul]; rfl) (hbe)) ?_
      refine Exists.intro (b) (And.intro rfl (And.intro (show _ < 25 by omega) ?_))
      refine Exists.intro (b) (And.intro rfl (And.intro (show _ < 25 by omega) ?_))
      refine hnext _ _ ⟨fun b' hb' => ?_, fun m hm => ?_⟩ (by (repeat' apply And.intro) <;> first | rfl | trivial | exact congrArg Sum.inl (nI_1 _).symm | exact congrArg Sum.inl (nI_1 _).symm)
      · exact (u3_ne1 hb').trans (hx1 b' hb')
      · have e1 : gXb B (V i) (A 1) = b := by unfold gXb; rw [hb]; rfl
        rw [gCt]
        by_cases q : b = m
        · subst q
          rw [if_pos e1]
          refine Eq.trans u3_eq ?_
          rw [← nI_1]
          exact congrArg (fun z => z + 1) (hx2 b hm)
        · rw [if_neg (by rw [e1]; exact q)]
          exact (u3_ne3 (fun e => q e.symm)).trans (hx2 m hm)
  · intro i x hi ⟨hx1, hx2⟩ hnext
    have hlx : gLx x A := by intro j hj; rw [hx1 110 (by decide)]; exact hl j hj
    refine gT_go 400 [3, 31, 83] kX12_voted ?_
    refine Exists.intro (1) (And.intro rfl (And.intro (show _ < 708 by omega) ?_))
    refine bGt i (A 1) rfl (hlx 1 (by omega)) (fun c => absurd c (by omega)) (fun c => ?_)
    refine Exists.intro (i) (And.intro rfl (And.intro (show _ < 25 by omega) ?_))
    refine hnext _ _ ⟨fun b' hb' => (u3_ne1 hb').trans (hx1 b' hb'), fun m hm => ?_⟩ (by (repeat' apply And.intro) <;> first | rfl | trivial | exact congrArg Sum.inl (nI_1 _).symm | exact congrArg Sum.inl (nI_1 _).symm)
    by_cases q : m = i
    · subst q; exact u3_eq
    · exact (u3_ne3 q).trans (hx2 m (by omega))
