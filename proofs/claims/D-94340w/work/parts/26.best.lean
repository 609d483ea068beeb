/-! ===== moves, the best, the first, what an end is worth, who leads ===== -/
def gMv (x : Nat) : Nat := if x = 0 then 1 else x
set_option maxRecDepth 100000 in
theorem p_moves (d k j x : Nat) (hj : k * 3900 + j < 19500) (hx : x < 2 ^ 31) (I : Nat → Nat → Nat → Int32) (L : Nat → Nat → Nat → Int64) (y : Dy) (hI : I 136 0 (k * 3900 + j) = nI x) :
    gP mX12_moves (d + 1) [gM0, gI (nI k), gI (nI j)] (gH I L y) (gI (nI (gMv x))) := by
  refine gEnter 400 [] kX12_moves rfl rfl ?_
  refine Exists.intro (k * 3900 + j) (And.intro (by rw [← nI_add, ← pk_mul]; rfl) (And.intro (show _ < 19500 by omega) ?_))
  refine bNe x 0 hI rfl (fun c => ?_) (fun c => ?_)
  · exact ⟨by unfold gMv; rw [if_neg c]; exact congrArg (fun z => [gI z]) hI, rfl⟩
  · exact ⟨by unfold gMv; rw [if_pos c]; rfl, rfl⟩
def gEn (A : Nat → Nat) (sc : Nat → Int64) (k h p e : Nat) : Int64 := ((bif Nat.beq e 2 then -nI (A 5) else nI (A (72 + 12 * k + p))) - nI h * nI (A (67 + k))).toInt64 * sc h
set_option maxRecDepth 100000 in
theorem p_ends (d k h p e : Nat) (hk : k < 5) (hh : h < 25) (hp : p < 12) (he : e < 4) (A : Nat → Nat) (I : Nat → Nat → Nat → Int32) (hl : gLx I A) (L : Nat → Nat → Nat → Int64) (y : Dy) :
    gP mX12_ends (d + 1) [gM0, gI (nI k), gI (nI h), gI (nI p), gI (nI e)] (gH I L y) (gL (gEn A (L 138 0) k h p e)) := by
  refine gEnter 400 [] kX12_ends rfl rfl ?_
  refine bNe e 2 rfl rfl (fun c => ?_) (fun c => ?_)
  · refine Exists.intro (72 + 12 * k + p) (And.intro (by rw [← nI_add, ← nI_add, ← pk_mul]; rfl) (And.intro (show _ < 708 by omega) ?_))
    refine Exists.intro (67 + k) (And.intro (nI_add 67 k) (And.intro (show _ < 708 by omega) ?_))
    refine Exists.intro (h) (And.intro rfl (And.intro (show _ < 25 by omega) ?_))
    refine ⟨?_, rfl⟩
    unfold gEn
    have hbq : Nat.beq e 2 = false := by
      cases q : Nat.beq e 2 with
      | true => exact absurd (Nat.eq_of_beq_eq_true q) c
      | false => rfl
    rw [hbq, ← hl (72 + 12 * k + p) (by omega), ← hl (67 + k) (by omega)]
    rfl
  · refine Exists.intro (5) (And.intro rfl (And.intro (show _ < 708 by omega) ?_))
    refine Exists.intro (67 + k) (And.intro (nI_add 67 k) (And.intro (show _ < 708 by omega) ?_))
    refine Exists.intro (h) (And.intro rfl (And.intro (show _ < 25 by omega) ?_))
    refine ⟨?_, rfl⟩
    unfold gEn
    rw [show Nat.beq e 2 = true by rw [c]; rfl, ← hl 5 (by omega), ← hl (67 + k) (by omega)]
    rfl
theorem gcmp_def (x z : Int64) : (lg_cmp x z = 1 ∧ z < x) ∨ (lg_cmp x z = 0 ∧ x = z) ∨ (lg_cmp x z = -1 ∧ x < z) := by
  unfold lg_cmp
  by_cases q : z < x
  · exact Or.inl ⟨if_pos q, q⟩
  · by_cases r : x = z
    · refine Or.inr (Or.inl ⟨?_, r⟩)
      subst r
      simp [q]
    · refine Or.inr (Or.inr ⟨?_, ?_⟩)
      · simp [q, r]
      · rw [Int64.lt_iff_toInt_lt] at q ⊢
        have : x.toInt ≠ z.toInt := fun h => r (Int64.toInt_inj.mp h)
        omega
theorem gnlt {x z : Int64} (h : x < z) : ¬ z < x := by rw [Int64.lt_iff_toInt_lt] at h ⊢; omega
theorem gnlt2 {x : Int64} : ¬ x < x := by rw [Int64.lt_iff_toInt_lt]; omega
theorem gcmp_lt (x z : Int64) : lg_cmp x z < 0 ↔ x < z := by
  rcases gcmp_def x z with ⟨h, q⟩ | ⟨h, q⟩ | ⟨h, q⟩ <;> rw [h]
  · exact ⟨fun c => absurd c (by decide), fun c => absurd q (gnlt c)⟩
  · subst q; exact ⟨fun c => absurd c (by decide), fun c => absurd c gnlt2⟩
  · exact ⟨fun _ => q, fun _ => by decide⟩
theorem gcmp_gt (x z : Int64) : 0 < lg_cmp x z ↔ z < x := by
  rcases gcmp_def x z with ⟨h, q⟩ | ⟨h, q⟩ | ⟨h, q⟩ <;> rw [h]
  · exact ⟨fun _ => q, fun _ => by decide⟩
  · subst q; exact ⟨fun c => absurd c (by decide), fun c => absurd c gnlt2⟩
  · exact ⟨fun c => absurd c (by decide), fun c => absurd q (gnlt c)⟩
theorem gcmp_eq (x z : Int64) : lg_cmp x z = 0 ↔ x = z := by
  rcases gcmp_def x z with ⟨h, q⟩ | ⟨h, q⟩ | ⟨h, q⟩ <;> rw [h]
  · exact ⟨fun c => absurd c (by decide), fun c => absurd q (by rw [c]; exact gnlt2)⟩
  · exact ⟨fun _ => q, fun _ => rfl⟩
  · exact ⟨fun c => absurd c (by decide), fun c => absurd q (by rw [c]; exact gnlt2)⟩
theorem bcLt {x z : Int64} {P Q : Prop} (f : x < z → P) (g : ¬ x < z → Q) : (lg_cmp x z < 0 → P) ∧ (¬ lg_cmp x z < 0 → Q) := ⟨fun c => f ((gcmp_lt x z).mp c), fun c => g (fun q => c ((gcmp_lt x z).mpr q))⟩
theorem bcGt {x z : Int64} {P Q : Prop} (f : z < x → P) (g : ¬ z < x → Q) : (0 < lg_cmp x z → P) ∧ (¬ 0 < lg_cmp x z → Q) := ⟨fun c => f ((gcmp_gt x z).mp c), fun c => g (fun q => c ((gcmp_gt x z).mpr q))⟩
theorem bcLe {x z : Int64} {P Q : Prop} (f : ¬ z < x → P) (g : z < x → Q) : (lg_cmp x z ≤ 0 → P) ∧ (¬ lg_cmp x z ≤ 0 → Q) :=
  ⟨fun c => f (fun q => absurd ((gcmp_gt x z).mpr q) (Int32.not_lt.mpr c)), fun c => g ((gcmp_gt x z).mp (Int32.not_le.mp c))⟩
theorem bcGe {x z : Int64} {P Q : Prop} (f : ¬ x < z → P) (g : x < z → Q) : (0 ≤ lg_cmp x z → P) ∧ (¬ 0 ≤ lg_cmp x z → Q) :=
  ⟨fun c => f (fun q => absurd ((gcmp_lt x z).mpr q) (Int32.not_lt.mpr c)), fun c => g ((gcmp_lt x z).mp (Int32.not_le.mp c))⟩
theorem gOI_ne {b : Nat} (hb : b < 2 ^ 31) : ¬ nI b = -1 := fun q => absurd (by rw [q]; decide : nI b < 0) (nI_pos hb)
theorem gBs_o {B : Nat} {v : Nat → Int64} {l : Bool} {k : Nat} (ht : B.testBit k = false) : gBs B v l (k + 1) = gBs B v l k := by
  rw [gBs, ht]; rfl
theorem gBs_n {B : Nat} {v : Nat → Int64} {l : Bool} {k : Nat} (ht : B.testBit k = true) (hg : gBs B v l k = none) : gBs B v l (k + 1) = some k := by
  rw [gBs, ht, hg]; rfl
theorem gBs_t1 {B : Nat} {v : Nat → Int64} {k b : Nat} (ht : B.testBit k = true) (hg : gBs B v true k = some b) (c : v k < v b) : gBs B v true (k + 1) = some k := by
  rw [gBs, ht, hg]; simp only [cond_true, decide_eq_true c]
theorem gBs_t0 {B : Nat} {v : Nat → Int64} {k b : Nat} (ht : B.testBit k = true) (hg : gBs B v true k = some b) (c : ¬ v k < v b) : gBs B v true (k + 1) = some b := by
  rw [gBs, ht, hg]; simp only [cond_true, decide_eq_false c, cond_false]
theorem gBs_f1 {B : Nat} {v : Nat → Int64} {k b : Nat} (ht : B.testBit k = true) (hg : gBs B v false k = some b) (c : v b < v k) : gBs B v false (k + 1) = some k := by
  rw [gBs, ht, hg]; simp only [cond_true, cond_false, decide_eq_true c]
theorem gBs_f0 {B : Nat} {v : Nat → Int64} {k b : Nat} (ht : B.testBit k = true) (hg : gBs B v false k = some b) (c : ¬ v b < v k) : gBs B v false (k + 1) = some b := by
  rw [gBs, ht, hg]; simp only [cond_true, decide_eq_false c, cond_false]
set_option maxRecDepth 100000 in
theorem p_best (d b base B h p n : Nat) (least : Bool) (hb : b = 139 ∨ b = 140 ∨ b = 141) (hba : base + 3900 ≤ 19500) (hB : B < 2 ^ 31) (hh : h < 24) (hp : p < 12) (hn : 0 < n) (hn2 : n < 13) (A : Nat → Nat) (I : Nat → Nat → Nat → Int32) (hl : gLx I A) (hA : gLd A) (S : Nat) (hS : I 100 0 31 = nI S) (hS2 : S < 13) (sn : Bool) (hsn : I 142 0 h = gb sn) (L : Nat → Nat → Nat → Int64) (y : Dy) :
    gP mX12_best (d + 4) [gM0, gR (some (b, 0)), gI (nI base), gI (nI B), gI (nI h), gI (nI p), gI (nI n), gI (gb least)] (gH I L y) (gI (gOI (gBs B (gBr A S sn (fun j => L b 0 (base + j)) h p n) least (A 1 + 1)))) := by
  have hA1 := hA.2.1
  refine gEnter 400 [9] kX12_best rfl rfl ?_
  refine gT_for (σ := Unit) (pc := 9) (lo := fun i _ => [some gM0, some (gR (some (b, 0))), some (gI (nI base)), some (gI (nI B)), some (gI (nI h)), some (gI (nI p)), some (gI (nI n)), some (gI (gb least)), some (gI (gOI (gBs B (gBr A S sn (fun j => L b 0 (base + j)) h p n) least i))), some (gL (gOv (gBr A S sn (fun j => L b 0 (base + j)) h p n) (gBs B (gBr A S sn (fun j => L b 0 (base + j)) h p n) least i))), none, some (gI (nI i)), none, none]) (hp := fun _ _ => gH I L y) (Inv := fun _ _ => True) (A 1 + 1) ?_ ?_ 0 () (Nat.zero_le _) trivial (by (repeat' apply And.intro) <;> first | rfl | trivial | exact congrArg Sum.inl (nI_1 _).symm | exact congrArg Sum.inl (nI_1 _).symm)
  · intro _ _
    refine gT_go 400 [9] kX12_best ?_
    refine Exists.intro (1) (And.intro rfl (And.intro (show _ < 708 by omega) ?_))
    refine bGt (A 1 + 1) (A 1) rfl (hl 1 (by omega)) (fun c => ?_) (fun c => absurd c (by omega))
    exact ⟨rfl, rfl⟩
  · intro i _ hi _ hnext
    refine gT_go 400 [9] kX12_best ?_
    refine Exists.intro (1) (And.intro rfl (And.intro (show _ < 708 by omega) ?_))
    refine bGt i (A 1) rfl (hl 1 (by omega)) (fun c => absurd c (by omega)) (fun c => ?_)
    refine bB1 (B.testBit i) (gbit hB (by omega)) (fun hbt => ?_) (fun hbt => ?_)
    · refine gP_use (p_brings d b base h p n i hb hba hh hp hn hn2 (by omega) A I hl hA S hS hS2 sn hsn L y) ?_
      cases hg : gBs B (gBr A S sn (fun j => L b 0 (base + j)) h p n) least i with
      | none =>
        refine And.intro (fun _ => ?_) (fun c => absurd rfl c)
        refine hnext () _ trivial ?_
        rw [gBs_n hbt hg]
        exact (by (repeat' apply And.intro) <;> first | rfl | trivial | exact congrArg Sum.inl (nI_1 _).symm | exact congrArg Sum.inl (nI_1 _).symm)
      | some b0 =>
        have hb0 := gBs_lt hg
        refine And.intro (fun c => absurd c (gOI_ne (by omega))) (fun _ => ?_)
        cases least with
        | true =>
          refine bB0 true rfl (fun c => absurd c (by decide)) (fun _ => ?_)
          refine bcLt (fun c => ?_) (fun c => ?_)
          · refine hnext () _ trivial ?_
            rw [gBs_t1 hbt hg c]
            exact (by (repeat' apply And.intro) <;> first | rfl | trivial | exact congrArg Sum.inl (nI_1 _).symm | exact congrArg Sum.inl (nI_1 _).symm)
          · refine hnext () _ trivial ?_
            rw [gBs_t0 hbt hg c]
            exact (by (repeat' apply And.intro) <;> first | rfl | trivial | exact congrArg Sum.inl (nI_1 _).symm | exact congrArg Sum.inl (nI_1 _).symm)
        | false =>
          refine bB0 false rfl (fun _ => ?_) (fun c => absurd c (by decide))
          refine bcGt (fun c => ?_) (fun c => ?_)
          · refine hnext () _ trivial ?_
            rw [gBs_f1 hbt hg c]
            exact (by (repeat' apply And.intro) <;> first | rfl | trivial | exact congrArg Sum.inl (nI_1 _).symm | exact congrArg Sum.inl (nI_1 _).symm)
          · refine hnext () _ trivial ?_
            rw [gBs_f0 hbt hg c]
            exact (by (repeat' apply And.intro) <;> first | rfl | trivial | exact congrArg Sum.inl (nI_1 _).symm | exact congrArg Sum.inl (nI_1 _).symm)
    · refine hnext () _ trivial ?_
      rw [gBs_o hbt]
      exact (by (repeat' apply And.intro) <;> first | rfl | trivial | exact congrArg Sum.inl (nI_1 _).symm | exact congrArg Sum.inl (nI_1 _).symm)
