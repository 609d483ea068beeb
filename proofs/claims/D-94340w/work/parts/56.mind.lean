/-! ===== of one mind ===== -/
noncomputable def wTb (V : VS) (P : PP) : Nat → Int64 := (gTab (vA V) (vA V 4) (gMw (vA V) (vR V) none) P).2.1
/-- the move that k would take as one ahead -/
noncomputable def wAhd (V : VS) (P : PP) (k h p n : Nat) : Nat := gXb (xMay V P h p n) (gBr (vA V) (vA V 4) (gSn (vA V) h) (fun j => wTb V P (k * 3900 + j)) h p n) (vA V 1)
noncomputable def cOm (V : VS) (P : PP) (h p n : Nat) : Bool := (gFst (fun k => decide (wAhd V P k h p n ≠ wAhd V P 0 h p n)) (vA V 2)).isNone
theorem mP_br {V : VS} {P : PP} {I : Nat → Nat → Nat → Int32} {L : Nat → Nat → Nat → Int64} (hA : gLg (vA V)) (hP : gPok (vA V) P) (H : mP V (vA V 4) none P I L) {k h p n m : Nat} (hk : k < vA V 2) (q2 : h < vA V 3) (q3 : p < vA V 0) (q4 : n ≤ vA V 4) (hm : m ≤ vA V 1) :
    gBr (vA V) (vA V 4) (gSn (vA V) h) (fun j => L 139 0 (k * 3900 + j)) h p n m = gBr (vA V) (vA V 4) (gSn (vA V) h) (fun j => wTb V P (k * 3900 + j)) h p n m :=
  gBr_cgR hA q4 q3 hm (fun t j ht hj => (mP_w hA hP H (show h + 1 ≤ vA V 3 by omega) ht hj).2 k hk)
set_option maxRecDepth 100000 in
theorem p_isOneMind (d : Nat) (V : VS) (hA : gLg (vA V)) (P : PP) (h p n : Nat) (hh : h < vA V 3) (hp : p < vA V 0) (hn : n ≤ vA V 4) (e : aEnd (vA V) h p n = 0) (I : Nat → Nat → Nat → Int32) (L : Nat → Nat → Nat → Int64) (y : Dy) (hl : gLx I (vA V)) (hU : mU V (vA V 4) none P I L) (hP : mP V (vA V 4) none P I L) :
    gP mX12_isOneMind (d + 6) [gM0, gI (nI h), gI (nI p), gI (nI n)] (gH I L y) (gI (gb (cOm V P h p n))) := by
  have a0 := hA.1.1
  have a1 := hA.1.2.1
  have a2 := hA.1.2.2.1
  have a3 := hA.1.2.2.2.1
  have a4 := hA.1.2.2.2.2.1
  have hs := sN_lt (h := h) (p := p) (n := n) (by omega) (by omega) (by omega)
  obtain ⟨l1, l2, l3, l4, m0, l5, l6⟩ := mU_moves hU hh hp hn e
  have hn0 := (aEnd_0 e).1
  have ok := hU.2.2.ok
  have hbe : ∀ k, k < vA V 2 → gP mX12_best (d + 5) [gM0, gR (some (139, 0)), gI (nI (k * 3900)), gI (nI (xMay V P h p n)), gI (nI h), gI (nI p), gI (nI n), gI (gb false)] (gH I L y) (gI (nI (wAhd V P k h p n))) := by
    intro k hk
    have q := p_best (d + 1) 139 (k * 3900) (xMay V P h p n) h p n false (Or.inl rfl) (by omega) (gMv_lt l4) (by omega) (by omega) hn0 (by omega) (vA V) I hl hA.1 (vA V 4) hU.1 (by omega) (gSn (vA V) h) (hU.2.1.2.1 h (by omega)) L y
    rw [gBs_cg (vA V 1 + 1) (fun m hm => mP_br hA ok hP hk hh hp hn (by omega)), (gXb_bit l6 l5).1] at q
    exact q
  have hle : ∀ k, wAhd V P k h p n ≤ vA V 1 := fun k => gXb_le _ _ _
  refine gEnter 400 [38] kX12_isOneMind rfl rfl ?_
  refine Exists.intro (h) (And.intro rfl (And.intro (show _ < 24 by omega) ?_))
  refine gP_use (p_state (d + 4) h p n _) ?_
  refine gP_use (gP_eq (by rw [← l1] <;> rfl) (p_moves (d + 4) (P.1 h) (sN h p n) _ (by omega) (by omega) I L y l3)) ?_
  refine gP_use (gP_eq (by rw [Nat.zero_mul] <;> rfl) (hbe 0 hA.2.2.1)) ?_
  refine gT_for (σ := Unit) (pc := 38) (lo := fun i _ => [some gM0, some (gI (nI h)), some (gI (nI p)), some (gI (nI n)), some (gI (nI (xMay V P h p n))), some (gI (nI (wAhd V P 0 h p n))), some (gI (nI i))]) (hp := fun _ _ => gH I L y) (Inv := fun i _ => ∀ k, k < i → decide (wAhd V P k h p n ≠ wAhd V P 0 h p n) = false) (vA V 2) ?_ ?_ 1 () (by have := hA.2.2.1; omega) (fun k hk => by rw [show k = 0 by omega]; exact decide_eq_false (fun w => w rfl)) (by (repeat' apply And.intro) <;> first | rfl | trivial | exact congrArg Sum.inl (nI_1 _).symm | exact congrArg Sum.inl (nI_1 _).symm)
  · intro _ hi
    refine gT_go 400 [38] kX12_isOneMind ?_
    refine Exists.intro (2) (And.intro rfl (And.intro (show _ < 708 by omega) ?_))
    refine bGe (vA V 2) (vA V 2) rfl (hl 2 (by omega)) (fun _ => ?_) (fun q => absurd q (by omega))
    exact ⟨Or.inr rfl, by unfold cOm; rw [gFst_none _ hi]; rfl, rfl⟩
  · intro i _ hi hv hnext
    refine gT_go 400 [38] kX12_isOneMind ?_
    refine Exists.intro (2) (And.intro rfl (And.intro (show _ < 708 by omega) ?_))
    refine bGe i (vA V 2) rfl (hl 2 (by omega)) (fun q => absurd q (by omega)) (fun _ => ?_)
    refine gP_use (gP_eq (by rw [← pk_mul] <;> rfl) (hbe i hi)) ?_
    have h1 := hle i
    have h2 := hle 0
    refine bEq (wAhd V P i h p n) (wAhd V P 0 h p n) rfl rfl (fun c => ?_) (fun c => ?_)
    · refine hnext () _ (fun k hk => ?_) (by (repeat' apply And.intro) <;> first | rfl | trivial | exact congrArg Sum.inl (nI_1 _).symm | exact congrArg Sum.inl (nI_1 _).symm)
      rcases Nat.lt_or_ge k i with q | q
      · exact hv k q
      · have : k = i := by omega
        subst this
        exact decide_eq_false (fun w => w c)
    · exact ⟨Or.inl rfl, by unfold cOm; rw [gFst_some (decide_eq_true c) hv _ hi]; rfl, rfl⟩
/-- the hour behind the last at which not all are of one mind -/
def fP (V : VS) (B : Nat → Nat → Nat → Nat) (c : Nat → Nat → Nat → Bool) (p0 n0 i p n : Nat) : Prop :=
  ∃ p' n', p' < vA V 0 ∧ n' ≤ vA V 4 ∧ (p' < p ∨ (p' = p ∧ n' < n)) ∧ rE (vA V) (vA V 4) B true 0 p0 n0 i p' n' ∧ aEnd (vA V) i p' n' = 0 ∧ c i p' n' = false
noncomputable def wMnd (V : VS) (B : Nat → Nat → Nat → Nat) (c : Nat → Nat → Nat → Bool) (p0 n0 : Nat) : Nat → Nat
  | 0 => 0
  | i + 1 => bif dP (fP V B c p0 n0 i (vA V 0) 0) then i + 1 else wMnd V B c p0 n0 i
noncomputable def wFr (V : VS) (B : Nat → Nat → Nat → Nat) (c : Nat → Nat → Nat → Bool) (p0 n0 i p n : Nat) : Nat := bif dP (fP V B c p0 n0 i p n) then i + 1 else wMnd V B c p0 n0 i
theorem wFr_row (V : VS) (B : Nat → Nat → Nat → Nat) (c : Nat → Nat → Nat → Bool) (p0 n0 i p : Nat) : wFr V B c p0 n0 i p (vA V 4 + 1) = wFr V B c p0 n0 i (p + 1) 0 := by
  unfold wFr
  rw [dP_cg]
  unfold fP
  constructor
  · rintro ⟨p', n', q1, q2, q3, q⟩; exact ⟨p', n', q1, q2, by omega, q⟩
  · rintro ⟨p', n', q1, q2, q3, q⟩; exact ⟨p', n', q1, q2, by omega, q⟩
theorem wFr_beg (V : VS) (B : Nat → Nat → Nat → Nat) (c : Nat → Nat → Nat → Bool) (p0 n0 i : Nat) : wFr V B c p0 n0 i 0 0 = wMnd V B c p0 n0 i := by
  unfold wFr
  rw [dP_f]
  · rfl
  · rintro ⟨p', n', q1, q2, q3, q⟩; omega
theorem wFr_skip {V : VS} {B : Nat → Nat → Nat → Nat} {c : Nat → Nat → Nat → Bool} {p0 n0 i p n : Nat} (h : ¬ (rE (vA V) (vA V 4) B true 0 p0 n0 i p n ∧ aEnd (vA V) i p n = 0 ∧ c i p n = false)) : wFr V B c p0 n0 i p (n + 1) = wFr V B c p0 n0 i p n := by
  unfold wFr
  rw [dP_cg]
  unfold fP
  constructor
  · rintro ⟨p', n', q1, q2, q3, q⟩
    by_cases w : p' = p ∧ n' = n
    · obtain ⟨rfl, rfl⟩ := w; exact absurd q h
    · exact ⟨p', n', q1, q2, by omega, q⟩
  · rintro ⟨p', n', q1, q2, q3, q⟩; exact ⟨p', n', q1, q2, by omega, q⟩
theorem wFr_hit {V : VS} {B : Nat → Nat → Nat → Nat} {c : Nat → Nat → Nat → Bool} {p0 n0 i p n : Nat} (hp : p < vA V 0) (hn : n ≤ vA V 4) (h : rE (vA V) (vA V 4) B true 0 p0 n0 i p n ∧ aEnd (vA V) i p n = 0 ∧ c i p n = false) : wFr V B c p0 n0 i p (n + 1) = i + 1 := by
  unfold wFr
  rw [dP_t ⟨p, n, hp, hn, by omega, h⟩]
  rfl
theorem eQ_gen {A : Nat → Nat} {S : Nat} {B : Nat → Nat → Nat → Nat} {cl : Bool} {h0 p0 n0 i p n m : Nat} {T : Nat → Nat → Prop} (hm : m ≤ A 1) (hb : (B (h0 + i) p n).testBit m = true) (hr : rE A S B cl h0 p0 n0 i p n ∧ aEnd A (h0 + i) p n = 0)
    (ht : ∀ t j, eT1 A S cl (h0 + i) p n m t j ↔ T t j) (t j : Nat) : (eQ A S B cl h0 p0 n0 i p n m t j ∨ T t j) ↔ eQ A S B cl h0 p0 n0 i p n (m + 1) t j := by
  unfold eQ
  constructor
  · rintro ((q | ⟨q1, q2, m', q3, q4⟩) | q)
    · exact Or.inl q
    · exact Or.inr ⟨q1, q2, m', by omega, q4⟩
    · exact Or.inr ⟨hr.1, hr.2, m, by omega, hm, hb, (ht t j).mpr q⟩
  · rintro (q | ⟨q1, q2, m', q3, q4, q5, q6⟩)
    · exact Or.inl (Or.inl q)
    · by_cases w : m' = m
      · subst w; exact Or.inr ((ht t j).mp q6)
      · exact Or.inl (Or.inr ⟨q1, q2, m', by omega, q4, q5, q6⟩)
noncomputable def xMind (V : VS) : Int32 × AV × VS :=
  bif vL V then (0, gI (nI (wMnd V (xMay V (gP0 V)) (cOm V (gP0 V)) (vA V 6) (vA V 4) (vA V 3))), V) else (1, gI 0, xRef V 3)
