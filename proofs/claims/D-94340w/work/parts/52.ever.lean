/-! ===== whether one ever comes there ===== -/
noncomputable def dP (P : Prop) : Bool := @decide P (Classical.propDecidable P)
theorem dP_t {P : Prop} (h : P) : dP P = true := @decide_eq_true P (Classical.propDecidable P) h
theorem dP_f {P : Prop} (h : ¬ P) : dP P = false := @decide_eq_false P (Classical.propDecidable P) h
theorem dP_i {P : Prop} (h : dP P = true) : P := @of_decide_eq_true P (Classical.propDecidable P) h
theorem dP_n {P : Prop} (h : dP P = false) : ¬ P := @of_decide_eq_false P (Classical.propDecidable P) h
theorem dP_cg {P Q : Prop} (h : P ↔ Q) : dP P = dP Q := by rw [propext h]
/-- snow of a move -/
def eSn (A : Nat → Nat) (m h : Nat) : Nat := if m = 0 then 0 else gSnA A (m - 1) h
/-- where one may come from a state by the move m; whether what may be closed counts as rest, too -/
def eT1 (A : Nat → Nat) (S : Nat) (cl : Bool) (h p n m t j : Nat) : Prop :=
  ((eSn A m h < 16 ∧ t = gGo A m p) ∨ (((cl = true ∧ 0 < eSn A m h) ∨ eSn A m h = 16) ∧ t = p)) ∧ j = aNx A S n t
def eTo (A : Nat → Nat) (S : Nat) (B : Nat → Nat → Nat → Nat) (cl : Bool) (h p n t j : Nat) : Prop := ∃ m, m ≤ A 1 ∧ (B h p n).testBit m = true ∧ eT1 A S cl h p n m t j
def rE (A : Nat → Nat) (S : Nat) (B : Nat → Nat → Nat → Nat) (cl : Bool) (h0 p0 n0 : Nat) : Nat → Nat → Nat → Prop
  | 0, p, n => p = p0 ∧ n = n0
  | i + 1, t, j => ∃ p n, p < A 0 ∧ n ≤ S ∧ rE A S B cl h0 p0 n0 i p n ∧ aEnd A (h0 + i) p n = 0 ∧ eTo A S B cl (h0 + i) p n t j
/-- states marked so far: all up to the hour i, of the next hour those of Q -/
def eTb (A : Nat → Nat) (S : Nat) (B : Nat → Nat → Nat → Nat) (cl : Bool) (h0 p0 n0 : Nat) (x : Nat → Nat → Nat → Int32) (i : Nat) (Q : Nat → Nat → Prop) : Prop :=
  ∀ i' t j, h0 + i' ≤ A 3 → t < A 0 → j ≤ S → x 151 0 (sN (h0 + i') t j) = gb (dP ((i' ≤ i ∧ rE A S B cl h0 p0 n0 i' t j) ∨ (i' = i + 1 ∧ Q t j)))
section GEV
variable {A : Nat → Nat} {S : Nat} {B : Nat → Nat → Nat → Nat} {cl : Bool} {h0 p0 n0 : Nat} {x : Nat → Nat → Nat → Int32} {i : Nat} {Q Q' : Nat → Nat → Prop}
theorem eTb_cg (h : ∀ t j, Q t j ↔ Q' t j) (H : eTb A S B cl h0 p0 n0 x i Q) : eTb A S B cl h0 p0 n0 x i Q' := by
  intro i' t j a b c
  rw [H i' t j a b c]
  exact congrArg gb (dP_cg (or_congr Iff.rfl (and_congr Iff.rfl (h t j))))
theorem eTb_mark (hA : gLd A) (hS : S < 13) {t0 j0 : Nat} (h1 : h0 + i + 1 ≤ A 3) (ht : t0 < A 0) (hj : j0 ≤ S) (H : eTb A S B cl h0 p0 n0 x i Q) : eTb A S B cl h0 p0 n0 (u3 x 151 0 (sN (h0 + i + 1) t0 j0) 1) i (fun t j => Q t j ∨ (t = t0 ∧ j = j0)) := by
  have a0 := hA.1
  intro i' t j a b c
  by_cases e : sN (h0 + i') t j = sN (h0 + i + 1) t0 j0
  · have w := sN_inj (h := h0 + i') (h' := h0 + i + 1) (by omega) (by omega) (by omega) (by omega) e
    rw [e, dP_t (Or.inr ⟨by omega, Or.inr ⟨w.2.1, w.2.2⟩⟩)]
    exact u3_eq
  · refine (u3_ne3 e).trans ((H i' t j a b c).trans ?_)
    refine congrArg gb (dP_cg ⟨?_, ?_⟩)
    · rintro (q | ⟨q1, q2⟩)
      · exact Or.inl q
      · exact Or.inr ⟨q1, Or.inl q2⟩
    · rintro (q | ⟨q1, q2 | ⟨q3, q4⟩⟩)
      · exact Or.inl q
      · exact Or.inr ⟨q1, q2⟩
      · exact absurd (by rw [q1, q3, q4, Nat.add_assoc]) e
/-- the next hour: its marks are all there -/
theorem eTb_next (h : ∀ t j, Q t j ↔ ∃ p n, p < A 0 ∧ n ≤ S ∧ rE A S B cl h0 p0 n0 i p n ∧ aEnd A (h0 + i) p n = 0 ∧ eTo A S B cl (h0 + i) p n t j) (H : eTb A S B cl h0 p0 n0 x i Q) : eTb A S B cl h0 p0 n0 x (i + 1) (fun _ _ => False) := by
  intro i' t j a b c
  rw [H i' t j a b c]
  refine congrArg gb (dP_cg ⟨?_, ?_⟩)
  · rintro (⟨q1, q2⟩ | ⟨q1, q2⟩)
    · exact Or.inl ⟨by omega, q2⟩
    · subst q1
      exact Or.inl ⟨Nat.le_refl _, (h t j).mp q2⟩
  · rintro (⟨q1, q2⟩ | ⟨_, q2⟩)
    · rcases Nat.lt_or_ge i i' with w | w
      · have : i' = i + 1 := by omega
        subst this
        exact Or.inr ⟨rfl, (h t j).mpr q2⟩
      · exact Or.inl ⟨w, q2⟩
    · exact q2.elim
end GEV
/-- the first hour at which one is there -/
noncomputable def cEver (V : VS) (p0 h0 n0 i : Nat) : Bool := dP (∃ p n, p < vA V 0 ∧ n ≤ vA V 4 ∧ rE (vA V) (vA V 4) (xMay V (gP0 V)) false h0 p0 n0 i p n ∧ aEnd (vA V) (h0 + i) p n = 1)
noncomputable def xEver (V : VS) (a b c : Int32) : Int32 × AV × VS :=
  bif vL V then (bif gIsS (vA V) a b c then (0, gI (gOI (gFst (cEver V (gTo a) (gTo b) (gTo c)) (vA V 3 - gTo b + 1))), V) else (1, gI 0, xRef V 2)) else (2, gI 0, xRef V 3)
/-- marks of the states before (p, n), and of the first ms moves at it -/
def eQ (A : Nat → Nat) (S : Nat) (B : Nat → Nat → Nat → Nat) (cl : Bool) (h0 p0 n0 i p n ms t j : Nat) : Prop :=
  (∃ p' n', p' < A 0 ∧ n' ≤ S ∧ (p' < p ∨ (p' = p ∧ n' < n)) ∧ rE A S B cl h0 p0 n0 i p' n' ∧ aEnd A (h0 + i) p' n' = 0 ∧ eTo A S B cl (h0 + i) p' n' t j) ∨
  (rE A S B cl h0 p0 n0 i p n ∧ aEnd A (h0 + i) p n = 0 ∧ ∃ m, m < ms ∧ m ≤ A 1 ∧ (B (h0 + i) p n).testBit m = true ∧ eT1 A S cl (h0 + i) p n m t j)
theorem eQ_skip {A : Nat → Nat} {S : Nat} {B : Nat → Nat → Nat → Nat} {cl : Bool} {h0 p0 n0 i p n : Nat} (hp : p < A 0) (hn : n ≤ S) (h : ¬ (rE A S B cl h0 p0 n0 i p n ∧ aEnd A (h0 + i) p n = 0)) (t j : Nat) : eQ A S B cl h0 p0 n0 i p n 0 t j ↔ eQ A S B cl h0 p0 n0 i p (n + 1) 0 t j := by
  unfold eQ
  constructor
  · rintro (⟨p', n', q1, q2, q3, q4, q5, q6⟩ | ⟨_, _, m, q, _⟩)
    · exact Or.inl ⟨p', n', q1, q2, by omega, q4, q5, q6⟩
    · exact absurd q (Nat.not_lt_zero _)
  · rintro (⟨p', n', q1, q2, q3, q4, q5, q6⟩ | ⟨_, _, m, q, _⟩)
    · by_cases w : p' = p ∧ n' = n
      · obtain ⟨rfl, rfl⟩ := w
        exact absurd ⟨q4, q5⟩ h
      · exact Or.inl ⟨p', n', q1, q2, by omega, q4, q5, q6⟩
    · exact absurd q (Nat.not_lt_zero _)
theorem eQ_all {A : Nat → Nat} {S : Nat} {B : Nat → Nat → Nat → Nat} {cl : Bool} {h0 p0 n0 i p n : Nat} (hp : p < A 0) (hn : n ≤ S) (h : rE A S B cl h0 p0 n0 i p n ∧ aEnd A (h0 + i) p n = 0) (t j : Nat) : eQ A S B cl h0 p0 n0 i p n (A 1 + 1) t j ↔ eQ A S B cl h0 p0 n0 i p (n + 1) 0 t j := by
  unfold eQ
  constructor
  · rintro (⟨p', n', q1, q2, q3, q4, q5, q6⟩ | ⟨q1, q2, m, _, q4, q5, q6⟩)
    · exact Or.inl ⟨p', n', q1, q2, by omega, q4, q5, q6⟩
    · exact Or.inl ⟨p, n, hp, hn, by omega, q1, q2, m, q4, q5, q6⟩
  · rintro (⟨p', n', q1, q2, q3, q4, q5, q6⟩ | ⟨_, _, m, q, _⟩)
    · by_cases w : p' = p ∧ n' = n
      · obtain ⟨rfl, rfl⟩ := w
        obtain ⟨m, r1, r2, r3⟩ := q6
        exact Or.inr ⟨q4, q5, m, by omega, r1, r2, r3⟩
      · exact Or.inl ⟨p', n', q1, q2, by omega, q4, q5, q6⟩
    · exact absurd q (Nat.not_lt_zero _)
theorem eQ_row {A : Nat → Nat} {S : Nat} {B : Nat → Nat → Nat → Nat} {cl : Bool} {h0 p0 n0 i p : Nat} (t j : Nat) : eQ A S B cl h0 p0 n0 i p (S + 1) 0 t j ↔ eQ A S B cl h0 p0 n0 i (p + 1) 0 0 t j := by
  unfold eQ
  constructor
  · rintro (⟨p', n', q1, q2, q3, q4, q5, q6⟩ | ⟨_, _, m, q, _⟩)
    · exact Or.inl ⟨p', n', q1, q2, by omega, q4, q5, q6⟩
    · exact absurd q (Nat.not_lt_zero _)
  · rintro (⟨p', n', q1, q2, q3, q4, q5, q6⟩ | ⟨_, _, m, q, _⟩)
    · exact Or.inl ⟨p', n', q1, q2, by omega, q4, q5, q6⟩
    · exact absurd q (Nat.not_lt_zero _)
theorem eQ_beg {A : Nat → Nat} {S : Nat} {B : Nat → Nat → Nat → Nat} {cl : Bool} {h0 p0 n0 i : Nat} (t j : Nat) : False ↔ eQ A S B cl h0 p0 n0 i 0 0 0 t j := by
  unfold eQ
  constructor
  · exact fun h => h.elim
  · rintro (⟨p', n', q1, q2, q3, q4, q5, q6⟩ | ⟨_, _, m, q, _⟩)
    · omega
    · exact absurd q (Nat.not_lt_zero _)
theorem eQ_end {A : Nat → Nat} {S : Nat} {B : Nat → Nat → Nat → Nat} {cl : Bool} {h0 p0 n0 i : Nat} (t j : Nat) : eQ A S B cl h0 p0 n0 i (A 0) 0 0 t j ↔ ∃ p n, p < A 0 ∧ n ≤ S ∧ rE A S B cl h0 p0 n0 i p n ∧ aEnd A (h0 + i) p n = 0 ∧ eTo A S B cl (h0 + i) p n t j := by
  unfold eQ
  constructor
  · rintro (⟨p', n', q1, q2, q3, q4, q5, q6⟩ | ⟨_, _, m, q, _⟩)
    · exact ⟨p', n', q1, q2, q4, q5, q6⟩
    · exact absurd q (Nat.not_lt_zero _)
  · rintro ⟨p', n', q1, q2, q4, q5, q6⟩
    exact Or.inl ⟨p', n', q1, q2, by omega, q4, q5, q6⟩
theorem eQ_no {A : Nat → Nat} {S : Nat} {B : Nat → Nat → Nat → Nat} {cl : Bool} {h0 p0 n0 i p n m : Nat} (h : (B (h0 + i) p n).testBit m = false) (t j : Nat) : eQ A S B cl h0 p0 n0 i p n m t j ↔ eQ A S B cl h0 p0 n0 i p n (m + 1) t j := by
  unfold eQ
  refine or_congr Iff.rfl (and_congr Iff.rfl (and_congr Iff.rfl ⟨?_, ?_⟩))
  · rintro ⟨m', q1, q2⟩; exact ⟨m', by omega, q2⟩
  · rintro ⟨m', q1, q2, q3, q4⟩
    by_cases w : m' = m
    · subst w; rw [h] at q3; cases q3
    · exact ⟨m', by omega, q2, q3, q4⟩
theorem eQ_yes {A : Nat → Nat} {S : Nat} {B : Nat → Nat → Nat → Nat} {cl : Bool} {h0 p0 n0 i p n m t0 : Nat} (hm : m ≤ A 1) (hb : (B (h0 + i) p n).testBit m = true) (hr : rE A S B cl h0 p0 n0 i p n ∧ aEnd A (h0 + i) p n = 0)
    (ht : ∀ t j, eT1 A S cl (h0 + i) p n m t j ↔ t = t0 ∧ j = aNx A S n t0) (t j : Nat) : (eQ A S B cl h0 p0 n0 i p n m t j ∨ (t = t0 ∧ j = aNx A S n t0)) ↔ eQ A S B cl h0 p0 n0 i p n (m + 1) t j := by
  unfold eQ
  constructor
  · rintro ((q | ⟨q1, q2, m', q3, q4⟩) | q)
    · exact Or.inl q
    · exact Or.inr ⟨q1, q2, m', by omega, q4⟩
    · exact Or.inr ⟨hr.1, hr.2, m, by omega, hm, hb, (ht t j).mpr q⟩
  · rintro (q | ⟨q1, q2, m', q3, q4, q5, q6⟩)
    · exact Or.inl (Or.inl q)
    · by_cases w : m' = m
      · subst w; exact Or.inr ((ht t j).mp q6)
      · exact Or.inl (Or.inr ⟨q1, q2, m', by omega, q4, q5, q6⟩)
