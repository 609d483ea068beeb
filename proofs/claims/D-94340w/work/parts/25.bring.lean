/-! ===== what a move brings; the best move ===== -/
theorem bB0 {x : Int32} {P Q : Prop} (b : Bool) (hx : x = gb b) (f : b = false → P) (g : b = true → Q) : (x = 0 → P) ∧ (¬ x = 0 → Q) := by
  subst hx
  cases b
  · exact ⟨fun _ => f rfl, fun c => absurd rfl c⟩
  · exact ⟨fun c => absurd c (by decide), fun _ => g rfl⟩
theorem bB1 {x : Int32} {P Q : Prop} (b : Bool) (hx : x = gb b) (f : b = true → P) (g : b = false → Q) : (¬ x = 0 → P) ∧ (x = 0 → Q) := by
  subst hx
  cases b
  · exact ⟨fun c => absurd rfl c, fun _ => g rfl⟩
  · exact ⟨fun _ => f rfl, fun c => absurd c (by decide)⟩
theorem gs_l : ∀ n, n < 32 → ((nI n &&& 31).toBitVec.smod 32).toNat = n := by decide
theorem gbit {B m : Nat} (hB : B < 2 ^ 31) (hm : m < 32) : (nI B >>> (nI m &&& 31)) &&& 1 = gb (B.testBit m) := by
  rw [pk_shrN hB _ m (gs_l m hm), pk_andN (Nat.lt_of_le_of_lt (Nat.div_le_self _ _) (by omega)) 1 rfl, Nat.testBit_eq_decide_div_mod_eq]
  rcases Nat.mod_two_eq_zero_or_one (B / 2 ^ m) with q | q
  · rw [show (2 : Nat) ^ 1 = 2 from rfl, q]; rfl
  · rw [show (2 : Nat) ^ 1 = 2 from rfl, q]; rfl
/-- a land that was read -/
def gLd (A : Nat → Nat) : Prop := A 0 ≤ 12 ∧ A 1 ≤ 24 ∧ A 2 ≤ 5 ∧ A 3 ≤ 24 ∧ A 4 ≤ 12 ∧ A 5 ≤ 99 ∧ A 6 < 12 ∧ (∀ w, w < 24 → A (19 + w) < 12 ∧ A (43 + w) < 12) ∧ (∀ k, k < 5 → A (67 + k) ≤ 9) ∧ (∀ j, j < 60 → A (72 + j) ≤ 99) ∧ (∀ j, j < 576 → A (132 + j) ≤ 16) ∧ (∀ j, j < 708 → A j < 10000)
theorem gLd.lt {A : Nat → Nat} (h : gLd A) : gLt A := h.2.2.2.2.2.2.2.2.2.2.2
theorem aOth_lt {A : Nat → Nat} (h : gLd A) {w p : Nat} (hw : w < 24) : aOth A w p < 12 := by
  have q := h.2.2.2.2.2.2.2.1 w hw
  unfold aOth
  split <;> omega
theorem aNx_lt {A : Nat → Nat} {S n t : Nat} (hS : S < 13) (hn : n < 13) : aNx A S n t < 13 := by unfold aNx; split <;> omega
theorem aBh_lt {A : Nat → Nat} {S h n t : Nat} (hh : h < 24) (ht : t < 12) (hS : S < 13) (hn : n < 13) : aBh A S h n t < 3900 := sN_lt (by omega) ht (aNx_lt hS hn)
def gBr (A : Nat → Nat) (S : Nat) (sn : Bool) (r : Nat → Int64) (h p n m : Nat) : Int64 :=
  if m = 0 then (bif sn then 16 * r (aBh A S h n p) else r (aBh A S h n p)) else
  bif sn then lN (gSnA A (m - 1) h) * r (aBh A S h n p) + lN (16 - gSnA A (m - 1) h) * r (aBh A S h n (aOth A (m - 1) p)) else r (aBh A S h n (aOth A (m - 1) p))
set_option maxRecDepth 100000 in
theorem p_brings (d b base h p n m : Nat) (hb : b = 139 ∨ b = 140 ∨ b = 141) (hba : base + 3900 ≤ 19500) (hh : h < 24) (hp : p < 12) (hn : 0 < n) (hn2 : n < 13) (hm : m ≤ 24) (A : Nat → Nat) (I : Nat → Nat → Nat → Int32) (hl : gLx I A) (hA : gLd A) (S : Nat) (hS : I 100 0 31 = nI S) (hS2 : S < 13) (sn : Bool) (hsn : I 142 0 h = gb sn) (L : Nat → Nat → Nat → Int64) (y : Dy) :
    gP mX12_brings (d + 3) [gM0, gR (some (b, 0)), gI (nI base), gI (nI h), gI (nI p), gI (nI n), gI (nI m)] (gH I L y) (gL (gBr A S sn (fun j => L b 0 (base + j)) h p n m)) := by
  have hbh := aBh_lt (A := A) hh hp hS2 hn2
  rcases hb with rfl | rfl | rfl
  all_goals
    refine gEnter 400 [] kX12_brings rfl rfl ?_
    refine gP_use (p_behind d h p n p hp hn A I hl hA.lt S hS L y) ?_
    refine Exists.intro (base + aBh A S h n p) (And.intro (nI_add _ _) (And.intro (show _ < 19500 by omega) ?_))
    refine bNe m 0 rfl rfl (fun c => ?_) (fun c => ?_)
    · have how := aOth_lt hA (w := m - 1) (p := p) (by omega)
      have hbo := aBh_lt (A := A) hh how hS2 hn2
      refine gP_use (gP_eq (by rw [← pk_sub (show 1 ≤ m by omega)]; rfl) (p_otherEnd (d + 1) (m - 1) p (by omega) hp A I hl hA.lt L y)) ?_
      refine gP_use (p_behind d h p n _ how hn A I hl hA.lt S hS L y) ?_
      refine Exists.intro (base + aBh A S h n (aOth A (m - 1) p)) (And.intro (nI_add _ _) (And.intro (show _ < 19500 by omega) ?_))
      refine Exists.intro (h) (And.intro rfl (And.intro (show _ < 25 by omega) ?_))
      refine bB1 sn hsn (fun c2 => ?_) (fun c2 => ?_)
      · refine Exists.intro (132 + 24 * (m - 1) + h) (And.intro (by rw [← nI_add, ← nI_add, ← pk_mul, ← pk_sub (show 1 ≤ m by omega)]; rfl) (And.intro (show _ < 708 by omega) ?_))
        have e1 := hl (132 + 24 * (m - 1) + h) (by omega)
        have e2 : A (132 + 24 * (m - 1) + h) ≤ 16 := by
          have q := hA.2.2.2.2.2.2.2.2.2.2.1 (24 * (m - 1) + h) (by omega)
          rw [show 132 + (24 * (m - 1) + h) = 132 + 24 * (m - 1) + h by omega] at q
          exact q
        refine ⟨?_, rfl⟩
        unfold gBr gSnA
        rw [if_neg c, c2]
        rw [← nI_l (show A (132 + 24 * (m - 1) + h) < 2 ^ 31 by omega), ← nI_l (show 16 - A (132 + 24 * (m - 1) + h) < 2 ^ 31 by omega), ← pk_sub e2, ← e1]
        rfl
      · exact ⟨by unfold gBr; rw [if_neg c, c2]; rfl, rfl⟩
    · refine Exists.intro (h) (And.intro rfl (And.intro (show _ < 25 by omega) ?_))
      refine bB0 sn hsn (fun c2 => ?_) (fun c2 => ?_)
      · exact ⟨by unfold gBr; rw [if_pos c, c2]; rfl, rfl⟩
      · exact ⟨by unfold gBr; rw [if_pos c, c2]; rfl, rfl⟩
def gOI : Option Nat → Int32
  | none => -1
  | some b => nI b
def gOv (v : Nat → Int64) : Option Nat → Int64
  | none => 0
  | some b => v b
/-- the best of the first k moves -/
def gBs (B : Nat) (v : Nat → Int64) (least : Bool) : Nat → Option Nat
  | 0 => none
  | k + 1 => bif B.testBit k then (match gBs B v least k with
    | none => some k
    | some b => bif (bif least then decide (v k < v b) else decide (v b < v k)) then some k else some b) else gBs B v least k
theorem gBs_lt {B : Nat} {v : Nat → Int64} {least : Bool} : ∀ {k b}, gBs B v least k = some b → b < k ∧ B.testBit b = true := by
  intro k
  induction k with
  | zero => intro b h; exact absurd h (by simp [gBs])
  | succ k ih =>
    intro b h
    unfold gBs at h
    cases ht : B.testBit k with
    | false =>
      rw [ht] at h
      have q := ih h
      exact ⟨by omega, q.2⟩
    | true =>
      rw [ht] at h
      simp only [cond_true] at h
      cases hg : gBs B v least k with
      | none =>
        rw [hg] at h
        injection h with h
        subst h
        exact ⟨by omega, ht⟩
      | some b0 =>
        rw [hg] at h
        have q := ih hg
        cases hc : (bif least then decide (v k < v b0) else decide (v b0 < v k)) with
        | true =>
          simp only [hc, cond_true] at h
          injection h with h; subst h; exact ⟨by omega, ht⟩
        | false =>
          simp only [hc, cond_false] at h
          injection h with h; subst h; exact ⟨by omega, q.2⟩
