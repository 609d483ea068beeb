/-! ===== a play, worked out ===== -/
theorem gTM_use {m : GM} {d : Nat} {B : Nat × Nat} {av av' : List AV} {h : Hp} {Qr Qr' : List AV → Hp → Prop} {Qx : Rf → Hp → Prop} (e : av = av') (H : gTM m d B av' h Qr' (fun _ _ => False)) (hr : ∀ v h', Qr' v h' → Qr v h') : gTM m d B av h Qr Qx := by
  subst e
  exact gTM_mono H hr (fun _ _ q => q.elim)
theorem gSf_cg2 {A : Nat → Nat} {S : Nat} {sn : Nat → Bool} {sc : Nat → Int64} {B : Nat → Nat → Nat → Nat} {l : Nat → Bool} {k : Nat} {r r' : Nat → Int64} {h p n : Nat} (hA : gLd A) (hS : S < 13) (hn : n < 13) (hp : p < 12) (hr : aEnd A h p n = 0 → ∀ t j, t < 12 → j < 13 → r (sN (h + 1) t j) = r' (sN (h + 1) t j)) (he : r (sN h p n) = r' (sN h p n)) (H : gSf A S sn sc B l k r h p n) : gSf A S sn sc B l k r' h p n := by
  by_cases e : aEnd A h p n = 0
  · exact gSf_cg hA hS hn hp (hr e) he H
  · unfold gSf at H ⊢
    rw [if_neg e] at H ⊢
    exact he.symm.trans H
theorem gXb_cg {B : Nat} {v v' : Nat → Int64} {W : Nat} (h : ∀ m, m ≤ W → v m = v' m) : gXb B v W = gXb B v' W := by
  unfold gXb
  rw [gBs_cg (W + 1) (fun m hm => h m (Nat.le_of_lt_succ hm))]
theorem gCt_cg {f f' : Nat → Nat} {m : Nat} : ∀ n, (∀ k, k < n → f k = f' k) → gCt f m n = gCt f' m n := by
  intro n
  induction n with
  | zero => intro _; rfl
  | succ n ih =>
    intro h
    rw [gCt, gCt, h n (Nat.lt_succ_self n), ih (fun k hk => h k (Nat.lt_succ_of_lt hk))]
theorem gSu_cg {P : Option (Nat × Nat)} {v v' : Nat → Int64} : ∀ n, (∀ k, k < n → v k = v' k) → gSu P v n = gSu P v' n := by
  intro n
  induction n with
  | zero => intro _; rfl
  | succ n ih =>
    intro h
    have e := ih (fun k hk => h k (Nat.lt_succ_of_lt hk))
    cases hq : gIn P n with
    | true => rw [gSu_t hq, gSu_t hq, e, h n (Nat.lt_succ_self n)]
    | false => rw [gSu_f hq, gSu_f hq, e]
theorem gChk_cg0 {A : Nat → Nat} {S : Nat} {s : Bool} {P : PP} {k B : Nat} {W W' rA rA' rB rB' : Nat → Int64} {h p n : Nat} (hk : k < A 2)
    (b1 : ∀ q m, q < A 2 → m ≤ A 1 → gBr A S s (fun j => W (q * 3900 + j)) h p n m = gBr A S s (fun j => W' (q * 3900 + j)) h p n m) (b2 : ∀ m, m ≤ A 1 → gBr A S s (fun j => rA (k * 3900 + j)) h p n m = gBr A S s (fun j => rA' (k * 3900 + j)) h p n m)
    (b3 : P.2.1 k = 4 → ∀ m, m ≤ A 1 → gBr A S s (fun j => rB (k * 3900 + j)) h p n m = gBr A S s (fun j => rB' (k * 3900 + j)) h p n m) :
    gChk A S s P k B W rA rB h p n = gChk A S s P k B W' rA' rB' h p n := by
  have bs : ∀ PQ, gXb B (fun m => gSu PQ (fun q => gBr A S s (fun j => W (q * 3900 + j)) h p n m) (A 2)) (A 1) = gXb B (fun m => gSu PQ (fun q => gBr A S s (fun j => W' (q * 3900 + j)) h p n m) (A 2)) (A 1) :=
    fun PQ => gXb_cg (fun m hm => gSu_cg _ (fun q hq => b1 q m hq hm))
  have bv : (fun m => gCt (fun q => gXb B (gBr A S s (fun j => W (q * 3900 + j)) h p n) (A 1)) m (A 2)) = (fun m => gCt (fun q => gXb B (gBr A S s (fun j => W' (q * 3900 + j)) h p n) (A 1)) m (A 2)) :=
    funext (fun m => gCt_cg _ (fun q hq => gXb_cg (fun m hm => b1 q m hq hm)))
  unfold gChk
  cases P.2.2.2.1 with
  | true => exact congrArg (fun c => gVw c (A 1)) bv
  | false =>
    cases gPin P.2.2.1 k with
    | true => exact bs _
    | false =>
      simp only [cond_false]
      rw [gXb_cg (v := gBr A S s (fun j => W (k * 3900 + j)) h p n) (fun m hm => b1 k m hk hm), gXb_cg (v := gBr A S s (fun j => rA (k * 3900 + j)) h p n) b2, bs none]
      exact gKd_cg (fun e => gXb_cg (b3 e))
theorem gChk_cg {A : Nat → Nat} {S : Nat} {s : Bool} {P : PP} {k B : Nat} {W W' rA rA' rB rB' : Nat → Int64} {h p n : Nat} (hA : gLd A) (hS : S < 13) (hn : n < 13) (hp : p < 12) (hk : k < A 2)
    (e1 : ∀ q t j, q < A 2 → t < 12 → j < 13 → W (q * 3900 + sN (h + 1) t j) = W' (q * 3900 + sN (h + 1) t j)) (e2 : ∀ t j, t < 12 → j < 13 → rA (k * 3900 + sN (h + 1) t j) = rA' (k * 3900 + sN (h + 1) t j)) (e3 : P.2.1 k = 4 → ∀ t j, t < 12 → j < 13 → rB (k * 3900 + sN (h + 1) t j) = rB' (k * 3900 + sN (h + 1) t j)) :
    gChk A S s P k B W rA rB h p n = gChk A S s P k B W' rA' rB' h p n := by
  have a1 := hA.2.1
  exact gChk_cg0 hk (fun q m hq hm => gBr_cg hA hS hn hp (by omega) (fun t j ht hj => e1 q t j hq ht hj)) (fun m hm => gBr_cg hA hS hn hp (by omega) (fun t j ht hj => e2 t j ht hj)) (fun e m hm => gBr_cg hA hS hn hp (by omega) (fun t j ht hj => e3 e t j ht hj))
/-- what a state is worth to k in a play -/
def gPr (A : Nat → Nat) (S : Nat) (sn : Nat → Bool) (sc : Nat → Int64) (P : PP) (M : Nat → Nat → Nat → Nat → Nat) (W rA rB : Nat → Int64) (k h p n : Nat) : Int64 :=
  if aEnd A h p n = 0 then gBr A S (sn h) (fun j => W (k * 3900 + j)) h p n (gCh A S sn P M W rA rB h p n) else gEn A sc k h p (aEnd A h p n)
/-- the two tables of a play at a state -/
def gPx (A : Nat → Nat) (S : Nat) (sn : Nat → Bool) (sc : Nat → Int64) (P : PP) (M : Nat → Nat → Nat → Nat → Nat) (rA rB : Nat → Int64) (T : Nat → Int32) (W : Nat → Int64) (h p n : Nat) : Prop :=
  T (sN h p n) = (if aEnd A h p n = 0 then nI (gCh A S sn P M W rA rB h p n) else -1) ∧ ∀ k, k < A 2 → W (k * 3900 + sN h p n) = gPr A S sn sc P M W rA rB k h p n
theorem gCh_cg {A : Nat → Nat} {S : Nat} {sn : Nat → Bool} {P : PP} {M : Nat → Nat → Nat → Nat → Nat} {W W' rA rB : Nat → Int64} {h p n : Nat} (hA : gLd A) (hS : S < 13) (hn : n < 13) (hp : p < 12) (hk : P.1 h < A 2)
    (e1 : ∀ q t j, q < A 2 → t < 12 → j < 13 → W (q * 3900 + sN (h + 1) t j) = W' (q * 3900 + sN (h + 1) t j)) : gCh A S sn P M W rA rB h p n = gCh A S sn P M W' rA rB h p n :=
  gChk_cg hA hS hn hp hk e1 (fun _ _ _ _ => rfl) (fun _ _ _ _ _ => rfl)
theorem gPr_cg {A : Nat → Nat} {S : Nat} {sn : Nat → Bool} {sc : Nat → Int64} {P : PP} {M : Nat → Nat → Nat → Nat → Nat} {W W' rA rB : Nat → Int64} {k h p n : Nat} (hA : gLd A) (hS : S < 13) (hn : n < 13) (hp : p < 12) (hkk : k < A 2) (hk : h < A 3 → P.1 h < A 2) (hpl : h < A 3 → P.2.2.2.2 h ≤ A 1) (hh : h ≤ A 3)
    (e1 : h < A 3 → ∀ q t j, q < A 2 → t < 12 → j < 13 → W (q * 3900 + sN (h + 1) t j) = W' (q * 3900 + sN (h + 1) t j)) : gPr A S sn sc P M W rA rB k h p n = gPr A S sn sc P M W' rA rB k h p n := by
  have a1 := hA.2.1
  unfold gPr
  by_cases e : aEnd A h p n = 0
  · have hh3 : h < A 3 := by have := (aEnd_0 e).2; omega
    rw [if_pos e, if_pos e, gCh_cg hA hS hn hp (hk hh3) (e1 hh3)]
    have := gChk_le (A := A) (S := S) (s := sn h) (P := P) (k := P.1 h) (B := gMv (M (P.1 h) h p n)) (W := W') (rA := rA) (rB := rB) (h := h) (p := p) (n := n) (hpl hh3)
    exact gBr_cg hA hS hn hp (by unfold gCh; omega) (fun t j ht hj => e1 hh3 k t j hkk ht hj)
  · rw [if_neg e, if_neg e]
theorem gPx_cg {A : Nat → Nat} {S : Nat} {sn : Nat → Bool} {sc : Nat → Int64} {P : PP} {M : Nat → Nat → Nat → Nat → Nat} {rA rB : Nat → Int64} {T T' : Nat → Int32} {W W' : Nat → Int64} {h p n : Nat} (hA : gLd A) (hS : S < 13) (hn : n < 13) (hp : p < 12) (hk : h < A 3 → P.1 h < A 2) (hpl : h < A 3 → P.2.2.2.2 h ≤ A 1) (hh : h ≤ A 3)
    (e1 : h < A 3 → ∀ q t j, q < A 2 → t < 12 → j < 13 → W (q * 3900 + sN (h + 1) t j) = W' (q * 3900 + sN (h + 1) t j)) (e2 : T' (sN h p n) = T (sN h p n)) (e3 : ∀ k, k < A 2 → W' (k * 3900 + sN h p n) = W (k * 3900 + sN h p n))
    (H : gPx A S sn sc P M rA rB T W h p n) : gPx A S sn sc P M rA rB T' W' h p n := by
  refine ⟨?_, fun k hk2 => ?_⟩
  · rw [e2, H.1]
    by_cases e : aEnd A h p n = 0
    · have hh3 : h < A 3 := by have := (aEnd_0 e).2; omega
      rw [if_pos e, if_pos e, gCh_cg hA hS hn hp (hk hh3) (e1 hh3)]
    · rw [if_neg e, if_neg e]
  · rw [e3 k hk2, H.2 k hk2]
    exact gPr_cg hA hS hn hp hk2 hk hpl hh e1
set_option maxRecDepth 100000 in
theorem t_playsRow {Qr : List AV → Hp → Prop} {Qx : Rf → Hp → Prop} (d h p n T : Nat) (A : Nat → Nat) (I : Nat → Nat → Nat → Int32) (hl : gLx I A) (hA : gLd A) (S : Nat) (hS : I 100 0 31 = nI S) (hS2 : S < 13) (hh : h ≤ A 3) (hp : p < A 0) (hn : n ≤ S) (sn : Nat → Bool) (hsn : h < A 3 → I 142 0 h = gb (sn h)) (hT : aEnd A h p n = 0 → I 137 0 (sN h p n) = nI T ∧ T ≤ A 1) (L : Nat → Nat → Nat → Int64) (y : Dy)
    (hk : ∀ (L' : Nat → Nat → Nat → Int64) (lo' : Lo), (∀ b, b ≠ 139 → L' b = L b) → (∀ j, (∀ k, k < A 2 → j ≠ k * 3900 + sN h p n) → L' 139 0 j = L 139 0 j) → (∀ k, k < A 2 → L' 139 0 (k * 3900 + sN h p n) = if aEnd A h p n = 0 then gBr A S (sn h) (fun j => L 139 0 (k * 3900 + j)) h p n T else gEn A (L 138 0) k h p (aEnd A h p n)) →
      glle [some gM0, some (gI (nI h)), some (gI (nI p)), some (gI (nI (n + 1))), none, none, none] lo' → gT mX12_plays (d + 7) (0, 0) Qr Qx 58 lo' [] (gH I L' y) (0, 0))
    {lo0 : Lo} (h0 : glle [some gM0, some (gI (nI h)), some (gI (nI p)), some (gI (nI n)), some (gI (nI (sN h p n))), some (gI (nI (aEnd A h p n))), some (gI (nI 0))] lo0) :
    gT mX12_plays (d + 7) (0, 0) Qr Qx 127 lo0 [] (gH I L y) (0, 0) := by
  have a0 := hA.1
  have a1 := hA.2.1
  have a2 := hA.2.2.1
  have a3 := hA.2.2.2.1
  have hs := sN_lt (h := h) (p := p) (n := n) (by omega) (by omega) (by omega)
  refine gT_for (σ := Nat → Nat → Nat → Int64) (pc := 127) (lo := fun i _ => [some gM0, some (gI (nI h)), some (gI (nI p)), some (gI (nI n)), some (gI (nI (sN h p n))), some (gI (nI (aEnd A h p n))), some (gI (nI i))]) (hp := fun _ x => gH I x y)
    (Inv := fun i x => (∀ b, b ≠ 139 → x b = L b) ∧ (∀ j, (∀ k, k < i → j ≠ k * 3900 + sN h p n) → x 139 0 j = L 139 0 j) ∧ ∀ k, k < i → x 139 0 (k * 3900 + sN h p n) = if aEnd A h p n = 0 then gBr A S (sn h) (fun j => L 139 0 (k * 3900 + j)) h p n T else gEn A (L 138 0) k h p (aEnd A h p n)) (A 2) ?_ ?_ 0 L (Nat.zero_le _) ⟨fun _ _ => rfl, fun _ _ => rfl, fun k hk => absurd hk (Nat.not_lt_zero _)⟩ h0
  · intro x ⟨x1, x2, x3⟩
    refine gT_go 400 [58, 127] kX12_plays ?_
    refine Exists.intro (2) (And.intro rfl (And.intro (show _ < 708 by omega) ?_))
    refine bGe (A 2) (A 2) rfl (hl 2 (by omega)) (fun c => ?_) (fun c => absurd c (by omega))
    exact hk x _ x1 x2 x3 (by (repeat' apply And.intro) <;> first | rfl | trivial | exact congrArg Sum.inl (nI_1 _).symm | exact congrArg Sum.inl (nI_1 _).symm)
  · intro i x hi ⟨x1, x2, x3⟩ hnext
    have fin := fun (v : Int64) (hv : v = if aEnd A h p n = 0 then gBr A S (sn h) (fun j => L 139 0 (i * 3900 + j)) h p n T else gEn A (L 138 0) i h p (aEnd A h p n)) (lo' : Lo) hl' =>
      hnext (u3 x 139 0 (i * 3900 + sN h p n) v) lo' ⟨fun b hb => (u3_ne1 hb).trans (x1 b hb), fun j hj => (u3_ne3 (hj i (Nat.lt_succ_self i))).trans (x2 j (fun k hk => hj k (Nat.lt_succ_of_lt hk))), fun k hk => by
        rcases Nat.lt_or_ge k i with q | q
        · exact (u3_ne3 (by omega)).trans (x3 k q)
        · have e : k = i := by omega
          subst e
          exact u3_eq.trans hv⟩ hl'
    refine gT_go 400 [58, 127] kX12_plays ?_
    refine Exists.intro (2) (And.intro rfl (And.intro (show _ < 708 by omega) ?_))
    refine bGe i (A 2) rfl (hl 2 (by omega)) (fun c => absurd c (by omega)) (fun c => ?_)
    refine bEq (aEnd A h p n) 0 rfl rfl (fun c => ?_) (fun c => ?_) (by have := aEnd_lt A h p n; omega) (by decide)
    · have hh3 : h < A 3 := by have := (aEnd_0 c).2; omega
      obtain ⟨T1, T2⟩ := hT c
      refine Exists.intro (sN h p n) (And.intro rfl (And.intro (show _ < 3900 by omega) ?_))
      refine gP_use (gP_eq (by rw [← T1, ← pk_mul] <;> rfl) (p_brings (d + 3) 139 (i * 3900) h p n T (Or.inl rfl) (by omega) (by omega) (by omega) (aEnd_0 c).1 (by omega) (by omega) A I hl hA S hS hS2 (sn h) (hsn hh3) x y)) ?_
      refine Exists.intro (i * 3900 + sN h p n) (And.intro (by rw [← nI_add, ← pk_mul] <;> rfl) (And.intro (show i * 3900 + sN h p n < 19500 by omega) ?_))
      refine fin _ ?_ _ (by (repeat' apply And.intro) <;> first | rfl | trivial | exact congrArg Sum.inl (nI_1 _).symm | exact congrArg Sum.inl (nI_1 _).symm)
      rw [if_pos c]
      refine gBr_cg hA hS2 (by omega) (by omega) (by omega) (fun t j ht hj => ?_)
      have hs2 := sN_lt (h := h + 1) (p := t) (n := j) (by omega) ht hj
      exact x2 _ (fun k hk e => by have : sN (h + 1) t j = sN h p n := by omega
                                   have := sN_inj (h := h + 1) (h' := h) ht hj (by omega) (by omega) this
                                   omega)
    · refine gP_use (p_ends (d + 5) i h p (aEnd A h p n) (by omega) (by omega) (by omega) (aEnd_lt A h p n) A I hl x y) ?_
      refine Exists.intro (i * 3900 + sN h p n) (And.intro (by rw [← nI_add, ← pk_mul] <;> rfl) (And.intro (show i * 3900 + sN h p n < 19500 by omega) ?_))
      exact fin _ (by rw [if_neg c, x1 138 (by decide)]) _ (by (repeat' apply And.intro) <;> first | rfl | trivial | exact congrArg Sum.inl (nI_1 _).symm | exact congrArg Sum.inl (nI_1 _).symm)
set_option maxRecDepth 100000 in
theorem p_plays (d : Nat) (A : Nat → Nat) (I : Nat → Nat → Nat → Int32) (hl : gLx I A) (hA : gLd A) (S : Nat) (hS : I 100 0 31 = nI S) (hS2 : S < 13) (sn : Nat → Bool) (hsn : ∀ h, h < A 3 → I 142 0 h = gb (sn h)) (M : Nat → Nat → Nat → Nat → Nat) (hM : gLw A S M I) (P : PP) (hP : gPf A P I) (L : Nat → Nat → Nat → Int64) (y : Dy) :
    gTM mX12_plays (d + 7) (0, 0) [gM0] (gH I L y)
      (fun v h' => v = [] ∧ ∃ I' L', h' = gH I' L' y ∧ (∀ b, b ≠ 137 → b ≠ 143 → I' b = I b) ∧ (∀ b, b ≠ 139 → b ≠ 141 → L' b = L b) ∧
        (∀ k, k < A 2 → P.2.1 k = 4 → ∀ h p n, h ≤ A 3 → p < A 0 → n ≤ S → gSf A S sn (L 138 0) (fun h p n => gMv (M (P.1 h) h p n)) (fun h => decide (P.1 h ≠ k)) k (fun j => L' 141 0 (k * 3900 + j)) h p n) ∧
        ∀ h p n, h ≤ A 3 → p < A 0 → n ≤ S → gPx A S sn (L 138 0) P M (L 140 0) (L' 141 0) (I' 137 0) (L' 139 0) h p n) (fun _ _ => False) := by
  have a0 := hA.1
  have a1 := hA.2.1
  have a2 := hA.2.2.1
  have a3 := hA.2.2.2.1
  have tr : ∀ x : Nat → Nat → Nat → Int32, (∀ b, b ≠ 137 → b ≠ 143 → x b = I b) → gLx x A ∧ x 100 0 31 = nI S ∧ (∀ h, h < A 3 → x 142 0 h = gb (sn h)) ∧ gLw A S M x ∧ gPf A P x := by
    intro x hx
    refine ⟨?_, ?_, ?_, ?_, ?_⟩
    · intro j hj; rw [hx 110 (by decide) (by decide)]; exact hl j hj
    · rw [hx 100 (by decide) (by decide)]; exact hS
    · intro h hh; rw [hx 142 (by decide) (by decide)]; exact hsn h hh
    · unfold gLw; rw [hx 136 (by decide) (by decide)]; exact hM
    · unfold gPf; rw [hx 100 (by decide) (by decide), hx 125 (by decide) (by decide), hx 129 (by decide) (by decide), hx 130 (by decide) (by decide)]; exact hP
  obtain ⟨P1, P2, P3, P4, P5⟩ := hP
  refine gEnter 400 [2, 40] kX12_plays rfl rfl ?_
  refine gT_for (σ := Nat → Nat → Nat → Int64) (pc := 2) (lo := fun i _ => [some gM0, some (gI (nI i)), none, none, none, none, none]) (hp := fun _ x => gH I x y)
    (Inv := fun i x => (∀ b, b ≠ 141 → x b = L b) ∧ ∀ k, k < i → P.2.1 k = 4 → ∀ h p n, h ≤ A 3 → p < A 0 → n ≤ S → gSf A S sn (L 138 0) (fun h p n => gMv (M (P.1 h) h p n)) (fun h => decide (P.1 h ≠ k)) k (fun j => x 141 0 (k * 3900 + j)) h p n) (A 2) ?_ ?_ 0 L (Nat.zero_le _) ⟨fun _ _ => rfl, fun k hk => absurd hk (Nat.not_lt_zero _)⟩ (by (repeat' apply And.intro) <;> first | rfl | trivial | exact congrArg Sum.inl (nI_1 _).symm | exact congrArg Sum.inl (nI_1 _).symm)
  · intro Lb ⟨b1, b2⟩
    refine gT_go 400 [2, 40] kX12_plays ?_
    refine Exists.intro (2) (And.intro rfl (And.intro (show _ < 708 by omega) ?_))
    refine bGe (A 2) (A 2) rfl (hl 2 (by omega)) (fun c => ?_) (fun c => absurd c (by omega))
    refine Exists.intro (3) (And.intro rfl (And.intro (show _ < 708 by omega) ?_))
    refine gT_grid (σ := (Nat → Nat → Nat → Int32) × (Nat → Nat → Nat → Int64)) 40 46 58 (fun z _ => [some gM0, some (gI z), none, none, none, none, none]) (fun h p _ => [some gM0, some (gI (nI h)), some (gI (nI p)), none, none, none, none]) (fun h p n _ => [some gM0, some (gI (nI h)), some (gI (nI p)), some (gI (nI n)), none, none, none]) (fun x => gH x.1 x.2 y)
      (fun x => (∀ b, b ≠ 137 → b ≠ 143 → x.1 b = I b) ∧ (∀ b, b ≠ 139 → x.2 b = Lb b)) (fun h p n x => gPx A S sn (L 138 0) P M (L 140 0) (Lb 141 0) (x.1 137 0) (x.2 139 0) h p n) (A 3) (A 0) S ?_ ?_ ?_ ?_ ?_ ?_ (I, Lb) ⟨fun _ _ _ => rfl, fun _ _ => rfl⟩ (by rw [← hl 3 (by omega)]; exact (by (repeat' apply And.intro) <;> first | rfl | trivial | exact congrArg Sum.inl (nI_1 _).symm | exact congrArg Sum.inl (nI_1 _).symm))
    · intro x ⟨hx1, hx2⟩ hC
      refine gT_go 400 [40, 46, 58] kX12_plays ?_
      refine And.intro (fun c => ?_) (fun c => absurd (show (-1 : Int32) < 0 by decide) c)
      refine ⟨rfl, x.1, x.2, rfl, hx1, fun b h1 h2 => (hx2 b h1).trans (b1 b h2), ?_, ?_⟩
      · rw [hx2 141 (by decide)]; exact b2
      · rw [hx2 141 (by decide)]; exact hC
    · intro h x hh _ hnext
      refine gT_go 400 [40, 46, 58] kX12_plays ?_
      refine And.intro (fun c => absurd c (nI_pos (by omega))) (fun c => ?_)
      exact hnext _ (by (repeat' apply And.intro) <;> first | rfl | trivial | exact congrArg Sum.inl (nI_1 _).symm | exact congrArg Sum.inl (nI_1 _).symm)
    · intro h p x hh hp ⟨hx1, hx2⟩ hnext
      refine gT_go 400 [40, 46, 58] kX12_plays ?_
      refine Exists.intro (0) (And.intro rfl (And.intro (show _ < 708 by omega) ?_))
      refine bGe p (A 0) rfl ((tr x.1 hx1).1 0 (by omega)) (fun c => absurd c (by omega)) (fun c => ?_)
      exact hnext _ (by (repeat' apply And.intro) <;> first | rfl | trivial | exact congrArg Sum.inl (nI_1 _).symm | exact congrArg Sum.inl (nI_1 _).symm)
    · intro h x hh ⟨hx1, hx2⟩ hnext
      refine gT_go 400 [40, 46, 58] kX12_plays ?_
      refine Exists.intro (0) (And.intro rfl (And.intro (show _ < 708 by omega) ?_))
      refine bGe (A 0) (A 0) rfl ((tr x.1 hx1).1 0 (by omega)) (fun c => ?_) (fun c => absurd c (by omega))
      exact hnext (nI h + gic (-1)) _ (by show nI h + -1 + 1 = nI h; grind) (by (repeat' apply And.intro) <;> first | rfl | trivial | exact congrArg Sum.inl (nI_1 _).symm | exact congrArg Sum.inl (nI_1 _).symm)
    · intro h p x hh hp ⟨hx1, hx2⟩ hnext
      refine gT_go 400 [40, 46, 58] kX12_plays ?_
      refine bGt (S + 1) S rfl (tr x.1 hx1).2.1 (fun c => ?_) (fun c => absurd c (by omega))
      exact hnext _ (by (repeat' apply And.intro) <;> first | rfl | trivial | exact congrArg Sum.inl (nI_1 _).symm | exact congrArg Sum.inl (nI_1 _).symm)
    · intro h p n x hh hp hn ⟨hx1, hx2⟩ hC hnext
      have hs := sN_lt (h := h) (p := p) (n := n) (by omega) (by omega) (by omega)
      obtain ⟨t1, t2, t3, t4, t5⟩ := tr x.1 hx1
      have row := fun (I2 : Nat → Nat → Nat → Int32) (T : Nat) (i1 : ∀ b, b ≠ 137 → b ≠ 143 → I2 b = I b) (i2 : ∀ j, j ≠ sN h p n → I2 137 0 j = x.1 137 0 j) (i3 : I2 137 0 (sN h p n) = (if aEnd A h p n = 0 then nI T else -1)) (i4 : aEnd A h p n = 0 → T = gCh A S sn P M (x.2 139 0) (L 140 0) (Lb 141 0) h p n ∧ T ≤ A 1) (lo' : Lo) hlo =>
        t_playsRow (lo0 := lo') d h p n T A I2 (tr I2 i1).1 hA S (tr I2 i1).2.1 hS2 hh hp hn sn (fun q => (tr I2 i1).2.2.1 h q) (fun e => ⟨by rw [i3, if_pos e], (i4 e).2⟩) x.2 y (fun L' lo2 f1 f2 f3 f4 => by
          have later : ∀ h', h ≤ h' → h' < A 3 → ∀ q t j, q < A 2 → t < 12 → j < 13 → x.2 139 0 (q * 3900 + sN (h' + 1) t j) = L' 139 0 (q * 3900 + sN (h' + 1) t j) := by
            intro h' g1 g2 q t j hq ht hj
            have hs2 := sN_lt (h := h' + 1) (p := t) (n := j) (by omega) ht hj
            refine (f2 _ (fun k hk e => ?_)).symm
            have e2 : sN (h' + 1) t j = sN h p n := by omega
            have := sN_inj (h := h' + 1) (h' := h) ht hj (by omega) (by omega) e2
            omega
          refine hnext (I2, L') lo2 ⟨i1, fun b hb => (f1 b hb).trans (hx2 b hb)⟩ (fun h' p' n' g1 g2 g3 g4 => ?_) ?_ f4
          · have ne : sN h' p' n' ≠ sN h p n := fun e => by
              have := sN_inj (h := h') (h' := h) (by omega) (by omega) (by omega) (by omega) e
              unfold gBf at g4; omega
            have hs2 := sN_lt (h := h') (p := p') (n := n') (by omega) (by omega) (by omega)
            refine gPx_cg hA hS2 (by omega) (by omega) (fun q => (P1 h' q).2) (fun q => (P5 h' q).2) g1 (fun q => later h' (by unfold gBf at g4; omega) q) (i2 _ ne) (fun k hk => f2 _ (fun k' hk' e => ne (by omega))) (hC h' p' n' g1 g2 g3 g4)
          · have e1 : aEnd A h p n = 0 → gCh A S sn P M (x.2 139 0) (L 140 0) (Lb 141 0) h p n = gCh A S sn P M (L' 139 0) (L 140 0) (Lb 141 0) h p n := fun e => by
              have hh3 : h < A 3 := by have := (aEnd_0 e).2; omega
              exact gCh_cg hA hS2 (by omega) (by omega) (P1 h hh3).2 (later h (Nat.le_refl _) hh3)
            refine ⟨?_, fun k hk => ?_⟩
            · show I2 137 0 (sN h p n) = _
              rw [i3]
              by_cases e : aEnd A h p n = 0
              · rw [if_pos e, if_pos e, ← e1 e, (i4 e).1]
              · rw [if_neg e, if_neg e]
            · refine (f3 k hk).trans ?_
              unfold gPr
              by_cases e : aEnd A h p n = 0
              · have hh3 : h < A 3 := by have := (aEnd_0 e).2; omega
                rw [if_pos e, if_pos e, ← e1 e, ← (i4 e).1]
                have := (i4 e).2
                exact gBr_cg hA hS2 (by omega) (by omega) (by omega) (fun t j ht hj => later h (Nat.le_refl _) hh3 k t j hk ht hj)
              · rw [if_neg e, if_neg e, hx2 138 (by decide), b1 138 (by decide)]) hlo
      refine gT_go 400 [40, 46, 58, 127] kX12_plays ?_
      refine bGt n S rfl t2 (fun c => absurd c (by omega)) (fun c => ?_)
      refine gP_use (p_state (d + 5) h p n (gH x.1 x.2 y)) ?_
      refine gP_use (p_ended (d + 5) h p n (by omega) (by omega) (by omega) A x.1 t1 hA.lt x.2 y) ?_
      refine bEq (aEnd A h p n) 0 rfl rfl (fun c => ?_) (fun c => ?_) (by have := aEnd_lt A h p n; omega) (by decide)
      · have hh3 : h < A 3 := by have := (aEnd_0 c).2; omega
        obtain ⟨l1, l2⟩ := t5.1 h hh3
        obtain ⟨m1, m2, m0, m3, m4⟩ := t4 (P.1 h) h p n l2 hh3 hp hn c
        refine Exists.intro (h) (And.intro rfl (And.intro (show _ < 24 by omega) ?_))
        refine Exists.intro (h) (And.intro rfl (And.intro (show _ < 24 by omega) ?_))
        refine gP_use (gP_eq (by rw [← l1] <;> rfl) (p_moves (d + 5) (P.1 h) (sN h p n) _ (by omega) (by omega) x.1 x.2 y m1)) ?_
        refine gTM_use (by rw [← l1] <;> rfl) (p_chosen d h p n (P.1 h) _ m0 (gMv_lt m2) A hh3 (by omega) (aEnd_0 c).1 (by omega) l2 x.1 t1 hA m4 m3 S t2 hS2 (sn h) (t3 h hh3) P t5 x.2 y) (fun v h' q => ?_)
        obtain ⟨rfl, I1, rfl, hI1⟩ := q
        refine Exists.intro (sN h p n) (And.intro rfl (And.intro (show _ < 3900 by omega) ?_))
        have ec : gChk A S (sn h) P (P.1 h) (gMv (M (P.1 h) h p n)) (x.2 139 0) (x.2 140 0) (x.2 141 0) h p n = gCh A S sn P M (x.2 139 0) (L 140 0) (Lb 141 0) h p n := by
          rw [hx2 140 (by decide), hx2 141 (by decide), b1 140 (by decide)] <;> rfl
        refine row _ (gChk A S (sn h) P (P.1 h) (gMv (M (P.1 h) h p n)) (x.2 139 0) (x.2 140 0) (x.2 141 0) h p n) (fun b g1 g2 => (u3_ne1 g1).trans ((hI1 b g2).trans (hx1 b g1 g2))) (fun j hj => (u3_ne3 hj).trans (by rw [hI1 137 (by decide)])) (u3_eq.trans (by rw [if_pos c])) (fun _ => ⟨ec, gChk_le (t5.2.2.2.2 h hh3).2⟩) _ (by (repeat' apply And.intro) <;> first | rfl | trivial | exact congrArg Sum.inl (nI_1 _).symm | exact congrArg Sum.inl (nI_1 _).symm)
      · refine Exists.intro (sN h p n) (And.intro rfl (And.intro (show _ < 3900 by omega) ?_))
        refine row _ 0 (fun b g1 g2 => (u3_ne1 g1).trans (hx1 b g1 g2)) (fun j hj => u3_ne3 hj) (u3_eq.trans (by rw [if_neg c] <;> rfl)) (fun e => absurd e c) _ (by (repeat' apply And.intro) <;> first | rfl | trivial | exact congrArg Sum.inl (nI_1 _).symm | exact congrArg Sum.inl (nI_1 _).symm)
  · intro i x hi ⟨x1, x2⟩ hnext
    obtain ⟨k1, k2⟩ := P2 i hi
    refine gT_go 400 [2, 40] kX12_plays ?_
    refine Exists.intro (2) (And.intro rfl (And.intro (show _ < 708 by omega) ?_))
    refine bGe i (A 2) rfl (hl 2 (by omega)) (fun c => absurd c (by omega)) (fun c => ?_)
    refine Exists.intro (i) (And.intro rfl (And.intro (show _ < 5 by omega) ?_))
    refine bNe (P.2.1 i) 4 k1 rfl (fun c4 => ?_) (fun c4 => ?_)
    · refine hnext x _ ⟨x1, fun k hk e => ?_⟩ (by (repeat' apply And.intro) <;> first | rfl | trivial | exact congrArg Sum.inl (nI_1 _).symm | exact congrArg Sum.inl (nI_1 _).symm)
      refine x2 k ?_ e
      rcases Nat.lt_or_ge k i with q | q
      · exact q
      · have : k = i := by omega
        subst this
        exact absurd e c4
    · refine gTM_use rfl (p_findBlind (d + 1) i A hi I hl hA S hS hS2 sn hsn M hM P.1 P1 x y) (fun v h' q => ?_)
      obtain ⟨rfl, L', rfl, f1, f2, f3⟩ := q
      refine hnext L' _ ⟨fun b hb => (f1 b hb).trans (x1 b hb), fun k hk e h p n g1 g2 g3 => ?_⟩ (by (repeat' apply And.intro) <;> first | rfl | trivial | exact congrArg Sum.inl (nI_1 _).symm | exact congrArg Sum.inl (nI_1 _).symm)
      rcases Nat.lt_or_ge k i with q | q
      · refine gSf_cg2 hA hS2 (by omega) (by omega) (fun e t j ht hj => ?_) ?_ (x2 k q e h p n g1 g2 g3)
        · have hh3 : h < A 3 := by have := (aEnd_0 e).2; omega
          have hs2 := sN_lt (h := h + 1) (p := t) (n := j) (by omega) ht hj
          exact (f2 _ (by omega)).symm
        · have hs2 := sN_lt (h := h) (p := p) (n := n) (by omega) (by omega) (by omega)
          exact (f2 _ (by omega)).symm
      · have : k = i := by omega
        subst this
        rw [← x1 138 (by decide)]
        exact f3 h p n g1 g2 g3
