/-! ===== worth of one who chooses for himself ===== -/
def gSf (A : Nat → Nat) (S : Nat) (sn : Nat → Bool) (sc : Nat → Int64) (B : Nat → Nat → Nat → Nat) (l : Nat → Bool) (k : Nat) (r : Nat → Int64) (h p n : Nat) : Prop :=
  r (sN h p n) = if aEnd A h p n = 0 then gBr A S (sn h) r h p n ((gBs (B h p n) (gBr A S (sn h) r h p n) (l h) (A 1 + 1)).getD 0) else gEn A sc k h p (aEnd A h p n)
theorem gSf_cg {A : Nat → Nat} {S : Nat} {sn : Nat → Bool} {sc : Nat → Int64} {B : Nat → Nat → Nat → Nat} {l : Nat → Bool} {k : Nat} {r r' : Nat → Int64} {h p n : Nat} (hA : gLd A) (hS : S < 13) (hn : n < 13) (hp : p < 12) (hr : ∀ t j, t < 12 → j < 13 → r (sN (h + 1) t j) = r' (sN (h + 1) t j)) (he : r (sN h p n) = r' (sN h p n)) (H : gSf A S sn sc B l k r h p n) : gSf A S sn sc B l k r' h p n := by
  have a1 := hA.2.1
  unfold gSf at H ⊢
  rw [← he, H]
  by_cases e : aEnd A h p n = 0
  · rw [if_pos e, if_pos e]
    have q : gBs (B h p n) (gBr A S (sn h) r h p n) (l h) (A 1 + 1) = gBs (B h p n) (gBr A S (sn h) r' h p n) (l h) (A 1 + 1) :=
      gBs_cg _ (fun m hm => gBr_cg hA hS hn hp (by omega) hr)
    rw [q]
    refine gBr_cg hA hS hn hp ?_ hr
    cases hg : gBs (B h p n) (gBr A S (sn h) r' h p n) (l h) (A 1 + 1) with
    | none => exact Nat.zero_le _
    | some b => have := gBs_lt hg; show b ≤ 24; omega
  · rw [if_neg e, if_neg e]
/-- what the moves of a leader are, in the table of lawful moves -/
def gLw (A : Nat → Nat) (S : Nat) (M : Nat → Nat → Nat → Nat → Nat) (I : Nat → Nat → Nat → Int32) : Prop :=
  ∀ k h p n, k < A 2 → h < A 3 → p < A 0 → n ≤ S → aEnd A h p n = 0 → I 136 0 (k * 3900 + sN h p n) = nI (M k h p n) ∧ M k h p n < 2 ^ 26 ∧ ∃ m0, m0 ≤ A 1 ∧ (gMv (M k h p n)).testBit m0 = true
theorem gMv_lt {x : Nat} (h : x < 2 ^ 26) : gMv x < 2 ^ 31 := by unfold gMv; split <;> omega
set_option maxRecDepth 100000 in
theorem p_findAlone (d k : Nat) (A : Nat → Nat) (hk : k < A 2) (I : Nat → Nat → Nat → Int32) (hl : gLx I A) (hA : gLd A) (S : Nat) (hS : I 100 0 31 = nI S) (hS2 : S < 13) (sn : Nat → Bool) (hsn : ∀ h, h < A 3 → I 142 0 h = gb (sn h)) (M : Nat → Nat → Nat → Nat → Nat) (hM : gLw A S M I) (L : Nat → Nat → Nat → Int64) (y : Dy) :
    gTM mX12_findAlone (d + 5) (0, 0) [gM0, gI (nI k)] (gH I L y)
      (fun v h' => v = [] ∧ ∃ L', h' = gH I L' y ∧ (∀ b, b ≠ 140 → L' b = L b) ∧ (∀ j, ¬ (k * 3900 ≤ j ∧ j < k * 3900 + 3900) → L' 140 0 j = L 140 0 j) ∧
        ∀ h p n, h ≤ A 3 → p < A 0 → n ≤ S → gSf A S sn (L 138 0) (fun h p n => gMv (M k h p n)) (fun _ => false) k (fun j => L' 140 0 (k * 3900 + j)) h p n) (fun _ _ => False) := by
  have a0 := hA.1
  have a1 := hA.2.1
  have a2 := hA.2.2.1
  have a3 := hA.2.2.2.1
  refine gEnter 400 [13, 20, 34] kX12_findAlone rfl rfl ?_
  refine Exists.intro (3) (And.intro rfl (And.intro (show _ < 708 by omega) ?_))
  refine gT_grid (σ := Nat → Nat → Nat → Int64) 13 20 34 (fun z _ => [some gM0, some (gI (nI k)), some (gI (nI (k * 3900))), some (gI z), none, none, none, none]) (fun h p _ => [some gM0, some (gI (nI k)), some (gI (nI (k * 3900))), some (gI (nI h)), some (gI (nI p)), none, none, none]) (fun h p n _ => [some gM0, some (gI (nI k)), some (gI (nI (k * 3900))), some (gI (nI h)), some (gI (nI p)), some (gI (nI n)), none, none]) (fun x => gH I x y)
    (fun x => (∀ b, b ≠ 140 → x b = L b) ∧ (∀ j, ¬ (k * 3900 ≤ j ∧ j < k * 3900 + 3900) → x 140 0 j = L 140 0 j)) (fun h p n x => gSf A S sn (L 138 0) (fun h p n => gMv (M k h p n)) (fun _ => false) k (fun j => x 140 0 (k * 3900 + j)) h p n) (A 3) (A 0) S ?_ ?_ ?_ ?_ ?_ ?_ L ⟨fun _ _ => rfl, fun _ _ => rfl⟩ (by rw [← hl 3 (by omega), ← pk_mul]; exact (by (repeat' apply And.intro) <;> first | rfl | trivial | exact congrArg Sum.inl (nI_1 _).symm | exact congrArg Sum.inl (nI_1 _).symm))
  · intro x ⟨hx1, hx2⟩ hC
    refine gT_go 400 [13, 20, 34] kX12_findAlone ?_
    refine And.intro (fun c => ?_) (fun c => absurd (show (-1 : Int32) < 0 by decide) c)
    exact ⟨rfl, x, rfl, hx1, hx2, hC⟩
  · intro h x hh _ hnext
    refine gT_go 400 [13, 20, 34] kX12_findAlone ?_
    refine And.intro (fun c => absurd c (nI_pos (by omega))) (fun c => ?_)
    exact hnext _ (by (repeat' apply And.intro) <;> first | rfl | trivial | exact congrArg Sum.inl (nI_1 _).symm | exact congrArg Sum.inl (nI_1 _).symm)
  · intro h p x hh hp _ hnext
    refine gT_go 400 [13, 20, 34] kX12_findAlone ?_
    refine Exists.intro (0) (And.intro rfl (And.intro (show _ < 708 by omega) ?_))
    refine bGe p (A 0) rfl (hl 0 (by omega)) (fun c => absurd c (by omega)) (fun c => ?_)
    exact hnext _ (by (repeat' apply And.intro) <;> first | rfl | trivial | exact congrArg Sum.inl (nI_1 _).symm | exact congrArg Sum.inl (nI_1 _).symm)
  · intro h x hh _ hnext
    refine gT_go 400 [13, 20, 34] kX12_findAlone ?_
    refine Exists.intro (0) (And.intro rfl (And.intro (show _ < 708 by omega) ?_))
    refine bGe (A 0) (A 0) rfl (hl 0 (by omega)) (fun c => ?_) (fun c => absurd c (by omega))
    exact hnext (nI h + gic (-1)) _ (by show nI h + -1 + 1 = nI h; grind) (by (repeat' apply And.intro) <;> first | rfl | trivial | exact congrArg Sum.inl (nI_1 _).symm | exact congrArg Sum.inl (nI_1 _).symm)
  · intro h p x hh hp _ hnext
    refine gT_go 400 [13, 20, 34] kX12_findAlone ?_
    refine bGt (S + 1) S rfl hS (fun c => ?_) (fun c => absurd c (by omega))
    exact hnext _ (by (repeat' apply And.intro) <;> first | rfl | trivial | exact congrArg Sum.inl (nI_1 _).symm | exact congrArg Sum.inl (nI_1 _).symm)
  · intro h p n x hh hp hn ⟨hx1, hx2⟩ hC hnext
    have hs := sN_lt (h := h) (p := p) (n := n) (by omega) (by omega) (by omega)
    have key : ∀ v : Int64, v = (if aEnd A h p n = 0 then gBr A S (sn h) (fun j => x 140 0 (k * 3900 + j)) h p n ((gBs (gMv (M k h p n)) (gBr A S (sn h) (fun j => x 140 0 (k * 3900 + j)) h p n) false (A 1 + 1)).getD 0) else gEn A (L 138 0) k h p (aEnd A h p n)) →
        (∀ h' p' n', h' ≤ A 3 → p' < A 0 → n' ≤ S → gBf h p n h' p' n' → gSf A S sn (L 138 0) (fun h p n => gMv (M k h p n)) (fun _ => false) k (fun j => u3 x 140 0 (k * 3900 + sN h p n) v 140 0 (k * 3900 + j)) h' p' n') ∧
        gSf A S sn (L 138 0) (fun h p n => gMv (M k h p n)) (fun _ => false) k (fun j => u3 x 140 0 (k * 3900 + sN h p n) v 140 0 (k * 3900 + j)) h p n := by
      intro v hv
      have later : ∀ h', h ≤ h' → ∀ t j, t < 12 → j < 13 → x 140 0 (k * 3900 + sN (h' + 1) t j) = u3 x 140 0 (k * 3900 + sN h p n) v 140 0 (k * 3900 + sN (h' + 1) t j) := by
        intro h' hh' t j ht hj
        exact (u3_ne3 (by intro e; have := sN_inj (h := h' + 1) (h' := h) ht hj (by omega) (by omega) (Nat.add_left_cancel e); omega)).symm
      refine ⟨fun h' p' n' b1 b2 b3 q => ?_, ?_⟩
      · refine gSf_cg hA hS2 (by omega) (by omega) (later h' (by unfold gBf at q; omega)) ?_ (hC h' p' n' b1 b2 b3 q)
        exact (u3_ne3 (by intro e; have := sN_inj (h := h') (h' := h) (by omega) (by omega) (by omega) (by omega) (Nat.add_left_cancel e); unfold gBf at q; omega)).symm
      · refine gSf_cg (r := fun j => if j = sN h p n then v else x 140 0 (k * 3900 + j)) hA hS2 (by omega) (by omega) ?_ ?_ ?_
        · intro t j ht hj
          rw [← later h (Nat.le_refl _) t j ht hj]
          exact if_neg (by intro e; have := sN_inj (h := h + 1) (h' := h) ht hj (by omega) (by omega) e; omega)
        · exact (if_pos rfl).trans u3_eq.symm
        · unfold gSf
          refine (if_pos rfl).trans ?_
          refine hv.trans ?_
          have hr : ∀ t j, t < 12 → j < 13 → x 140 0 (k * 3900 + sN (h + 1) t j) = (fun j => if j = sN h p n then v else x 140 0 (k * 3900 + j)) (sN (h + 1) t j) := by
            intro t j ht hj
            exact (if_neg (by intro e; have := sN_inj (h := h + 1) (h' := h) ht hj (by omega) (by omega) e; omega)).symm
          by_cases e : aEnd A h p n = 0
          · rw [if_pos e, if_pos e]
            have q : gBs (gMv (M k h p n)) (gBr A S (sn h) (fun j => x 140 0 (k * 3900 + j)) h p n) false (A 1 + 1) = gBs (gMv (M k h p n)) (gBr A S (sn h) (fun j => if j = sN h p n then v else x 140 0 (k * 3900 + j)) h p n) false (A 1 + 1) :=
              gBs_cg _ (fun m hm => gBr_cg hA hS2 (by omega) (by omega) (by omega) hr)
            rw [← q]
            refine gBr_cg hA hS2 (by omega) (by omega) ?_ hr
            cases hg : gBs (gMv (M k h p n)) (gBr A S (sn h) (fun j => x 140 0 (k * 3900 + j)) h p n) false (A 1 + 1) with
            | none => exact Nat.zero_le _
            | some b => have := gBs_lt hg; show b ≤ 24; omega
          · rw [if_neg e, if_neg e]
    have fin := fun (v : Int64) (hv : v = (if aEnd A h p n = 0 then gBr A S (sn h) (fun j => x 140 0 (k * 3900 + j)) h p n ((gBs (gMv (M k h p n)) (gBr A S (sn h) (fun j => x 140 0 (k * 3900 + j)) h p n) false (A 1 + 1)).getD 0) else gEn A (L 138 0) k h p (aEnd A h p n))) (lo' : Lo) hl' =>
      hnext (u3 x 140 0 (k * 3900 + sN h p n) v) lo' ⟨fun b hb => (u3_ne1 hb).trans (hx1 b hb), fun j hj => (u3_ne3 (by omega)).trans (hx2 j hj)⟩ (key v hv).1 (key v hv).2 hl'
    refine gT_go 400 [13, 20, 34] kX12_findAlone ?_
    refine bGt n S rfl hS (fun c => absurd c (by omega)) (fun c => ?_)
    refine gP_use (p_state (d + 3) h p n (gH I x y)) ?_
    refine gP_use (p_ended (d + 3) h p n (by omega) (by omega) (by omega) A I hl hA.lt x y) ?_
    refine bEq (aEnd A h p n) 0 rfl rfl (fun c => ?_) (fun c => ?_) (by have := aEnd_lt A h p n; omega) (by decide)
    · have hh3 : h < A 3 := by have := (aEnd_0 c).2; omega
      obtain ⟨m1, m2, m0, m3, m4⟩ := hM k h p n hk hh3 hp hn c
      refine gP_use (p_moves (d + 3) k (sN h p n) _ (by omega) (by omega) I x y m1) ?_
      refine gP_use (p_best d 140 (k * 3900) _ h p n false (Or.inr (Or.inl rfl)) (by omega) (gMv_lt m2) (by omega) (by omega) (aEnd_0 c).1 (by omega) A I hl hA S hS hS2 (sn h) (hsn h hh3) x y) ?_
      obtain ⟨b, hb⟩ := gBs_some (v := gBr A S (sn h) (fun j => x 140 0 (k * 3900 + j)) h p n) (l := false) m4 (A 1 + 1) (by omega)
      have hb2 := gBs_lt hb
      rw [hb] at fin ⊢
      refine gP_use (p_brings (d + 1) 140 (k * 3900) h p n b (Or.inr (Or.inl rfl)) (by omega) (by omega) (by omega) (aEnd_0 c).1 (by omega) (by omega) A I hl hA S hS hS2 (sn h) (hsn h hh3) x y) ?_
      refine Exists.intro (k * 3900 + sN h p n) (And.intro (nI_add _ _) (And.intro (show k * 3900 + sN h p n < 19500 by omega) ?_))
      exact fin _ (by rw [if_pos c]; rfl) _ (by (repeat' apply And.intro) <;> first | rfl | trivial | exact congrArg Sum.inl (nI_1 _).symm | exact congrArg Sum.inl (nI_1 _).symm)
    · refine gP_use (p_ends (d + 3) k h p (aEnd A h p n) (by omega) (by omega) (by omega) (aEnd_lt A h p n) A I hl x y) ?_
      refine Exists.intro (k * 3900 + sN h p n) (And.intro (nI_add _ _) (And.intro (show k * 3900 + sN h p n < 19500 by omega) ?_))
      exact fin _ (by rw [if_neg c, hx1 138 (by decide)]) _ (by (repeat' apply And.intro) <;> first | rfl | trivial | exact congrArg Sum.inl (nI_1 _).symm | exact congrArg Sum.inl (nI_1 _).symm)
