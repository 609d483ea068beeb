/-! ===== switches; a table that is filled; worths of one who fears ===== -/
section GSW
variable {m : GM} {d : Nat} {B : Nat × Nat} {Qr : List AV → Hp → Prop} {Qx : Rf → Hp → Prop} {u : Nat × Nat} {pc : Nat} {lo : Lo} {r : List AV} {h : Hp} {dflt a b : Int} {offs : Array Int} {len : Nat} {x : Int32}
theorem gT_sw (c : Int32) (hx : x = c) (off : Int) (tgt : Nat) (hd : decode (gmC m) pc = .ok (.tableswitch dflt a b offs, len)) (h1 : ¬ c.toInt < a) (h2 : ¬ b < c.toInt) (ho : offs[(c.toInt - a).toNat]? = some off) (ht : (pc : Int) + off = (tgt : Int)) (H : gT m d B Qr Qx tgt lo r h u) : gT m d B Qr Qx pc lo (gI x :: r) h u := by
  subst hx
  intro p l e s mi args below meth c D base ad0 h0 Hh locs ls ad cx ex e2 rp vs lk sl u1 u2
  exact lv_tableIn cx.1 cx.2.1 hd h1 h2 ho ht (H p l e s mi args below meth c D base ad0 h0 Hh locs ls ad cx ex e2 rp vs lk (gl1 sl) u1 u2)
theorem gT_swd (hx : x.toInt < a ∨ b < x.toInt) (tgt : Nat) (hd : decode (gmC m) pc = .ok (.tableswitch dflt a b offs, len)) (ht : (pc : Int) + dflt = (tgt : Int)) (H : gT m d B Qr Qx tgt lo r h u) : gT m d B Qr Qx pc lo (gI x :: r) h u := by
  intro p l e s mi args below meth c D base ad0 h0 Hh locs ls ad cx ex e2 rp vs lk sl u1 u2
  exact lv_tableOut cx.1 cx.2.1 hd hx ht (H p l e s mi args below meth c D base ad0 h0 Hh locs ls ad cx ex e2 rp vs lk (gl1 sl) u1 u2)
end GSW
/-- what one who chooses for himself is worth: the right side of its equation -/
def gRh (A : Nat → Nat) (S : Nat) (sn : Nat → Bool) (sc : Nat → Int64) (B : Nat → Nat → Nat → Nat) (l : Nat → Bool) (k : Nat) (r : Nat → Int64) (h p n : Nat) : Int64 :=
  if aEnd A h p n = 0 then gBr A S (sn h) r h p n ((gBs (B h p n) (gBr A S (sn h) r h p n) (l h) (A 1 + 1)).getD 0) else gEn A sc k h p (aEnd A h p n)
theorem gRh_cg {A : Nat → Nat} {S : Nat} {sn : Nat → Bool} {sc : Nat → Int64} {B : Nat → Nat → Nat → Nat} {l : Nat → Bool} {k : Nat} {r r' : Nat → Int64} {h p n : Nat} (hA : gLd A) (hS : S < 13) (hn : n < 13) (hp : p < 12) (hr : ∀ t j, t < 12 → j < 13 → r (sN (h + 1) t j) = r' (sN (h + 1) t j)) : gRh A S sn sc B l k r h p n = gRh A S sn sc B l k r' h p n := by
  have a1 := hA.2.1
  unfold gRh
  by_cases e : aEnd A h p n = 0
  · rw [if_pos e, if_pos e]
    have q : gBs (B h p n) (gBr A S (sn h) r h p n) (l h) (A 1 + 1) = gBs (B h p n) (gBr A S (sn h) r' h p n) (l h) (A 1 + 1) :=
      gBs_cg _ (fun m hm => gBr_cg hA hS hn hp (by omega) hr)
    rw [q]
    refine gBr_cg hA hS hn hp ?_ hr
    cases hg : gBs (B h p n) (gBr A S (sn h) r' h p n) (l h) (A 1 + 1) with
    | none => exact Nat.zero_le _
    | some b => have := gBs_lt hg; show b ≤ 24; omega
  · rw [if_neg e, if_neg e]
theorem gSf_upd {A : Nat → Nat} {S : Nat} {sn : Nat → Bool} {sc : Nat → Int64} {B : Nat → Nat → Nat → Nat} {l : Nat → Bool} {k : Nat} {r r' : Nat → Int64} {h p n : Nat} (hA : gLd A) (hS : S < 13) (hp : p < A 0) (hn : n ≤ S)
    (h1 : ∀ j, j ≠ sN h p n → r' j = r j) (h2 : r' (sN h p n) = gRh A S sn sc B l k r h p n) :
    (∀ h' p' n', p' < A 0 → n' ≤ S → gBf h p n h' p' n' → gSf A S sn sc B l k r h' p' n' → gSf A S sn sc B l k r' h' p' n') ∧ gSf A S sn sc B l k r' h p n := by
  have a0 := hA.1
  have later : ∀ h', h ≤ h' → ∀ t j, t < 12 → j < 13 → r (sN (h' + 1) t j) = r' (sN (h' + 1) t j) := by
    intro h' hh' t j ht hj
    exact (h1 _ (by intro e; have := sN_inj (h := h' + 1) (h' := h) ht hj (by omega) (by omega) e; omega)).symm
  refine ⟨fun h' p' n' b1 b2 q H => ?_, ?_⟩
  · refine gSf_cg hA hS (by omega) (by omega) (later h' (by unfold gBf at q; omega)) ?_ H
    exact (h1 _ (by intro e; have := sN_inj (h := h') (h' := h) (by omega) (by omega) (by omega) (by omega) e; unfold gBf at q; omega)).symm
  · exact h2.trans (gRh_cg hA hS (by omega) (by omega) (later h (Nat.le_refl _)))
set_option maxRecDepth 100000 in
theorem p_findBlind (d k : Nat) (A : Nat → Nat) (hk : k < A 2) (I : Nat → Nat → Nat → Int32) (hl : gLx I A) (hA : gLd A) (S : Nat) (hS : I 100 0 31 = nI S) (hS2 : S < 13) (sn : Nat → Bool) (hsn : ∀ h, h < A 3 → I 142 0 h = gb (sn h)) (M : Nat → Nat → Nat → Nat → Nat) (hM : gLw A S M I) (ld : Nat → Nat) (hld : ∀ h, h < A 3 → I 129 0 h = nI (ld h) ∧ ld h < A 2) (L : Nat → Nat → Nat → Int64) (y : Dy) :
    gTM mX12_findBlind (d + 5) (0, 0) [gM0, gI (nI k)] (gH I L y)
      (fun v h' => v = [] ∧ ∃ L', h' = gH I L' y ∧ (∀ b, b ≠ 141 → L' b = L b) ∧ (∀ j, ¬ (k * 3900 ≤ j ∧ j < k * 3900 + 3900) → L' 141 0 j = L 141 0 j) ∧
        ∀ h p n, h ≤ A 3 → p < A 0 → n ≤ S → gSf A S sn (L 138 0) (fun h p n => gMv (M (ld h) h p n)) (fun h => decide (ld h ≠ k)) k (fun j => L' 141 0 (k * 3900 + j)) h p n) (fun _ _ => False) := by
  have a0 := hA.1
  have a1 := hA.2.1
  have a2 := hA.2.2.1
  have a3 := hA.2.2.2.1
  refine gEnter 400 [13, 20, 34] kX12_findBlind rfl rfl ?_
  refine Exists.intro (3) (And.intro rfl (And.intro (show _ < 708 by omega) ?_))
  refine gT_grid (σ := Nat → Nat → Nat → Int64) 13 20 34 (fun z _ => [some gM0, some (gI (nI k)), some (gI (nI (k * 3900))), some (gI z), none, none, none, none]) (fun h p _ => [some gM0, some (gI (nI k)), some (gI (nI (k * 3900))), some (gI (nI h)), some (gI (nI p)), none, none, none]) (fun h p n _ => [some gM0, some (gI (nI k)), some (gI (nI (k * 3900))), some (gI (nI h)), some (gI (nI p)), some (gI (nI n)), none, none]) (fun x => gH I x y)
    (fun x => (∀ b, b ≠ 141 → x b = L b) ∧ (∀ j, ¬ (k * 3900 ≤ j ∧ j < k * 3900 + 3900) → x 141 0 j = L 141 0 j)) (fun h p n x => gSf A S sn (L 138 0) (fun h p n => gMv (M (ld h) h p n)) (fun h => decide (ld h ≠ k)) k (fun j => x 141 0 (k * 3900 + j)) h p n) (A 3) (A 0) S ?_ ?_ ?_ ?_ ?_ ?_ L ⟨fun _ _ => rfl, fun _ _ => rfl⟩ (by rw [← hl 3 (by omega), ← pk_mul]; exact (by (repeat' apply And.intro) <;> first | rfl | trivial | exact congrArg Sum.inl (nI_1 _).symm | exact congrArg Sum.inl (nI_1 _).symm))
  · intro x ⟨hx1, hx2⟩ hC
    refine gT_go 400 [13, 20, 34] kX12_findBlind ?_
    refine And.intro (fun c => ?_) (fun c => absurd (show (-1 : Int32) < 0 by decide) c)
    exact ⟨rfl, x, rfl, hx1, hx2, hC⟩
  · intro h x hh _ hnext
    refine gT_go 400 [13, 20, 34] kX12_findBlind ?_
    refine And.intro (fun c => absurd c (nI_pos (by omega))) (fun c => ?_)
    exact hnext _ (by (repeat' apply And.intro) <;> first | rfl | trivial | exact congrArg Sum.inl (nI_1 _).symm | exact congrArg Sum.inl (nI_1 _).symm)
  · intro h p x hh hp _ hnext
    refine gT_go 400 [13, 20, 34] kX12_findBlind ?_
    refine Exists.intro (0) (And.intro rfl (And.intro (show _ < 708 by omega) ?_))
    refine bGe p (A 0) rfl (hl 0 (by omega)) (fun c => absurd c (by omega)) (fun c => ?_)
    exact hnext _ (by (repeat' apply And.intro) <;> first | rfl | trivial | exact congrArg Sum.inl (nI_1 _).symm | exact congrArg Sum.inl (nI_1 _).symm)
  · intro h x hh _ hnext
    refine gT_go 400 [13, 20, 34] kX12_findBlind ?_
    refine Exists.intro (0) (And.intro rfl (And.intro (show _ < 708 by omega) ?_))
    refine bGe (A 0) (A 0) rfl (hl 0 (by omega)) (fun c => ?_) (fun c => absurd c (by omega))
    exact hnext (nI h + gic (-1)) _ (by show nI h + -1 + 1 = nI h; grind) (by (repeat' apply And.intro) <;> first | rfl | trivial | exact congrArg Sum.inl (nI_1 _).symm | exact congrArg Sum.inl (nI_1 _).symm)
  · intro h p x hh hp _ hnext
    refine gT_go 400 [13, 20, 34] kX12_findBlind ?_
    refine bGt (S + 1) S rfl hS (fun c => ?_) (fun c => absurd c (by omega))
    exact hnext _ (by (repeat' apply And.intro) <;> first | rfl | trivial | exact congrArg Sum.inl (nI_1 _).symm | exact congrArg Sum.inl (nI_1 _).symm)
  · intro h p n x hh hp hn ⟨hx1, hx2⟩ hC hnext
    have hs := sN_lt (h := h) (p := p) (n := n) (by omega) (by omega) (by omega)
    have fin := fun (v : Int64) (hv : v = gRh A S sn (L 138 0) (fun h p n => gMv (M (ld h) h p n)) (fun h => decide (ld h ≠ k)) k (fun j => x 141 0 (k * 3900 + j)) h p n) (lo' : Lo) hl' =>
      have up := gSf_upd (B := fun h p n => gMv (M (ld h) h p n)) (l := fun h => decide (ld h ≠ k)) (sc := L 138 0) (sn := sn) (k := k) (r := fun j => x 141 0 (k * 3900 + j)) (r' := fun j => u3 x 141 0 (k * 3900 + sN h p n) v 141 0 (k * 3900 + j)) hA hS2 hp hn (fun j hj => u3_ne3 (by omega)) (u3_eq.trans hv)
      hnext (u3 x 141 0 (k * 3900 + sN h p n) v) lo' ⟨fun b hb => (u3_ne1 hb).trans (hx1 b hb), fun j hj => (u3_ne3 (by omega)).trans (hx2 j hj)⟩ (fun h' p' n' b1 b2 b3 q => up.1 h' p' n' b2 b3 q (hC h' p' n' b1 b2 b3 q)) up.2 hl'
    unfold gRh at fin
    refine gT_go 400 [13, 20, 34] kX12_findBlind ?_
    refine bGt n S rfl hS (fun c => absurd c (by omega)) (fun c => ?_)
    refine gP_use (p_state (d + 3) h p n (gH I x y)) ?_
    refine gP_use (p_ended (d + 3) h p n (by omega) (by omega) (by omega) A I hl hA.lt x y) ?_
    refine bEq (aEnd A h p n) 0 rfl rfl (fun c => ?_) (fun c => ?_) (by have := aEnd_lt A h p n; omega) (by decide)
    · have hh3 : h < A 3 := by have := (aEnd_0 c).2; omega
      obtain ⟨l1, l2⟩ := hld h hh3
      obtain ⟨m1, m2, m0, m3, m4⟩ := hM (ld h) h p n l2 hh3 hp hn c
      refine Exists.intro (h) (And.intro rfl (And.intro (show _ < 24 by omega) ?_))
      refine gP_use (gP_eq (by rw [← l1] <;> rfl) (p_moves (d + 3) (ld h) (sN h p n) _ (by omega) (by omega) I x y m1)) ?_
      refine Exists.intro (h) (And.intro rfl (And.intro (show _ < 24 by omega) ?_))
      obtain ⟨b, hb⟩ := gBs_some (v := gBr A S (sn h) (fun j => x 141 0 (k * 3900 + j)) h p n) (l := decide (ld h ≠ k)) m4 (A 1 + 1) (by omega)
      have hb2 := gBs_lt hb
      have hbe := p_best d 141 (k * 3900) _ h p n (decide (ld h ≠ k)) (Or.inr (Or.inr rfl)) (by omega) (gMv_lt m2) (by omega) (by omega) (aEnd_0 c).1 (by omega) A I hl hA S hS hS2 (sn h) (hsn h hh3) x y
      rw [hb] at fin hbe
      have hbr := p_brings (d + 1) 141 (k * 3900) h p n b (Or.inr (Or.inr rfl)) (by omega) (by omega) (by omega) (aEnd_0 c).1 (by omega) (by omega) A I hl hA S hS hS2 (sn h) (hsn h hh3) x y
      refine bEq (ld h) k l1 rfl (fun c2 => ?_) (fun c2 => ?_)
      · rw [show decide (ld h ≠ k) = false from decide_eq_false (fun q => q c2)] at hbe
        refine gP_use (hbe) ?_
        refine gP_use (hbr) ?_
        refine Exists.intro (k * 3900 + sN h p n) (And.intro (nI_add _ _) (And.intro (show k * 3900 + sN h p n < 19500 by omega) ?_))
        exact fin _ (by rw [if_pos c] <;> rfl) _ (by (repeat' apply And.intro) <;> first | rfl | trivial | exact congrArg Sum.inl (nI_1 _).symm | exact congrArg Sum.inl (nI_1 _).symm)
      · rw [show decide (ld h ≠ k) = true from decide_eq_true c2] at hbe
        refine gP_use (hbe) ?_
        refine gP_use (hbr) ?_
        refine Exists.intro (k * 3900 + sN h p n) (And.intro (nI_add _ _) (And.intro (show k * 3900 + sN h p n < 19500 by omega) ?_))
        exact fin _ (by rw [if_pos c] <;> rfl) _ (by (repeat' apply And.intro) <;> first | rfl | trivial | exact congrArg Sum.inl (nI_1 _).symm | exact congrArg Sum.inl (nI_1 _).symm)
    · refine gP_use (p_ends (d + 3) k h p (aEnd A h p n) (by omega) (by omega) (by omega) (aEnd_lt A h p n) A I hl x y) ?_
      refine Exists.intro (k * 3900 + sN h p n) (And.intro (nI_add _ _) (And.intro (show k * 3900 + sN h p n < 19500 by omega) ?_))
      exact fin _ (by rw [if_neg c, hx1 138 (by decide)]) _ (by (repeat' apply And.intro) <;> first | rfl | trivial | exact congrArg Sum.inl (nI_1 _).symm | exact congrArg Sum.inl (nI_1 _).symm)
