/-! ===== the component: tables alone, and of the worst (printed by gen_calone.py) ===== -/
theorem gSf_put {A : Nat → Nat} {S : Nat} {sn : Nat → Bool} {sc : Nat → Int64} {B : Nat → Nat → Nat → Nat} {l : Nat → Bool} {k : Nat} {r r' : Nat → Int64} {h p n : Nat} {v : Int64} (hA : gLd A) (hS : S < 13) (hn : n < 13) (hp : p < 12)
    (e1 : ∀ h' p' n', p' < 12 → n' < 13 → ¬ (h' = h ∧ p' = p ∧ n' = n) → r' (sN h' p' n') = r (sN h' p' n')) (e2 : r' (sN h p n) = v)
    (hv : v = (if aEnd A h p n = 0 then gBr A S (sn h) r h p n ((gBs (B h p n) (gBr A S (sn h) r h p n) (l h) (A 1 + 1)).getD 0) else gEn A sc k h p (aEnd A h p n))) :
    gSf A S sn sc B l k r' h p n ∧ ∀ h' p' n', p' < 12 → n' < 13 → h ≤ h' → ¬ (h' = h ∧ p' = p ∧ n' = n) → gSf A S sn sc B l k r h' p' n' → gSf A S sn sc B l k r' h' p' n' := by
  have a1 := hA.2.1
  refine ⟨?_, fun h' p' n' b1 b2 b3 b4 H => ?_⟩
  · unfold gSf
    rw [e2, hv]
    have hr : ∀ t j, t < 12 → j < 13 → r (sN (h + 1) t j) = r' (sN (h + 1) t j) := fun t j ht hj => (e1 (h + 1) t j ht hj (by omega)).symm
    by_cases e : aEnd A h p n = 0
    · rw [if_pos e, if_pos e]
      have q : gBs (B h p n) (gBr A S (sn h) r h p n) (l h) (A 1 + 1) = gBs (B h p n) (gBr A S (sn h) r' h p n) (l h) (A 1 + 1) :=
        gBs_cg _ (fun m hm => gBr_cg hA hS hn hp (by omega) hr)
      rw [← q]
      refine gBr_cg hA hS hn hp ?_ hr
      cases hg : gBs (B h p n) (gBr A S (sn h) r h p n) (l h) (A 1 + 1) with
      | none => exact Nat.zero_le _
      | some b => have := gBs_lt hg; show b ≤ 24; omega
    · rw [if_neg e, if_neg e]
  · exact gSf_cg hA hS b2 b1 (fun t j ht hj => (e1 (h' + 1) t j ht hj (by omega)).symm) (e1 h' p' n' b1 b2 b4).symm H
theorem cN_inj {h p n h' p' n' : Nat} (hp : p < 12) (hn : n < 13) (hp' : p' < 12) (hn' : n' < 13) (e : cN h p n = cN h' p' n') : h = h' ∧ p = p' ∧ n = n' := by unfold cN at e; omega
/-- a table's place is written -/
theorem vw_put {α : Type} {x : Nat → Nat → Nat → α} {b k h p n : Nat} {v : α} (hp : p < 12) (hn : n < 13) : (∀ h' p' n', p' < 12 → n' < 13 → ¬ (h' = h ∧ p' = p ∧ n' = n) → vw (fun s => u3 x b k (cN h p n) v b k s) (sN h' p' n') = vw (fun s => x b k s) (sN h' p' n')) ∧ vw (fun s => u3 x b k (cN h p n) v b k s) (sN h p n) = v := by
  refine ⟨fun h' p' n' b1 b2 b3 => ?_, ?_⟩
  · rw [vw_s b1 b2, vw_s b1 b2]
    exact u3_ne3 (fun e => b3 (by have := cN_inj b1 b2 hp hn e; omega))
  · rw [vw_s hp hn]
    exact u3_eq
/-- what is lawful, in the component's rows -/
def cLw (A : Nat → Nat) (S : Nat) (M : Nat → Nat → Nat → Nat → Nat) (I : Nat → Nat → Nat → Int32) : Prop :=
  ∀ k h p n, k < A 2 → h < A 3 → p < A 0 → n ≤ S → aEnd A h p n = 0 → I 160 k (cN h p n) = nI (M k h p n) ∧ M k h p n < 2 ^ 26 ∧ ∃ m0, m0 ≤ A 1 ∧ (gMv (M k h p n)).testBit m0 = true
/-- who leads, in the component's rows -/
def cLe (T : Nat → Option Nat) (RD : Nat → Nat) (K : Nat) (A : Nat → Nat) (I : Nat → Nat → Nat → Int32) : Prop :=
  (∀ h, h < 24 → I 23 0 h = gOI (T h) ∧ ∀ k, T h = some k → k < A 2) ∧ 0 < K ∧ K < 13 ∧ I 20 0 7 = nI K ∧ ∀ j, j < A 2 → I 72 0 j = nI (RD j) ∧ RD j < A 2
theorem cLe.lt {T : Nat → Option Nat} {RD : Nat → Nat} {K : Nat} {A : Nat → Nat} {I : Nat → Nat → Nat → Int32} (hl : cLe T RD K A I) (hA2 : 0 < A 2) {h : Nat} (hh : h < 24) : cWho T RD K (A 2) h < A 2 := by
  unfold cWho
  cases hq : T h with
  | some k => exact (hl.1 h hh).2 k hq
  | none => exact (hl.2.2.2.2 _ (Nat.mod_lt _ hA2)).2
theorem cLe.use {T : Nat → Option Nat} {RD : Nat → Nat} {K : Nat} {A : Nat → Nat} {I : Nat → Nat → Nat → Int32} (hl : cLe T RD K A I) (d h S : Nat) (hh : h < 24) (hA : gLd A) (hA2 : 0 < A 2) (L : Nat → Nat → Nat → Int64) (y : Dy) (hc : cLd y.1 S A I) : gP mX1_leaderOf (d + 1) [gG0, gI (nI h)] (gH I L y) (gI (nI (cWho T RD K (A 2) h))) :=
  o_leaderOf d h S hh A hA hA2 T RD K hl.2.1 hl.2.2.1 I L y hc (hl.1 h hh).1 (fun k q => by have := (hl.1 h hh).2 k q; have := hA.2.2.1; omega) hl.2.2.2.1 (fun j hj => (hl.2.2.2.2 j hj).1)
set_option maxRecDepth 100000 in
theorem o_findAlone0 (d k : Nat) (A : Nat → Nat) (hk : k < A 2) (hA : gLd A) (hA0 : 0 < A 0) (S : Nat) (hS : S < 13) (I : Nat → Nat → Nat → Int32) (M : Nat → Nat → Nat → Nat → Nat) (hM : cLw A S M I) (L : Nat → Nat → Nat → Int64) (y : Dy) (hl : cLd y.1 S A I) :
    gTM mX1_findAlone_2 (d + 5) (0, 0) [gG0, gI (nI k), gI 0] (gH I L y)
      (fun v h' => v = [] ∧ ∃ L', h' = gH I L' y ∧ (∀ b, b ≠ 162 → L' b = L b) ∧ (∀ j, j ≠ k → L' 162 j = L 162 j) ∧
        ∀ h p n, h ≤ A 3 → p < A 0 → n ≤ S → gSf A S (gSn A) (L 74 0) (fun h p n => gMv (M k h p n)) (fun _ => false) k (vw (fun s => L' 162 k s)) h p n) (fun _ _ => False) := by
  have a0 := hA.1
  have a1 := hA.2.1
  have a2 := hA.2.2.1
  have a3 := hA.2.2.2.1
  have e0 := hl.1 0 (by decide)
  have e3 := hl.1 3 (by decide)
  have e4 := hl.2.1
  have at46 : ∀ lo', glle [some gG0, some (gI (nI k)), some (gI 0), some (gR (some (162, k))), some (gR (some (31, 0))), some (gI (nI (A 3))), none, none, none, none] lo' → gT mX1_findAlone_2 (d + 5) (0, 0) (fun v h' => v = [] ∧ ∃ L', h' = gH I L' y ∧ (∀ b, b ≠ 162 → L' b = L b) ∧ (∀ j, j ≠ k → L' 162 j = L 162 j) ∧
        ∀ h p n, h ≤ A 3 → p < A 0 → n ≤ S → gSf A S (gSn A) (L 74 0) (fun h p n => gMv (M k h p n)) (fun _ => false) k (vw (fun s => L' 162 k s)) h p n) (fun _ _ => False) 46 lo' [] (gH I L y) (0, 0) := by
    intro lo' hl'
    refine gT_grid (σ := Nat → Nat → Nat → Int64) 46 82 97 (fun z _ => [some gG0, some (gI (nI k)), some (gI 0), some (gR (some (162, k))), some (gR (some (31, 0))), some (gI z), none, none, none, none]) (fun h n _ => [some gG0, some (gI (nI k)), some (gI 0), some (gR (some (162, k))), some (gR (some (31, 0))), some (gI (nI h)), some (gI (nI k)), some (gI (nI n)), none, none]) (fun h n p _ => [some gG0, some (gI (nI k)), some (gI 0), some (gR (some (162, k))), some (gR (some (31, 0))), some (gI (nI h)), some (gI (nI k)), some (gI (nI n)), some (gI (nI p)), none]) (fun x => gH I x y)
      (fun x => (∀ b, b ≠ 162 → x b = L b) ∧ (∀ j, j ≠ k → x 162 j = L 162 j)) (fun h n p x => gSf A S (gSn A) (L 74 0) (fun h p n => gMv (M k h p n)) (fun _ => false) k (vw (fun s => x 162 k s)) h p n) (A 3) (S + 1) (A 0 - 1) ?_ ?_ ?_ ?_ ?_ ?_ L ⟨fun _ _ => rfl, fun _ _ => rfl⟩ hl'
    · intro x ⟨hx1, hx2⟩ hC
      refine gT_go 400 [46, 82, 97] kX1_findAlone_2 ?_
      refine And.intro (fun c => ?_) (fun c => absurd (show (-1 : Int32) < 0 by decide) c)
      exact ⟨rfl, x, rfl, hx1, hx2, fun h p n b1 b2 b3 => hC h n p b1 (by omega) (by omega)⟩
    · intro h x hh _ hnext
      refine gT_go 400 [46, 77, 82, 97] kX1_findAlone_2 ?_
      refine And.intro (fun c => absurd c (nI_pos (by omega))) (fun c => ?_)
      refine And.intro (fun _ => ?_) (fun q => absurd rfl q)
      refine gT_go 400 [46, 82, 97] kX1_findAlone_2 ?_
      exact hnext _ (by (repeat' apply And.intro) <;> first | rfl | trivial | exact congrArg Sum.inl (nI_1 _).symm | exact congrArg Sum.inl (nI_1 _).symm)
    · intro h n x hh hn _ hnext
      refine gT_go 400 [46, 82, 97] kX1_findAlone_2 ?_
      refine bGt n S rfl e4 (fun c => absurd c (by omega)) (fun c => ?_)
      exact hnext _ (by (repeat' apply And.intro) <;> first | rfl | trivial | exact congrArg Sum.inl (nI_1 _).symm | exact congrArg Sum.inl (nI_1 _).symm)
    · intro h x hh _ hnext
      refine gT_go 400 [46, 82, 97] kX1_findAlone_2 ?_
      refine bGt (S + 1) S rfl e4 (fun c => ?_) (fun c => absurd c (by omega))
      exact hnext (nI h + gic (-1)) _ (by show nI h + -1 + 1 = nI h; grind) (by (repeat' apply And.intro) <;> first | rfl | trivial | exact congrArg Sum.inl (nI_1 _).symm | exact congrArg Sum.inl (nI_1 _).symm)
    · intro h n x hh hn _ hnext
      refine gT_go 400 [46, 82, 97] kX1_findAlone_2 ?_
      refine bGe (A 0 - 1 + 1) (A 0) rfl e0 (fun c => ?_) (fun c => absurd c (by omega))
      exact hnext _ (by (repeat' apply And.intro) <;> first | rfl | trivial | exact congrArg Sum.inl (nI_1 _).symm | exact congrArg Sum.inl (nI_1 _).symm)
    · intro h n p x hh hn hp ⟨hx1, hx2⟩ hC hnext
      have hc := cN_lt (h := h) (p := p) (n := n) (by omega) (by omega) (by omega)
      have fin : ∀ (v : Int64) (lo' : Lo), v = (if aEnd A h p n = 0 then gBr A S (gSn A h) (vw (fun s => x 162 k s)) h p n ((gBs (gMv (M k h p n)) (gBr A S (gSn A h) (vw (fun s => x 162 k s)) h p n) ((fun _ => false) h) (A 1 + 1)).getD 0) else gEn A (L 74 0) k h p (aEnd A h p n)) → glle [some gG0, some (gI (nI k)), some (gI 0), some (gR (some (162, k))), some (gR (some (31, 0))), some (gI (nI h)), some (gI (nI k)), some (gI (nI n)), some (gI (nI (p + 1))), none] lo' → gT mX1_findAlone_2 (d + 5) (0, 0) (fun v h' => v = [] ∧ ∃ L', h' = gH I L' y ∧ (∀ b, b ≠ 162 → L' b = L b) ∧ (∀ j, j ≠ k → L' 162 j = L 162 j) ∧
        ∀ h p n, h ≤ A 3 → p < A 0 → n ≤ S → gSf A S (gSn A) (L 74 0) (fun h p n => gMv (M k h p n)) (fun _ => false) k (vw (fun s => L' 162 k s)) h p n) (fun _ _ => False) 97 lo' [] (gH I (u3 x 162 k (cN h p n) v) y) (0, 0) := by
        intro v lo' hv hl'
        obtain ⟨q1, q2⟩ := vw_put (x := x) (b := 162) (k := k) (h := h) (p := p) (n := n) (v := v) (by omega) (by omega)
        obtain ⟨w1, w2⟩ := gSf_put (B := fun h p n => gMv (M k h p n)) (l := (fun _ => false)) (k := k) (sc := L 74 0) (sn := gSn A) hA hS (by omega) (by omega) q1 q2 hv
        refine hnext (u3 x 162 k (cN h p n) v) lo' ⟨fun b hb => (u3_ne1 hb).trans (hx1 b hb), fun j hj => (funext fun s => u3_ne (fun z => hj z.2.1)).trans (hx2 j hj)⟩ (fun h' n' p' b1 b2 b3 b4 => ?_) w1 hl'
        have b4' : h < h' ∨ (h' = h ∧ (n' < n ∨ (n' = n ∧ p' < p))) := b4
        exact w2 h' p' n' (by omega) (by omega) (by omega) (by omega) (hC h' n' p' b1 b2 b3 b4)
      have at191 : ∀ (v : Int64) (lo' : Lo), v = (if aEnd A h p n = 0 then gBr A S (gSn A h) (vw (fun s => x 162 k s)) h p n ((gBs (gMv (M k h p n)) (gBr A S (gSn A h) (vw (fun s => x 162 k s)) h p n) ((fun _ => false) h) (A 1 + 1)).getD 0) else gEn A (L 74 0) k h p (aEnd A h p n)) → glle [some gG0, some (gI (nI k)), some (gI 0), some (gR (some (162, k))), some (gR (some (31, 0))), some (gI (nI h)), some (gI (nI k)), some (gI (nI n)), some (gI (nI p)), none] lo' → gT mX1_findAlone_2 (d + 5) (0, 0) (fun v h' => v = [] ∧ ∃ L', h' = gH I L' y ∧ (∀ b, b ≠ 162 → L' b = L b) ∧ (∀ j, j ≠ k → L' 162 j = L 162 j) ∧
        ∀ h p n, h ≤ A 3 → p < A 0 → n ≤ S → gSf A S (gSn A) (L 74 0) (fun h p n => gMv (M k h p n)) (fun _ => false) k (vw (fun s => L' 162 k s)) h p n) (fun _ _ => False) 191 lo' [gL v, gI (nI (cN h p n)), (gR (some (162, k)))] (gH I x y) (0, 0) := by
        intro v lo' hv hl'
        refine gT_lo _ hl' ?_
        refine gT_go 400 [97] kX1_findAlone_2 ?_
        refine Exists.intro (cN h p n) (And.intro rfl (And.intro (show _ < 3900 by omega) ?_))
        exact fin v _ hv (by (repeat' apply And.intro) <;> first | rfl | trivial | exact congrArg Sum.inl (nI_1 _).symm | exact congrArg Sum.inl (nI_1 _).symm)
      refine gT_go 400 [191] kX1_findAlone_2 ?_
      refine bGe p (A 0) rfl e0 (fun c => absurd c (by omega)) (fun c => ?_)
      refine gP_use (o_state (d + 3) h p n (gH I x y)) ?_
      refine gP_use (o_endedOf (d + 2) h p n S (by omega) (by omega) (by omega) A hA I x y hl) ?_
      refine bEq (aEnd A h p n) 0 rfl rfl (fun c => ?_) (fun c => ?_) (by have := aEnd_lt A h p n; omega) (by decide)
      · have hh3 : h < A 3 := by have := (aEnd_0 c).2; omega
        have hn0 := (aEnd_0 c).1
        have hat := o_own d k 0 (by omega) I x y
        obtain ⟨m1, m2, m0, m3, m4⟩ := hM k h p n hk hh3 (by omega) (by omega) c
        obtain ⟨b, hb⟩ := gBs_some (v := gBr A S (gSn A h) (vw (fun s => x 162 k s)) h p n) (l := false) m4 (A 1 + 1) (by omega)
        have hb2 := gBs_lt hb
        refine bNe k k rfl rfl (fun q => absurd rfl q) (fun _ => ?_)
        refine gP_use (o_mayOf (d + 3) k h p n _ (by omega) (by omega) (by omega) (by omega) (by omega) I x y m1) ?_
        refine gP_use (o_takes_31 d 0 k _ h p n S _ (gMv_lt m2) A hA hh3 (by omega) (by omega) hn0 hS I x y hl hat) ?_
        rw [hb]
        refine gP_use (o_weighs_31 (d + 1) 0 k h p n b S _ A hA hh3 (by omega) (by omega) hn0 (by omega) hS I x y hl (o_own (d + 1) k 0 (by omega) I x y)) ?_
        exact at191 _ _ (by rw [if_pos c, hb] <;> rfl) (by (repeat' apply And.intro) <;> first | rfl | trivial | exact congrArg Sum.inl (nI_1 _).symm | exact congrArg Sum.inl (nI_1 _).symm)
      · refine gP_use (o_endsWith (d + 1) k h p n S (by omega) (by omega) (by omega) (by omega) A hA I x y hl) ?_
        exact at191 _ _ (by rw [if_neg c, hx1 74 (by decide)]) (by (repeat' apply And.intro) <;> first | rfl | trivial | exact congrArg Sum.inl (nI_1 _).symm | exact congrArg Sum.inl (nI_1 _).symm)
  refine gEnter 400 [46] kX1_findAlone_2 rfl rfl ?_
  refine And.intro (fun _ => ?_) (fun q => absurd rfl q)
  refine Exists.intro (k) (And.intro rfl (And.intro (show _ < 5 by omega) ?_))
  refine And.intro (fun _ => ?_) (fun q => absurd rfl q)
  exact at46 _ ⟨rfl, rfl, rfl, rfl, rfl, congrArg (fun z => gI z) e3.symm, trivial⟩
set_option maxRecDepth 100000 in
theorem o_findAlone1 (d k : Nat) (A : Nat → Nat) (hk : k < A 2) (hA : gLd A) (hA0 : 0 < A 0) (S : Nat) (hS : S < 13) (I : Nat → Nat → Nat → Int32) (M : Nat → Nat → Nat → Nat → Nat) (hM : cLw A S M I) (T : Nat → Option Nat) (RD : Nat → Nat) (K : Nat) (hle : cLe T RD K A I) (L : Nat → Nat → Nat → Int64) (y : Dy) (hl : cLd y.1 S A I) :
    gTM mX1_findAlone_2 (d + 5) (0, 0) [gG0, gI (nI k), gI 1] (gH I L y)
      (fun v h' => v = [] ∧ ∃ L', h' = gH I L' y ∧ (∀ b, b ≠ 163 → L' b = L b) ∧ (∀ j, j ≠ k → L' 163 j = L 163 j) ∧
        ∀ h p n, h ≤ A 3 → p < A 0 → n ≤ S → gSf A S (gSn A) (L 74 0) (fun h p n => gMv (M (cWho T RD K (A 2) h) h p n)) (fun h => decide (cWho T RD K (A 2) h ≠ k)) k (vw (fun s => L' 163 k s)) h p n) (fun _ _ => False) := by
  have a0 := hA.1
  have a1 := hA.2.1
  have a2 := hA.2.2.1
  have a3 := hA.2.2.2.1
  have e0 := hl.1 0 (by decide)
  have e3 := hl.1 3 (by decide)
  have e4 := hl.2.1
  have at46 : ∀ lo', glle [some gG0, some (gI (nI k)), some (gI 1), some (gR (some (163, k))), some (gR (some (32, 0))), some (gI (nI (A 3))), none, none, none, none] lo' → gT mX1_findAlone_2 (d + 5) (0, 0) (fun v h' => v = [] ∧ ∃ L', h' = gH I L' y ∧ (∀ b, b ≠ 163 → L' b = L b) ∧ (∀ j, j ≠ k → L' 163 j = L 163 j) ∧
        ∀ h p n, h ≤ A 3 → p < A 0 → n ≤ S → gSf A S (gSn A) (L 74 0) (fun h p n => gMv (M (cWho T RD K (A 2) h) h p n)) (fun h => decide (cWho T RD K (A 2) h ≠ k)) k (vw (fun s => L' 163 k s)) h p n) (fun _ _ => False) 46 lo' [] (gH I L y) (0, 0) := by
    intro lo' hl'
    refine gT_grid (σ := Nat → Nat → Nat → Int64) 46 82 97 (fun z _ => [some gG0, some (gI (nI k)), some (gI 1), some (gR (some (163, k))), some (gR (some (32, 0))), some (gI z), none, none, none, none]) (fun h n _ => [some gG0, some (gI (nI k)), some (gI 1), some (gR (some (163, k))), some (gR (some (32, 0))), some (gI (nI h)), some (gI (nI (if h < A 3 then cWho T RD K (A 2) h else k))), some (gI (nI n)), none, none]) (fun h n p _ => [some gG0, some (gI (nI k)), some (gI 1), some (gR (some (163, k))), some (gR (some (32, 0))), some (gI (nI h)), some (gI (nI (if h < A 3 then cWho T RD K (A 2) h else k))), some (gI (nI n)), some (gI (nI p)), none]) (fun x => gH I x y)
      (fun x => (∀ b, b ≠ 163 → x b = L b) ∧ (∀ j, j ≠ k → x 163 j = L 163 j)) (fun h n p x => gSf A S (gSn A) (L 74 0) (fun h p n => gMv (M (cWho T RD K (A 2) h) h p n)) (fun h => decide (cWho T RD K (A 2) h ≠ k)) k (vw (fun s => x 163 k s)) h p n) (A 3) (S + 1) (A 0 - 1) ?_ ?_ ?_ ?_ ?_ ?_ L ⟨fun _ _ => rfl, fun _ _ => rfl⟩ hl'
    · intro x ⟨hx1, hx2⟩ hC
      refine gT_go 400 [46, 82, 97] kX1_findAlone_2 ?_
      refine And.intro (fun c => ?_) (fun c => absurd (show (-1 : Int32) < 0 by decide) c)
      exact ⟨rfl, x, rfl, hx1, hx2, fun h p n b1 b2 b3 => hC h n p b1 (by omega) (by omega)⟩
    · intro h x hh _ hnext
      refine gT_go 400 [46, 77, 82, 97] kX1_findAlone_2 ?_
      refine And.intro (fun c => absurd c (nI_pos (by omega))) (fun c => ?_)
      refine And.intro (fun q => absurd q (by decide)) (fun _ => ?_)
      refine bGe h (A 3) rfl e3 (fun c2 => ?_) (fun c2 => ?_)
      · refine gT_go 400 [46, 82, 97] kX1_findAlone_2 ?_
        refine hnext _ ?_
        rw [if_neg (by omega)]
        exact (by (repeat' apply And.intro) <;> first | rfl | trivial | exact congrArg Sum.inl (nI_1 _).symm | exact congrArg Sum.inl (nI_1 _).symm)
      · refine gP_use (hle.use (d + 3) h S (by omega) hA (by omega) x y hl) ?_
        refine gT_go 400 [46, 82, 97] kX1_findAlone_2 ?_
        refine hnext _ ?_
        rw [if_pos c2]
        exact (by (repeat' apply And.intro) <;> first | rfl | trivial | exact congrArg Sum.inl (nI_1 _).symm | exact congrArg Sum.inl (nI_1 _).symm)
    · intro h n x hh hn _ hnext
      refine gT_go 400 [46, 82, 97] kX1_findAlone_2 ?_
      refine bGt n S rfl e4 (fun c => absurd c (by omega)) (fun c => ?_)
      exact hnext _ (by (repeat' apply And.intro) <;> first | rfl | trivial | exact congrArg Sum.inl (nI_1 _).symm | exact congrArg Sum.inl (nI_1 _).symm)
    · intro h x hh _ hnext
      refine gT_go 400 [46, 82, 97] kX1_findAlone_2 ?_
      refine bGt (S + 1) S rfl e4 (fun c => ?_) (fun c => absurd c (by omega))
      exact hnext (nI h + gic (-1)) _ (by show nI h + -1 + 1 = nI h; grind) (by (repeat' apply And.intro) <;> first | rfl | trivial | exact congrArg Sum.inl (nI_1 _).symm | exact congrArg Sum.inl (nI_1 _).symm)
    · intro h n x hh hn _ hnext
      refine gT_go 400 [46, 82, 97] kX1_findAlone_2 ?_
      refine bGe (A 0 - 1 + 1) (A 0) rfl e0 (fun c => ?_) (fun c => absurd c (by omega))
      exact hnext _ (by (repeat' apply And.intro) <;> first | rfl | trivial | exact congrArg Sum.inl (nI_1 _).symm | exact congrArg Sum.inl (nI_1 _).symm)
    · intro h n p x hh hn hp ⟨hx1, hx2⟩ hC hnext
      have hc := cN_lt (h := h) (p := p) (n := n) (by omega) (by omega) (by omega)
      have fin : ∀ (v : Int64) (lo' : Lo), v = (if aEnd A h p n = 0 then gBr A S (gSn A h) (vw (fun s => x 163 k s)) h p n ((gBs (gMv (M (cWho T RD K (A 2) h) h p n)) (gBr A S (gSn A h) (vw (fun s => x 163 k s)) h p n) ((fun h => decide (cWho T RD K (A 2) h ≠ k)) h) (A 1 + 1)).getD 0) else gEn A (L 74 0) k h p (aEnd A h p n)) → glle [some gG0, some (gI (nI k)), some (gI 1), some (gR (some (163, k))), some (gR (some (32, 0))), some (gI (nI h)), some (gI (nI (if h < A 3 then cWho T RD K (A 2) h else k))), some (gI (nI n)), some (gI (nI (p + 1))), none] lo' → gT mX1_findAlone_2 (d + 5) (0, 0) (fun v h' => v = [] ∧ ∃ L', h' = gH I L' y ∧ (∀ b, b ≠ 163 → L' b = L b) ∧ (∀ j, j ≠ k → L' 163 j = L 163 j) ∧
        ∀ h p n, h ≤ A 3 → p < A 0 → n ≤ S → gSf A S (gSn A) (L 74 0) (fun h p n => gMv (M (cWho T RD K (A 2) h) h p n)) (fun h => decide (cWho T RD K (A 2) h ≠ k)) k (vw (fun s => L' 163 k s)) h p n) (fun _ _ => False) 97 lo' [] (gH I (u3 x 163 k (cN h p n) v) y) (0, 0) := by
        intro v lo' hv hl'
        obtain ⟨q1, q2⟩ := vw_put (x := x) (b := 163) (k := k) (h := h) (p := p) (n := n) (v := v) (by omega) (by omega)
        obtain ⟨w1, w2⟩ := gSf_put (B := fun h p n => gMv (M (cWho T RD K (A 2) h) h p n)) (l := (fun h => decide (cWho T RD K (A 2) h ≠ k))) (k := k) (sc := L 74 0) (sn := gSn A) hA hS (by omega) (by omega) q1 q2 hv
        refine hnext (u3 x 163 k (cN h p n) v) lo' ⟨fun b hb => (u3_ne1 hb).trans (hx1 b hb), fun j hj => (funext fun s => u3_ne (fun z => hj z.2.1)).trans (hx2 j hj)⟩ (fun h' n' p' b1 b2 b3 b4 => ?_) w1 hl'
        have b4' : h < h' ∨ (h' = h ∧ (n' < n ∨ (n' = n ∧ p' < p))) := b4
        exact w2 h' p' n' (by omega) (by omega) (by omega) (by omega) (hC h' n' p' b1 b2 b3 b4)
      have at191 : ∀ (v : Int64) (lo' : Lo), v = (if aEnd A h p n = 0 then gBr A S (gSn A h) (vw (fun s => x 163 k s)) h p n ((gBs (gMv (M (cWho T RD K (A 2) h) h p n)) (gBr A S (gSn A h) (vw (fun s => x 163 k s)) h p n) ((fun h => decide (cWho T RD K (A 2) h ≠ k)) h) (A 1 + 1)).getD 0) else gEn A (L 74 0) k h p (aEnd A h p n)) → glle [some gG0, some (gI (nI k)), some (gI 1), some (gR (some (163, k))), some (gR (some (32, 0))), some (gI (nI h)), some (gI (nI (if h < A 3 then cWho T RD K (A 2) h else k))), some (gI (nI n)), some (gI (nI p)), none] lo' → gT mX1_findAlone_2 (d + 5) (0, 0) (fun v h' => v = [] ∧ ∃ L', h' = gH I L' y ∧ (∀ b, b ≠ 163 → L' b = L b) ∧ (∀ j, j ≠ k → L' 163 j = L 163 j) ∧
        ∀ h p n, h ≤ A 3 → p < A 0 → n ≤ S → gSf A S (gSn A) (L 74 0) (fun h p n => gMv (M (cWho T RD K (A 2) h) h p n)) (fun h => decide (cWho T RD K (A 2) h ≠ k)) k (vw (fun s => L' 163 k s)) h p n) (fun _ _ => False) 191 lo' [gL v, gI (nI (cN h p n)), (gR (some (163, k)))] (gH I x y) (0, 0) := by
        intro v lo' hv hl'
        refine gT_lo _ hl' ?_
        refine gT_go 400 [97] kX1_findAlone_2 ?_
        refine Exists.intro (cN h p n) (And.intro rfl (And.intro (show _ < 3900 by omega) ?_))
        exact fin v _ hv (by (repeat' apply And.intro) <;> first | rfl | trivial | exact congrArg Sum.inl (nI_1 _).symm | exact congrArg Sum.inl (nI_1 _).symm)
      refine gT_go 400 [191] kX1_findAlone_2 ?_
      refine bGe p (A 0) rfl e0 (fun c => absurd c (by omega)) (fun c => ?_)
      refine gP_use (o_state (d + 3) h p n (gH I x y)) ?_
      refine gP_use (o_endedOf (d + 2) h p n S (by omega) (by omega) (by omega) A hA I x y hl) ?_
      refine bEq (aEnd A h p n) 0 rfl rfl (fun c => ?_) (fun c => ?_) (by have := aEnd_lt A h p n; omega) (by decide)
      · have hh3 : h < A 3 := by have := (aEnd_0 c).2; omega
        have hn0 := (aEnd_0 c).1
        have hat := o_fearing d k 0 (by omega) I x y
        have hw24 : h < 24 := by omega
        have hlt := hle.lt (show 0 < A 2 by omega) hw24
        rw [if_pos hh3] at at191 ⊢
        obtain ⟨w, hw⟩ : ∃ w, w = cWho T RD K (A 2) h := ⟨_, rfl⟩
        rw [← hw] at hlt at191 ⊢
        obtain ⟨m1, m2, m0, m3, m4⟩ := hM w h p n hlt hh3 (by omega) (by omega) c
        refine bNe w k rfl rfl (fun c2 => ?_) (fun c2 => ?_)
        · obtain ⟨b, hb⟩ := gBs_some (v := gBr A S (gSn A h) (vw (fun s => x 163 k s)) h p n) (l := true) m4 (A 1 + 1) (by omega)
          refine gP_use (o_mayOf (d + 3) w h p n _ (by omega) (by omega) (by omega) (by omega) (by omega) I x y m1) ?_
          refine gP_use (o_worstOf d 0 k _ h p n S _ (gMv_lt m2) A hA hh3 (by omega) (by omega) hn0 hS I x y hl hat) ?_
          exact at191 _ _ (by rw [if_pos c]; show gMx _ (gBs (gMv (M w h p n)) _ true (A 1 + 1)) = gBr A S (gSn A h) _ h p n ((gBs (gMv (M w h p n)) _ (decide (cWho T RD K (A 2) h ≠ k)) (A 1 + 1)).getD 0); rw [← hw, decide_eq_true c2, hb] <;> rfl) (by (repeat' apply And.intro) <;> first | rfl | trivial | exact congrArg Sum.inl (nI_1 _).symm | exact congrArg Sum.inl (nI_1 _).symm)
        · obtain ⟨b, hb⟩ := gBs_some (v := gBr A S (gSn A h) (vw (fun s => x 163 k s)) h p n) (l := false) m4 (A 1 + 1) (by omega)
          have hb2 := gBs_lt hb
          have m1' : I 160 k (cN h p n) = nI (M w h p n) := by rw [← c2]; exact m1
          refine gP_use (o_mayOf (d + 3) k h p n _ (by omega) (by omega) (by omega) (by omega) (by omega) I x y m1') ?_
          refine gP_use (o_takes_32 d 0 k _ h p n S _ (gMv_lt m2) A hA hh3 (by omega) (by omega) hn0 hS I x y hl hat) ?_
          rw [hb]
          refine gP_use (o_weighs_32 (d + 1) 0 k h p n b S _ A hA hh3 (by omega) (by omega) hn0 (by omega) hS I x y hl (o_fearing (d + 1) k 0 (by omega) I x y)) ?_
          exact at191 _ _ (by rw [if_pos c]; show _ = gBr A S (gSn A h) _ h p n ((gBs (gMv (M w h p n)) _ (decide (cWho T RD K (A 2) h ≠ k)) (A 1 + 1)).getD 0); rw [← hw, decide_eq_false (fun q => q c2), hb] <;> rfl) (by (repeat' apply And.intro) <;> first | rfl | trivial | exact congrArg Sum.inl (nI_1 _).symm | exact congrArg Sum.inl (nI_1 _).symm)
      · refine gP_use (o_endsWith (d + 1) k h p n S (by omega) (by omega) (by omega) (by omega) A hA I x y hl) ?_
        exact at191 _ _ (by rw [if_neg c, hx1 74 (by decide)]) (by (repeat' apply And.intro) <;> first | rfl | trivial | exact congrArg Sum.inl (nI_1 _).symm | exact congrArg Sum.inl (nI_1 _).symm)
  refine gEnter 400 [46] kX1_findAlone_2 rfl rfl ?_
  refine And.intro (fun q => absurd q (by decide)) (fun _ => ?_)
  refine Exists.intro (k) (And.intro rfl (And.intro (show _ < 5 by omega) ?_))
  refine And.intro (fun q => absurd q (by decide)) (fun _ => ?_)
  exact at46 _ ⟨rfl, rfl, rfl, rfl, rfl, congrArg (fun z => gI z) e3.symm, trivial⟩
