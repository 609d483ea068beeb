/-! ===== reading a land: which clause ===== -/
theorem wd_lt {k : Nat} (hk : k < 22) : wd k < 2 ^ 30 := by
  have h1 := wv_lt hk (gsl k) (Nat.le_refl _)
  have h2 := (gch_all k hk).1
  have h3 : 32 ^ gsl k ≤ 32 ^ 6 := Nat.pow_le_pow_right (by decide) h2
  unfold wd
  omega
theorem rWord_lt {T : Nat → Nat} {N a : Nat} (h : sk T N a ≤ N) : rWord T N a < 2 ^ 30 := by
  unfold rWord wVal
  split
  · next q =>
    obtain ⟨k1, k2, k3, k4⟩ := wE_ok (T := T) h
    have h1 := wF_lt (T := T) (s := sk T N a) (wE T N (sk T N a) - sk T N a) (fun j hj => k3 (sk T N a + j) (by omega) (by omega))
    have h3 : 32 ^ (wE T N (sk T N a) - sk T N a) ≤ 32 ^ 6 := Nat.pow_le_pow_right (by decide) q
    omega
  · decide
def rIsC (w : Nat) : Bool := decide (w = wd 0 ∨ w = wd 1 ∨ w = wd 2 ∨ w = wd 3 ∨ w = wd 4 ∨ w = wd 5 ∨ w = wd 6 ∨ w = wd 7 ∨ w = wd 8)
def rIsF (A : Nat → Nat) (w : Nat) : Bool := decide ((w = wd 0 ∧ A 0 = 12) ∨ (w = wd 1 ∧ A 1 = 24) ∨ (w = wd 3 ∧ A 2 = 5))
set_option maxRecDepth 100000 in
theorem p_isClause (d w : Nat) (hw : w < 2 ^ 30) (H : Hp) : gP mX12_isClause (d + 6) [gI (nI w)] H (gI (gb (rIsC w))) := by
  have b := fun k (hk : k < 22) => wd_lt hk
  have b0 := b 0 (by decide)
  have b1 := b 1 (by decide)
  have b2 := b 2 (by decide)
  have b3 := b 3 (by decide)
  have b4 := b 4 (by decide)
  have b5 := b 5 (by decide)
  have b6 := b 6 (by decide)
  have b7 := b 7 (by decide)
  have b8 := b 8 (by decide)
  refine gEnter 400 [81] kX12_isClause rfl rfl ?_
  have at81 : rIsC w = true → ∀ lo', glle [some (gI (nI w))] lo' → gT mX12_isClause (d + 6) (0, 0) (fun v h' => v = [gI (gb (rIsC w))] ∧ h' = H) (fun _ _ => False) 81 lo' [] H (0, 0) := by
    intro e lo' hl'
    refine gT_lo _ hl' ?_
    refine gT_go 400 [] kX12_isClause ?_
    exact ⟨Or.inr rfl, by rw [e]; rfl, rfl⟩
  refine gP_use (p_of d 0 (by decide) H) ?_
  refine bEq w (wd 0) rfl rfl (fun c => at81 (by unfold rIsC; exact decide_eq_true (by omega)) _ (by (repeat' apply And.intro) <;> first | rfl | trivial | exact congrArg Sum.inl (nI_1 _).symm | exact congrArg Sum.inl (nI_1 _).symm)) (fun c0 => ?_)
  refine gP_use (p_of d 1 (by decide) H) ?_
  refine bEq w (wd 1) rfl rfl (fun c => at81 (by unfold rIsC; exact decide_eq_true (by omega)) _ (by (repeat' apply And.intro) <;> first | rfl | trivial | exact congrArg Sum.inl (nI_1 _).symm | exact congrArg Sum.inl (nI_1 _).symm)) (fun c1 => ?_)
  refine gP_use (p_of d 2 (by decide) H) ?_
  refine bEq w (wd 2) rfl rfl (fun c => at81 (by unfold rIsC; exact decide_eq_true (by omega)) _ (by (repeat' apply And.intro) <;> first | rfl | trivial | exact congrArg Sum.inl (nI_1 _).symm | exact congrArg Sum.inl (nI_1 _).symm)) (fun c2 => ?_)
  refine gP_use (p_of d 3 (by decide) H) ?_
  refine bEq w (wd 3) rfl rfl (fun c => at81 (by unfold rIsC; exact decide_eq_true (by omega)) _ (by (repeat' apply And.intro) <;> first | rfl | trivial | exact congrArg Sum.inl (nI_1 _).symm | exact congrArg Sum.inl (nI_1 _).symm)) (fun c3 => ?_)
  refine gP_use (p_of d 4 (by decide) H) ?_
  refine bEq w (wd 4) rfl rfl (fun c => at81 (by unfold rIsC; exact decide_eq_true (by omega)) _ (by (repeat' apply And.intro) <;> first | rfl | trivial | exact congrArg Sum.inl (nI_1 _).symm | exact congrArg Sum.inl (nI_1 _).symm)) (fun c4 => ?_)
  refine gP_use (p_of d 5 (by decide) H) ?_
  refine bEq w (wd 5) rfl rfl (fun c => at81 (by unfold rIsC; exact decide_eq_true (by omega)) _ (by (repeat' apply And.intro) <;> first | rfl | trivial | exact congrArg Sum.inl (nI_1 _).symm | exact congrArg Sum.inl (nI_1 _).symm)) (fun c5 => ?_)
  refine gP_use (p_of d 6 (by decide) H) ?_
  refine bEq w (wd 6) rfl rfl (fun c => at81 (by unfold rIsC; exact decide_eq_true (by omega)) _ (by (repeat' apply And.intro) <;> first | rfl | trivial | exact congrArg Sum.inl (nI_1 _).symm | exact congrArg Sum.inl (nI_1 _).symm)) (fun c6 => ?_)
  refine gP_use (p_of d 7 (by decide) H) ?_
  refine bEq w (wd 7) rfl rfl (fun c => at81 (by unfold rIsC; exact decide_eq_true (by omega)) _ (by (repeat' apply And.intro) <;> first | rfl | trivial | exact congrArg Sum.inl (nI_1 _).symm | exact congrArg Sum.inl (nI_1 _).symm)) (fun c7 => ?_)
  refine gP_use (p_of d 8 (by decide) H) ?_
  refine bNe w (wd 8) rfl rfl (fun c8 => ?_) (fun c => at81 (by unfold rIsC; exact decide_eq_true (by omega)) _ (by (repeat' apply And.intro) <;> first | rfl | trivial | exact congrArg Sum.inl (nI_1 _).symm | exact congrArg Sum.inl (nI_1 _).symm))
  exact ⟨Or.inl rfl, by rw [show rIsC w = false by unfold rIsC; exact decide_eq_false (by omega)]; rfl, rfl⟩
set_option maxRecDepth 100000 in
theorem p_isFull (d w : Nat) (hw : w < 2 ^ 30) (A : Nat → Nat) (hA : ∀ j, j < 708 → A j < 10000) (I : Nat → Nat → Nat → Int32) (L : Nat → Nat → Nat → Int64) (y : Dy) (hl : gLr I A) : gP mX12_isFull (d + 6) [gM0, gI (nI w)] (gH I L y) (gI (gb (rIsF A w))) := by
  have b := fun k (hk : k < 22) => wd_lt hk
  have b0 := b 0 (by decide)
  have b1 := b 1 (by decide)
  have b3 := b 3 (by decide)
  have d01 : wd 0 ≠ wd 1 ∧ wd 0 ≠ wd 3 ∧ wd 1 ≠ wd 3 := by decide +kernel
  have a0 := hA 0 (by decide)
  have a1 := hA 1 (by decide)
  have a2 := hA 2 (by decide)
  refine gEnter 400 [20, 40, 59, 63] kX12_isFull rfl rfl ?_
  have at59 : rIsF A w = true → ∀ lo', glle [some gM0, some (gI (nI w))] lo' → gT mX12_isFull (d + 6) (0, 0) (fun v h' => v = [gI (gb (rIsF A w))] ∧ h' = gH I L y) (fun _ _ => False) 59 lo' [] (gH I L y) (0, 0) := by
    intro e lo' hl'
    refine gT_lo _ hl' ?_
    refine gT_go 400 [] kX12_isFull ?_
    exact ⟨Or.inr rfl, by rw [e]; rfl, rfl⟩
  have at63 : rIsF A w = false → ∀ lo', glle [some gM0, some (gI (nI w))] lo' → gT mX12_isFull (d + 6) (0, 0) (fun v h' => v = [gI (gb (rIsF A w))] ∧ h' = gH I L y) (fun _ _ => False) 63 lo' [] (gH I L y) (0, 0) := by
    intro e lo' hl'
    refine gT_lo _ hl' ?_
    refine gT_go 400 [] kX12_isFull ?_
    exact ⟨Or.inl rfl, by rw [e]; rfl, rfl⟩
  have at40 : ¬ (w = wd 0 ∧ A 0 = 12) → ¬ (w = wd 1 ∧ A 1 = 24) → ∀ lo', glle [some gM0, some (gI (nI w))] lo' → gT mX12_isFull (d + 6) (0, 0) (fun v h' => v = [gI (gb (rIsF A w))] ∧ h' = gH I L y) (fun _ _ => False) 40 lo' [] (gH I L y) (0, 0) := by
    intro n0 n1 lo' hl'
    refine gT_lo _ hl' ?_
    refine gT_go 400 [59, 63] kX12_isFull ?_
    refine gP_use (p_of d 3 (by decide) (gH I L y)) ?_
    refine bNe w (wd 3) rfl rfl (fun c => at63 (by unfold rIsF; exact decide_eq_false (by omega)) _ (by (repeat' apply And.intro) <;> first | rfl | trivial | exact congrArg Sum.inl (nI_1 _).symm | exact congrArg Sum.inl (nI_1 _).symm)) (fun c => ?_)
    refine Exists.intro (2) (And.intro rfl (And.intro (show _ < 708 by omega) ?_))
    refine bNe (A 2) 5 (hl 2 (by omega)) rfl (fun c2 => at63 (by unfold rIsF; exact decide_eq_false (by omega)) _ (by (repeat' apply And.intro) <;> first | rfl | trivial | exact congrArg Sum.inl (nI_1 _).symm | exact congrArg Sum.inl (nI_1 _).symm)) (fun c2 => at59 (by unfold rIsF; exact decide_eq_true (by omega)) _ (by (repeat' apply And.intro) <;> first | rfl | trivial | exact congrArg Sum.inl (nI_1 _).symm | exact congrArg Sum.inl (nI_1 _).symm))
  have at20 : ¬ (w = wd 0 ∧ A 0 = 12) → ∀ lo', glle [some gM0, some (gI (nI w))] lo' → gT mX12_isFull (d + 6) (0, 0) (fun v h' => v = [gI (gb (rIsF A w))] ∧ h' = gH I L y) (fun _ _ => False) 20 lo' [] (gH I L y) (0, 0) := by
    intro n0 lo' hl'
    refine gT_lo _ hl' ?_
    refine gT_go 400 [40, 59] kX12_isFull ?_
    refine gP_use (p_of d 1 (by decide) (gH I L y)) ?_
    refine bNe w (wd 1) rfl rfl (fun c => at40 n0 (by omega) _ (by (repeat' apply And.intro) <;> first | rfl | trivial | exact congrArg Sum.inl (nI_1 _).symm | exact congrArg Sum.inl (nI_1 _).symm)) (fun c => ?_)
    refine Exists.intro (1) (And.intro rfl (And.intro (show _ < 708 by omega) ?_))
    refine bEq (A 1) 24 (hl 1 (by omega)) rfl (fun c2 => at59 (by unfold rIsF; exact decide_eq_true (by omega)) _ (by (repeat' apply And.intro) <;> first | rfl | trivial | exact congrArg Sum.inl (nI_1 _).symm | exact congrArg Sum.inl (nI_1 _).symm)) (fun c2 => at40 n0 (by omega) _ (by (repeat' apply And.intro) <;> first | rfl | trivial | exact congrArg Sum.inl (nI_1 _).symm | exact congrArg Sum.inl (nI_1 _).symm))
  refine gP_use (p_of d 0 (by decide) (gH I L y)) ?_
  refine bNe w (wd 0) rfl rfl (fun c => at20 (by omega) _ (by (repeat' apply And.intro) <;> first | rfl | trivial | exact congrArg Sum.inl (nI_1 _).symm | exact congrArg Sum.inl (nI_1 _).symm)) (fun c => ?_)
  refine Exists.intro (0) (And.intro rfl (And.intro (show _ < 708 by omega) ?_))
  refine bEq (A 0) 12 (hl 0 (by omega)) rfl (fun c2 => at59 (by unfold rIsF; exact decide_eq_true (by omega)) _ (by (repeat' apply And.intro) <;> first | rfl | trivial | exact congrArg Sum.inl (nI_1 _).symm | exact congrArg Sum.inl (nI_1 _).symm)) (fun c2 => at20 (by omega) _ (by (repeat' apply And.intro) <;> first | rfl | trivial | exact congrArg Sum.inl (nI_1 _).symm | exact congrArg Sum.inl (nI_1 _).symm))
def rPlc (T : Nat → Nat) (N : Nat) (A : Nat → Nat) (a : Nat) : RR (Nat → Nat) :=
  if rWord T N a = wd 9 then .inr (aUp (aUp A (7 + A 0) 1) 0 (A 0 + 1), wE T N (sk T N a)) else
  if rWord T N a = wd 10 then .inr (aUp (aUp A (7 + A 0) 2) 0 (A 0 + 1), wE T N (sk T N a)) else .inr (aUp (aUp A (7 + A 0) 0) 0 (A 0 + 1), sk T N a)
set_option maxRecDepth 100000 in
theorem p_readPlace (d : Nat) (T : Nat → Nat) (N a : Nat) (A : Nat → Nat) (h0 : A 0 < 12) (I : Nat → Nat → Nat → Int32) (L : Nat → Nat → Nat → Int64) (y : Dy) (H : rD T N a I) (E : rEr none I) (hl : gLr I A) :
    gTM mX12_readPlace (d + 6) (0, 0) [gM0] (gH I L y) (fun v h' => v = [] ∧ ∃ I', h' = gH I' L y ∧ rFz I I' ∧ rOutA T N (rPlc T N A a) I') (fun _ _ => False) := by
  have hN := H.2.1
  refine gEnter 400 [47] kX12_readPlace rfl rfl ?_
  refine gTM_use rfl (p_word (d + 3) T N a I L y H) (fun v h' q => ?_)
  obtain ⟨rfl, I1, rfl, f1, D1⟩ := q
  have E1 := E.fr f1
  have hl1 := hl.fr f1
  have hw := rWord_lt (T := T) (N := N) (a := a) D1.2.2.2.1
  have b9 := wd_lt (k := 9) (by decide)
  have b10 := wd_lt (k := 10) (by decide)
  have at47 : ∀ (s : Nat) (lo' : Lo), s < 3 → rPlc T N A a = .inr (aUp (aUp A (7 + A 0) s) 0 (A 0 + 1), if s = 0 then sk T N a else wE T N (sk T N a)) → glle [some gM0, none, some (gI (nI (A 0)))] lo' →
      gT mX12_readPlace (d + 6) (0, 0) (fun v h' => v = [] ∧ ∃ I', h' = gH I' L y ∧ rFz I I' ∧ rOutA T N (rPlc T N A a) I') (fun _ _ => False) 47 lo' [gI (nI s), gI (nI (7 + A 0)), gR (some (111, 0))] (gH I1 L y) (0, 0) := by
    intro s lo' hs hsp hl'
    refine gT_lo _ hl' ?_
    refine gT_go 400 [64] kX12_readPlace ?_
    refine Exists.intro (7 + A 0) (And.intro rfl (And.intro (show _ < 708 by omega) ?_))
    refine Exists.intro (7 + A 0) (And.intro (nI_add 7 (A 0)) (And.intro (show 7 + A 0 < 708 by omega) ?_))
    have fz : rFz I (u3 I1 111 0 (7 + A 0) (nI s)) := f1.fe.fz.tr (rFz.put _ _ _)
    have hl2 : gLr (u3 I1 111 0 (7 + A 0) (nI s)) (aUp A (7 + A 0) s) := hl1.put _ _ rfl
    have at64 : ∀ (I3 : Nat → Nat → Nat → Int32) (a3 : Nat) (lo' : Lo), a3 = (if s = 0 then sk T N a else wE T N (sk T N a)) → rFz I I3 → rD T N a3 I3 → rEr none I3 → gLr I3 (aUp A (7 + A 0) s) → glle [some gM0, none, none] lo' →
        gT mX12_readPlace (d + 6) (0, 0) (fun v h' => v = [] ∧ ∃ I', h' = gH I' L y ∧ rFz I I' ∧ rOutA T N (rPlc T N A a) I') (fun _ _ => False) 64 lo' [] (gH I3 L y) (0, 0) := by
      intro I3 a3 lo' ea g1 g2 g3 g4 hl'
      refine gT_lo _ hl' ?_
      refine gT_go 400 [] kX12_readPlace ?_
      refine Exists.intro (0) (And.intro rfl (And.intro (show _ < 708 by omega) ?_))
      refine Exists.intro (0) (And.intro rfl (And.intro (show _ < 708 by omega) ?_))
      refine ⟨rfl, _, rfl, g1.tr (rFz.put _ _ _), ?_⟩
      rw [hsp, ← ea]
      refine ⟨g3.put _ _, g2.put _ _, g4.put _ _ ?_⟩
      exact gInc ((g4 0 (by omega)).trans (congrArg nI (aUp_ne (by omega))))
    refine bEq s 0 u3_eq rfl (fun c => ?_) (fun c => ?_)
    · exact at64 _ (sk T N a) _ (by rw [if_pos c]) fz (D1.put _ _) (E1.put _ _) hl2 (by (repeat' apply And.intro) <;> first | rfl | trivial | exact congrArg Sum.inl (nI_1 _).symm | exact congrArg Sum.inl (nI_1 _).symm)
    · refine gTM_use rfl (p_pass (d + 3) T N (sk T N a) _ L y (D1.put (7 + A 0) (nI s))) (fun v h' q => ?_)
      obtain ⟨rfl, I3, rfl, f3, D3⟩ := q
      exact at64 I3 _ _ (by rw [if_neg c]) (fz.tr f3.fe.fz) D3 ((E1.put _ _).fr f3) (hl2.fr f3) (by (repeat' apply And.intro) <;> first | rfl | trivial | exact congrArg Sum.inl (nI_1 _).symm | exact congrArg Sum.inl (nI_1 _).symm)
  have e0 : I1 111 0 0 = nI (A 0) := hl1 0 (by omega)
  have e7 : (7 : Int32) + I1 111 0 0 = nI (7 + A 0) := by rw [e0]; exact nI_add 7 (A 0)
  refine Exists.intro (0) (And.intro rfl (And.intro (show _ < 708 by omega) ?_))
  refine gP_use (p_of d 9 (by decide) (gH I1 L y)) ?_
  refine bNe (rWord T N a) (wd 9) rfl rfl (fun c => ?_) (fun c => ?_)
  · refine gP_use (p_of d 10 (by decide) (gH I1 L y)) ?_
    refine bNe (rWord T N a) (wd 10) rfl rfl (fun c2 => ?_) (fun c2 => ?_)
    · have k := at47 0 _ (by decide) (by unfold rPlc; rw [if_neg c, if_neg c2] <;> rfl) (show glle _ [some gM0, some (gI (nI (rWord T N a))), some (gI (I1 111 0 0))] by rw [← e0]; exact (by (repeat' apply And.intro) <;> first | rfl | trivial | exact congrArg Sum.inl (nI_1 _).symm | exact congrArg Sum.inl (nI_1 _).symm))
      rw [← e7] at k
      exact k
    · have k := at47 2 _ (by decide) (by unfold rPlc; rw [if_neg c, if_pos c2] <;> rfl) (show glle _ [some gM0, some (gI (nI (rWord T N a))), some (gI (I1 111 0 0))] by rw [← e0]; exact (by (repeat' apply And.intro) <;> first | rfl | trivial | exact congrArg Sum.inl (nI_1 _).symm | exact congrArg Sum.inl (nI_1 _).symm))
      rw [← e7] at k
      exact k
  · have k := at47 1 _ (by decide) (by unfold rPlc; rw [if_pos c] <;> rfl) (show glle _ [some gM0, some (gI (nI (rWord T N a))), some (gI (I1 111 0 0))] by rw [← e0]; exact (by (repeat' apply And.intro) <;> first | rfl | trivial | exact congrArg Sum.inl (nI_1 _).symm | exact congrArg Sum.inl (nI_1 _).symm))
    rw [← e7] at k
    exact k
def rCl (T : Nat → Nat) (N : Nat) (A : Nat → Nat) (w a : Nat) : RR (Nat → Nat) :=
  if w = wd 0 then rPlc T N A a else if w = wd 1 then rWay T N A a else if w = wd 2 then rSnow T N A a else
  if w = wd 3 then rbd (rNum T N 0 10 a) (fun c b => .inr (aUp (aUp A (67 + A 2) c) 2 (A 2 + 1), b)) else if w = wd 4 then rWants T N A a else
  if w = wd 5 then rOneA T N A 3 1 25 a else if w = wd 6 then rOneA T N A 4 1 13 a else if w = wd 7 then rOneA T N A 5 0 100 a else rOneA T N A 6 0 (A 0) a
set_option maxRecDepth 100000 in
theorem p_readClause (d w : Nat) (hw : w < 2 ^ 30) (T : Nat → Nat) (N a : Nat) (A : Nat → Nat) (h0 : A 0 ≤ 12) (h1 : A 1 ≤ 24) (h2 : A 2 ≤ 5) (hf : rIsF A w = false) (hA : ∀ j, j < 708 → A j < 10000) (I : Nat → Nat → Nat → Int32) (L : Nat → Nat → Nat → Int64) (y : Dy) (H : rD T N a I) (E : rEr none I) (hl : gLr I A) :
    gTM mX12_readClause (d + 7) (0, 0) [gM0, gI (nI w)] (gH I L y) (fun v h' => v = [] ∧ ∃ I', h' = gH I' L y ∧ rFz I I' ∧ rOutA T N (rCl T N A w a) I') (fun _ _ => False) := by
  have b := fun k (hk : k < 22) => wd_lt hk
  have b0 := b 0 (by decide)
  have b1 := b 1 (by decide)
  have b2 := b 2 (by decide)
  have b3 := b 3 (by decide)
  have b4 := b 4 (by decide)
  have b5 := b 5 (by decide)
  have b6 := b 6 (by decide)
  have b7 := b 7 (by decide)
  have hN := H.2.1
  have hf' := of_decide_eq_false (show decide _ = false from hf)
  refine gEnter 400 [198] kX12_readClause rfl rfl ?_
  have at198 : ∀ (I' : Nat → Nat → Nat → Int32) (lo' : Lo), rFz I I' → rOutA T N (rCl T N A w a) I' → glle [none, none, none] lo' →
      gT mX12_readClause (d + 7) (0, 0) (fun v h' => v = [] ∧ ∃ I', h' = gH I' L y ∧ rFz I I' ∧ rOutA T N (rCl T N A w a) I') (fun _ _ => False) 198 lo' [] (gH I' L y) (0, 0) := by
    intro I' lo' g1 g2 hl'
    refine gT_lo _ hl' ?_
    refine gT_go 400 [] kX12_readClause ?_
    exact ⟨rfl, I', rfl, g1, g2⟩
  refine gP_use (p_of (d + 1) 0 (by decide) (gH I L y)) ?_
  refine bNe w (wd 0) rfl rfl (fun c0 => ?_) (fun c => ?_)
  rotate_left
  · refine gTM_use rfl (p_readPlace d T N a A (by omega) I L y H E hl) (fun v h' q => ?_)
    obtain ⟨rfl, I1, rfl, f1, o1⟩ := q
    exact at198 I1 _ f1 (by unfold rCl; rw [if_pos c]; exact o1) (by (repeat' apply And.intro) <;> first | rfl | trivial | exact congrArg Sum.inl (nI_1 _).symm | exact congrArg Sum.inl (nI_1 _).symm)
  refine gP_use (p_of (d + 1) 1 (by decide) (gH I L y)) ?_
  refine bNe w (wd 1) rfl rfl (fun c1 => ?_) (fun c => ?_)
  rotate_left
  · refine gTM_use rfl (p_readWay (d + 2) T N a A h0 (by omega) I L y H E hl) (fun v h' q => ?_)
    obtain ⟨rfl, I1, rfl, f1, o1⟩ := q
    exact at198 I1 _ f1 (by unfold rCl; rw [if_neg c0, if_pos c]; exact o1) (by (repeat' apply And.intro) <;> first | rfl | trivial | exact congrArg Sum.inl (nI_1 _).symm | exact congrArg Sum.inl (nI_1 _).symm)
  refine gP_use (p_of (d + 1) 2 (by decide) (gH I L y)) ?_
  refine bNe w (wd 2) rfl rfl (fun c2 => ?_) (fun c => ?_)
  rotate_left
  · refine gTM_use rfl (p_readSnow (d + 2) T N a A h1 hA I L y H E hl) (fun v h' q => ?_)
    obtain ⟨rfl, I1, rfl, f1, o1⟩ := q
    exact at198 I1 _ f1 (by unfold rCl; rw [if_neg c0, if_neg c1, if_pos c]; exact o1) (by (repeat' apply And.intro) <;> first | rfl | trivial | exact congrArg Sum.inl (nI_1 _).symm | exact congrArg Sum.inl (nI_1 _).symm)
  refine gP_use (p_of (d + 1) 3 (by decide) (gH I L y)) ?_
  refine bNe w (wd 3) rfl rfl (fun c3 => ?_) (fun c => ?_)
  rotate_left
  · refine gTM_use rfl (p_number (d + 4) none T N a 0 10 (by decide) (by decide) 9 rfl I L y H E) (fun v h' q => ?_)
    obtain ⟨rfl, I1, rfl, f1, o1⟩ := q
    obtain ⟨e1, a1, D1, E1, s1⟩ := rOut_st o1
    have hsp : rCl T N A w a = rB e1 (.inr (aUp (aUp A (67 + A 2) (rVl (rB none (rNum T N 0 10 a)))) 2 (A 2 + 1), a1)) := by
      unfold rCl
      rw [if_neg c0, if_neg c1, if_neg c2, if_pos c, rbd_st (r := rNum T N 0 10 a) s1]
      rfl
    have hl1 := hl.fe f1
    refine gP_use (p_fine (d + 5) e1 I1 L y E1) ?_
    cases e1 with
    | some kp =>
      refine And.intro (fun q => absurd rfl q) (fun _ => ?_)
      exact ⟨rfl, I1, rfl, f1.fz, by rw [hsp]; exact ⟨E1, _, D1⟩⟩
    | none =>
      refine And.intro (fun _ => ?_) (fun q => absurd q (by decide))
      refine Exists.intro (2) (And.intro rfl (And.intro (show _ < 708 by omega) ?_))
      refine Exists.intro (67 + A 2) (And.intro (nI_addr 67 (hl1 2 (by omega))) (And.intro (show 67 + A 2 < 708 by omega) ?_))
      refine Exists.intro (2) (And.intro rfl (And.intro (show _ < 708 by omega) ?_))
      refine Exists.intro (2) (And.intro rfl (And.intro (show _ < 708 by omega) ?_))
      refine at198 _ _ ((f1.fz.tr (rFz.put _ _ _)).tr (rFz.put _ _ _)) ?_ (by (repeat' apply And.intro) <;> first | rfl | trivial | exact congrArg Sum.inl (nI_1 _).symm | exact congrArg Sum.inl (nI_1 _).symm)
      rw [hsp]
      refine ⟨(E1.put _ _).put _ _, (D1.put _ _).put _ _, (hl1.put _ _ rfl).put _ _ ?_⟩
      exact gInc ((u3_ne3 (by omega)).trans (hl1 2 (by omega)))
  refine gP_use (p_of (d + 1) 4 (by decide) (gH I L y)) ?_
  refine bNe w (wd 4) rfl rfl (fun c4 => ?_) (fun c => ?_)
  rotate_left
  · refine gTM_use rfl (p_readWants (d + 2) T N a A h0 h2 I L y H E hl) (fun v h' q => ?_)
    obtain ⟨rfl, I1, rfl, f1, o1⟩ := q
    exact at198 I1 _ f1 (by unfold rCl; rw [if_neg c0, if_neg c1, if_neg c2, if_neg c3, if_pos c]; exact o1) (by (repeat' apply And.intro) <;> first | rfl | trivial | exact congrArg Sum.inl (nI_1 _).symm | exact congrArg Sum.inl (nI_1 _).symm)
  refine gP_use (p_of (d + 1) 5 (by decide) (gH I L y)) ?_
  refine bNe w (wd 5) rfl rfl (fun c5 => ?_) (fun c => ?_)
  rotate_left
  · refine gTM_use rfl (p_readOne (d + 3) 3 1 25 (by decide) (by decide) (by decide) 24 rfl T N a A I L y H E hl) (fun v h' q => ?_)
    obtain ⟨rfl, I1, rfl, f1, o1⟩ := q
    exact at198 I1 _ f1 (by unfold rCl; rw [if_neg c0, if_neg c1, if_neg c2, if_neg c3, if_neg c4, if_pos c]; exact o1) (by (repeat' apply And.intro) <;> first | rfl | trivial | exact congrArg Sum.inl (nI_1 _).symm | exact congrArg Sum.inl (nI_1 _).symm)
  refine gP_use (p_of (d + 1) 6 (by decide) (gH I L y)) ?_
  refine bNe w (wd 6) rfl rfl (fun c6 => ?_) (fun c => ?_)
  rotate_left
  · refine gTM_use rfl (p_readOne (d + 3) 4 1 13 (by decide) (by decide) (by decide) 12 rfl T N a A I L y H E hl) (fun v h' q => ?_)
    obtain ⟨rfl, I1, rfl, f1, o1⟩ := q
    exact at198 I1 _ f1 (by unfold rCl; rw [if_neg c0, if_neg c1, if_neg c2, if_neg c3, if_neg c4, if_neg c5, if_pos c]; exact o1) (by (repeat' apply And.intro) <;> first | rfl | trivial | exact congrArg Sum.inl (nI_1 _).symm | exact congrArg Sum.inl (nI_1 _).symm)
  refine gP_use (p_of (d + 1) 7 (by decide) (gH I L y)) ?_
  refine bNe w (wd 7) rfl rfl (fun c7 => ?_) (fun c => ?_)
  rotate_left
  · refine gTM_use rfl (p_readOne (d + 3) 5 0 100 (by decide) (by decide) (by decide) 99 rfl T N a A I L y H E hl) (fun v h' q => ?_)
    obtain ⟨rfl, I1, rfl, f1, o1⟩ := q
    exact at198 I1 _ f1 (by unfold rCl; rw [if_neg c0, if_neg c1, if_neg c2, if_neg c3, if_neg c4, if_neg c5, if_neg c6, if_pos c]; exact o1) (by (repeat' apply And.intro) <;> first | rfl | trivial | exact congrArg Sum.inl (nI_1 _).symm | exact congrArg Sum.inl (nI_1 _).symm)
  refine gTM_use rfl (p_readIn (d + 3) 0 (by decide) none T N a A (by omega) I L y H E hl) (fun v h' q => ?_)
  obtain ⟨rfl, I1, rfl, f1, o1⟩ := q
  obtain ⟨e1, a1, D1, E1, s1⟩ := rOut_st o1
  have hsp : rCl T N A w a = rB e1 (.inr (aUp A 6 (rVl (rB none (rNum T N 0 (A 0) a))), a1)) := by
    unfold rCl
    rw [if_neg c0, if_neg c1, if_neg c2, if_neg c3, if_neg c4, if_neg c5, if_neg c6, if_neg c7]
    unfold rOneA
    rw [rbd_st (r := rNum T N 0 (A 0) a) s1]
    rfl
  refine gP_use (p_fine (d + 5) e1 I1 L y E1) ?_
  cases e1 with
  | some kp =>
    refine And.intro (fun _ => ?_) (fun q => absurd rfl q)
    exact at198 I1 _ f1.fz (by rw [hsp]; exact ⟨E1, _, D1⟩) (by (repeat' apply And.intro) <;> first | rfl | trivial | exact congrArg Sum.inl (nI_1 _).symm | exact congrArg Sum.inl (nI_1 _).symm)
  | none =>
    refine And.intro (fun q => absurd q (by decide)) (fun _ => ?_)
    refine Exists.intro (6) (And.intro rfl (And.intro (show _ < 708 by omega) ?_))
    refine at198 _ _ (f1.fz.tr (rFz.put _ _ _)) ?_ (by (repeat' apply And.intro) <;> first | rfl | trivial | exact congrArg Sum.inl (nI_1 _).symm | exact congrArg Sum.inl (nI_1 _).symm)
    rw [hsp]
    exact ⟨E1.put _ _, D1.put _ _, (hl.fe f1).put _ _ rfl⟩
