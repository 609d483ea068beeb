/-! ===== branches told in numbers ===== -/
theorem bEq {x y : Int32} {P Q : Prop} (a b : Nat) (hx : x = nI a) (hy : y = nI b) (f : a = b → P) (g : ¬ a = b → Q) (ha : a < 2 ^ 31 := by omega) (hb : b < 2 ^ 31 := by omega) : (x = y → P) ∧ (¬ x = y → Q) :=
  ⟨fun c => f ((geq hx hy ha hb).mp c), fun c => g (fun q => c ((geq hx hy ha hb).mpr q))⟩
theorem bNe {x y : Int32} {P Q : Prop} (a b : Nat) (hx : x = nI a) (hy : y = nI b) (f : ¬ a = b → P) (g : a = b → Q) (ha : a < 2 ^ 31 := by omega) (hb : b < 2 ^ 31 := by omega) : (¬ x = y → P) ∧ (x = y → Q) :=
  ⟨fun c => f (fun q => c ((geq hx hy ha hb).mpr q)), fun c => g ((geq hx hy ha hb).mp c)⟩
theorem bLt {x y : Int32} {P Q : Prop} (a b : Nat) (hx : x = nI a) (hy : y = nI b) (f : a < b → P) (g : b ≤ a → Q) (ha : a < 2 ^ 31 := by omega) (hb : b < 2 ^ 31 := by omega) : (x < y → P) ∧ (¬ x < y → Q) :=
  ⟨fun c => f ((glt hx hy ha hb).mp c), fun c => g (Nat.le_of_not_lt (fun q => c ((glt hx hy ha hb).mpr q)))⟩
theorem bGe {x y : Int32} {P Q : Prop} (a b : Nat) (hx : x = nI a) (hy : y = nI b) (f : b ≤ a → P) (g : a < b → Q) (ha : a < 2 ^ 31 := by omega) (hb : b < 2 ^ 31 := by omega) : (y ≤ x → P) ∧ (¬ y ≤ x → Q) :=
  ⟨fun c => f ((gle hy hx hb ha).mp c), fun c => g (Nat.lt_of_not_le (fun q => c ((gle hy hx hb ha).mpr q)))⟩
theorem bGt {x y : Int32} {P Q : Prop} (a b : Nat) (hx : x = nI a) (hy : y = nI b) (f : b < a → P) (g : a ≤ b → Q) (ha : a < 2 ^ 31 := by omega) (hb : b < 2 ^ 31 := by omega) : (y < x → P) ∧ (¬ y < x → Q) :=
  ⟨fun c => f ((glt hy hx hb ha).mp c), fun c => g (Nat.le_of_not_lt (fun q => c ((glt hy hx hb ha).mpr q)))⟩
theorem bLe {x y : Int32} {P Q : Prop} (a b : Nat) (hx : x = nI a) (hy : y = nI b) (f : a ≤ b → P) (g : b < a → Q) (ha : a < 2 ^ 31 := by omega) (hb : b < 2 ^ 31 := by omega) : (x ≤ y → P) ∧ (¬ x ≤ y → Q) :=
  ⟨fun c => f ((gle hx hy ha hb).mp c), fun c => g (Nat.lt_of_not_le (fun q => c ((gle hx hy ha hb).mpr q)))⟩
/-! ===== the laws of a journey, in numbers ===== -/
def gSnA (A : Nat → Nat) (w h : Nat) : Nat := A (132 + 24 * w + h)
def sN (h p n : Nat) : Nat := (h * 12 + p) * 13 + n
def aEnd (A : Nat → Nat) (h p n : Nat) : Nat := if A (7 + p) = 2 then 1 else if n = 0 then 2 else if h = A 3 then 3 else 0
def aOth (A : Nat → Nat) (w p : Nat) : Nat := if A (19 + w) = p then A (43 + w) else A (19 + w)
def aAt (A : Nat → Nat) (w p : Nat) : Bool := decide (A (19 + w) = p) || decide (A (43 + w) = p)
def aNx (A : Nat → Nat) (S n t : Nat) : Nat := if A (7 + t) = 1 then S else n - 1
def aBh (A : Nat → Nat) (S h n t : Nat) : Nat := sN (h + 1) t (aNx A S n t)
abbrev gLx (I : Nat → Nat → Nat → Int32) (A : Nat → Nat) : Prop := ∀ j, j < 708 → I 110 0 j = nI (A j)
abbrev gLt (A : Nat → Nat) : Prop := ∀ j, j < 708 → A j < 10000
abbrev gM0 : AV := gR (some (100, 0))
theorem gP_eq {m : GM} {d : Nat} {av av' : List AV} {h : Hp} {r : AV} (e : av = av') (H : gP m d av' h r) : gP m d av h r := by rw [e]; exact H
theorem gsn {h p n : Nat} : (nI h * 12 + nI p) * 13 + nI n = nI (sN h p n) := by
  show (nI h * nI 12 + nI p) * nI 13 + nI n = _
  simp only [pk_mul, nI_add]; rfl
theorem sN_lt {h p n : Nat} (hh : h < 25) (hp : p < 12) (hn : n < 13) : sN h p n < 3900 := by unfold sN; omega
theorem p_state (d h p n : Nat) (H : Hp) : gP mX12_state (d + 1) [gI (nI h), gI (nI p), gI (nI n)] H (gI (nI (sN h p n))) :=
  gTM_mono (t_state d _ _ _ H) (fun v h' q => ⟨q.1.trans (congrArg (fun z => [gI z]) gsn), q.2⟩) (fun _ _ q => q)
set_option maxRecDepth 100000 in
theorem p_behind (d h p n t : Nat) (ht : t < 12) (hn : 0 < n) (A : Nat → Nat) (I : Nat → Nat → Nat → Int32) (hl : gLx I A) (hA : gLt A) (S : Nat) (hS : I 100 0 31 = nI S) (L : Nat → Nat → Nat → Int64) (y : Dy) :
    gP mX12_behind (d + 2) [gM0, gI (nI h), gI (nI p), gI (nI n), gI (nI t)] (gH I L y) (gI (nI (aBh A S h n t))) := by
  refine gEnter 400 [] kX12_behind rfl rfl ?_
  refine Exists.intro (7 + t) (And.intro (nI_add 7 t) (And.intro (show _ < 708 by omega) ?_))
  have e1 := hl (7 + t) (by omega)
  have e2 := hA (7 + t) (by omega)
  have e3 : nI n - 1 = nI (n - 1) := pk_sub (show 1 ≤ n by omega)
  refine bNe (A (7 + t)) 1 e1 rfl (fun c => ?_) (fun c => ?_)
  · refine gP_use (gP_eq (by rw [← e3, ← nI_1]; rfl) (p_state d (h + 1) t (n - 1) (gH I L y))) ?_
    exact ⟨by unfold aBh aNx; rw [if_neg c], rfl⟩
  · refine gP_use (gP_eq (by rw [← hS, ← nI_1]; rfl) (p_state d (h + 1) t S (gH I L y))) ?_
    exact ⟨by unfold aBh aNx; rw [if_pos c], rfl⟩
set_option maxRecDepth 100000 in
theorem p_ended (d h p n : Nat) (hh : h < 25) (hp : p < 12) (hn : n < 13) (A : Nat → Nat) (I : Nat → Nat → Nat → Int32) (hl : gLx I A) (hA : gLt A) (L : Nat → Nat → Nat → Int64) (y : Dy) :
    gP mX12_ended (d + 1) [gM0, gI (nI h), gI (nI p), gI (nI n)] (gH I L y) (gI (nI (aEnd A h p n))) := by
  refine gEnter 400 [] kX12_ended rfl rfl ?_
  refine Exists.intro (7 + p) (And.intro (nI_add 7 p) (And.intro (show _ < 708 by omega) ?_))
  have e1 := hl (7 + p) (by omega)
  have e2 := hA (7 + p) (by omega)
  have e3 := hA 3 (by omega)
  refine bNe (A (7 + p)) 2 e1 rfl (fun c => ?_) (fun c => ?_)
  · refine bNe n 0 rfl rfl (fun c2 => ?_) (fun c2 => ?_)
    · refine Exists.intro (3) (And.intro rfl (And.intro (show _ < 708 by omega) ?_))
      refine bNe h (A 3) rfl (hl 3 (by omega)) (fun c3 => ?_) (fun c3 => ?_)
      · exact ⟨by unfold aEnd; rw [if_neg c, if_neg c2, if_neg c3]; rfl, rfl⟩
      · exact ⟨by unfold aEnd; rw [if_neg c, if_neg c2, if_pos c3]; rfl, rfl⟩
    · exact ⟨by unfold aEnd; rw [if_neg c, if_pos c2]; rfl, rfl⟩
  · exact ⟨by unfold aEnd; rw [if_pos c]; rfl, rfl⟩
set_option maxRecDepth 100000 in
theorem p_otherEnd (d w p : Nat) (hw : w < 24) (hp : p < 12) (A : Nat → Nat) (I : Nat → Nat → Nat → Int32) (hl : gLx I A) (hA : gLt A) (L : Nat → Nat → Nat → Int64) (y : Dy) :
    gP mX12_otherEnd (d + 1) [gM0, gI (nI w), gI (nI p)] (gH I L y) (gI (nI (aOth A w p))) := by
  refine gEnter 400 [] kX12_otherEnd rfl rfl ?_
  refine Exists.intro (19 + w) (And.intro (nI_add 19 w) (And.intro (show _ < 708 by omega) ?_))
  have e2 := hA (19 + w) (by omega)
  refine bNe (A (19 + w)) p (hl (19 + w) (by omega)) rfl (fun c => ?_) (fun c => ?_)
  · refine Exists.intro (19 + w) (And.intro (nI_add 19 w) (And.intro (show _ < 708 by omega) ?_))
    exact ⟨by unfold aOth; rw [if_neg c]; exact congrArg (fun z => [gI z]) (hl (19 + w) (by omega)), rfl⟩
  · refine Exists.intro (43 + w) (And.intro (nI_add 43 w) (And.intro (show _ < 708 by omega) ?_))
    exact ⟨by unfold aOth; rw [if_pos c]; exact congrArg (fun z => [gI z]) (hl (43 + w) (by omega)), rfl⟩
set_option maxRecDepth 100000 in
theorem p_isAt (d w p : Nat) (hw : w < 24) (hp : p < 12) (A : Nat → Nat) (I : Nat → Nat → Nat → Int32) (hl : gLx I A) (hA : gLt A) (L : Nat → Nat → Nat → Int64) (y : Dy) :
    gP mX12_isAt (d + 1) [gM0, gI (nI w), gI (nI p)] (gH I L y) (gI (gb (aAt A w p))) := by
  refine gEnter 400 [] kX12_isAt rfl rfl ?_
  refine Exists.intro (19 + w) (And.intro (nI_add 19 w) (And.intro (show _ < 708 by omega) ?_))
  have e2 := hA (19 + w) (by omega)
  have e3 := hA (43 + w) (by omega)
  refine bEq (A (19 + w)) p (hl (19 + w) (by omega)) rfl (fun c => ?_) (fun c => ?_)
  · exact ⟨Or.inr rfl, by unfold aAt; rw [decide_eq_true c]; rfl, rfl⟩
  · refine Exists.intro (43 + w) (And.intro (nI_add 43 w) (And.intro (show _ < 708 by omega) ?_))
    refine bNe (A (43 + w)) p (hl (43 + w) (by omega)) rfl (fun c2 => ?_) (fun c2 => ?_)
    · exact ⟨Or.inl rfl, by unfold aAt; rw [decide_eq_false c, decide_eq_false c2]; rfl, rfl⟩
    · exact ⟨Or.inr rfl, by unfold aAt; rw [decide_eq_true c2, Bool.or_true]; rfl, rfl⟩
set_option maxRecDepth 100000 in
theorem p_snows (d h : Nat) (hh : h < 24) (A : Nat → Nat) (hA1 : A 1 ≤ 24) (hA : gLt A) (I : Nat → Nat → Nat → Int32) (hl : gLx I A) (L : Nat → Nat → Nat → Int64) (y : Dy) :
    gP mX12_snows (d + 1) [gM0, gI (nI h)] (gH I L y) (gI (gb (gSnw A h))) := by
  refine gEnter 400 [2] kX12_snows rfl rfl ?_
  refine gT_for (σ := Unit) (pc := 2) (lo := fun i _ => [some gM0, some (gI (nI h)), some (gI (nI i))]) (hp := fun _ _ => gH I L y) (Inv := fun i _ => ∀ w, w < i → A (132 + 24 * w + h) = 0) (A 1) ?_ ?_ 0 () (Nat.zero_le _) (fun w hw => absurd hw (Nat.not_lt_zero _)) (by (repeat' apply And.intro) <;> first | rfl | trivial | exact congrArg Sum.inl (nI_1 _).symm | exact congrArg Sum.inl (nI_1 _).symm)
  · intro _ hi
    refine gT_go 400 [2] kX12_snows ?_
    refine Exists.intro (1) (And.intro rfl (And.intro (show _ < 708 by omega) ?_))
    refine bGe (A 1) (A 1) rfl (hl 1 (by omega)) (fun c => ?_) (fun c => absurd c (Nat.lt_irrefl _))
    have : gSnw A h = false := by
      unfold gSnw
      rw [List.any_eq_false]
      intro w hw
      simp only [List.mem_range] at hw
      simp [hi w hw]
    exact ⟨Or.inl rfl, by rw [this]; rfl, rfl⟩
  · intro i _ hi hv hnext
    refine gT_go 400 [2] kX12_snows ?_
    refine Exists.intro (1) (And.intro rfl (And.intro (show _ < 708 by omega) ?_))
    refine bGe i (A 1) rfl (hl 1 (by omega)) (fun c => absurd c (by omega)) (fun c => ?_)
    refine Exists.intro (132 + 24 * i + h) (And.intro (by simp only [gic, gbc, gsc, litI, pk_mul, nI_add]) (And.intro (show _ < 708 by omega) ?_))
    have ha := hA (132 + 24 * i + h) (by omega)
    refine bLe (A (132 + 24 * i + h)) 0 (hl (132 + 24 * i + h) (by omega)) rfl (fun c => ?_) (fun c => ?_)
    · refine hnext () _ (fun w hw => ?_) (by (repeat' apply And.intro) <;> first | rfl | trivial | exact congrArg Sum.inl (nI_1 _).symm | exact congrArg Sum.inl (nI_1 _).symm)
      rcases Nat.lt_or_ge w i with q | q
      · exact hv w q
      · have : w = i := by omega
        subst this; omega
    · have : gSnw A h = true := by
        unfold gSnw
        rw [List.any_eq_true]
        exact ⟨i, List.mem_range.mpr hi, by simp; omega⟩
      exact ⟨Or.inr rfl, by rw [this]; rfl, rfl⟩
