/-! ===== the component: its numbers of states, its land ===== -/
def cN (h p n : Nat) : Nat := (h * 13 + n) * 12 + p
theorem cN_lt {h p n : Nat} (hh : h < 25) (hp : p < 12) (hn : n < 13) : cN h p n < 3900 := by unfold cN; omega
theorem cN_p {h p n : Nat} (hp : p < 12) : cN h p n % 12 = p := by unfold cN; omega
theorem cN_n {h p n : Nat} (hp : p < 12) (hn : n < 13) : cN h p n / 12 % 13 = n := by unfold cN; omega
theorem cN_h {h p n : Nat} (hp : p < 12) (hn : n < 13) : cN h p n / 12 / 13 = h := by unfold cN; omega
/-- a table by the model's numbers of states -/
def cOf (i : Nat) : Nat := cN (i / 156) (i / 13 % 12) (i % 13)
theorem cOf_s {h p n : Nat} (hp : p < 12) (hn : n < 13) : cOf (sN h p n) = cN h p n := by
  unfold cOf sN
  rw [show ((h * 12 + p) * 13 + n) / 156 = h by omega, show ((h * 12 + p) * 13 + n) / 13 % 12 = p by omega, show ((h * 12 + p) * 13 + n) % 13 = n by omega]
def vw {α : Type} (r : Nat → α) : Nat → α := fun i => r (cOf i)
theorem vw_s {α : Type} {r : Nat → α} {h p n : Nat} (hp : p < 12) (hn : n < 13) : vw r (sN h p n) = r (cN h p n) := congrArg r (cOf_s hp hn)
abbrev gG0 : AV := gR (some (60, 0))
/-- the land of number i -/
def cLd (i S : Nat) (A : Nat → Nat) (I : Nat → Nat → Nat → Int32) : Prop :=
  (∀ k, k < 4 → I 40 i k = nI (A k)) ∧ I 40 i 4 = nI S ∧ I 40 i 5 = nI (A 5) ∧ I 40 i 6 = nI (A 6) ∧ (∀ p, p < 12 → I 47 i p = gb (decide (A (7 + p) = 1)) ∧ I 48 i p = gb (decide (A (7 + p) = 2))) ∧
  (∀ w, w < 24 → I 49 i w = nI (A (19 + w)) ∧ I 50 i w = nI (A (43 + w))) ∧ (∀ k, k < 5 → I 51 i k = nI (A (67 + k))) ∧ (∀ k p, k < 5 → p < 12 → I 55 (5 * i + k) p = nI (A (72 + 12 * k + p))) ∧
  (∀ w h, w < 24 → h < 24 → I 54 (24 * i + w) h = nI (gSnA A w h)) ∧ ∃ sb, I 40 i 14 = nI sb ∧ sb < 2 ^ 24 ∧ ∀ h, h < 24 → sb.testBit h = gSnw A h
set_option maxRecDepth 100000 in
theorem o_state (d h p n : Nat) (H : Hp) : gP mX1_state (d + 1) [gI (nI p), gI (nI h), gI (nI n)] H (gI (nI (cN h p n))) := by
  refine gEnter 400 [] kX1_state rfl rfl ?_
  refine ⟨congrArg (fun z => [gI z]) ?_, rfl⟩
  show (nI h * nI 13 + nI n) * nI 12 + nI p = nI (cN h p n)
  simp only [pk_mul, nI_add] <;> rfl
set_option maxRecDepth 100000 in
theorem o_placeOf (d h p n : Nat) (hh : h < 25) (hp : p < 12) (hn : n < 13) (H : Hp) : gP mX1_placeOf (d + 1) [gI (nI (cN h p n))] H (gI (nI p)) := by
  have hc := cN_lt hh hp hn
  refine gEnter 400 [] kX1_placeOf rfl rfl ?_
  refine And.intro (by decide) ?_
  refine ⟨congrArg (fun z => [gI z]) ?_, rfl⟩
  exact (pk_rem (d := 12) (by omega) (by decide) (by decide)).trans (congrArg nI (cN_p hp))
set_option maxRecDepth 100000 in
theorem o_storesOf (d h p n : Nat) (hh : h < 25) (hp : p < 12) (hn : n < 13) (H : Hp) : gP mX1_storesOf (d + 1) [gI (nI (cN h p n))] H (gI (nI n)) := by
  have hc := cN_lt hh hp hn
  refine gEnter 400 [] kX1_storesOf rfl rfl ?_
  refine And.intro (by decide) (And.intro (by decide) ?_)
  refine ⟨congrArg (fun z => [gI z]) ?_, rfl⟩
  have e := pk_div (a := cN h p n) (d := 12) (by omega) (by decide) (by decide)
  show nI (cN h p n) / nI 12 - nI (cN h p n) / nI 12 / nI 13 * nI 13 = nI n
  rw [e]
  exact (pk_rem (d := 13) (by omega) (by decide) (by decide)).trans (congrArg nI (cN_n hp hn))
set_option maxRecDepth 100000 in
theorem o_hourOf (d h p n : Nat) (hh : h < 25) (hp : p < 12) (hn : n < 13) (H : Hp) : gP mX1_hourOf (d + 1) [gI (nI (cN h p n))] H (gI (nI h)) := by
  have hc := cN_lt hh hp hn
  refine gEnter 400 [] kX1_hourOf rfl rfl ?_
  refine And.intro (by decide) (And.intro (by decide) ?_)
  refine ⟨congrArg (fun z => [gI z]) ?_, rfl⟩
  have e := pk_div (a := cN h p n) (d := 12) (by omega) (by decide) (by decide)
  show nI (cN h p n) / nI 12 / nI 13 = nI h
  rw [e]
  exact (pk_div (d := 13) (by omega) (by decide) (by decide)).trans (congrArg nI (cN_h hp hn))
set_option maxRecDepth 100000 in
theorem o_isSnowy (d h S : Nat) (hh : h < 25) (A : Nat → Nat) (hA : gLd A) (I : Nat → Nat → Nat → Int32) (L : Nat → Nat → Nat → Int64) (y : Dy) (hl : cLd y.1 S A I) : gP mX1_isSnowy (d + 1) [gG0, gI (nI h)] (gH I L y) (gI (gb (gSn A h))) := by
  obtain ⟨l1, l2, l3, l4, l5, l6, l7, l8, l9, sb, l10, l11, l12⟩ := hl
  have a3 := hA.2.2.2.1
  refine gEnter 400 [] kX1_isSnowy rfl rfl ?_
  refine bGe h (A 3) rfl (l1 3 (by decide)) (fun c => ?_) (fun c => ?_)
  · exact ⟨Or.inl rfl, by unfold gSn; rw [decide_eq_false (by omega)]; rfl, rfl⟩
  · have e : (I 40 y.1 14 >>> (nI h &&& 31)) &&& 1 = gb (gSnw A h) := by rw [l10, gbit (by omega) (by omega), l12 h (by omega)]
    have e2 : gSn A h = gSnw A h := by unfold gSn; rw [decide_eq_true c] <;> rfl
    rw [e2]
    refine And.intro (fun q => ?_) (fun q => ?_)
    · refine ⟨Or.inl rfl, ?_, rfl⟩
      have q' : ¬ gb (gSnw A h) = 1 := by rw [← e]; exact q
      cases hs : gSnw A h with
      | true => rw [hs] at q'; exact absurd rfl q'
      | false => rfl
    · refine ⟨Or.inr rfl, ?_, rfl⟩
      have q' : gb (gSnw A h) = 1 := by rw [← e]; exact q
      cases hs : gSnw A h with
      | true => rfl
      | false => rw [hs] at q'; exact absurd q' (by decide)
set_option maxRecDepth 100000 in
theorem o_endedOf (d h p n S : Nat) (hh : h < 25) (hp : p < 12) (hn : n < 13) (A : Nat → Nat) (hA : gLd A) (I : Nat → Nat → Nat → Int32) (L : Nat → Nat → Nat → Int64) (y : Dy) (hl : cLd y.1 S A I) : gP mX1_endedOf (d + 2) [gG0, gI (nI (cN h p n))] (gH I L y) (gI (nI (aEnd A h p n))) := by
  obtain ⟨l1, l2, l3, l4, l5, -⟩ := hl
  have a3 := hA.2.2.2.1
  refine gEnter 400 [] kX1_endedOf rfl rfl ?_
  refine gP_use (o_placeOf d h p n hh hp hn (gH I L y)) ?_
  refine Exists.intro (p) (And.intro rfl (And.intro (show _ < 12 by omega) ?_))
  refine bB0 (decide (A (7 + p) = 2)) (l5 p hp).2 (fun c => ?_) (fun c => ?_)
  · have c' := of_decide_eq_false c
    refine gP_use (o_storesOf d h p n hh hp hn (gH I L y)) ?_
    refine bNe n 0 rfl rfl (fun c2 => ?_) (fun c2 => ?_)
    · refine gP_use (o_hourOf d h p n hh hp hn (gH I L y)) ?_
      refine bNe h (A 3) rfl (l1 3 (by decide)) (fun c3 => ?_) (fun c3 => ?_)
      · exact ⟨by unfold aEnd; rw [if_neg c', if_neg c2, if_neg c3]; rfl, rfl⟩
      · exact ⟨by unfold aEnd; rw [if_neg c', if_neg c2, if_pos c3]; rfl, rfl⟩
    · exact ⟨by unfold aEnd; rw [if_neg c', if_pos c2]; rfl, rfl⟩
  · exact ⟨by unfold aEnd; rw [if_pos (of_decide_eq_true c)]; rfl, rfl⟩
set_option maxRecDepth 100000 in
theorem o_other (d w p S : Nat) (hw : w < 24) (hp : p < 12) (A : Nat → Nat) (hA : gLd A) (I : Nat → Nat → Nat → Int32) (L : Nat → Nat → Nat → Int64) (y : Dy) (hl : cLd y.1 S A I) : gP mX2_other (d + 1) [gR (some (40, y.1)), gI (nI w), gI (nI p)] (gH I L y) (gI (nI (aOth A w p))) := by
  obtain ⟨l1, l2, l3, l4, l5, l6, -⟩ := hl
  have q := hA.2.2.2.2.2.2.2.1 w hw
  refine gEnter 400 [] kX2_other rfl rfl ?_
  refine Exists.intro (w) (And.intro rfl (And.intro (show _ < 24 by omega) ?_))
  refine bNe (A (19 + w)) p (l6 w hw).1 rfl (fun c => ?_) (fun c => ?_)
  · refine Exists.intro (w) (And.intro rfl (And.intro (show _ < 24 by omega) ?_))
    exact ⟨by unfold aOth; rw [if_neg c]; exact congrArg (fun z => [gI z]) (l6 w hw).1, rfl⟩
  · refine Exists.intro (w) (And.intro rfl (And.intro (show _ < 24 by omega) ?_))
    exact ⟨by unfold aOth; rw [if_pos c]; exact congrArg (fun z => [gI z]) (l6 w hw).2, rfl⟩
set_option maxRecDepth 100000 in
theorem o_isAt (d w p S : Nat) (hw : w < 24) (hp : p < 12) (A : Nat → Nat) (hA : gLd A) (I : Nat → Nat → Nat → Int32) (L : Nat → Nat → Nat → Int64) (y : Dy) (hl : cLd y.1 S A I) : gP mX2_isAt (d + 1) [gR (some (40, y.1)), gI (nI w), gI (nI p)] (gH I L y) (gI (gb (aAt A w p))) := by
  obtain ⟨l1, l2, l3, l4, l5, l6, -⟩ := hl
  have q := hA.2.2.2.2.2.2.2.1 w hw
  refine gEnter 400 [] kX2_isAt rfl rfl ?_
  refine Exists.intro (w) (And.intro rfl (And.intro (show _ < 24 by omega) ?_))
  refine bEq (A (19 + w)) p (l6 w hw).1 rfl (fun c => ?_) (fun c => ?_)
  · exact ⟨Or.inr rfl, by unfold aAt; rw [decide_eq_true c]; rfl, rfl⟩
  · refine Exists.intro (w) (And.intro rfl (And.intro (show _ < 24 by omega) ?_))
    refine bNe (A (43 + w)) p (l6 w hw).2 rfl (fun c2 => ?_) (fun c2 => ?_)
    · exact ⟨Or.inl rfl, by unfold aAt; rw [decide_eq_false c, decide_eq_false c2]; rfl, rfl⟩
    · exact ⟨Or.inr rfl, by unfold aAt; rw [decide_eq_true c2, Bool.or_true]; rfl, rfl⟩
/-- the component's state behind a move -/
def aMv (A : Nat → Nat) (p m : Nat) : Nat := if m = 0 then p else aOth A (m - 1) p
theorem aMv_lt {A : Nat → Nat} (h : gLd A) {p m : Nat} (hp : p < 12) (hm : m ≤ 24) : aMv A p m < 12 := by
  unfold aMv
  split
  · exact hp
  · exact aOth_lt h (by omega)
def cBh (A : Nat → Nat) (S h p n m : Nat) : Nat := cN (h + 1) (aMv A p m) (aNx A S n (aMv A p m))
set_option maxRecDepth 100000 in
theorem o_behind (d h p n m S : Nat) (hh : h < 24) (hp : p < 12) (hn : n < 13) (hn0 : 0 < n) (hm : m ≤ 24) (hS : S < 13) (A : Nat → Nat) (hA : gLd A) (I : Nat → Nat → Nat → Int32) (L : Nat → Nat → Nat → Int64) (y : Dy) (hl : cLd y.1 S A I) : gP mX1_behind (d + 2) [gG0, gI (nI (cN h p n)), gI (nI m)] (gH I L y) (gI (nI (cBh A S h p n m))) := by
  have hl0 := hl
  obtain ⟨l1, l2, l3, l4, l5, l6, -⟩ := hl
  have ht := aMv_lt hA hp hm
  have at24 : ∀ (q : Nat) (lo' : Lo), q = aMv A p m → glle [some gG0, some (gI (nI (cN h p n))), none, none, none] lo' → gT mX1_behind (d + 2) (0, 0) (fun v h' => v = [gI (nI (cBh A S h p n m))] ∧ h' = gH I L y) (fun _ _ => False) 24 lo' [gI (nI q)] (gH I L y) (0, 0) := by
    intro q lo' hq hl'
    refine gT_lo _ hl' ?_
    refine gT_go 400 [63] kX1_behind ?_
    refine gP_use (o_hourOf d h p n (by omega) hp hn (gH I L y)) ?_
    refine Exists.intro (q) (And.intro rfl (And.intro (show _ < 12 by omega) ?_))
    have at63 : ∀ (x : Int32) (lo' : Lo), x = nI (aNx A S n q) → glle [none, none, none, none, none] lo' → gT mX1_behind (d + 2) (0, 0) (fun v h' => v = [gI (nI (cBh A S h p n m))] ∧ h' = gH I L y) (fun _ _ => False) 63 lo' [gI x, gI (nI h + 1), gI (nI q)] (gH I L y) (0, 0) := by
      intro x lo' hx hl'
      refine gT_lo _ hl' ?_
      refine gT_go 400 [] kX1_behind ?_
      refine gP_use (gP_eq (by rw [hx, nI_1]) (o_state d (h + 1) q (aNx A S n q) (gH I L y))) ?_
      exact ⟨by unfold cBh; rw [← hq], rfl⟩
    refine bB0 (decide (A (7 + q) = 1)) (l5 q (by omega)).1 (fun c => ?_) (fun c => ?_)
    · refine gP_use (o_storesOf d h p n (by omega) hp hn (gH I L y)) ?_
      exact at63 _ _ (by unfold aNx; rw [if_neg (of_decide_eq_false c)]; exact pk_sub (b := 1) hn0) (by (repeat' apply And.intro) <;> first | rfl | trivial | exact congrArg Sum.inl (nI_1 _).symm | exact congrArg Sum.inl (nI_1 _).symm)
    · exact at63 _ _ (by unfold aNx; rw [if_pos (of_decide_eq_true c)]; exact l2) (by (repeat' apply And.intro) <;> first | rfl | trivial | exact congrArg Sum.inl (nI_1 _).symm | exact congrArg Sum.inl (nI_1 _).symm)
  refine gEnter 400 [24] kX1_behind rfl rfl ?_
  refine gP_use (o_placeOf d h p n (by omega) hp hn (gH I L y)) ?_
  refine bNe m 0 rfl rfl (fun c => ?_) (fun c => ?_)
  · have e : nI m - 1 = nI (m - 1) := pk_sub (show 1 ≤ m by omega)
    refine gP_use (gP_eq (by rw [← e] <;> rfl) (o_other d (m - 1) p S (by omega) hp A hA I L y hl0)) ?_
    exact at24 _ _ (by unfold aMv; rw [if_neg c]) (by (repeat' apply And.intro) <;> first | rfl | trivial | exact congrArg Sum.inl (nI_1 _).symm | exact congrArg Sum.inl (nI_1 _).symm)
  · exact at24 _ _ (by unfold aMv; rw [if_pos c]) (by (repeat' apply And.intro) <;> first | rfl | trivial | exact congrArg Sum.inl (nI_1 _).symm | exact congrArg Sum.inl (nI_1 _).symm)
