/-! ===== the component: what a move weighs ===== -/
def mAt (b : Nat) : GM := match b with
  | 30 => mX5_at
  | 31 => mX6_at
  | 32 => mX7_at
  | 33 => mX9_at
  | _ => mX8_at
/-- what at answers, for a receiver of region b and a person k -/
def cAtT (b k : Nat) (r : Nat → Int64) (d i : Nat) (I : Nat → Nat → Nat → Int32) (L : Nat → Nat → Nat → Int64) (y : Dy) : Prop :=
  ∀ h p n, h < 25 → p < 12 → n < 13 → gP (mAt b) (d + 2) [gR (some (b, i)), gI (nI (cN h p n)), gI (nI k)] (gH I L y) (gL (r (cN h p n)))
set_option maxRecDepth 100000 in
theorem o_at5 (d b k i h p n : Nat) (hb : b = 30 ∨ b = 34) (hk : k < 5) (hh : h < 25) (hp : p < 12) (hn : n < 13) (I : Nat → Nat → Nat → Int32) (L : Nat → Nat → Nat → Int64) (y : Dy) : gP mX5_at (d + 1) [gR (some (b, i)), gI (nI (cN h p n)), gI (nI k)] (gH I L y) (gL (L 161 k (cN h p n))) := by
  have hc := cN_lt hh hp hn
  rcases hb with rfl | rfl
  all_goals
    refine gEnter 400 [] kX5_at rfl rfl ?_
    refine Exists.intro (k) (And.intro rfl (And.intro (show _ < 5 by omega) ?_))
    refine Exists.intro (cN h p n) (And.intro rfl (And.intro (show _ < 3900 by omega) ?_))
    exact ⟨rfl, rfl⟩
set_option maxRecDepth 100000 in
theorem o_ahead (d k i : Nat) (hk : k < 5) (I : Nat → Nat → Nat → Int32) (L : Nat → Nat → Nat → Int64) (y : Dy) : cAtT 30 k (fun s => L 161 k s) d i I L y := by
  exact fun h p n hh hp hn => o_at5 (d + 1) 30 k i h p n (Or.inl rfl) hk hh hp hn I L y
set_option maxRecDepth 100000 in
theorem o_own (d k i : Nat) (hk : k < 5) (I : Nat → Nat → Nat → Int32) (L : Nat → Nat → Nat → Int64) (y : Dy) : cAtT 31 k (fun s => L 162 k s) d i I L y := by
  intro h p n hh hp hn
  have hc := cN_lt hh hp hn
  refine gEnter 400 [] kX6_at rfl rfl ?_
  refine Exists.intro (k) (And.intro rfl (And.intro (show _ < 5 by omega) ?_))
  refine Exists.intro (cN h p n) (And.intro rfl (And.intro (show _ < 3900 by omega) ?_))
  exact ⟨rfl, rfl⟩
set_option maxRecDepth 100000 in
theorem o_fearing (d k i : Nat) (hk : k < 5) (I : Nat → Nat → Nat → Int32) (L : Nat → Nat → Nat → Int64) (y : Dy) : cAtT 32 k (fun s => L 163 k s) d i I L y := by
  intro h p n hh hp hn
  have hc := cN_lt hh hp hn
  refine gEnter 400 [] kX7_at rfl rfl ?_
  refine Exists.intro (k) (And.intro rfl (And.intro (show _ < 5 by omega) ?_))
  refine Exists.intro (cN h p n) (And.intro rfl (And.intro (show _ < 3900 by omega) ?_))
  exact ⟨rfl, rfl⟩
set_option maxRecDepth 100000 in
theorem o_pact (d k i a b : Nat) (ha : a < 5) (hb : b < 5) (I : Nat → Nat → Nat → Int32) (L : Nat → Nat → Nat → Int64) (y : Dy) (h1 : I 60 0 10 = nI a) (h2 : I 60 0 11 = nI b) : cAtT 33 k (fun s => L 161 a s + L 161 b s) d i I L y := by
  intro h p n hh hp hn
  have hc := cN_lt hh hp hn
  refine gEnter 400 [] kX9_at rfl rfl ?_
  refine Exists.intro (a) (And.intro (h1) (And.intro (show a < 5 by omega) ?_))
  refine Exists.intro (cN h p n) (And.intro rfl (And.intro (show _ < 3900 by omega) ?_))
  refine Exists.intro (b) (And.intro (h2) (And.intro (show b < 5 by omega) ?_))
  refine Exists.intro (cN h p n) (And.intro rfl (And.intro (show _ < 3900 by omega) ?_))
  exact ⟨rfl, rfl⟩
set_option maxRecDepth 100000 in
theorem o_kind (d k i S : Nat) (A : Nat → Nat) (hA : gLd A) (I : Nat → Nat → Nat → Int32) (L : Nat → Nat → Nat → Int64) (y : Dy) (hl : cLd y.1 S A I) : cAtT 34 k (fun s => gSu none (fun q => L 161 q s) (A 2)) d i I L y := by
  intro h p n hh hp hn
  have hc := cN_lt hh hp hn
  have a2 := hA.2.2.1
  have e2 := hl.1 2 (by decide)
  refine gEnter 400 [5] kX8_at rfl rfl ?_
  refine gT_for (σ := Unit) (pc := 5) (lo := fun j _ => [some (gR (some (34, i))), some (gI (nI (cN h p n))), none, some (gL (gSu none (fun q => L 161 q (cN h p n)) j)), none, some (gI (nI j))]) (hp := fun _ _ => gH I L y) (Inv := fun _ _ => True) (A 2) ?_ ?_ 0 () (Nat.zero_le _) trivial (by (repeat' apply And.intro) <;> first | rfl | trivial | exact congrArg Sum.inl (nI_1 _).symm | exact congrArg Sum.inl (nI_1 _).symm)
  · intro _ _
    refine gT_go 400 [5] kX8_at ?_
    refine bGe (A 2) (A 2) rfl e2 (fun _ => ⟨rfl, rfl⟩) (fun q => absurd q (by omega))
  · intro j _ hj _ hnext
    refine gT_go 400 [5] kX8_at ?_
    refine bGe j (A 2) rfl e2 (fun q => absurd q (by omega)) (fun _ => ?_)
    refine gP_use (o_at5 d 34 j i h p n (Or.inr rfl) (by omega) hh hp hn I L y) ?_
    refine hnext () _ trivial ?_
    rw [gSu_t (rfl : gIn none j = true)]
    exact (by (repeat' apply And.intro) <;> first | rfl | trivial | exact congrArg Sum.inl (nI_1 _).symm | exact congrArg Sum.inl (nI_1 _).symm)
-- printed by gen_weigh.py
set_option maxRecDepth 100000 in
theorem o_weighs_30 (d i k h p n m S : Nat) (r : Nat → Int64) (A : Nat → Nat) (hA : gLd A) (hh : h < A 3) (hp : p < 12) (hn : n < 13) (hn0 : 0 < n) (hm : m ≤ A 1) (hS : S < 13) (I : Nat → Nat → Nat → Int32) (L : Nat → Nat → Nat → Int64) (y : Dy) (hl : cLd y.1 S A I) (hat : cAtT 30 k r d i I L y) :
    gP mX4_weighs (d + 3) [gR (some (30, i)), gI (nI (cN h p n)), gI (nI m), gI (nI k)] (gH I L y) (gL (gBr A S (gSn A h) (vw r) h p n m)) := by
  have a1 := hA.2.1
  have a3 := hA.2.2.2.1
  have hh24 : h < 24 := by omega
  have hc := cN_lt (show h < 25 by omega) hp hn
  have ht := aMv_lt hA hp (show m ≤ 24 by omega)
  have hr1 : ∀ t, t < 12 → vw r (aBh A S h n t) = r (cN (h + 1) t (aNx A S n t)) := fun t ht => vw_s ht (aNx_lt hS hn)
  have l9 := hl.2.2.2.2.2.2.2.2.1
  obtain ⟨n0, hn0d⟩ : ∃ n0, n0 = (if m = 0 then 0 else gSnA A (m - 1) h) := ⟨_, rfl⟩
  have hn16 : n0 ≤ 16 := by
    rw [hn0d]
    split
    · omega
    · have q := hA.2.2.2.2.2.2.2.2.2.2.1 (24 * (m - 1) + h) (by omega)
      unfold gSnA
      rw [show 132 + 24 * (m - 1) + h = 132 + (24 * (m - 1) + h) by omega]
      exact q
  have hsn : 0 < n0 → gSn A h = true := by
    intro q
    have hm0 : ¬ m = 0 := fun z => by rw [hn0d, if_pos z] at q; omega
    rw [hn0d, if_neg hm0] at q
    unfold gSn gSnw
    rw [decide_eq_true hh, Bool.true_and, List.any_eq_true]
    exact ⟨m - 1, List.mem_range.mpr (by omega), by simp; unfold gSnA at q; omega⟩
  have e0 : r (cBh A S h p n 0) = vw r (aBh A S h n p) := (hr1 p hp).symm
  have em : r (cBh A S h p n m) = vw r (aBh A S h n (aMv A p m)) := (hr1 _ ht).symm
  have fin : ∀ g : Int64, (n0 < 16 → g = r (cBh A S h p n m)) → (16 ≤ n0 → g = 0) → (if n0 = 0 then (if gSn A h then 16 else 1) * g else lN n0 * r (cBh A S h p n 0) + ((if gSn A h then 16 else 1) - lN n0) * g) = gBr A S (gSn A h) (vw r) h p n m := by
    intro g g1 g2
    unfold gBr
    by_cases c : m = 0
    · have z0 : n0 = 0 := by rw [hn0d, if_pos c]
      rw [if_pos c, if_pos z0, g1 (by omega), em]
      have e3 : aMv A p m = p := if_pos c
      rw [e3]
      cases gSn A h with
      | true => rfl
      | false => exact Int64.one_mul _
    · have e3 : aMv A p m = aOth A (m - 1) p := if_neg c
      have z1 : n0 = gSnA A (m - 1) h := by rw [hn0d, if_neg c]
      rw [if_neg c, ← z1, ← e3]
      by_cases z0 : n0 = 0
      · rw [if_pos z0, g1 (by omega), em]
        cases gSn A h with
        | true =>
          show 16 * _ = lN n0 * _ + lN (16 - n0) * _
          rw [z0]
          show 16 * _ = (0 : Int64) * _ + 16 * _
          rw [Int64.zero_mul, Int64.zero_add]
        | false => exact Int64.one_mul _
      · rw [if_neg z0, hsn (by omega), e0]
        show lN n0 * _ + (lN 16 - lN n0) * g = lN n0 * _ + lN (16 - n0) * _
        rw [lN_sub hn16]
        rcases Nat.lt_or_ge n0 16 with q | q
        · rw [g1 q, em]
        · rw [g2 q, show 16 - n0 = 0 by omega]
          show _ + (0 : Int64) * 0 = _ + (0 : Int64) * _
          rw [Int64.zero_mul, Int64.zero_mul]
  have hsnow := o_isSnowy (d + 1) h S (by omega) A hA I L y hl
  have hbm := o_behind d h p n m S hh24 hp hn hn0 (by omega) hS A hA I L y hl
  have hb0 := o_behind d h p n 0 S hh24 hp hn hn0 (by omega) hS A hA I L y hl
  have ham := hat (h + 1) (aMv A p m) (aNx A S n (aMv A p m)) (by omega) ht (aNx_lt hS hn)
  have ha0 := hat (h + 1) (aMv A p 0) (aNx A S n (aMv A p 0)) (by omega) hp (aNx_lt hS hn)
  have at79 : ∀ (g : Int64) (lo' : Lo), (n0 < 16 → g = r (cBh A S h p n m)) → (16 ≤ n0 → g = 0) → glle [some (gR (some (30, i))), some (gI (nI (cN h p n))), some (gI (nI m)), some (gI (nI k)), none, some (gI (nI n0)), some (gL (if gSn A h then 16 else 1)), none, none, none] lo' → gT mX4_weighs (d + 3) (0, 0) (fun v h' => v = [gL (gBr A S (gSn A h) (vw r) h p n m)] ∧ h' = gH I L y) (fun _ _ => False) 79 lo' [gL g] (gH I L y) (0, 0) := by
    intro g lo' g1 g2 hl'
    have hf := fin g g1 g2
    refine gT_lo _ hl' ?_
    refine gT_go 400 [] kX4_weighs ?_
    refine bNe n0 0 rfl rfl (fun c => ?_) (fun c => ?_)
    · refine gP_use (hb0) ?_
      refine gP_use (ha0) ?_
      rw [if_neg c] at hf
      refine ⟨congrArg (fun z => [gL z]) ?_, rfl⟩
      rw [← hf, ← nI_l (show n0 < 2 ^ 31 by omega)]
      rfl
    · rw [if_pos c] at hf
      exact ⟨congrArg (fun z => [gL z]) hf, rfl⟩
  have at52 : ∀ (g : Int64) (lo' : Lo), g = (if gSn A h then 16 else 1) → glle [some (gR (some (30, i))), some (gI (nI (cN h p n))), some (gI (nI m)), some (gI (nI k)), none, some (gI (nI n0)), none, none, none, none] lo' → gT mX4_weighs (d + 3) (0, 0) (fun v h' => v = [gL (gBr A S (gSn A h) (vw r) h p n m)] ∧ h' = gH I L y) (fun _ _ => False) 52 lo' [gL g] (gH I L y) (0, 0) := by
    intro g lo' hg hl'
    subst hg
    refine gT_lo _ hl' ?_
    refine gT_go 400 [79] kX4_weighs ?_
    refine bGe n0 16 rfl rfl (fun c => ?_) (fun c => ?_)
    · exact at79 0 _ (fun q => absurd q (by omega)) (fun _ => rfl) (by (repeat' apply And.intro) <;> first | rfl | trivial | exact congrArg Sum.inl (nI_1 _).symm | exact congrArg Sum.inl (nI_1 _).symm)
    · refine gP_use (hbm) ?_
      refine gP_use (ham) ?_
      exact at79 _ _ (fun _ => rfl) (fun q => absurd q (by omega)) (by (repeat' apply And.intro) <;> first | rfl | trivial | exact congrArg Sum.inl (nI_1 _).symm | exact congrArg Sum.inl (nI_1 _).symm)
  have at31 : ∀ (x : Int32) (lo' : Lo), x = nI n0 → glle [some (gR (some (30, i))), some (gI (nI (cN h p n))), some (gI (nI m)), some (gI (nI k)), some (gI (nI h)), none, none, none, none, none] lo' → gT mX4_weighs (d + 3) (0, 0) (fun v h' => v = [gL (gBr A S (gSn A h) (vw r) h p n m)] ∧ h' = gH I L y) (fun _ _ => False) 31 lo' [gI x] (gH I L y) (0, 0) := by
    intro x lo' hx hl'
    subst hx
    refine gT_lo _ hl' ?_
    refine gT_go 400 [52] kX4_weighs ?_
    refine gP_use (hsnow) ?_
    refine bB0 (gSn A h) rfl (fun c => ?_) (fun c => ?_)
    · exact at52 _ _ (by rw [c] <;> rfl) (by (repeat' apply And.intro) <;> first | rfl | trivial | exact congrArg Sum.inl (nI_1 _).symm | exact congrArg Sum.inl (nI_1 _).symm)
    · exact at52 _ _ (by rw [c] <;> rfl) (by (repeat' apply And.intro) <;> first | rfl | trivial | exact congrArg Sum.inl (nI_1 _).symm | exact congrArg Sum.inl (nI_1 _).symm)
  refine gEnter 400 [31] kX4_weighs rfl rfl ?_
  refine gP_use (o_hourOf (d + 1) h p n (by omega) hp hn (gH I L y)) ?_
  refine bNe m 0 rfl rfl (fun c => ?_) (fun c => ?_)
  · refine Exists.intro (m - 1) (And.intro (pk_sub (b := 1) (by omega)) (And.intro (show m - 1 < 24 by omega) ?_))
    refine Exists.intro (h) (And.intro rfl (And.intro (show _ < 24 by omega) ?_))
    exact at31 _ _ (by rw [hn0d, if_neg c]; exact l9 (m - 1) h (by omega) hh24) (by (repeat' apply And.intro) <;> first | rfl | trivial | exact congrArg Sum.inl (nI_1 _).symm | exact congrArg Sum.inl (nI_1 _).symm)
  · exact at31 _ _ (by rw [hn0d, if_pos c] <;> rfl) (by (repeat' apply And.intro) <;> first | rfl | trivial | exact congrArg Sum.inl (nI_1 _).symm | exact congrArg Sum.inl (nI_1 _).symm)
set_option maxRecDepth 100000 in
theorem o_weighs_31 (d i k h p n m S : Nat) (r : Nat → Int64) (A : Nat → Nat) (hA : gLd A) (hh : h < A 3) (hp : p < 12) (hn : n < 13) (hn0 : 0 < n) (hm : m ≤ A 1) (hS : S < 13) (I : Nat → Nat → Nat → Int32) (L : Nat → Nat → Nat → Int64) (y : Dy) (hl : cLd y.1 S A I) (hat : cAtT 31 k r d i I L y) :
    gP mX4_weighs (d + 3) [gR (some (31, i)), gI (nI (cN h p n)), gI (nI m), gI (nI k)] (gH I L y) (gL (gBr A S (gSn A h) (vw r) h p n m)) := by
  have a1 := hA.2.1
  have a3 := hA.2.2.2.1
  have hh24 : h < 24 := by omega
  have hc := cN_lt (show h < 25 by omega) hp hn
  have ht := aMv_lt hA hp (show m ≤ 24 by omega)
  have hr1 : ∀ t, t < 12 → vw r (aBh A S h n t) = r (cN (h + 1) t (aNx A S n t)) := fun t ht => vw_s ht (aNx_lt hS hn)
  have l9 := hl.2.2.2.2.2.2.2.2.1
  obtain ⟨n0, hn0d⟩ : ∃ n0, n0 = (if m = 0 then 0 else gSnA A (m - 1) h) := ⟨_, rfl⟩
  have hn16 : n0 ≤ 16 := by
    rw [hn0d]
    split
    · omega
    · have q := hA.2.2.2.2.2.2.2.2.2.2.1 (24 * (m - 1) + h) (by omega)
      unfold gSnA
      rw [show 132 + 24 * (m - 1) + h = 132 + (24 * (m - 1) + h) by omega]
      exact q
  have hsn : 0 < n0 → gSn A h = true := by
    intro q
    have hm0 : ¬ m = 0 := fun z => by rw [hn0d, if_pos z] at q; omega
    rw [hn0d, if_neg hm0] at q
    unfold gSn gSnw
    rw [decide_eq_true hh, Bool.true_and, List.any_eq_true]
    exact ⟨m - 1, List.mem_range.mpr (by omega), by simp; unfold gSnA at q; omega⟩
  have e0 : r (cBh A S h p n 0) = vw r (aBh A S h n p) := (hr1 p hp).symm
  have em : r (cBh A S h p n m) = vw r (aBh A S h n (aMv A p m)) := (hr1 _ ht).symm
  have fin : ∀ g : Int64, (n0 < 16 → g = r (cBh A S h p n m)) → (16 ≤ n0 → g = 0) → (if n0 = 0 then (if gSn A h then 16 else 1) * g else lN n0 * r (cBh A S h p n 0) + ((if gSn A h then 16 else 1) - lN n0) * g) = gBr A S (gSn A h) (vw r) h p n m := by
    intro g g1 g2
    unfold gBr
    by_cases c : m = 0
    · have z0 : n0 = 0 := by rw [hn0d, if_pos c]
      rw [if_pos c, if_pos z0, g1 (by omega), em]
      have e3 : aMv A p m = p := if_pos c
      rw [e3]
      cases gSn A h with
      | true => rfl
      | false => exact Int64.one_mul _
    · have e3 : aMv A p m = aOth A (m - 1) p := if_neg c
      have z1 : n0 = gSnA A (m - 1) h := by rw [hn0d, if_neg c]
      rw [if_neg c, ← z1, ← e3]
      by_cases z0 : n0 = 0
      · rw [if_pos z0, g1 (by omega), em]
        cases gSn A h with
        | true =>
          show 16 * _ = lN n0 * _ + lN (16 - n0) * _
          rw [z0]
          show 16 * _ = (0 : Int64) * _ + 16 * _
          rw [Int64.zero_mul, Int64.zero_add]
        | false => exact Int64.one_mul _
      · rw [if_neg z0, hsn (by omega), e0]
        show lN n0 * _ + (lN 16 - lN n0) * g = lN n0 * _ + lN (16 - n0) * _
        rw [lN_sub hn16]
        rcases Nat.lt_or_ge n0 16 with q | q
        · rw [g1 q, em]
        · rw [g2 q, show 16 - n0 = 0 by omega]
          show _ + (0 : Int64) * 0 = _ + (0 : Int64) * _
          rw [Int64.zero_mul, Int64.zero_mul]
  have hsnow := o_isSnowy (d + 1) h S (by omega) A hA I L y hl
  have hbm := o_behind d h p n m S hh24 hp hn hn0 (by omega) hS A hA I L y hl
  have hb0 := o_behind d h p n 0 S hh24 hp hn hn0 (by omega) hS A hA I L y hl
  have ham := hat (h + 1) (aMv A p m) (aNx A S n (aMv A p m)) (by omega) ht (aNx_lt hS hn)
  have ha0 := hat (h + 1) (aMv A p 0) (aNx A S n (aMv A p 0)) (by omega) hp (aNx_lt hS hn)
  have at79 : ∀ (g : Int64) (lo' : Lo), (n0 < 16 → g = r (cBh A S h p n m)) → (16 ≤ n0 → g = 0) → glle [some (gR (some (31, i))), some (gI (nI (cN h p n))), some (gI (nI m)), some (gI (nI k)), none, some (gI (nI n0)), some (gL (if gSn A h then 16 else 1)), none, none, none] lo' → gT mX4_weighs (d + 3) (0, 0) (fun v h' => v = [gL (gBr A S (gSn A h) (vw r) h p n m)] ∧ h' = gH I L y) (fun _ _ => False) 79 lo' [gL g] (gH I L y) (0, 0) := by
    intro g lo' g1 g2 hl'
    have hf := fin g g1 g2
    refine gT_lo _ hl' ?_
    refine gT_go 400 [] kX4_weighs ?_
    refine bNe n0 0 rfl rfl (fun c => ?_) (fun c => ?_)
    · refine gP_use (hb0) ?_
      refine gP_use (ha0) ?_
      rw [if_neg c] at hf
      refine ⟨congrArg (fun z => [gL z]) ?_, rfl⟩
      rw [← hf, ← nI_l (show n0 < 2 ^ 31 by omega)]
      rfl
    · rw [if_pos c] at hf
      exact ⟨congrArg (fun z => [gL z]) hf, rfl⟩
  have at52 : ∀ (g : Int64) (lo' : Lo), g = (if gSn A h then 16 else 1) → glle [some (gR (some (31, i))), some (gI (nI (cN h p n))), some (gI (nI m)), some (gI (nI k)), none, some (gI (nI n0)), none, none, none, none] lo' → gT mX4_weighs (d + 3) (0, 0) (fun v h' => v = [gL (gBr A S (gSn A h) (vw r) h p n m)] ∧ h' = gH I L y) (fun _ _ => False) 52 lo' [gL g] (gH I L y) (0, 0) := by
    intro g lo' hg hl'
    subst hg
    refine gT_lo _ hl' ?_
    refine gT_go 400 [79] kX4_weighs ?_
    refine bGe n0 16 rfl rfl (fun c => ?_) (fun c => ?_)
    · exact at79 0 _ (fun q => absurd q (by omega)) (fun _ => rfl) (by (repeat' apply And.intro) <;> first | rfl | trivial | exact congrArg Sum.inl (nI_1 _).symm | exact congrArg Sum.inl (nI_1 _).symm)
    · refine gP_use (hbm) ?_
      refine gP_use (ham) ?_
      exact at79 _ _ (fun _ => rfl) (fun q => absurd q (by omega)) (by (repeat' apply And.intro) <;> first | rfl | trivial | exact congrArg Sum.inl (nI_1 _).symm | exact congrArg Sum.inl (nI_1 _).symm)
  have at31 : ∀ (x : Int32) (lo' : Lo), x = nI n0 → glle [some (gR (some (31, i))), some (gI (nI (cN h p n))), some (gI (nI m)), some (gI (nI k)), some (gI (nI h)), none, none, none, none, none] lo' → gT mX4_weighs (d + 3) (0, 0) (fun v h' => v = [gL (gBr A S (gSn A h) (vw r) h p n m)] ∧ h' = gH I L y) (fun _ _ => False) 31 lo' [gI x] (gH I L y) (0, 0) := by
    intro x lo' hx hl'
    subst hx
    refine gT_lo _ hl' ?_
    refine gT_go 400 [52] kX4_weighs ?_
    refine gP_use (hsnow) ?_
    refine bB0 (gSn A h) rfl (fun c => ?_) (fun c => ?_)
    · exact at52 _ _ (by rw [c] <;> rfl) (by (repeat' apply And.intro) <;> first | rfl | trivial | exact congrArg Sum.inl (nI_1 _).symm | exact congrArg Sum.inl (nI_1 _).symm)
    · exact at52 _ _ (by rw [c] <;> rfl) (by (repeat' apply And.intro) <;> first | rfl | trivial | exact congrArg Sum.inl (nI_1 _).symm | exact congrArg Sum.inl (nI_1 _).symm)
  refine gEnter 400 [31] kX4_weighs rfl rfl ?_
  refine gP_use (o_hourOf (d + 1) h p n (by omega) hp hn (gH I L y)) ?_
  refine bNe m 0 rfl rfl (fun c => ?_) (fun c => ?_)
  · refine Exists.intro (m - 1) (And.intro (pk_sub (b := 1) (by omega)) (And.intro (show m - 1 < 24 by omega) ?_))
    refine Exists.intro (h) (And.intro rfl (And.intro (show _ < 24 by omega) ?_))
    exact at31 _ _ (by rw [hn0d, if_neg c]; exact l9 (m - 1) h (by omega) hh24) (by (repeat' apply And.intro) <;> first | rfl | trivial | exact congrArg Sum.inl (nI_1 _).symm | exact congrArg Sum.inl (nI_1 _).symm)
  · exact at31 _ _ (by rw [hn0d, if_pos c] <;> rfl) (by (repeat' apply And.intro) <;> first | rfl | trivial | exact congrArg Sum.inl (nI_1 _).symm | exact congrArg Sum.inl (nI_1 _).symm)
set_option maxRecDepth 100000 in
theorem o_weighs_32 (d i k h p n m S : Nat) (r : Nat → Int64) (A : Nat → Nat) (hA : gLd A) (hh : h < A 3) (hp : p < 12) (hn : n < 13) (hn0 : 0 < n) (hm : m ≤ A 1) (hS : S < 13) (I : Nat → Nat → Nat → Int32) (L : Nat → Nat → Nat → Int64) (y : Dy) (hl : cLd y.1 S A I) (hat : cAtT 32 k r d i I L y) :
    gP mX4_weighs (d + 3) [gR (some (32, i)), gI (nI (cN h p n)), gI (nI m), gI (nI k)] (gH I L y) (gL (gBr A S (gSn A h) (vw r) h p n m)) := by
  have a1 := hA.2.1
  have a3 := hA.2.2.2.1
  have hh24 : h < 24 := by omega
  have hc := cN_lt (show h < 25 by omega) hp hn
  have ht := aMv_lt hA hp (show m ≤ 24 by omega)
  have hr1 : ∀ t, t < 12 → vw r (aBh A S h n t) = r (cN (h + 1) t (aNx A S n t)) := fun t ht => vw_s ht (aNx_lt hS hn)
  have l9 := hl.2.2.2.2.2.2.2.2.1
  obtain ⟨n0, hn0d⟩ : ∃ n0, n0 = (if m = 0 then 0 else gSnA A (m - 1) h) := ⟨_, rfl⟩
  have hn16 : n0 ≤ 16 := by
    rw [hn0d]
    split
    · omega
    · have q := hA.2.2.2.2.2.2.2.2.2.2.1 (24 * (m - 1) + h) (by omega)
      unfold gSnA
      rw [show 132 + 24 * (m - 1) + h = 132 + (24 * (m - 1) + h) by omega]
      exact q
  have hsn : 0 < n0 → gSn A h = true := by
    intro q
    have hm0 : ¬ m = 0 := fun z => by rw [hn0d, if_pos z] at q; omega
    rw [hn0d, if_neg hm0] at q
    unfold gSn gSnw
    rw [decide_eq_true hh, Bool.true_and, List.any_eq_true]
    exact ⟨m - 1, List.mem_range.mpr (by omega), by simp; unfold gSnA at q; omega⟩
  have e0 : r (cBh A S h p n 0) = vw r (aBh A S h n p) := (hr1 p hp).symm
  have em : r (cBh A S h p n m) = vw r (aBh A S h n (aMv A p m)) := (hr1 _ ht).symm
  have fin : ∀ g : Int64, (n0 < 16 → g = r (cBh A S h p n m)) → (16 ≤ n0 → g = 0) → (if n0 = 0 then (if gSn A h then 16 else 1) * g else lN n0 * r (cBh A S h p n 0) + ((if gSn A h then 16 else 1) - lN n0) * g) = gBr A S (gSn A h) (vw r) h p n m := by
    intro g g1 g2
    unfold gBr
    by_cases c : m = 0
    · have z0 : n0 = 0 := by rw [hn0d, if_pos c]
      rw [if_pos c, if_pos z0, g1 (by omega), em]
      have e3 : aMv A p m = p := if_pos c
      rw [e3]
      cases gSn A h with
      | true => rfl
      | false => exact Int64.one_mul _
    · have e3 : aMv A p m = aOth A (m - 1) p := if_neg c
      have z1 : n0 = gSnA A (m - 1) h := by rw [hn0d, if_neg c]
      rw [if_neg c, ← z1, ← e3]
      by_cases z0 : n0 = 0
      · rw [if_pos z0, g1 (by omega), em]
        cases gSn A h with
        | true =>
          show 16 * _ = lN n0 * _ + lN (16 - n0) * _
          rw [z0]
          show 16 * _ = (0 : Int64) * _ + 16 * _
          rw [Int64.zero_mul, Int64.zero_add]
        | false => exact Int64.one_mul _
      · rw [if_neg z0, hsn (by omega), e0]
        show lN n0 * _ + (lN 16 - lN n0) * g = lN n0 * _ + lN (16 - n0) * _
        rw [lN_sub hn16]
        rcases Nat.lt_or_ge n0 16 with q | q
        · rw [g1 q, em]
        · rw [g2 q, show 16 - n0 = 0 by omega]
          show _ + (0 : Int64) * 0 = _ + (0 : Int64) * _
          rw [Int64.zero_mul, Int64.zero_mul]
  have hsnow := o_isSnowy (d + 1) h S (by omega) A hA I L y hl
  have hbm := o_behind d h p n m S hh24 hp hn hn0 (by omega) hS A hA I L y hl
  have hb0 := o_behind d h p n 0 S hh24 hp hn hn0 (by omega) hS A hA I L y hl
  have ham := hat (h + 1) (aMv A p m) (aNx A S n (aMv A p m)) (by omega) ht (aNx_lt hS hn)
  have ha0 := hat (h + 1) (aMv A p 0) (aNx A S n (aMv A p 0)) (by omega) hp (aNx_lt hS hn)
  have at79 : ∀ (g : Int64) (lo' : Lo), (n0 < 16 → g = r (cBh A S h p n m)) → (16 ≤ n0 → g = 0) → glle [some (gR (some (32, i))), some (gI (nI (cN h p n))), some (gI (nI m)), some (gI (nI k)), none, some (gI (nI n0)), some (gL (if gSn A h then 16 else 1)), none, none, none] lo' → gT mX4_weighs (d + 3) (0, 0) (fun v h' => v = [gL (gBr A S (gSn A h) (vw r) h p n m)] ∧ h' = gH I L y) (fun _ _ => False) 79 lo' [gL g] (gH I L y) (0, 0) := by
    intro g lo' g1 g2 hl'
    have hf := fin g g1 g2
    refine gT_lo _ hl' ?_
    refine gT_go 400 [] kX4_weighs ?_
    refine bNe n0 0 rfl rfl (fun c => ?_) (fun c => ?_)
    · refine gP_use (hb0) ?_
      refine gP_use (ha0) ?_
      rw [if_neg c] at hf
      refine ⟨congrArg (fun z => [gL z]) ?_, rfl⟩
      rw [← hf, ← nI_l (show n0 < 2 ^ 31 by omega)]
      rfl
    · rw [if_pos c] at hf
      exact ⟨congrArg (fun z => [gL z]) hf, rfl⟩
  have at52 : ∀ (g : Int64) (lo' : Lo), g = (if gSn A h then 16 else 1) → glle [some (gR (some (32, i))), some (gI (nI (cN h p n))), some (gI (nI m)), some (gI (nI k)), none, some (gI (nI n0)), none, none, none, none] lo' → gT mX4_weighs (d + 3) (0, 0) (fun v h' => v = [gL (gBr A S (gSn A h) (vw r) h p n m)] ∧ h' = gH I L y) (fun _ _ => False) 52 lo' [gL g] (gH I L y) (0, 0) := by
    intro g lo' hg hl'
    subst hg
    refine gT_lo _ hl' ?_
    refine gT_go 400 [79] kX4_weighs ?_
    refine bGe n0 16 rfl rfl (fun c => ?_) (fun c => ?_)
    · exact at79 0 _ (fun q => absurd q (by omega)) (fun _ => rfl) (by (repeat' apply And.intro) <;> first | rfl | trivial | exact congrArg Sum.inl (nI_1 _).symm | exact congrArg Sum.inl (nI_1 _).symm)
    · refine gP_use (hbm) ?_
      refine gP_use (ham) ?_
      exact at79 _ _ (fun _ => rfl) (fun q => absurd q (by omega)) (by (repeat' apply And.intro) <;> first | rfl | trivial | exact congrArg Sum.inl (nI_1 _).symm | exact congrArg Sum.inl (nI_1 _).symm)
  have at31 : ∀ (x : Int32) (lo' : Lo), x = nI n0 → glle [some (gR (some (32, i))), some (gI (nI (cN h p n))), some (gI (nI m)), some (gI (nI k)), some (gI (nI h)), none, none, none, none, none] lo' → gT mX4_weighs (d + 3) (0, 0) (fun v h' => v = [gL (gBr A S (gSn A h) (vw r) h p n m)] ∧ h' = gH I L y) (fun _ _ => False) 31 lo' [gI x] (gH I L y) (0, 0) := by
    intro x lo' hx hl'
    subst hx
    refine gT_lo _ hl' ?_
    refine gT_go 400 [52] kX4_weighs ?_
    refine gP_use (hsnow) ?_
    refine bB0 (gSn A h) rfl (fun c => ?_) (fun c => ?_)
    · exact at52 _ _ (by rw [c] <;> rfl) (by (repeat' apply And.intro) <;> first | rfl | trivial | exact congrArg Sum.inl (nI_1 _).symm | exact congrArg Sum.inl (nI_1 _).symm)
    · exact at52 _ _ (by rw [c] <;> rfl) (by (repeat' apply And.intro) <;> first | rfl | trivial | exact congrArg Sum.inl (nI_1 _).symm | exact congrArg Sum.inl (nI_1 _).symm)
  refine gEnter 400 [31] kX4_weighs rfl rfl ?_
  refine gP_use (o_hourOf (d + 1) h p n (by omega) hp hn (gH I L y)) ?_
  refine bNe m 0 rfl rfl (fun c => ?_) (fun c => ?_)
  · refine Exists.intro (m - 1) (And.intro (pk_sub (b := 1) (by omega)) (And.intro (show m - 1 < 24 by omega) ?_))
    refine Exists.intro (h) (And.intro rfl (And.intro (show _ < 24 by omega) ?_))
    exact at31 _ _ (by rw [hn0d, if_neg c]; exact l9 (m - 1) h (by omega) hh24) (by (repeat' apply And.intro) <;> first | rfl | trivial | exact congrArg Sum.inl (nI_1 _).symm | exact congrArg Sum.inl (nI_1 _).symm)
  · exact at31 _ _ (by rw [hn0d, if_pos c] <;> rfl) (by (repeat' apply And.intro) <;> first | rfl | trivial | exact congrArg Sum.inl (nI_1 _).symm | exact congrArg Sum.inl (nI_1 _).symm)
set_option maxRecDepth 100000 in
theorem o_weighs_33 (d i k h p n m S : Nat) (r : Nat → Int64) (A : Nat → Nat) (hA : gLd A) (hh : h < A 3) (hp : p < 12) (hn : n < 13) (hn0 : 0 < n) (hm : m ≤ A 1) (hS : S < 13) (I : Nat → Nat → Nat → Int32) (L : Nat → Nat → Nat → Int64) (y : Dy) (hl : cLd y.1 S A I) (hat : cAtT 33 k r d i I L y) :
    gP mX4_weighs (d + 3) [gR (some (33, i)), gI (nI (cN h p n)), gI (nI m), gI (nI k)] (gH I L y) (gL (gBr A S (gSn A h) (vw r) h p n m)) := by
  have a1 := hA.2.1
  have a3 := hA.2.2.2.1
  have hh24 : h < 24 := by omega
  have hc := cN_lt (show h < 25 by omega) hp hn
  have ht := aMv_lt hA hp (show m ≤ 24 by omega)
  have hr1 : ∀ t, t < 12 → vw r (aBh A S h n t) = r (cN (h + 1) t (aNx A S n t)) := fun t ht => vw_s ht (aNx_lt hS hn)
  have l9 := hl.2.2.2.2.2.2.2.2.1
  obtain ⟨n0, hn0d⟩ : ∃ n0, n0 = (if m = 0 then 0 else gSnA A (m - 1) h) := ⟨_, rfl⟩
  have hn16 : n0 ≤ 16 := by
    rw [hn0d]
    split
    · omega
    · have q := hA.2.2.2.2.2.2.2.2.2.2.1 (24 * (m - 1) + h) (by omega)
      unfold gSnA
      rw [show 132 + 24 * (m - 1) + h = 132 + (24 * (m - 1) + h) by omega]
      exact q
  have hsn : 0 < n0 → gSn A h = true := by
    intro q
    have hm0 : ¬ m = 0 := fun z => by rw [hn0d, if_pos z] at q; omega
    rw [hn0d, if_neg hm0] at q
    unfold gSn gSnw
    rw [decide_eq_true hh, Bool.true_and, List.any_eq_true]
    exact ⟨m - 1, List.mem_range.mpr (by omega), by simp; unfold gSnA at q; omega⟩
  have e0 : r (cBh A S h p n 0) = vw r (aBh A S h n p) := (hr1 p hp).symm
  have em : r (cBh A S h p n m) = vw r (aBh A S h n (aMv A p m)) := (hr1 _ ht).symm
  have fin : ∀ g : Int64, (n0 < 16 → g = r (cBh A S h p n m)) → (16 ≤ n0 → g = 0) → (if n0 = 0 then (if gSn A h then 16 else 1) * g else lN n0 * r (cBh A S h p n 0) + ((if gSn A h then 16 else 1) - lN n0) * g) = gBr A S (gSn A h) (vw r) h p n m := by
    intro g g1 g2
    unfold gBr
    by_cases c : m = 0
    · have z0 : n0 = 0 := by rw [hn0d, if_pos c]
      rw [if_pos c, if_pos z0, g1 (by omega), em]
      have e3 : aMv A p m = p := if_pos c
      rw [e3]
      cases gSn A h with
      | true => rfl
      | false => exact Int64.one_mul _
    · have e3 : aMv A p m = aOth A (m - 1) p := if_neg c
      have z1 : n0 = gSnA A (m - 1) h := by rw [hn0d, if_neg c]
      rw [if_neg c, ← z1, ← e3]
      by_cases z0 : n0 = 0
      · rw [if_pos z0, g1 (by omega), em]
        cases gSn A h with
        | true =>
          show 16 * _ = lN n0 * _ + lN (16 - n0) * _
          rw [z0]
          show 16 * _ = (0 : Int64) * _ + 16 * _
          rw [Int64.zero_mul, Int64.zero_add]
        | false => exact Int64.one_mul _
      · rw [if_neg z0, hsn (by omega), e0]
        show lN n0 * _ + (lN 16 - lN n0) * g = lN n0 * _ + lN (16 - n0) * _
        rw [lN_sub hn16]
        rcases Nat.lt_or_ge n0 16 with q | q
        · rw [g1 q, em]
        · rw [g2 q, show 16 - n0 = 0 by omega]
          show _ + (0 : Int64) * 0 = _ + (0 : Int64) * _
          rw [Int64.zero_mul, Int64.zero_mul]
  have hsnow := o_isSnowy (d + 1) h S (by omega) A hA I L y hl
  have hbm := o_behind d h p n m S hh24 hp hn hn0 (by omega) hS A hA I L y hl
  have hb0 := o_behind d h p n 0 S hh24 hp hn hn0 (by omega) hS A hA I L y hl
  have ham := hat (h + 1) (aMv A p m) (aNx A S n (aMv A p m)) (by omega) ht (aNx_lt hS hn)
  have ha0 := hat (h + 1) (aMv A p 0) (aNx A S n (aMv A p 0)) (by omega) hp (aNx_lt hS hn)
  have at79 : ∀ (g : Int64) (lo' : Lo), (n0 < 16 → g = r (cBh A S h p n m)) → (16 ≤ n0 → g = 0) → glle [some (gR (some (33, i))), some (gI (nI (cN h p n))), some (gI (nI m)), some (gI (nI k)), none, some (gI (nI n0)), some (gL (if gSn A h then 16 else 1)), none, none, none] lo' → gT mX4_weighs (d + 3) (0, 0) (fun v h' => v = [gL (gBr A S (gSn A h) (vw r) h p n m)] ∧ h' = gH I L y) (fun _ _ => False) 79 lo' [gL g] (gH I L y) (0, 0) := by
    intro g lo' g1 g2 hl'
    have hf := fin g g1 g2
    refine gT_lo _ hl' ?_
    refine gT_go 400 [] kX4_weighs ?_
    refine bNe n0 0 rfl rfl (fun c => ?_) (fun c => ?_)
    · refine gP_use (hb0) ?_
      refine gP_use (ha0) ?_
      rw [if_neg c] at hf
      refine ⟨congrArg (fun z => [gL z]) ?_, rfl⟩
      rw [← hf, ← nI_l (show n0 < 2 ^ 31 by omega)]
      rfl
    · rw [if_pos c] at hf
      exact ⟨congrArg (fun z => [gL z]) hf, rfl⟩
  have at52 : ∀ (g : Int64) (lo' : Lo), g = (if gSn A h then 16 else 1) → glle [some (gR (some (33, i))), some (gI (nI (cN h p n))), some (gI (nI m)), some (gI (nI k)), none, some (gI (nI n0)), none, none, none, none] lo' → gT mX4_weighs (d + 3) (0, 0) (fun v h' => v = [gL (gBr A S (gSn A h) (vw r) h p n m)] ∧ h' = gH I L y) (fun _ _ => False) 52 lo' [gL g] (gH I L y) (0, 0) := by
    intro g lo' hg hl'
    subst hg
    refine gT_lo _ hl' ?_
    refine gT_go 400 [79] kX4_weighs ?_
    refine bGe n0 16 rfl rfl (fun c => ?_) (fun c => ?_)
    · exact at79 0 _ (fun q => absurd q (by omega)) (fun _ => rfl) (by (repeat' apply And.intro) <;> first | rfl | trivial | exact congrArg Sum.inl (nI_1 _).symm | exact congrArg Sum.inl (nI_1 _).symm)
    · refine gP_use (hbm) ?_
      refine gP_use (ham) ?_
      exact at79 _ _ (fun _ => rfl) (fun q => absurd q (by omega)) (by (repeat' apply And.intro) <;> first | rfl | trivial | exact congrArg Sum.inl (nI_1 _).symm | exact congrArg Sum.inl (nI_1 _).symm)
  have at31 : ∀ (x : Int32) (lo' : Lo), x = nI n0 → glle [some (gR (some (33, i))), some (gI (nI (cN h p n))), some (gI (nI m)), some (gI (nI k)), some (gI (nI h)), none, none, none, none, none] lo' → gT mX4_weighs (d + 3) (0, 0) (fun v h' => v = [gL (gBr A S (gSn A h) (vw r) h p n m)] ∧ h' = gH I L y) (fun _ _ => False) 31 lo' [gI x] (gH I L y) (0, 0) := by
    intro x lo' hx hl'
    subst hx
    refine gT_lo _ hl' ?_
    refine gT_go 400 [52] kX4_weighs ?_
    refine gP_use (hsnow) ?_
    refine bB0 (gSn A h) rfl (fun c => ?_) (fun c => ?_)
    · exact at52 _ _ (by rw [c] <;> rfl) (by (repeat' apply And.intro) <;> first | rfl | trivial | exact congrArg Sum.inl (nI_1 _).symm | exact congrArg Sum.inl (nI_1 _).symm)
    · exact at52 _ _ (by rw [c] <;> rfl) (by (repeat' apply And.intro) <;> first | rfl | trivial | exact congrArg Sum.inl (nI_1 _).symm | exact congrArg Sum.inl (nI_1 _).symm)
  refine gEnter 400 [31] kX4_weighs rfl rfl ?_
  refine gP_use (o_hourOf (d + 1) h p n (by omega) hp hn (gH I L y)) ?_
  refine bNe m 0 rfl rfl (fun c => ?_) (fun c => ?_)
  · refine Exists.intro (m - 1) (And.intro (pk_sub (b := 1) (by omega)) (And.intro (show m - 1 < 24 by omega) ?_))
    refine Exists.intro (h) (And.intro rfl (And.intro (show _ < 24 by omega) ?_))
    exact at31 _ _ (by rw [hn0d, if_neg c]; exact l9 (m - 1) h (by omega) hh24) (by (repeat' apply And.intro) <;> first | rfl | trivial | exact congrArg Sum.inl (nI_1 _).symm | exact congrArg Sum.inl (nI_1 _).symm)
  · exact at31 _ _ (by rw [hn0d, if_pos c] <;> rfl) (by (repeat' apply And.intro) <;> first | rfl | trivial | exact congrArg Sum.inl (nI_1 _).symm | exact congrArg Sum.inl (nI_1 _).symm)
set_option maxRecDepth 100000 in
theorem o_weighs_34 (d i k h p n m S : Nat) (r : Nat → Int64) (A : Nat → Nat) (hA : gLd A) (hh : h < A 3) (hp : p < 12) (hn : n < 13) (hn0 : 0 < n) (hm : m ≤ A 1) (hS : S < 13) (I : Nat → Nat → Nat → Int32) (L : Nat → Nat → Nat → Int64) (y : Dy) (hl : cLd y.1 S A I) (hat : cAtT 34 k r d i I L y) :
    gP mX4_weighs (d + 3) [gR (some (34, i)), gI (nI (cN h p n)), gI (nI m), gI (nI k)] (gH I L y) (gL (gBr A S (gSn A h) (vw r) h p n m)) := by
  have a1 := hA.2.1
  have a3 := hA.2.2.2.1
  have hh24 : h < 24 := by omega
  have hc := cN_lt (show h < 25 by omega) hp hn
  have ht := aMv_lt hA hp (show m ≤ 24 by omega)
  have hr1 : ∀ t, t < 12 → vw r (aBh A S h n t) = r (cN (h + 1) t (aNx A S n t)) := fun t ht => vw_s ht (aNx_lt hS hn)
  have l9 := hl.2.2.2.2.2.2.2.2.1
  obtain ⟨n0, hn0d⟩ : ∃ n0, n0 = (if m = 0 then 0 else gSnA A (m - 1) h) := ⟨_, rfl⟩
  have hn16 : n0 ≤ 16 := by
    rw [hn0d]
    split
    · omega
    · have q := hA.2.2.2.2.2.2.2.2.2.2.1 (24 * (m - 1) + h) (by omega)
      unfold gSnA
      rw [show 132 + 24 * (m - 1) + h = 132 + (24 * (m - 1) + h) by omega]
      exact q
  have hsn : 0 < n0 → gSn A h = true := by
    intro q
    have hm0 : ¬ m = 0 := fun z => by rw [hn0d, if_pos z] at q; omega
    rw [hn0d, if_neg hm0] at q
    unfold gSn gSnw
    rw [decide_eq_true hh, Bool.true_and, List.any_eq_true]
    exact ⟨m - 1, List.mem_range.mpr (by omega), by simp; unfold gSnA at q; omega⟩
  have e0 : r (cBh A S h p n 0) = vw r (aBh A S h n p) := (hr1 p hp).symm
  have em : r (cBh A S h p n m) = vw r (aBh A S h n (aMv A p m)) := (hr1 _ ht).symm
  have fin : ∀ g : Int64, (n0 < 16 → g = r (cBh A S h p n m)) → (16 ≤ n0 → g = 0) → (if n0 = 0 then (if gSn A h then 16 else 1) * g else lN n0 * r (cBh A S h p n 0) + ((if gSn A h then 16 else 1) - lN n0) * g) = gBr A S (gSn A h) (vw r) h p n m := by
    intro g g1 g2
    unfold gBr
    by_cases c : m = 0
    · have z0 : n0 = 0 := by rw [hn0d, if_pos c]
      rw [if_pos c, if_pos z0, g1 (by omega), em]
      have e3 : aMv A p m = p := if_pos c
      rw [e3]
      cases gSn A h with
      | true => rfl
      | false => exact Int64.one_mul _
    · have e3 : aMv A p m = aOth A (m - 1) p := if_neg c
      have z1 : n0 = gSnA A (m - 1) h := by rw [hn0d, if_neg c]
      rw [if_neg c, ← z1, ← e3]
      by_cases z0 : n0 = 0
      · rw [if_pos z0, g1 (by omega), em]
        cases gSn A h with
        | true =>
          show 16 * _ = lN n0 * _ + lN (16 - n0) * _
          rw [z0]
          show 16 * _ = (0 : Int64) * _ + 16 * _
          rw [Int64.zero_mul, Int64.zero_add]
        | false => exact Int64.one_mul _
      · rw [if_neg z0, hsn (by omega), e0]
        show lN n0 * _ + (lN 16 - lN n0) * g = lN n0 * _ + lN (16 - n0) * _
        rw [lN_sub hn16]
        rcases Nat.lt_or_ge n0 16 with q | q
        · rw [g1 q, em]
        · rw [g2 q, show 16 - n0 = 0 by omega]
          show _ + (0 : Int64) * 0 = _ + (0 : Int64) * _
          rw [Int64.zero_mul, Int64.zero_mul]
  have hsnow := o_isSnowy (d + 1) h S (by omega) A hA I L y hl
  have hbm := o_behind d h p n m S hh24 hp hn hn0 (by omega) hS A hA I L y hl
  have hb0 := o_behind d h p n 0 S hh24 hp hn hn0 (by omega) hS A hA I L y hl
  have ham := hat (h + 1) (aMv A p m) (aNx A S n (aMv A p m)) (by omega) ht (aNx_lt hS hn)
  have ha0 := hat (h + 1) (aMv A p 0) (aNx A S n (aMv A p 0)) (by omega) hp (aNx_lt hS hn)
  have at79 : ∀ (g : Int64) (lo' : Lo), (n0 < 16 → g = r (cBh A S h p n m)) → (16 ≤ n0 → g = 0) → glle [some (gR (some (34, i))), some (gI (nI (cN h p n))), some (gI (nI m)), some (gI (nI k)), none, some (gI (nI n0)), some (gL (if gSn A h then 16 else 1)), none, none, none] lo' → gT mX4_weighs (d + 3) (0, 0) (fun v h' => v = [gL (gBr A S (gSn A h) (vw r) h p n m)] ∧ h' = gH I L y) (fun _ _ => False) 79 lo' [gL g] (gH I L y) (0, 0) := by
    intro g lo' g1 g2 hl'
    have hf := fin g g1 g2
    refine gT_lo _ hl' ?_
    refine gT_go 400 [] kX4_weighs ?_
    refine bNe n0 0 rfl rfl (fun c => ?_) (fun c => ?_)
    · refine gP_use (hb0) ?_
      refine gP_use (ha0) ?_
      rw [if_neg c] at hf
      refine ⟨congrArg (fun z => [gL z]) ?_, rfl⟩
      rw [← hf, ← nI_l (show n0 < 2 ^ 31 by omega)]
      rfl
    · rw [if_pos c] at hf
      exact ⟨congrArg (fun z => [gL z]) hf, rfl⟩
  have at52 : ∀ (g : Int64) (lo' : Lo), g = (if gSn A h then 16 else 1) → glle [some (gR (some (34, i))), some (gI (nI (cN h p n))), some (gI (nI m)), some (gI (nI k)), none, some (gI (nI n0)), none, none, none, none] lo' → gT mX4_weighs (d + 3) (0, 0) (fun v h' => v = [gL (gBr A S (gSn A h) (vw r) h p n m)] ∧ h' = gH I L y) (fun _ _ => False) 52 lo' [gL g] (gH I L y) (0, 0) := by
    intro g lo' hg hl'
    subst hg
    refine gT_lo _ hl' ?_
    refine gT_go 400 [79] kX4_weighs ?_
    refine bGe n0 16 rfl rfl (fun c => ?_) (fun c => ?_)
    · exact at79 0 _ (fun q => absurd q (by omega)) (fun _ => rfl) (by (repeat' apply And.intro) <;> first | rfl | trivial | exact congrArg Sum.inl (nI_1 _).symm | exact congrArg Sum.inl (nI_1 _).symm)
    · refine gP_use (hbm) ?_
      refine gP_use (ham) ?_
      exact at79 _ _ (fun _ => rfl) (fun q => absurd q (by omega)) (by (repeat' apply And.intro) <;> first | rfl | trivial | exact congrArg Sum.inl (nI_1 _).symm | exact congrArg Sum.inl (nI_1 _).symm)
  have at31 : ∀ (x : Int32) (lo' : Lo), x = nI n0 → glle [some (gR (some (34, i))), some (gI (nI (cN h p n))), some (gI (nI m)), some (gI (nI k)), some (gI (nI h)), none, none, none, none, none] lo' → gT mX4_weighs (d + 3) (0, 0) (fun v h' => v = [gL (gBr A S (gSn A h) (vw r) h p n m)] ∧ h' = gH I L y) (fun _ _ => False) 31 lo' [gI x] (gH I L y) (0, 0) := by
    intro x lo' hx hl'
    subst hx
    refine gT_lo _ hl' ?_
    refine gT_go 400 [52] kX4_weighs ?_
    refine gP_use (hsnow) ?_
    refine bB0 (gSn A h) rfl (fun c => ?_) (fun c => ?_)
    · exact at52 _ _ (by rw [c] <;> rfl) (by (repeat' apply And.intro) <;> first | rfl | trivial | exact congrArg Sum.inl (nI_1 _).symm | exact congrArg Sum.inl (nI_1 _).symm)
    · exact at52 _ _ (by rw [c] <;> rfl) (by (repeat' apply And.intro) <;> first | rfl | trivial | exact congrArg Sum.inl (nI_1 _).symm | exact congrArg Sum.inl (nI_1 _).symm)
  refine gEnter 400 [31] kX4_weighs rfl rfl ?_
  refine gP_use (o_hourOf (d + 1) h p n (by omega) hp hn (gH I L y)) ?_
  refine bNe m 0 rfl rfl (fun c => ?_) (fun c => ?_)
  · refine Exists.intro (m - 1) (And.intro (pk_sub (b := 1) (by omega)) (And.intro (show m - 1 < 24 by omega) ?_))
    refine Exists.intro (h) (And.intro rfl (And.intro (show _ < 24 by omega) ?_))
    exact at31 _ _ (by rw [hn0d, if_neg c]; exact l9 (m - 1) h (by omega) hh24) (by (repeat' apply And.intro) <;> first | rfl | trivial | exact congrArg Sum.inl (nI_1 _).symm | exact congrArg Sum.inl (nI_1 _).symm)
  · exact at31 _ _ (by rw [hn0d, if_pos c] <;> rfl) (by (repeat' apply And.intro) <;> first | rfl | trivial | exact congrArg Sum.inl (nI_1 _).symm | exact congrArg Sum.inl (nI_1 _).symm)
set_option maxRecDepth 100000 in
theorem o_takes_30 (d i k B h p n S : Nat) (r : Nat → Int64) (hB : B < 2 ^ 31) (A : Nat → Nat) (hA : gLd A) (hh : h < A 3) (hp : p < 12) (hn : n < 13) (hn0 : 0 < n) (hS : S < 13) (I : Nat → Nat → Nat → Int32) (L : Nat → Nat → Nat → Int64) (y : Dy) (hl : cLd y.1 S A I) (hat : cAtT 30 k r d i I L y) :
    gP mX4_takes (d + 4) [gR (some (30, i)), gI (nI (cN h p n)), gI (nI k), gI (nI B)] (gH I L y) (gI (gOI (gBs B (gBr A S (gSn A h) (vw r) h p n) false (A 1 + 1)))) := by
  have a1 := hA.2.1
  have e1 := hl.1 1 (by decide)
  refine gEnter 400 [9] kX4_takes rfl rfl ?_
  refine gT_for (σ := Unit) (pc := 9) (lo := fun j _ => [some (gR (some (30, i))), some (gI (nI (cN h p n))), some (gI (nI k)), some (gI (nI B)), some (gI (gOI (gBs B (gBr A S (gSn A h) (vw r) h p n) false j))), some (gL (gOv (gBr A S (gSn A h) (vw r) h p n) (gBs B (gBr A S (gSn A h) (vw r) h p n) false j))), none, some (gI (nI j)), none, none]) (hp := fun _ _ => gH I L y) (Inv := fun _ _ => True) (A 1 + 1) ?_ ?_ 0 () (Nat.zero_le _) trivial (by (repeat' apply And.intro) <;> first | rfl | trivial | exact congrArg Sum.inl (nI_1 _).symm | exact congrArg Sum.inl (nI_1 _).symm)
  · intro _ _
    refine gT_go 400 [9] kX4_takes ?_
    refine bGt (A 1 + 1) (A 1) rfl e1 (fun c => ?_) (fun c => absurd c (by omega))
    exact ⟨rfl, rfl⟩
  · intro j _ hj _ hnext
    refine gT_go 400 [9, 63] kX4_takes ?_
    refine bGt j (A 1) rfl e1 (fun c => absurd c (by omega)) (fun c => ?_)
    refine bB1 (B.testBit j) (gbit hB (by omega)) (fun hbt => ?_) (fun hbt => ?_)
    · refine gP_use (o_weighs_30 d i k h p n j S r A hA hh hp hn hn0 (by omega) hS I L y hl hat) ?_
      have at63 : ∀ (lo' : Lo), gBs B (gBr A S (gSn A h) (vw r) h p n) false (j + 1) = some j → glle [some (gR (some (30, i))), some (gI (nI (cN h p n))), some (gI (nI k)), some (gI (nI B)), none, none, none, some (gI (nI j)), some (gL (gBr A S (gSn A h) (vw r) h p n j)), none] lo' → gT mX4_takes (d + 4) (0, 0) (fun v h' => v = [gI (gOI (gBs B (gBr A S (gSn A h) (vw r) h p n) false (A 1 + 1)))] ∧ h' = gH I L y) (fun _ _ => False) 63 lo' [] (gH I L y) (0, 0) := by
        intro lo' hg hl'
        refine gT_lo _ hl' ?_
        refine gT_go 400 [9] kX4_takes ?_
        refine hnext () _ trivial ?_
        rw [hg]
        exact (by (repeat' apply And.intro) <;> first | rfl | trivial | exact congrArg Sum.inl (nI_1 _).symm | exact congrArg Sum.inl (nI_1 _).symm)
      cases hg : gBs B (gBr A S (gSn A h) (vw r) h p n) false j with
      | none =>
        refine And.intro (fun _ => ?_) (fun c => absurd rfl c)
        exact at63 _ (gBs_n hbt hg) (by (repeat' apply And.intro) <;> first | rfl | trivial | exact congrArg Sum.inl (nI_1 _).symm | exact congrArg Sum.inl (nI_1 _).symm)
      | some b0 =>
        have hb0 := gBs_lt hg
        refine And.intro (fun c => absurd c (gOI_ne (by omega))) (fun _ => ?_)
        refine bcGt (fun c => ?_) (fun c => ?_)
        · exact at63 _ (gBs_f1 hbt hg c) (by (repeat' apply And.intro) <;> first | rfl | trivial | exact congrArg Sum.inl (nI_1 _).symm | exact congrArg Sum.inl (nI_1 _).symm)
        · refine hnext () _ trivial ?_
          rw [gBs_f0 hbt hg c]
          exact (by (repeat' apply And.intro) <;> first | rfl | trivial | exact congrArg Sum.inl (nI_1 _).symm | exact congrArg Sum.inl (nI_1 _).symm)
    · refine hnext () _ trivial ?_
      rw [gBs_o hbt]
      exact (by (repeat' apply And.intro) <;> first | rfl | trivial | exact congrArg Sum.inl (nI_1 _).symm | exact congrArg Sum.inl (nI_1 _).symm)
set_option maxRecDepth 100000 in
theorem o_takes_31 (d i k B h p n S : Nat) (r : Nat → Int64) (hB : B < 2 ^ 31) (A : Nat → Nat) (hA : gLd A) (hh : h < A 3) (hp : p < 12) (hn : n < 13) (hn0 : 0 < n) (hS : S < 13) (I : Nat → Nat → Nat → Int32) (L : Nat → Nat → Nat → Int64) (y : Dy) (hl : cLd y.1 S A I) (hat : cAtT 31 k r d i I L y) :
    gP mX4_takes (d + 4) [gR (some (31, i)), gI (nI (cN h p n)), gI (nI k), gI (nI B)] (gH I L y) (gI (gOI (gBs B (gBr A S (gSn A h) (vw r) h p n) false (A 1 + 1)))) := by
  have a1 := hA.2.1
  have e1 := hl.1 1 (by decide)
  refine gEnter 400 [9] kX4_takes rfl rfl ?_
  refine gT_for (σ := Unit) (pc := 9) (lo := fun j _ => [some (gR (some (31, i))), some (gI (nI (cN h p n))), some (gI (nI k)), some (gI (nI B)), some (gI (gOI (gBs B (gBr A S (gSn A h) (vw r) h p n) false j))), some (gL (gOv (gBr A S (gSn A h) (vw r) h p n) (gBs B (gBr A S (gSn A h) (vw r) h p n) false j))), none, some (gI (nI j)), none, none]) (hp := fun _ _ => gH I L y) (Inv := fun _ _ => True) (A 1 + 1) ?_ ?_ 0 () (Nat.zero_le _) trivial (by (repeat' apply And.intro) <;> first | rfl | trivial | exact congrArg Sum.inl (nI_1 _).symm | exact congrArg Sum.inl (nI_1 _).symm)
  · intro _ _
    refine gT_go 400 [9] kX4_takes ?_
    refine bGt (A 1 + 1) (A 1) rfl e1 (fun c => ?_) (fun c => absurd c (by omega))
    exact ⟨rfl, rfl⟩
  · intro j _ hj _ hnext
    refine gT_go 400 [9, 63] kX4_takes ?_
    refine bGt j (A 1) rfl e1 (fun c => absurd c (by omega)) (fun c => ?_)
    refine bB1 (B.testBit j) (gbit hB (by omega)) (fun hbt => ?_) (fun hbt => ?_)
    · refine gP_use (o_weighs_31 d i k h p n j S r A hA hh hp hn hn0 (by omega) hS I L y hl hat) ?_
      have at63 : ∀ (lo' : Lo), gBs B (gBr A S (gSn A h) (vw r) h p n) false (j + 1) = some j → glle [some (gR (some (31, i))), some (gI (nI (cN h p n))), some (gI (nI k)), some (gI (nI B)), none, none, none, some (gI (nI j)), some (gL (gBr A S (gSn A h) (vw r) h p n j)), none] lo' → gT mX4_takes (d + 4) (0, 0) (fun v h' => v = [gI (gOI (gBs B (gBr A S (gSn A h) (vw r) h p n) false (A 1 + 1)))] ∧ h' = gH I L y) (fun _ _ => False) 63 lo' [] (gH I L y) (0, 0) := by
        intro lo' hg hl'
        refine gT_lo _ hl' ?_
        refine gT_go 400 [9] kX4_takes ?_
        refine hnext () _ trivial ?_
        rw [hg]
        exact (by (repeat' apply And.intro) <;> first | rfl | trivial | exact congrArg Sum.inl (nI_1 _).symm | exact congrArg Sum.inl (nI_1 _).symm)
      cases hg : gBs B (gBr A S (gSn A h) (vw r) h p n) false j with
      | none =>
        refine And.intro (fun _ => ?_) (fun c => absurd rfl c)
        exact at63 _ (gBs_n hbt hg) (by (repeat' apply And.intro) <;> first | rfl | trivial | exact congrArg Sum.inl (nI_1 _).symm | exact congrArg Sum.inl (nI_1 _).symm)
      | some b0 =>
        have hb0 := gBs_lt hg
        refine And.intro (fun c => absurd c (gOI_ne (by omega))) (fun _ => ?_)
        refine bcGt (fun c => ?_) (fun c => ?_)
        · exact at63 _ (gBs_f1 hbt hg c) (by (repeat' apply And.intro) <;> first | rfl | trivial | exact congrArg Sum.inl (nI_1 _).symm | exact congrArg Sum.inl (nI_1 _).symm)
        · refine hnext () _ trivial ?_
          rw [gBs_f0 hbt hg c]
          exact (by (repeat' apply And.intro) <;> first | rfl | trivial | exact congrArg Sum.inl (nI_1 _).symm | exact congrArg Sum.inl (nI_1 _).symm)
    · refine hnext () _ trivial ?_
      rw [gBs_o hbt]
      exact (by (repeat' apply And.intro) <;> first | rfl | trivial | exact congrArg Sum.inl (nI_1 _).symm | exact congrArg Sum.inl (nI_1 _).symm)
set_option maxRecDepth 100000 in
theorem o_takes_32 (d i k B h p n S : Nat) (r : Nat → Int64) (hB : B < 2 ^ 31) (A : Nat → Nat) (hA : gLd A) (hh : h < A 3) (hp : p < 12) (hn : n < 13) (hn0 : 0 < n) (hS : S < 13) (I : Nat → Nat → Nat → Int32) (L : Nat → Nat → Nat → Int64) (y : Dy) (hl : cLd y.1 S A I) (hat : cAtT 32 k r d i I L y) :
    gP mX4_takes (d + 4) [gR (some (32, i)), gI (nI (cN h p n)), gI (nI k), gI (nI B)] (gH I L y) (gI (gOI (gBs B (gBr A S (gSn A h) (vw r) h p n) false (A 1 + 1)))) := by
  have a1 := hA.2.1
  have e1 := hl.1 1 (by decide)
  refine gEnter 400 [9] kX4_takes rfl rfl ?_
  refine gT_for (σ := Unit) (pc := 9) (lo := fun j _ => [some (gR (some (32, i))), some (gI (nI (cN h p n))), some (gI (nI k)), some (gI (nI B)), some (gI (gOI (gBs B (gBr A S (gSn A h) (vw r) h p n) false j))), some (gL (gOv (gBr A S (gSn A h) (vw r) h p n) (gBs B (gBr A S (gSn A h) (vw r) h p n) false j))), none, some (gI (nI j)), none, none]) (hp := fun _ _ => gH I L y) (Inv := fun _ _ => True) (A 1 + 1) ?_ ?_ 0 () (Nat.zero_le _) trivial (by (repeat' apply And.intro) <;> first | rfl | trivial | exact congrArg Sum.inl (nI_1 _).symm | exact congrArg Sum.inl (nI_1 _).symm)
  · intro _ _
    refine gT_go 400 [9] kX4_takes ?_
    refine bGt (A 1 + 1) (A 1) rfl e1 (fun c => ?_) (fun c => absurd c (by omega))
    exact ⟨rfl, rfl⟩
  · intro j _ hj _ hnext
    refine gT_go 400 [9, 63] kX4_takes ?_
    refine bGt j (A 1) rfl e1 (fun c => absurd c (by omega)) (fun c => ?_)
    refine bB1 (B.testBit j) (gbit hB (by omega)) (fun hbt => ?_) (fun hbt => ?_)
    · refine gP_use (o_weighs_32 d i k h p n j S r A hA hh hp hn hn0 (by omega) hS I L y hl hat) ?_
      have at63 : ∀ (lo' : Lo), gBs B (gBr A S (gSn A h) (vw r) h p n) false (j + 1) = some j → glle [some (gR (some (32, i))), some (gI (nI (cN h p n))), some (gI (nI k)), some (gI (nI B)), none, none, none, some (gI (nI j)), some (gL (gBr A S (gSn A h) (vw r) h p n j)), none] lo' → gT mX4_takes (d + 4) (0, 0) (fun v h' => v = [gI (gOI (gBs B (gBr A S (gSn A h) (vw r) h p n) false (A 1 + 1)))] ∧ h' = gH I L y) (fun _ _ => False) 63 lo' [] (gH I L y) (0, 0) := by
        intro lo' hg hl'
        refine gT_lo _ hl' ?_
        refine gT_go 400 [9] kX4_takes ?_
        refine hnext () _ trivial ?_
        rw [hg]
        exact (by (repeat' apply And.intro) <;> first | rfl | trivial | exact congrArg Sum.inl (nI_1 _).symm | exact congrArg Sum.inl (nI_1 _).symm)
      cases hg : gBs B (gBr A S (gSn A h) (vw r) h p n) false j with
      | none =>
        refine And.intro (fun _ => ?_) (fun c => absurd rfl c)
        exact at63 _ (gBs_n hbt hg) (by (repeat' apply And.intro) <;> first | rfl | trivial | exact congrArg Sum.inl (nI_1 _).symm | exact congrArg Sum.inl (nI_1 _).symm)
      | some b0 =>
        have hb0 := gBs_lt hg
        refine And.intro (fun c => absurd c (gOI_ne (by omega))) (fun _ => ?_)
        refine bcGt (fun c => ?_) (fun c => ?_)
        · exact at63 _ (gBs_f1 hbt hg c) (by (repeat' apply And.intro) <;> first | rfl | trivial | exact congrArg Sum.inl (nI_1 _).symm | exact congrArg Sum.inl (nI_1 _).symm)
        · refine hnext () _ trivial ?_
          rw [gBs_f0 hbt hg c]
          exact (by (repeat' apply And.intro) <;> first | rfl | trivial | exact congrArg Sum.inl (nI_1 _).symm | exact congrArg Sum.inl (nI_1 _).symm)
    · refine hnext () _ trivial ?_
      rw [gBs_o hbt]
      exact (by (repeat' apply And.intro) <;> first | rfl | trivial | exact congrArg Sum.inl (nI_1 _).symm | exact congrArg Sum.inl (nI_1 _).symm)
set_option maxRecDepth 100000 in
theorem o_takes_33 (d i k B h p n S : Nat) (r : Nat → Int64) (hB : B < 2 ^ 31) (A : Nat → Nat) (hA : gLd A) (hh : h < A 3) (hp : p < 12) (hn : n < 13) (hn0 : 0 < n) (hS : S < 13) (I : Nat → Nat → Nat → Int32) (L : Nat → Nat → Nat → Int64) (y : Dy) (hl : cLd y.1 S A I) (hat : cAtT 33 k r d i I L y) :
    gP mX4_takes (d + 4) [gR (some (33, i)), gI (nI (cN h p n)), gI (nI k), gI (nI B)] (gH I L y) (gI (gOI (gBs B (gBr A S (gSn A h) (vw r) h p n) false (A 1 + 1)))) := by
  have a1 := hA.2.1
  have e1 := hl.1 1 (by decide)
  refine gEnter 400 [9] kX4_takes rfl rfl ?_
  refine gT_for (σ := Unit) (pc := 9) (lo := fun j _ => [some (gR (some (33, i))), some (gI (nI (cN h p n))), some (gI (nI k)), some (gI (nI B)), some (gI (gOI (gBs B (gBr A S (gSn A h) (vw r) h p n) false j))), some (gL (gOv (gBr A S (gSn A h) (vw r) h p n) (gBs B (gBr A S (gSn A h) (vw r) h p n) false j))), none, some (gI (nI j)), none, none]) (hp := fun _ _ => gH I L y) (Inv := fun _ _ => True) (A 1 + 1) ?_ ?_ 0 () (Nat.zero_le _) trivial (by (repeat' apply And.intro) <;> first | rfl | trivial | exact congrArg Sum.inl (nI_1 _).symm | exact congrArg Sum.inl (nI_1 _).symm)
  · intro _ _
    refine gT_go 400 [9] kX4_takes ?_
    refine bGt (A 1 + 1) (A 1) rfl e1 (fun c => ?_) (fun c => absurd c (by omega))
    exact ⟨rfl, rfl⟩
  · intro j _ hj _ hnext
    refine gT_go 400 [9, 63] kX4_takes ?_
    refine bGt j (A 1) rfl e1 (fun c => absurd c (by omega)) (fun c => ?_)
    refine bB1 (B.testBit j) (gbit hB (by omega)) (fun hbt => ?_) (fun hbt => ?_)
    · refine gP_use (o_weighs_33 d i k h p n j S r A hA hh hp hn hn0 (by omega) hS I L y hl hat) ?_
      have at63 : ∀ (lo' : Lo), gBs B (gBr A S (gSn A h) (vw r) h p n) false (j + 1) = some j → glle [some (gR (some (33, i))), some (gI (nI (cN h p n))), some (gI (nI k)), some (gI (nI B)), none, none, none, some (gI (nI j)), some (gL (gBr A S (gSn A h) (vw r) h p n j)), none] lo' → gT mX4_takes (d + 4) (0, 0) (fun v h' => v = [gI (gOI (gBs B (gBr A S (gSn A h) (vw r) h p n) false (A 1 + 1)))] ∧ h' = gH I L y) (fun _ _ => False) 63 lo' [] (gH I L y) (0, 0) := by
        intro lo' hg hl'
        refine gT_lo _ hl' ?_
        refine gT_go 400 [9] kX4_takes ?_
        refine hnext () _ trivial ?_
        rw [hg]
        exact (by (repeat' apply And.intro) <;> first | rfl | trivial | exact congrArg Sum.inl (nI_1 _).symm | exact congrArg Sum.inl (nI_1 _).symm)
      cases hg : gBs B (gBr A S (gSn A h) (vw r) h p n) false j with
      | none =>
        refine And.intro (fun _ => ?_) (fun c => absurd rfl c)
        exact at63 _ (gBs_n hbt hg) (by (repeat' apply And.intro) <;> first | rfl | trivial | exact congrArg Sum.inl (nI_1 _).symm | exact congrArg Sum.inl (nI_1 _).symm)
      | some b0 =>
        have hb0 := gBs_lt hg
        refine And.intro (fun c => absurd c (gOI_ne (by omega))) (fun _ => ?_)
        refine bcGt (fun c => ?_) (fun c => ?_)
        · exact at63 _ (gBs_f1 hbt hg c) (by (repeat' apply And.intro) <;> first | rfl | trivial | exact congrArg Sum.inl (nI_1 _).symm | exact congrArg Sum.inl (nI_1 _).symm)
        · refine hnext () _ trivial ?_
          rw [gBs_f0 hbt hg c]
          exact (by (repeat' apply And.intro) <;> first | rfl | trivial | exact congrArg Sum.inl (nI_1 _).symm | exact congrArg Sum.inl (nI_1 _).symm)
    · refine hnext () _ trivial ?_
      rw [gBs_o hbt]
      exact (by (repeat' apply And.intro) <;> first | rfl | trivial | exact congrArg Sum.inl (nI_1 _).symm | exact congrArg Sum.inl (nI_1 _).symm)
set_option maxRecDepth 100000 in
theorem o_takes_34 (d i k B h p n S : Nat) (r : Nat → Int64) (hB : B < 2 ^ 31) (A : Nat → Nat) (hA : gLd A) (hh : h < A 3) (hp : p < 12) (hn : n < 13) (hn0 : 0 < n) (hS : S < 13) (I : Nat → Nat → Nat → Int32) (L : Nat → Nat → Nat → Int64) (y : Dy) (hl : cLd y.1 S A I) (hat : cAtT 34 k r d i I L y) :
    gP mX4_takes (d + 4) [gR (some (34, i)), gI (nI (cN h p n)), gI (nI k), gI (nI B)] (gH I L y) (gI (gOI (gBs B (gBr A S (gSn A h) (vw r) h p n) false (A 1 + 1)))) := by
  have a1 := hA.2.1
  have e1 := hl.1 1 (by decide)
  refine gEnter 400 [9] kX4_takes rfl rfl ?_
  refine gT_for (σ := Unit) (pc := 9) (lo := fun j _ => [some (gR (some (34, i))), some (gI (nI (cN h p n))), some (gI (nI k)), some (gI (nI B)), some (gI (gOI (gBs B (gBr A S (gSn A h) (vw r) h p n) false j))), some (gL (gOv (gBr A S (gSn A h) (vw r) h p n) (gBs B (gBr A S (gSn A h) (vw r) h p n) false j))), none, some (gI (nI j)), none, none]) (hp := fun _ _ => gH I L y) (Inv := fun _ _ => True) (A 1 + 1) ?_ ?_ 0 () (Nat.zero_le _) trivial (by (repeat' apply And.intro) <;> first | rfl | trivial | exact congrArg Sum.inl (nI_1 _).symm | exact congrArg Sum.inl (nI_1 _).symm)
  · intro _ _
    refine gT_go 400 [9] kX4_takes ?_
    refine bGt (A 1 + 1) (A 1) rfl e1 (fun c => ?_) (fun c => absurd c (by omega))
    exact ⟨rfl, rfl⟩
  · intro j _ hj _ hnext
    refine gT_go 400 [9, 63] kX4_takes ?_
    refine bGt j (A 1) rfl e1 (fun c => absurd c (by omega)) (fun c => ?_)
    refine bB1 (B.testBit j) (gbit hB (by omega)) (fun hbt => ?_) (fun hbt => ?_)
    · refine gP_use (o_weighs_34 d i k h p n j S r A hA hh hp hn hn0 (by omega) hS I L y hl hat) ?_
      have at63 : ∀ (lo' : Lo), gBs B (gBr A S (gSn A h) (vw r) h p n) false (j + 1) = some j → glle [some (gR (some (34, i))), some (gI (nI (cN h p n))), some (gI (nI k)), some (gI (nI B)), none, none, none, some (gI (nI j)), some (gL (gBr A S (gSn A h) (vw r) h p n j)), none] lo' → gT mX4_takes (d + 4) (0, 0) (fun v h' => v = [gI (gOI (gBs B (gBr A S (gSn A h) (vw r) h p n) false (A 1 + 1)))] ∧ h' = gH I L y) (fun _ _ => False) 63 lo' [] (gH I L y) (0, 0) := by
        intro lo' hg hl'
        refine gT_lo _ hl' ?_
        refine gT_go 400 [9] kX4_takes ?_
        refine hnext () _ trivial ?_
        rw [hg]
        exact (by (repeat' apply And.intro) <;> first | rfl | trivial | exact congrArg Sum.inl (nI_1 _).symm | exact congrArg Sum.inl (nI_1 _).symm)
      cases hg : gBs B (gBr A S (gSn A h) (vw r) h p n) false j with
      | none =>
        refine And.intro (fun _ => ?_) (fun c => absurd rfl c)
        exact at63 _ (gBs_n hbt hg) (by (repeat' apply And.intro) <;> first | rfl | trivial | exact congrArg Sum.inl (nI_1 _).symm | exact congrArg Sum.inl (nI_1 _).symm)
      | some b0 =>
        have hb0 := gBs_lt hg
        refine And.intro (fun c => absurd c (gOI_ne (by omega))) (fun _ => ?_)
        refine bcGt (fun c => ?_) (fun c => ?_)
        · exact at63 _ (gBs_f1 hbt hg c) (by (repeat' apply And.intro) <;> first | rfl | trivial | exact congrArg Sum.inl (nI_1 _).symm | exact congrArg Sum.inl (nI_1 _).symm)
        · refine hnext () _ trivial ?_
          rw [gBs_f0 hbt hg c]
          exact (by (repeat' apply And.intro) <;> first | rfl | trivial | exact congrArg Sum.inl (nI_1 _).symm | exact congrArg Sum.inl (nI_1 _).symm)
    · refine hnext () _ trivial ?_
      rw [gBs_o hbt]
      exact (by (repeat' apply And.intro) <;> first | rfl | trivial | exact congrArg Sum.inl (nI_1 _).symm | exact congrArg Sum.inl (nI_1 _).symm)
