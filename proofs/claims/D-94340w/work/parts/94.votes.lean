/-! ===== the component: votes, chances ===== -/
set_option maxRecDepth 100000 in
theorem o_votedOn (d B m0 h p n S : Nat) (hB : B < 2 ^ 31) (A : Nat → Nat) (hA : gLd A) (hh : h < A 3) (hp : p < 12) (hn : n < 13) (hn0 : 0 < n) (hS : S < 13) (hm0 : B.testBit m0 = true) (hm1 : m0 ≤ A 1) (I : Nat → Nat → Nat → Int32) (L : Nat → Nat → Nat → Int64) (y : Dy) (hl : cLd y.1 S A I) (V : Nat → Nat → Int64) (hV : ∀ k, gBr A S (gSn A h) (vw (fun s => L 161 k s)) h p n = V k) :
    gTM mX1_votedOn (d + 5) (0, 0) [gG0, gI (nI (cN h p n)), gI (nI B)] (gH I L y)
      (fun v h' => v = [gI (nI (gVw (fun m => gCt (fun k => gXb B (V k) (A 1)) m (A 2)) (A 1)))] ∧ ∃ I', h' = gH I' L y ∧ ∀ b, b ≠ 95 → I' b = I b) (fun _ _ => False) := by
  have a1 := hA.2.1
  have a2 := hA.2.2.1
  have fr : ∀ x : Nat → Nat → Nat → Int32, (∀ b, b ≠ 95 → x b = I b) → cLd y.1 S A x := fun x hx => cLd_cg (fun b _ _ => hx b (by omega)) hl
  refine gEnter 400 [2] kX1_votedOn rfl rfl ?_
  refine gT_for (σ := Nat → Nat → Nat → Int32) (pc := 2) (lo := fun i _ => [some gG0, some (gI (nI (cN h p n))), some (gI (nI B)), some (gI (nI i)), none]) (hp := fun _ x => gH x L y) (Inv := fun i x => (∀ b, b ≠ 95 → x b = I b) ∧ ∀ m, m < i → x 95 0 m = 0) (A 1 + 1) ?_ ?_ 0 I (Nat.zero_le _) ⟨fun _ _ => rfl, fun m hm => absurd hm (Nat.not_lt_zero _)⟩ (by (repeat' apply And.intro) <;> first | rfl | trivial | exact congrArg Sum.inl (nI_1 _).symm | exact congrArg Sum.inl (nI_1 _).symm)
  · intro x ⟨hx1, hx2⟩
    have e1 := (fr x hx1).1 1 (by decide)
    refine gT_go 400 [28] kX1_votedOn ?_
    refine bGt (A 1 + 1) (A 1) rfl e1 (fun c => ?_) (fun c => absurd c (by omega))
    refine gT_for (σ := Nat → Nat → Nat → Int32) (pc := 28) (lo := fun i _ => [some gG0, some (gI (nI (cN h p n))), some (gI (nI B)), some (gI (nI i)), none]) (hp := fun _ x => gH x L y) (Inv := fun i x => (∀ b, b ≠ 95 → x b = I b) ∧ ∀ m, m < A 1 + 1 → x 95 0 m = nI (gCt (fun k => gXb B (V k) (A 1)) m i)) (A 2) ?_ ?_ 0 x (Nat.zero_le _) ⟨hx1, hx2⟩ (by (repeat' apply And.intro) <;> first | rfl | trivial | exact congrArg Sum.inl (nI_1 _).symm | exact congrArg Sum.inl (nI_1 _).symm)
    · intro x ⟨hx1, hx2⟩
      have f1 := fr x hx1
      have e1 := f1.1 1 (by decide)
      have e2 := f1.1 2 (by decide)
      refine gT_go 400 [69] kX1_votedOn ?_
      refine bGe (A 2) (A 2) rfl e2 (fun c => ?_) (fun c => absurd c (by omega))
      refine gT_for (σ := Unit) (pc := 69) (lo := fun i _ => [some gG0, some (gI (nI (cN h p n))), some (gI (nI B)), some (gI (nI (gVw (fun m => gCt (fun k => gXb B (V k) (A 1)) m (A 2)) i))), some (gI (nI (i + 1)))]) (hp := fun _ _ => gH x L y) (Inv := fun _ _ => True) (A 1) ?_ ?_ 0 () (Nat.zero_le _) trivial (by (repeat' apply And.intro) <;> first | rfl | trivial | exact congrArg Sum.inl (nI_1 _).symm | exact congrArg Sum.inl (nI_1 _).symm)
      · intro _ _
        refine gT_go 400 [69] kX1_votedOn ?_
        refine bGt (A 1 + 1) (A 1) rfl e1 (fun c => ?_) (fun c => absurd c (by omega))
        exact ⟨rfl, x, rfl, hx1⟩
      · intro i _ hi _ hnext
        refine gT_go 400 [69] kX1_votedOn ?_
        refine bGt (i + 1) (A 1) rfl e1 (fun c => absurd c (by omega)) (fun c => ?_)
        have w := gVw_le (fun m => gCt (fun k => gXb B (V k) (A 1)) m (A 2)) i
        have c1 := gCt_le (fun k => gXb B (V k) (A 1)) (i + 1) (A 2)
        have c2 := gCt_le (fun k => gXb B (V k) (A 1)) (gVw (fun m => gCt (fun k => gXb B (V k) (A 1)) m (A 2)) i) (A 2)
        refine Exists.intro (i + 1) (And.intro rfl (And.intro (show _ < 25 by omega) ?_))
        refine Exists.intro (gVw (fun m => gCt (fun k => gXb B (V k) (A 1)) m (A 2)) i) (And.intro rfl (And.intro (show _ < 25 by omega) ?_))
        refine bLe _ _ (hx2 (i + 1) (by omega)) (hx2 (gVw (fun m => gCt (fun k => gXb B (V k) (A 1)) m (A 2)) i) (by omega)) (fun c => ?_) (fun c => ?_)
        · refine hnext () _ trivial ?_
          rw [gVw, if_neg (by omega)]
          exact (by (repeat' apply And.intro) <;> first | rfl | trivial | exact congrArg Sum.inl (nI_1 _).symm | exact congrArg Sum.inl (nI_1 _).symm)
        · refine hnext () _ trivial ?_
          rw [gVw, if_pos c]
          exact (by (repeat' apply And.intro) <;> first | rfl | trivial | exact congrArg Sum.inl (nI_1 _).symm | exact congrArg Sum.inl (nI_1 _).symm)
    · intro i x hi ⟨hx1, hx2⟩ hnext
      have f1 := fr x hx1
      have e2 := f1.1 2 (by decide)
      have hbe := o_takes_30 d 0 i B h p n S (fun s => L 161 i s) hB A hA hh hp hn hn0 hS x L y f1 (o_ahead d i 0 (by omega) x L y)
      obtain ⟨b, hb⟩ := gBs_some (v := V i) (l := false) hm0 (A 1 + 1) (by omega)
      have hb2 := gBs_lt hb
      rw [hV i, hb] at hbe
      refine gT_go 400 [28] kX1_votedOn ?_
      refine bGe i (A 2) rfl e2 (fun c => absurd c (by omega)) (fun c => ?_)
      refine gP_use hbe ?_
      refine Exists.intro (b) (And.intro rfl (And.intro (show _ < 25 by omega) ?_))
      refine Exists.intro (b) (And.intro rfl (And.intro (show _ < 25 by omega) ?_))
      refine hnext _ _ ⟨fun b' hb' => ?_, fun m hm => ?_⟩ (by (repeat' apply And.intro) <;> first | rfl | trivial | exact congrArg Sum.inl (nI_1 _).symm | exact congrArg Sum.inl (nI_1 _).symm)
      · exact (u3_ne1 hb').trans (hx1 b' hb')
      · have e1 : gXb B (V i) (A 1) = b := by unfold gXb; rw [hb] <;> rfl
        rw [gCt]
        by_cases q : b = m
        · subst q
          rw [if_pos e1]
          refine Eq.trans u3_eq ?_
          rw [← nI_1]
          exact congrArg (fun z => z + 1) (hx2 b hm)
        · rw [if_neg (fun z => q (e1.symm.trans z))]
          exact (u3_ne3 (fun z => q z.symm)).trans (hx2 m hm)
  · intro i x hi ⟨hx1, hx2⟩ hnext
    have e1 := (fr x hx1).1 1 (by decide)
    refine gT_go 400 [2] kX1_votedOn ?_
    refine bGt i (A 1) rfl e1 (fun c => absurd c (by omega)) (fun c => ?_)
    refine Exists.intro (i) (And.intro rfl (And.intro (show _ < 25 by omega) ?_))
    refine hnext _ _ ⟨fun b' hb' => (u3_ne1 hb').trans (hx1 b' hb'), fun m hm => ?_⟩ (by (repeat' apply And.intro) <;> first | rfl | trivial | exact congrArg Sum.inl (nI_1 _).symm | exact congrArg Sum.inl (nI_1 _).symm)
    by_cases q : m = i
    · subst q; exact u3_eq
    · exact (u3_ne3 q).trans (hx2 m (by omega))
theorem cBh_lt {A : Nat → Nat} {S h p n m : Nat} (hA : gLd A) (hh : h < 24) (hp : p < 12) (hn : n < 13) (hm : m ≤ 24) (hS : S < 13) : cBh A S h p n m < 3900 := cN_lt (by omega) (aMv_lt hA hp hm) (aNx_lt hS hn)
theorem gBr_mix {A : Nat → Nat} {S h p n m n0 : Nat} {r : Nat → Int64} (hA : gLd A) (hh : h < A 3) (hp : p < 12) (hn : n < 13) (hm : m ≤ A 1) (hS : S < 13) (hn0d : n0 = (if m = 0 then 0 else gSnA A (m - 1) h)) :
    (if n0 = 0 then (if gSn A h then 16 else 1) * r (cBh A S h p n m) else lN n0 * r (cBh A S h p n 0) + ((if gSn A h then 16 else 1) - lN n0) * r (cBh A S h p n m)) = gBr A S (gSn A h) (vw r) h p n m := by
  have a1 := hA.2.1
  have a3 := hA.2.2.2.1
  have ht := aMv_lt hA hp (show m ≤ 24 by omega)
  have hr1 : ∀ t, t < 12 → vw r (aBh A S h n t) = r (cN (h + 1) t (aNx A S n t)) := fun t ht => vw_s ht (aNx_lt hS hn)
  have hn16 : n0 ≤ 16 := by
    rw [hn0d]
    split
    · omega
    · have q := hA.2.2.2.2.2.2.2.2.2.2.1 (24 * (m - 1) + h) (by omega)
      unfold gSnA
      rw [show 132 + 24 * (m - 1) + h = 132 + (24 * (m - 1) + h) by omega]
      exact q
  have hsn : 0 < n0 → gSn A h = true := by
    intro q
    have hm0 : ¬ m = 0 := fun z => by rw [hn0d, if_pos z] at q; omega
    rw [hn0d, if_neg hm0] at q
    unfold gSn gSnw
    rw [decide_eq_true hh, Bool.true_and, List.any_eq_true]
    exact ⟨m - 1, List.mem_range.mpr (by omega), by simp; unfold gSnA at q; omega⟩
  have e0 : r (cBh A S h p n 0) = vw r (aBh A S h n p) := (hr1 p hp).symm
  have em : r (cBh A S h p n m) = vw r (aBh A S h n (aMv A p m)) := (hr1 _ ht).symm
  unfold gBr
  by_cases c : m = 0
  · have z0 : n0 = 0 := by rw [hn0d, if_pos c]
    rw [if_pos c, if_pos z0, em]
    have e3 : aMv A p m = p := if_pos c
    rw [e3]
    cases gSn A h with
    | true => rfl
    | false => exact Int64.one_mul _
  · have e3 : aMv A p m = aOth A (m - 1) p := if_neg c
    have z1 : n0 = gSnA A (m - 1) h := by rw [hn0d, if_neg c]
    rw [if_neg c, ← z1, ← e3]
    by_cases z0 : n0 = 0
    · rw [if_pos z0, em]
      cases gSn A h with
      | true =>
        show 16 * _ = lN n0 * _ + lN (16 - n0) * _
        rw [z0]
        show 16 * _ = (0 : Int64) * _ + 16 * _
        rw [Int64.zero_mul, Int64.zero_add]
      | false => exact Int64.one_mul _
    · rw [if_neg z0, hsn (by omega), e0, em]
      show lN n0 * _ + (lN 16 - lN n0) * _ = lN n0 * _ + lN (16 - n0) * _
      rw [lN_sub hn16]
set_option maxRecDepth 100000 in
theorem o_mixes (d b h p n m S : Nat) (hb : b = 84 ∨ b = 85) (A : Nat → Nat) (hA : gLd A) (hh : h < A 3) (hp : p < 12) (hn : n < 13) (hn0 : 0 < n) (hm : m ≤ A 1) (hS : S < 13) (I : Nat → Nat → Nat → Int32) (L : Nat → Nat → Nat → Int64) (y : Dy) (hl : cLd y.1 S A I) :
    gP mX1_mixes (d + 3) [gG0, gR (some (b, 0)), gI (nI (cN h p n)), gI (nI m)] (gH I L y) (gL (gBr A S (gSn A h) (vw (fun s => L b 0 s)) h p n m)) := by
  have a1 := hA.2.1
  have a3 := hA.2.2.2.1
  have hh24 : h < 24 := by omega
  have l9 := hl.2.2.2.2.2.2.2.2.1
  obtain ⟨n0, hn0d⟩ : ∃ n0, n0 = (if m = 0 then 0 else gSnA A (m - 1) h) := ⟨_, rfl⟩
  have hf := gBr_mix (r := fun s => L b 0 s) hA hh hp hn hm hS hn0d
  have hn31 : n0 < 2 ^ 31 := by
    rw [hn0d]
    split
    · omega
    · have q := hA.lt (132 + 24 * (m - 1) + h) (by omega)
      unfold gSnA
      omega
  have hcm := cBh_lt (n := n) hA hh24 hp hn (show m ≤ 24 by omega) hS
  have hc0 := cBh_lt (n := n) hA hh24 hp hn (show 0 ≤ 24 by omega) hS
  have hsnow := o_isSnowy (d + 1) h S (by omega) A hA I L y hl
  have hbm := o_behind d h p n m S hh24 hp hn hn0 (by omega) hS A hA I L y hl
  have hb0 := o_behind d h p n 0 S hh24 hp hn hn0 (by omega) hS A hA I L y hl
  have at46 : ∀ (g : Int64) (lo' : Lo), g = (if gSn A h then 16 else 1) → glle [some gG0, some (gR (some (b, 0))), some (gI (nI (cN h p n))), some (gI (nI m)), none, some (gI (nI n0)), none, none] lo' → gT mX1_mixes (d + 3) (0, 0) (fun v h' => v = [gL (gBr A S (gSn A h) (vw (fun s => L b 0 s)) h p n m)] ∧ h' = gH I L y) (fun _ _ => False) 46 lo' [gL g] (gH I L y) (0, 0) := by
    intro g lo' hg hl'
    subst hg
    refine gT_lo _ hl' ?_
    rcases hb with rfl | rfl
    all_goals
      refine gT_go 400 [] kX1_mixes ?_
      refine bNe n0 0 rfl rfl (fun c => ?_) (fun c => ?_)
      · refine gP_use (hb0) ?_
        refine Exists.intro (cBh A S h p n 0) (And.intro rfl (And.intro (show _ < 3900 by omega) ?_))
        refine gP_use (hbm) ?_
        refine Exists.intro (cBh A S h p n m) (And.intro rfl (And.intro (show _ < 3900 by omega) ?_))
        rw [if_neg c] at hf
        refine ⟨congrArg (fun z => [gL z]) ?_, rfl⟩
        rw [← hf, ← nI_l hn31]
      · refine gP_use (hbm) ?_
        refine Exists.intro (cBh A S h p n m) (And.intro rfl (And.intro (show _ < 3900 by omega) ?_))
        rw [if_pos c] at hf
        exact ⟨congrArg (fun z => [gL z]) hf, rfl⟩
  have at28 : ∀ (x : Int32) (lo' : Lo), x = nI n0 → glle [some gG0, some (gR (some (b, 0))), some (gI (nI (cN h p n))), some (gI (nI m)), some (gI (nI h)), none, none, none] lo' → gT mX1_mixes (d + 3) (0, 0) (fun v h' => v = [gL (gBr A S (gSn A h) (vw (fun s => L b 0 s)) h p n m)] ∧ h' = gH I L y) (fun _ _ => False) 28 lo' [gI x] (gH I L y) (0, 0) := by
    intro x lo' hx hl'
    subst hx
    refine gT_lo _ hl' ?_
    refine gT_go 400 [46] kX1_mixes ?_
    refine gP_use (hsnow) ?_
    refine bB0 (gSn A h) rfl (fun c => ?_) (fun c => ?_)
    · exact at46 _ _ (by rw [c] <;> rfl) (by (repeat' apply And.intro) <;> first | rfl | trivial | exact congrArg Sum.inl (nI_1 _).symm | exact congrArg Sum.inl (nI_1 _).symm)
    · exact at46 _ _ (by rw [c] <;> rfl) (by (repeat' apply And.intro) <;> first | rfl | trivial | exact congrArg Sum.inl (nI_1 _).symm | exact congrArg Sum.inl (nI_1 _).symm)
  refine gEnter 400 [28] kX1_mixes rfl rfl ?_
  refine gP_use (o_hourOf (d + 1) h p n (by omega) hp hn (gH I L y)) ?_
  refine bNe m 0 rfl rfl (fun c => ?_) (fun c => ?_)
  · refine Exists.intro (m - 1) (And.intro (pk_sub (b := 1) (by omega)) (And.intro (show m - 1 < 24 by omega) ?_))
    refine Exists.intro (h) (And.intro rfl (And.intro (show _ < 24 by omega) ?_))
    exact at28 _ _ (by rw [hn0d, if_neg c]; exact l9 (m - 1) h (by omega) hh24) (by (repeat' apply And.intro) <;> first | rfl | trivial | exact congrArg Sum.inl (nI_1 _).symm | exact congrArg Sum.inl (nI_1 _).symm)
  · exact at28 _ _ (by rw [hn0d, if_pos c] <;> rfl) (by (repeat' apply And.intro) <;> first | rfl | trivial | exact congrArg Sum.inl (nI_1 _).symm | exact congrArg Sum.inl (nI_1 _).symm)
