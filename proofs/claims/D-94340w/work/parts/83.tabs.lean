/-! ===== the component: moves that may be, who leads, ends, the worst ===== -/
theorem o_max1 {x : Nat} (hx : x < 2 ^ 31) : (if (1 : Int32) < nI x then nI x else 1) = nI (gMv x) := by
  unfold gMv
  by_cases c : x = 0
  · rw [if_pos c, c]; decide
  · rw [if_neg c]
    by_cases c1 : x = 1
    · rw [c1]; decide
    · exact if_pos (nI_lt (show 1 < x by omega) hx)
set_option maxRecDepth 100000 in
theorem o_mayOf (d k h p n x : Nat) (hk : k < 5) (hh : h < 25) (hp : p < 12) (hn : n < 13) (hx : x < 2 ^ 31) (I : Nat → Nat → Nat → Int32) (L : Nat → Nat → Nat → Int64) (y : Dy) (hI : I 160 k (cN h p n) = nI x) :
    gP mX1_mayOf (d + 1) [gG0, gI (nI k), gI (nI (cN h p n))] (gH I L y) (gI (nI (gMv x))) := by
  have hc := cN_lt hh hp hn
  refine gEnter 400 [] kX1_mayOf rfl rfl ?_
  refine Exists.intro (k) (And.intro rfl (And.intro (show _ < 5 by omega) ?_))
  refine Exists.intro (cN h p n) (And.intro rfl (And.intro (show _ < 3900 by omega) ?_))
  refine ⟨congrArg (fun z => [gI z]) ?_, rfl⟩
  rw [← o_max1 hx, ← hI]
  rfl
/-- who leads: by the turns, else by the round -/
def cWho (T : Nat → Option Nat) (RD : Nat → Nat) (K N h : Nat) : Nat := match T h with
  | some k => k
  | none => RD (h / K % N)
set_option maxRecDepth 100000 in
theorem o_leaderOf (d h S : Nat) (hh : h < 24) (A : Nat → Nat) (hA : gLd A) (hA2 : 0 < A 2) (T : Nat → Option Nat) (RD : Nat → Nat) (K : Nat) (hK : 0 < K) (hK2 : K < 13) (I : Nat → Nat → Nat → Int32) (L : Nat → Nat → Nat → Int64) (y : Dy) (hl : cLd y.1 S A I) (hT : I 23 0 h = gOI (T h)) (hT2 : ∀ k, T h = some k → k < 5) (hKI : I 20 0 7 = nI K) (hR : ∀ j, j < A 2 → I 72 0 j = nI (RD j)) :
    gP mX1_leaderOf (d + 1) [gG0, gI (nI h)] (gH I L y) (gI (nI (cWho T RD K (A 2) h))) := by
  have a2 := hA.2.2.1
  have e2 := hl.1 2 (by decide)
  refine gEnter 400 [] kX1_leaderOf rfl rfl ?_
  refine Exists.intro (h) (And.intro rfl (And.intro (show _ < 24 by omega) ?_))
  cases hq : T h with
  | some k =>
    have hk := hT2 k hq
    rw [hq] at hT
    refine And.intro (fun c => absurd (hT.symm.trans c) (gOI_ne (by omega))) (fun _ => ?_)
    refine Exists.intro (h) (And.intro rfl (And.intro (show _ < 24 by omega) ?_))
    exact ⟨by unfold cWho; rw [hq]; exact congrArg (fun z => [gI z]) hT, rfl⟩
  | none =>
    rw [hq] at hT
    refine And.intro (fun _ => ?_) (fun c => absurd hT c)
    refine And.intro (fun c => absurd (hKI.symm.trans c) (nI_ne0 hK (by omega))) ?_
    refine And.intro (fun c => absurd (e2.symm.trans c) (nI_ne0 hA2 (by omega))) ?_
    have hm : h / K % A 2 < A 2 := Nat.mod_lt _ hA2
    have hd : h / K ≤ h := Nat.div_le_self _ _
    have e : nI h / I 20 0 7 - nI h / I 20 0 7 / I 40 y.1 2 * I 40 y.1 2 = nI (h / K % A 2) := by
      rw [hKI, e2, pk_div (by omega) hK (by omega)]
      exact pk_rem (by omega) hA2 (by omega)
    refine Exists.intro (h / K % A 2) (And.intro e (And.intro (show h / K % A 2 < 5 by omega) ?_))
    exact ⟨by unfold cWho; rw [hq]; exact congrArg (fun z => [gI z]) (hR _ hm), rfl⟩
set_option maxRecDepth 100000 in
theorem o_endsWith (d k h p n S : Nat) (hk : k < 5) (hh : h < 25) (hp : p < 12) (hn : n < 13) (A : Nat → Nat) (hA : gLd A) (I : Nat → Nat → Nat → Int32) (L : Nat → Nat → Nat → Int64) (y : Dy) (hl : cLd y.1 S A I) :
    gP mX1_endsWith (d + 3) [gG0, gI (nI k), gI (nI (cN h p n))] (gH I L y) (gL (gEn A (L 74 0) k h p (aEnd A h p n))) := by
  have he := aEnd_lt A h p n
  obtain ⟨l1, l2, l3, l4, l5, l6, l7, l8, -⟩ := id hl
  have at34 : ∀ (x : Int32) (lo' : Lo), x = (bif Nat.beq (aEnd A h p n) 2 then -nI (A 5) else nI (A (72 + 12 * k + p))) → glle [some gG0, some (gI (nI k)), some (gI (nI (cN h p n))), none] lo' → gT mX1_endsWith (d + 3) (0, 0) (fun v h' => v = [gL (gEn A (L 74 0) k h p (aEnd A h p n))] ∧ h' = gH I L y) (fun _ _ => False) 34 lo' [gI x] (gH I L y) (0, 0) := by
    intro x lo' hx hl'
    refine gT_lo _ hl' ?_
    refine gT_go 400 [] kX1_endsWith ?_
    refine Exists.intro (k) (And.intro rfl (And.intro (show _ < 5 by omega) ?_))
    refine gP_use (o_hourOf (d + 1) h p n hh hp hn (gH I L y)) ?_
    refine gP_use (o_hourOf (d + 1) h p n hh hp hn (gH I L y)) ?_
    refine Exists.intro (h) (And.intro rfl (And.intro (show _ < 26 by omega) ?_))
    refine ⟨congrArg (fun z => [gL z]) ?_, rfl⟩
    unfold gEn
    rw [← hx, ← l7 k hk, Int32.mul_comm (nI h)]
  refine gEnter 400 [34] kX1_endsWith rfl rfl ?_
  refine gP_use (o_endedOf d h p n S hh hp hn A hA I L y hl) ?_
  refine bNe (aEnd A h p n) 2 rfl rfl (fun c => ?_) (fun c => ?_)
  · refine Exists.intro (k) (And.intro rfl (And.intro (show _ < 5 by omega) ?_))
    refine gP_use (o_placeOf (d + 1) h p n hh hp hn (gH I L y)) ?_
    refine Exists.intro (p) (And.intro rfl (And.intro (show _ < 12 by omega) ?_))
    exact at34 _ _ (by rw [gbeqF c]; exact l8 k p hk hp) (by (repeat' apply And.intro) <;> first | rfl | trivial | exact congrArg Sum.inl (nI_1 _).symm | exact congrArg Sum.inl (nI_1 _).symm)
  · exact at34 _ _ (by rw [gbeqT c]; exact congrArg (fun z => -z) l3) (by (repeat' apply And.intro) <;> first | rfl | trivial | exact congrArg Sum.inl (nI_1 _).symm | exact congrArg Sum.inl (nI_1 _).symm)
theorem i64_max (x : Int64) : ¬ (9223372036854775807 : Int64) < x := by
  intro h
  have h1 := Int64.lt_iff_toInt_lt.mp h
  have h2 := Int64.toInt_le x
  have h3 : (9223372036854775807 : Int64).toInt = 9223372036854775807 := by decide
  have h4 : Int64.maxValue.toInt = 9223372036854775807 := by decide
  omega
/-- the least so far; at first the greatest of all -/
def gMx (v : Nat → Int64) : Option Nat → Int64
  | none => 9223372036854775807
  | some b => v b
set_option maxRecDepth 100000 in
theorem o_worstOf (d i k B h p n S : Nat) (r : Nat → Int64) (hB : B < 2 ^ 31) (A : Nat → Nat) (hA : gLd A) (hh : h < A 3) (hp : p < 12) (hn : n < 13) (hn0 : 0 < n) (hS : S < 13) (I : Nat → Nat → Nat → Int32) (L : Nat → Nat → Nat → Int64) (y : Dy) (hl : cLd y.1 S A I) (hat : cAtT 32 k r d i I L y) :
    gP mX1_worstOf (d + 4) [gG0, gR (some (32, i)), gI (nI (cN h p n)), gI (nI k), gI (nI B)] (gH I L y) (gL (gMx (gBr A S (gSn A h) (vw r) h p n) (gBs B (gBr A S (gSn A h) (vw r) h p n) true (A 1 + 1)))) := by
  have a1 := hA.2.1
  have e1 := hl.1 1 (by decide)
  refine gEnter 400 [8] kX1_worstOf rfl rfl ?_
  refine gT_for (σ := Unit) (pc := 8) (lo := fun j _ => [some gG0, some (gR (some (32, i))), some (gI (nI (cN h p n))), some (gI (nI k)), some (gI (nI B)), some (gL (gMx (gBr A S (gSn A h) (vw r) h p n) (gBs B (gBr A S (gSn A h) (vw r) h p n) true j))), none, some (gI (nI j))]) (hp := fun _ _ => gH I L y) (Inv := fun _ _ => True) (A 1 + 1) ?_ ?_ 0 () (Nat.zero_le _) trivial (by (repeat' apply And.intro) <;> first | rfl | trivial | exact congrArg Sum.inl (nI_1 _).symm | exact congrArg Sum.inl (nI_1 _).symm)
  · intro _ _
    refine gT_go 400 [8] kX1_worstOf ?_
    refine bGt (A 1 + 1) (A 1) rfl e1 (fun c => ?_) (fun c => absurd c (by omega))
    exact ⟨rfl, rfl⟩
  · intro j _ hj _ hnext
    refine gT_go 400 [8] kX1_worstOf ?_
    refine bGt j (A 1) rfl e1 (fun c => absurd c (by omega)) (fun c => ?_)
    have hbit : (nI B >>> (nI j &&& 31)) &&& 1 = gb (B.testBit j) := gbit hB (by omega)
    cases hbt : B.testBit j with
    | true =>
      rw [hbt] at hbit
      refine And.intro (fun q => absurd hbit q) (fun _ => ?_)
      refine gP_use (o_weighs_32 d i k h p n j S r A hA hh hp hn hn0 (by omega) hS I L y hl hat) ?_
      refine hnext () _ trivial ?_
      cases hg : gBs B (gBr A S (gSn A h) (vw r) h p n) true j with
      | none =>
        rw [gBs_n hbt hg]
        have e : (if gBr A S (gSn A h) (vw r) h p n j < gMx (gBr A S (gSn A h) (vw r) h p n) none then gBr A S (gSn A h) (vw r) h p n j else gMx (gBr A S (gSn A h) (vw r) h p n) none) = gBr A S (gSn A h) (vw r) h p n j := by
          by_cases q : gBr A S (gSn A h) (vw r) h p n j < gMx (gBr A S (gSn A h) (vw r) h p n) none
          · rw [if_pos q]
          · rw [if_neg q]
            exact Int64.le_antisymm (Int64.not_lt.mp q) (Int64.not_lt.mp (i64_max _))
        refine ⟨rfl, rfl, rfl, rfl, rfl, congrArg (fun z => gL z) e.symm, congrArg (fun z => gI z) (nI_1 j).symm, trivial⟩
      | some b0 =>
        by_cases q : gBr A S (gSn A h) (vw r) h p n j < gBr A S (gSn A h) (vw r) h p n b0
        · rw [gBs_t1 hbt hg q]
          refine ⟨rfl, rfl, rfl, rfl, rfl, congrArg (fun z => gL z) (if_pos q).symm, congrArg (fun z => gI z) (nI_1 j).symm, trivial⟩
        · rw [gBs_t0 hbt hg q]
          refine ⟨rfl, rfl, rfl, rfl, rfl, congrArg (fun z => gL z) (if_neg q).symm, congrArg (fun z => gI z) (nI_1 j).symm, trivial⟩
    | false =>
      rw [hbt] at hbit
      refine And.intro (fun _ => ?_) (fun q => absurd (hbit.symm.trans q) (by decide))
      refine hnext () _ trivial ?_
      rw [gBs_o hbt]
      exact (by (repeat' apply And.intro) <;> first | rfl | trivial | exact congrArg Sum.inl (nI_1 _).symm | exact congrArg Sum.inl (nI_1 _).symm)
