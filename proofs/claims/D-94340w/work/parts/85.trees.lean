/-! ===== the component: terms and conditions as trees ===== -/
def cT0 (I : Nat → Nat → Nat → Int32) (r : Rf) (C : Cd) : Prop := (∃ i n, r = (16, i) ∧ C = [(0, n)] ∧ I 16 i 0 = nI n ∧ n < 10000) ∨ ∃ i k, r = (17, i) ∧ C = [(1, k)] ∧ I 17 i 0 = nI k ∧ k < 8
/-- a term at r, of height h, works as the steps C -/
def cTm (I : Nat → Nat → Nat → Int32) (y : Dy) : Nat → Rf → Cd → Prop
  | 0, r, C => cT0 I r C
  | h + 1, r, C => cT0 I r C ∨ ∃ (i : Nat) (r1 r2 : Rf) (C1 C2 : Cd) (o sg : Nat), r = (18, i) ∧ C = C1 ++ C2 ++ [(o, 0)] ∧ gRX y 18 i 1 = some r1 ∧ gRX y 18 i 2 = some r2 ∧ cTm I y h r1 C1 ∧ cTm I y h r2 C2 ∧ I 18 i 0 = nI sg ∧ (sg = 43 ∧ o = 2 ∨ sg = 45 ∧ o = 3 ∨ sg = 42 ∧ o = 4 ∨ sg = 47 ∧ o = 5)
/-- a condition at r -/
def cAs (I : Nat → Nat → Nat → Int32) (y : Dy) : Nat → Rf → Cd → Prop
  | 0, _, _ => False
  | h + 1, r, C => (∃ (i : Nat) (r1 r2 : Rf) (C1 C2 : Cd) (o sg : Nat), r = (15, i) ∧ C = C1 ++ C2 ++ [(o, 0)] ∧ gRX y 15 i 1 = some r1 ∧ gRX y 15 i 2 = some r2 ∧ cTm I y h r1 C1 ∧ cTm I y h r2 C2 ∧ I 15 i 0 = nI sg ∧ (sg = 60 ∧ o = 6 ∨ sg = 62 ∧ o = 7 ∨ sg = 61 ∧ o = 8)) ∨
    (∃ (i : Nat) (r1 : Rf) (C1 : Cd), r = (13, i) ∧ C = C1 ++ [(9, 0)] ∧ gRX y 13 i 0 = some r1 ∧ cAs I y h r1 C1) ∨
    (∃ (i : Nat) (r1 r2 : Rf) (C1 C2 : Cd) (b : Bool), r = (14, i) ∧ C = C1 ++ C2 ++ [(if b then 10 else 11, 0)] ∧ gRX y 14 i 1 = some r1 ∧ gRX y 14 i 2 = some r2 ∧ cAs I y h r1 C1 ∧ cAs I y h r2 C2 ∧ I 14 i 0 = gb b)
theorem cTm_up {I : Nat → Nat → Nat → Int32} {y : Dy} : ∀ {h : Nat} {r : Rf} {C : Cd}, cTm I y h r C → cTm I y (h + 1) r C := by
  intro h
  induction h with
  | zero => intro r C H; exact Or.inl H
  | succ h ih =>
    intro r C H
    rcases H with H | ⟨i, r1, r2, C1, C2, o, sg, a, b, c, d, e, f, g⟩
    · exact Or.inl H
    · exact Or.inr ⟨i, r1, r2, C1, C2, o, sg, a, b, c, d, ih e, ih f, g⟩
theorem cTm_le {I : Nat → Nat → Nat → Int32} {y : Dy} {h k : Nat} {r : Rf} {C : Cd} (H : cTm I y h r C) (hk : h ≤ k) : cTm I y k r C := by
  obtain ⟨j, rfl⟩ := Nat.exists_eq_add_of_le hk
  clear hk
  induction j with
  | zero => exact H
  | succ j ih => exact cTm_up ih
theorem cAs_up {I : Nat → Nat → Nat → Int32} {y : Dy} : ∀ {h : Nat} {r : Rf} {C : Cd}, cAs I y h r C → cAs I y (h + 1) r C := by
  intro h
  induction h with
  | zero => intro r C H; exact H.elim
  | succ h ih =>
    intro r C H
    rcases H with ⟨i, r1, r2, C1, C2, o, sg, a, b, c, d, e, f, g⟩ | ⟨i, r1, C1, a, b, c, d⟩ | ⟨i, r1, r2, C1, C2, b, a, b2, c, d, e, f, g⟩
    · exact Or.inl ⟨i, r1, r2, C1, C2, o, sg, a, b, c, d, cTm_up e, cTm_up f, g⟩
    · exact Or.inr (Or.inl ⟨i, r1, C1, a, b, c, ih d⟩)
    · exact Or.inr (Or.inr ⟨i, r1, r2, C1, C2, b, a, b2, c, d, ih e, ih f, g⟩)
theorem cAs_le {I : Nat → Nat → Nat → Int32} {y : Dy} {h k : Nat} {r : Rf} {C : Cd} (H : cAs I y h r C) (hk : h ≤ k) : cAs I y k r C := by
  obtain ⟨j, rfl⟩ := Nat.exists_eq_add_of_le hk
  clear hk
  induction j with
  | zero => exact H
  | succ j ih => exact cAs_up ih
theorem cTm_kind {I : Nat → Nat → Nat → Int32} {y : Dy} {h : Nat} {r : Rf} {C : Cd} (H : cTm I y h r C) : r.1 = 16 ∨ r.1 = 17 ∨ r.1 = 18 := by
  have k0 : cT0 I r C → r.1 = 16 ∨ r.1 = 17 ∨ r.1 = 18 := by
    rintro (⟨i, n, rfl, -⟩ | ⟨i, n, rfl, -⟩)
    · exact Or.inl rfl
    · exact Or.inr (Or.inl rfl)
  cases h with
  | zero => exact k0 H
  | succ h =>
    rcases H with H | ⟨i, r1, r2, C1, C2, o, sg, rfl, -⟩
    · exact k0 H
    · exact Or.inr (Or.inr rfl)
theorem cAs_kind {I : Nat → Nat → Nat → Int32} {y : Dy} {h : Nat} {r : Rf} {C : Cd} (H : cAs I y h r C) : r.1 = 13 ∨ r.1 = 14 ∨ r.1 = 15 := by
  cases h with
  | zero => exact H.elim
  | succ h =>
    rcases H with ⟨i, r1, r2, C1, C2, o, sg, rfl, -⟩ | ⟨i, r1, C1, rfl, -⟩ | ⟨i, r1, r2, C1, C2, b, rfl, -⟩
    · exact Or.inr (Or.inr rfl)
    · exact Or.inl rfl
    · exact Or.inr (Or.inl rfl)
def mOf (b : Nat) : GM := match b with
  | 16 => mX21_of
  | 17 => mX22_of
  | _ => mX23_of
def mIs (b : Nat) : GM := match b with
  | 13 => mX19_is
  | 14 => mX25_is
  | _ => mX24_is
theorem i32_divm1 (x : Int32) : x / (-1) = -x := Int32.toBitVec_inj.mp (by
  show x.toBitVec.sdiv (-1 : Int32).toBitVec = -x.toBitVec
  rw [show (-1 : Int32).toBitVec = -1#32 by decide]
  rw [BitVec.sdiv_neg (by decide), BitVec.sdiv_one])
theorem rRun_two {nm : Nat → Int32} {C1 C2 : Cd} {o : Nat} {v1 v2 : Int32} (h1 : ∀ st, rRun nm st C1 = v1 :: st) (h2 : ∀ st, rRun nm st C2 = v2 :: st) (ho : o = 2 ∨ o = 3 ∨ o = 4 ∨ o = 5 ∨ o = 6 ∨ o = 7 ∨ o = 8 ∨ o = 10 ∨ o = 11) (st : List Int32) : rRun nm st (C1 ++ C2 ++ [(o, 0)]) = rOp o v1 v2 :: st := by
  rw [rRun_app, rRun_app, h1, h2]
  rcases ho with rfl | rfl | rfl | rfl | rfl | rfl | rfl | rfl | rfl <;> rfl
abbrev gNm : AV := gR (some (73, 0))
set_option maxRecDepth 100000 in
theorem o_of {I : Nat → Nat → Nat → Int32} {y : Dy} (nm : Nat → Int32) (hnm : ∀ k, k < 8 → I 73 0 k = nm k) (L : Nat → Nat → Nat → Int64) : ∀ {h : Nat} {r : Rf} {C : Cd}, cTm I y h r C → ∃ v, (∀ st, rRun nm st C = v :: st) ∧ ∀ d, gP (mOf r.1) (d + h + 1) [gR (some r), gNm] (gH I L y) (gI v) := by
  have k0 : ∀ {r : Rf} {C : Cd}, cT0 I r C → ∃ v, (∀ st, rRun nm st C = v :: st) ∧ ∀ d, gP (mOf r.1) (d + 1) [gR (some r), gNm] (gH I L y) (gI v) := by
    rintro r C (⟨i, n, rfl, rfl, a, b⟩ | ⟨i, k, rfl, rfl, a, b⟩)
    · refine ⟨nI n, fun _ => rfl, fun d => ?_⟩
      refine gEnter 400 [] kX21_of rfl rfl ?_
      exact ⟨congrArg (fun z => [gI z]) a, rfl⟩
    · refine ⟨nm k, fun _ => rfl, fun d => ?_⟩
      refine gEnter 400 [] kX22_of rfl rfl ?_
      refine Exists.intro (k) (And.intro (a) (And.intro (show k < 8 by omega) ?_))
      exact ⟨congrArg (fun z => [gI z]) (hnm k b), rfl⟩
  intro h
  induction h with
  | zero => intro r C H; exact k0 H
  | succ h ih =>
    intro r C H
    rcases H with H | ⟨i, r1, r2, C1, C2, o, sg, rfl, rfl, e1, e2, t1, t2, es, eo⟩
    · obtain ⟨v, q, p⟩ := k0 H
      exact ⟨v, q, fun d => p (d + (h + 1))⟩
    obtain ⟨v1, q1, p1⟩ := ih t1
    obtain ⟨v2, q2, p2⟩ := ih t2
    refine ⟨rOp o v1 v2, rRun_two q1 q2 (by omega), fun d => ?_⟩
    have at22 : ∀ lo', glle [none, none, some (gI v1), some (gI v2)] lo' → gT mX23_of (d + (h + 1) + 1) (0, 0) (fun v h' => v = [gI (rOp o v1 v2)] ∧ h' = gH I L y) (fun _ _ => False) 22 lo' [gI (I 18 i 0)] (gH I L y) (0, 0) := by
      intro lo' hl'
      refine gT_lo _ hl' ?_
      rcases eo with ⟨rfl, rfl⟩ | ⟨rfl, rfl⟩ | ⟨rfl, rfl⟩ | ⟨rfl, rfl⟩
      · refine gT_sw (nI 43) es 30 52 dX23_of_22 (by decide) (by decide) rfl rfl ?_
        refine gT_go 400 [] kX23_of ?_
        exact ⟨rfl, rfl⟩
      · refine gT_sw (nI 45) es 34 56 dX23_of_22 (by decide) (by decide) rfl rfl ?_
        refine gT_go 400 [] kX23_of ?_
        exact ⟨rfl, rfl⟩
      · refine gT_sw (nI 42) es 38 60 dX23_of_22 (by decide) (by decide) rfl rfl ?_
        refine gT_go 400 [] kX23_of ?_
        exact ⟨rfl, rfl⟩
      · refine gT_swd (by rw [es]; decide) 64 dX23_of_22 rfl ?_
        refine gT_go 400 [] kX23_of ?_
        refine And.intro (fun c => ?_) (fun c => ?_)
        · refine And.intro c ?_
          refine ⟨congrArg (fun z => [gI z]) ?_, rfl⟩
          show v1 / v2 = (if v2 = 0 then 0 else if v2 = -1 then -v1 else v1 / v2)
          rw [if_neg c]
          by_cases c2 : v2 = -1
          · rw [if_pos c2, c2]; exact i32_divm1 v1
          · rw [if_neg c2]
        · exact ⟨congrArg (fun z => [gI z]) (if_pos c).symm, rfl⟩
    have at14 : ∀ lo', glle [some (gR (some (18, i))), some gNm, some (gI v1), none] lo' → gT mX23_of (d + (h + 1) + 1) (0, 0) (fun v h' => v = [gI (rOp o v1 v2)] ∧ h' = gH I L y) (fun _ _ => False) 14 lo' [gNm, gR (gRX y 18 i 2)] (gH I L y) (0, 0) := by
      intro lo' hl'
      rw [e2]
      refine gT_lo _ hl' ?_
      obtain ⟨b, j⟩ := r2
      rcases cTm_kind t2 with hb | hb | hb <;> simp only at hb <;> subst hb
      · refine gT_go 400 [22] kX23_of ?_
        refine gP_use (p2 d) ?_
        exact at22 _ (by (repeat' apply And.intro) <;> first | rfl | trivial | exact congrArg Sum.inl (nI_1 _).symm | exact congrArg Sum.inl (nI_1 _).symm)
      · refine gT_go 400 [22] kX23_of ?_
        refine gP_use (p2 d) ?_
        exact at22 _ (by (repeat' apply And.intro) <;> first | rfl | trivial | exact congrArg Sum.inl (nI_1 _).symm | exact congrArg Sum.inl (nI_1 _).symm)
      · refine gT_go 400 [22] kX23_of ?_
        refine gP_use (p2 d) ?_
        exact at22 _ (by (repeat' apply And.intro) <;> first | rfl | trivial | exact congrArg Sum.inl (nI_1 _).symm | exact congrArg Sum.inl (nI_1 _).symm)
    have at5 : ∀ lo', glle [some (gR (some (18, i))), some gNm, none, none] lo' → gT mX23_of (d + (h + 1) + 1) (0, 0) (fun v h' => v = [gI (rOp o v1 v2)] ∧ h' = gH I L y) (fun _ _ => False) 5 lo' [gNm, gR (gRX y 18 i 1)] (gH I L y) (0, 0) := by
      intro lo' hl'
      rw [e1]
      refine gT_lo _ hl' ?_
      obtain ⟨b, j⟩ := r1
      rcases cTm_kind t1 with hb | hb | hb <;> simp only at hb <;> subst hb
      · refine gT_go 400 [14] kX23_of ?_
        refine gP_use (p1 d) ?_
        exact at14 _ (by (repeat' apply And.intro) <;> first | rfl | trivial | exact congrArg Sum.inl (nI_1 _).symm | exact congrArg Sum.inl (nI_1 _).symm)
      · refine gT_go 400 [14] kX23_of ?_
        refine gP_use (p1 d) ?_
        exact at14 _ (by (repeat' apply And.intro) <;> first | rfl | trivial | exact congrArg Sum.inl (nI_1 _).symm | exact congrArg Sum.inl (nI_1 _).symm)
      · refine gT_go 400 [14] kX23_of ?_
        refine gP_use (p1 d) ?_
        exact at14 _ (by (repeat' apply And.intro) <;> first | rfl | trivial | exact congrArg Sum.inl (nI_1 _).symm | exact congrArg Sum.inl (nI_1 _).symm)
    refine gEnter 400 [5] kX23_of rfl rfl ?_
    exact at5 _ (by (repeat' apply And.intro) <;> first | rfl | trivial | exact congrArg Sum.inl (nI_1 _).symm | exact congrArg Sum.inl (nI_1 _).symm)
set_option maxRecDepth 100000 in
theorem o_is {I : Nat → Nat → Nat → Int32} {y : Dy} (nm : Nat → Int32) (hnm : ∀ k, k < 8 → I 73 0 k = nm k) (L : Nat → Nat → Nat → Int64) : ∀ {h : Nat} {r : Rf} {C : Cd}, cAs I y h r C → ∃ b : Bool, (∀ st, rRun nm st C = gb b :: st) ∧ ∀ d, gP (mIs r.1) (d + h + 1) [gR (some r), gNm] (gH I L y) (gI (gb b)) := by
  intro h
  induction h with
  | zero => intro r C H; exact H.elim
  | succ h ih =>
    intro r C H
    rcases H with ⟨i, r1, r2, C1, C2, o, sg, rfl, rfl, e1, e2, t1, t2, es, eo⟩ | ⟨i, r1, C1, rfl, rfl, e1, t1⟩ | ⟨i, r1, r2, C1, C2, bb, rfl, rfl, e1, e2, t1, t2, es⟩
    · obtain ⟨v1, q1, p1⟩ := o_of nm hnm L t1
      obtain ⟨v2, q2, p2⟩ := o_of nm hnm L t2
      obtain ⟨b, hb⟩ : ∃ b : Bool, rOp o v1 v2 = gb b := by
        rcases eo with ⟨rfl, rfl⟩ | ⟨rfl, rfl⟩ | ⟨rfl, rfl⟩
        · by_cases c : v1 < v2
          · exact ⟨true, if_pos c⟩
          · exact ⟨false, if_neg c⟩
        · by_cases c : v2 < v1
          · exact ⟨true, if_pos c⟩
          · exact ⟨false, if_neg c⟩
        · by_cases c : v1 = v2
          · exact ⟨true, if_pos c⟩
          · exact ⟨false, if_neg c⟩
      refine ⟨b, fun st => by rw [rRun_two q1 q2 (by omega), hb], fun d => ?_⟩
      have at18 : ∀ lo', glle [some (gR (some (15, i))), none, some (gI v1), some (gI v2)] lo' → gT mX24_is (d + (h + 1) + 1) (0, 0) (fun v h' => v = [gI (gb b)] ∧ h' = gH I L y) (fun _ _ => False) 18 lo' [] (gH I L y) (0, 0) := by
        intro lo' hl'
        refine gT_lo _ hl' ?_
        refine gT_go 400 [] kX24_is ?_
        rcases eo with ⟨rfl, rfl⟩ | ⟨rfl, rfl⟩ | ⟨rfl, rfl⟩
        · refine bNe 60 60 es rfl (fun q => absurd rfl q) (fun _ => ?_)
          refine And.intro (fun c => ?_) (fun c => ?_)
          · exact ⟨Or.inl rfl, by rw [← hb]; exact congrArg (fun z => [gI z]) (if_neg (Int32.not_lt.mpr c)).symm, rfl⟩
          · exact ⟨Or.inr rfl, by rw [← hb]; exact congrArg (fun z => [gI z]) (if_pos (Int32.not_le.mp c)).symm, rfl⟩
        · refine bNe 62 60 es rfl (fun _ => ?_) (fun q => absurd q (by decide))
          refine bNe 62 62 es rfl (fun q => absurd rfl q) (fun _ => ?_)
          refine And.intro (fun c => ?_) (fun c => ?_)
          · exact ⟨Or.inl rfl, by rw [← hb]; exact congrArg (fun z => [gI z]) (if_neg (Int32.not_lt.mpr c)).symm, rfl⟩
          · exact ⟨Or.inr rfl, by rw [← hb]; exact congrArg (fun z => [gI z]) (if_pos (Int32.not_le.mp c)).symm, rfl⟩
        · refine bNe 61 60 es rfl (fun _ => ?_) (fun q => absurd q (by decide))
          refine bNe 61 62 es rfl (fun _ => ?_) (fun q => absurd q (by decide))
          refine And.intro (fun c => ?_) (fun c => ?_)
          · exact ⟨Or.inl rfl, by rw [← hb]; exact congrArg (fun z => [gI z]) (if_neg c).symm, rfl⟩
          · exact ⟨Or.inr rfl, by rw [← hb]; exact congrArg (fun z => [gI z]) (if_pos c).symm, rfl⟩
      have at14 : ∀ lo', glle [some (gR (some (15, i))), some gNm, some (gI v1), none] lo' → gT mX24_is (d + (h + 1) + 1) (0, 0) (fun v h' => v = [gI (gb b)] ∧ h' = gH I L y) (fun _ _ => False) 14 lo' [gNm, gR (gRX y 15 i 2)] (gH I L y) (0, 0) := by
        intro lo' hl'
        rw [e2]
        refine gT_lo _ hl' ?_
        obtain ⟨b, j⟩ := r2
        rcases cTm_kind t2 with hb | hb | hb <;> simp only at hb <;> subst hb
        · refine gT_go 400 [18] kX24_is ?_
          refine gP_use (p2 d) ?_
          exact at18 _ (by (repeat' apply And.intro) <;> first | rfl | trivial | exact congrArg Sum.inl (nI_1 _).symm | exact congrArg Sum.inl (nI_1 _).symm)
        · refine gT_go 400 [18] kX24_is ?_
          refine gP_use (p2 d) ?_
          exact at18 _ (by (repeat' apply And.intro) <;> first | rfl | trivial | exact congrArg Sum.inl (nI_1 _).symm | exact congrArg Sum.inl (nI_1 _).symm)
        · refine gT_go 400 [18] kX24_is ?_
          refine gP_use (p2 d) ?_
          exact at18 _ (by (repeat' apply And.intro) <;> first | rfl | trivial | exact congrArg Sum.inl (nI_1 _).symm | exact congrArg Sum.inl (nI_1 _).symm)
      have at5 : ∀ lo', glle [some (gR (some (15, i))), some gNm, none, none] lo' → gT mX24_is (d + (h + 1) + 1) (0, 0) (fun v h' => v = [gI (gb b)] ∧ h' = gH I L y) (fun _ _ => False) 5 lo' [gNm, gR (gRX y 15 i 1)] (gH I L y) (0, 0) := by
        intro lo' hl'
        rw [e1]
        refine gT_lo _ hl' ?_
        obtain ⟨b, j⟩ := r1
        rcases cTm_kind t1 with hb | hb | hb <;> simp only at hb <;> subst hb
        · refine gT_go 400 [14] kX24_is ?_
          refine gP_use (p1 d) ?_
          exact at14 _ (by (repeat' apply And.intro) <;> first | rfl | trivial | exact congrArg Sum.inl (nI_1 _).symm | exact congrArg Sum.inl (nI_1 _).symm)
        · refine gT_go 400 [14] kX24_is ?_
          refine gP_use (p1 d) ?_
          exact at14 _ (by (repeat' apply And.intro) <;> first | rfl | trivial | exact congrArg Sum.inl (nI_1 _).symm | exact congrArg Sum.inl (nI_1 _).symm)
        · refine gT_go 400 [14] kX24_is ?_
          refine gP_use (p1 d) ?_
          exact at14 _ (by (repeat' apply And.intro) <;> first | rfl | trivial | exact congrArg Sum.inl (nI_1 _).symm | exact congrArg Sum.inl (nI_1 _).symm)
      refine gEnter 400 [5] kX24_is rfl rfl ?_
      exact at5 _ (by (repeat' apply And.intro) <;> first | rfl | trivial | exact congrArg Sum.inl (nI_1 _).symm | exact congrArg Sum.inl (nI_1 _).symm)
    · obtain ⟨b1, q1, p1⟩ := ih t1
      refine ⟨!b1, fun st => ?_, fun d => ?_⟩
      · rw [rRun_app, q1]
        cases b1 <;> rfl
      have at5 : ∀ lo', glle [some (gR (some (13, i))), some gNm] lo' → gT mX19_is (d + (h + 1) + 1) (0, 0) (fun v h' => v = [gI (gb (!b1))] ∧ h' = gH I L y) (fun _ _ => False) 5 lo' [gNm, gR (gRX y 13 i 0)] (gH I L y) (0, 0) := by
        intro lo' hl'
        rw [e1]
        refine gT_lo _ hl' ?_
        obtain ⟨b, j⟩ := r1
        rcases cAs_kind t1 with hb | hb | hb <;> simp only at hb <;> subst hb
        all_goals
          refine gT_go 400 [] kX19_is ?_
          refine gP_use (p1 d) ?_
          refine bB1 b1 rfl (fun c => ?_) (fun c => ?_)
          · exact ⟨Or.inl rfl, by rw [c]; rfl, rfl⟩
          · exact ⟨Or.inr rfl, by rw [c]; rfl, rfl⟩
      refine gEnter 400 [5] kX19_is rfl rfl ?_
      exact at5 _ (by (repeat' apply And.intro) <;> first | rfl | trivial | exact congrArg Sum.inl (nI_1 _).symm | exact congrArg Sum.inl (nI_1 _).symm)
    · obtain ⟨b1, q1, p1⟩ := ih t1
      obtain ⟨b2, q2, p2⟩ := ih t2
      have ev : rOp (if bb then 10 else 11) (gb b1) (gb b2) = gb (bif bb then b1 && b2 else b1 || b2) := by
        cases bb <;> cases b1 <;> cases b2 <;> decide
      refine ⟨bif bb then b1 && b2 else b1 || b2, fun st => by rw [rRun_two q1 q2 (by split <;> omega), ev], fun d => ?_⟩
      have at18 : ∀ lo', glle [some (gR (some (14, i))), none, some (gI (gb b1)), some (gI (gb b2))] lo' → gT mX25_is (d + (h + 1) + 1) (0, 0) (fun v h' => v = [gI (gb (bif bb then b1 && b2 else b1 || b2))] ∧ h' = gH I L y) (fun _ _ => False) 18 lo' [] (gH I L y) (0, 0) := by
        intro lo' hl'
        refine gT_lo _ hl' ?_
        refine gT_go 400 [] kX25_is ?_
        refine bB0 bb es (fun c => ?_) (fun c => ?_)
        · subst c
          refine bB1 b1 rfl (fun c => ?_) (fun c => ?_)
          · subst c; exact ⟨Or.inr rfl, rfl, rfl⟩
          · subst c
            refine bB0 b2 rfl (fun c => ?_) (fun c => ?_)
            · subst c; exact ⟨Or.inl rfl, rfl, rfl⟩
            · subst c; exact ⟨Or.inr rfl, rfl, rfl⟩
        · subst c
          refine bB0 b1 rfl (fun c => ?_) (fun c => ?_)
          · subst c; exact ⟨Or.inl rfl, rfl, rfl⟩
          · subst c
            refine bB0 b2 rfl (fun c => ?_) (fun c => ?_)
            · subst c; exact ⟨Or.inl rfl, rfl, rfl⟩
            · subst c; exact ⟨Or.inr rfl, rfl, rfl⟩
      have at14 : ∀ lo', glle [some (gR (some (14, i))), some gNm, some (gI (gb b1)), none] lo' → gT mX25_is (d + (h + 1) + 1) (0, 0) (fun v h' => v = [gI (gb (bif bb then b1 && b2 else b1 || b2))] ∧ h' = gH I L y) (fun _ _ => False) 14 lo' [gNm, gR (gRX y 14 i 2)] (gH I L y) (0, 0) := by
        intro lo' hl'
        rw [e2]
        refine gT_lo _ hl' ?_
        obtain ⟨b, j⟩ := r2
        rcases cAs_kind t2 with hb | hb | hb <;> simp only at hb <;> subst hb
        all_goals
          refine gT_go 400 [18] kX25_is ?_
          refine gP_use (p2 d) ?_
          exact at18 _ (by (repeat' apply And.intro) <;> first | rfl | trivial | exact congrArg Sum.inl (nI_1 _).symm | exact congrArg Sum.inl (nI_1 _).symm)
      have at5 : ∀ lo', glle [some (gR (some (14, i))), some gNm, none, none] lo' → gT mX25_is (d + (h + 1) + 1) (0, 0) (fun v h' => v = [gI (gb (bif bb then b1 && b2 else b1 || b2))] ∧ h' = gH I L y) (fun _ _ => False) 5 lo' [gNm, gR (gRX y 14 i 1)] (gH I L y) (0, 0) := by
        intro lo' hl'
        rw [e1]
        refine gT_lo _ hl' ?_
        obtain ⟨b, j⟩ := r1
        rcases cAs_kind t1 with hb | hb | hb <;> simp only at hb <;> subst hb
        all_goals
          refine gT_go 400 [14] kX25_is ?_
          refine gP_use (p1 d) ?_
          exact at14 _ (by (repeat' apply And.intro) <;> first | rfl | trivial | exact congrArg Sum.inl (nI_1 _).symm | exact congrArg Sum.inl (nI_1 _).symm)
      refine gEnter 400 [5] kX25_is rfl rfl ?_
      exact at5 _ (by (repeat' apply And.intro) <;> first | rfl | trivial | exact congrArg Sum.inl (nI_1 _).symm | exact congrArg Sum.inl (nI_1 _).symm)
