/-! ===== what is lawful in a state ===== -/
theorem gIor (a b : Nat) : nI a ||| nI b = nI (a ||| b) := Int32.toBitVec_inj.mp (by show BitVec.ofNat 32 a ||| BitVec.ofNat 32 b = BitVec.ofNat 32 (a ||| b); exact BitVec.ofNat_or.symm)
abbrev rG (R : RL) (k : Nat) : Bool := (R.getD k (false, [])).1
abbrev rC (R : RL) (k : Nat) : Cd := (R.getD k (false, [])).2
def rOf (R : RL) : Nat → Nat
  | 0 => 0
  | k + 1 => rOf R k + (rC R k).length
theorem rOf_mono (R : RL) {a : Nat} : ∀ b, a ≤ b → rOf R a ≤ rOf R b := by
  intro b
  induction b with
  | zero => intro h; have : a = 0 := by omega
            subst this; exact Nat.le_refl _
  | succ b ih =>
    intro h
    rcases Nat.lt_or_ge a (b + 1) with q | q
    · have e : rOf R (b + 1) = rOf R b + (rC R b).length := rfl
      have := ih (by omega)
      omega
    · have : a = b + 1 := by omega
      subst this; exact Nat.le_refl _
/-- rules in memory -/
def gRm (R : RL) (I : Nat → Nat → Nat → Int32) : Prop :=
  I 100 0 13 = nI R.length ∧ R.length ≤ 10 ∧ rOf R R.length ≤ 620 ∧ ∀ k, k < R.length → I 119 0 k = gb (rG R k) ∧ I 120 0 (k + 1) = nI (rOf R (k + 1)) ∧ gCo I (rOf R k) (rC R k) ∧ rHt 0 (rC R k) = some 1
/-- a rule says yes -/
def rYes (nm : Nat → Int32) (C : Cd) : Bool := decide (¬ (rRun nm [] C).headD 0 = 0)
def rHo1 (R : RL) (om : Option Nat) (go : Bool) (nm : Nat → Int32) (k : Nat) : Bool := decide (om = some k) || (rG R k != go) || rYes nm (rC R k)
def rHo (R : RL) (om : Option Nat) (go : Bool) (nm : Nat → Int32) : Bool := (List.range R.length).all (rHo1 R om go nm)
theorem rHo_t {R : RL} {om : Option Nat} {go : Bool} {nm : Nat → Int32} (h : ∀ k, k < R.length → rHo1 R om go nm k = true) : rHo R om go nm = true := by
  unfold rHo
  rw [List.all_eq_true]
  intro k hk
  exact h k (List.mem_range.mp hk)
theorem rHo_f {R : RL} {om : Option Nat} {go : Bool} {nm : Nat → Int32} {k : Nat} (hk : k < R.length) (h : rHo1 R om go nm k = false) : rHo R om go nm = false := by
  unfold rHo
  rw [List.all_eq_false]
  exact ⟨k, List.mem_range.mpr hk, by rw [h]; decide⟩
set_option maxRecDepth 100000 in
theorem p_holds (d : Nat) (go : Bool) (nm : Nat → Int32) (R : RL) (om : Option Nat) (I : Nat → Nat → Nat → Int32) (hR : gRm R I) (hom : I 100 0 32 = gOI om) (hom2 : ∀ k, om = some k → k < 10) (hnm : ∀ j, j < 8 → I 124 0 j = nm j) (L : Nat → Nat → Nat → Int64) (y : Dy) :
    gTM mX12_holds (d + 2) (0, 0) [gM0, gI (gb go)] (gH I L y) (fun v h' => v = [gI (gb (rHo R om go nm))] ∧ ∃ I', h' = gH I' L y ∧ ∀ b, b ≠ 123 → I' b = I b) (fun _ _ => False) := by
  obtain ⟨R1, R2, R3, R4⟩ := hR
  refine gEnter 400 [2] kX12_holds rfl rfl ?_
  refine gT_for (σ := Nat → Nat → Nat → Int32) (pc := 2) (lo := fun i _ => [some gM0, some (gI (gb go)), some (gI (nI i))]) (hp := fun _ x => gH x L y) (Inv := fun i x => (∀ b, b ≠ 123 → x b = I b) ∧ ∀ k, k < i → rHo1 R om go nm k = true) R.length ?_ ?_ 0 I (Nat.zero_le _) ⟨fun _ _ => rfl, fun k hk => absurd hk (Nat.not_lt_zero _)⟩ (by (repeat' apply And.intro) <;> first | rfl | trivial | exact congrArg Sum.inl (nI_1 _).symm | exact congrArg Sum.inl (nI_1 _).symm)
  · intro x ⟨hx, hy⟩
    refine gT_go 400 [2] kX12_holds ?_
    refine bGe R.length R.length rfl (by rw [← R1, ← hx 100 (by decide)] <;> rfl) (fun c => ?_) (fun c => absurd c (by omega))
    refine ⟨Or.inr rfl, ?_, x, rfl, hx⟩
    rw [rHo_t hy]
    rfl
  · intro i x hi ⟨hx, hy⟩ hnext
    obtain ⟨r1, r2, r3, r4⟩ := R4 i hi
    refine gT_go 400 [2, 59] kX12_holds ?_
    refine bGe i R.length rfl (by rw [← R1, ← hx 100 (by decide)] <;> rfl) (fun c => absurd c (by omega)) (fun c => ?_)
    have ho : x 100 0 32 = gOI om := by rw [hx 100 (by decide)]; exact hom
    have step : rHo1 R om go nm i = true → ∀ (x' : Nat → Nat → Nat → Int32), (∀ b, b ≠ 123 → x' b = I b) → (∀ b, b ≠ 123 → x' b = I b) ∧ ∀ k, k < i + 1 → rHo1 R om go nm k = true := by
      intro e x' hx'
      refine ⟨hx', fun k hk => ?_⟩
      rcases Nat.lt_or_ge k i with q | q
      · exact hy k q
      · have : k = i := by omega
        subst this; exact e
    have skip : rHo1 R om go nm i = true → ∀ (Q : Prop), True := fun _ _ => trivial
    refine And.intro (fun q => ?_) (fun q => ?_)
    · refine gT_go 400 [2] kX12_holds ?_
      have e : om = some i := by
        have q' : nI i = gOI om := q.trans ho
        cases h : om with
        | none => rw [h] at q'; exact absurd q' (gOI_ne (by omega))
        | some k =>
          rw [h] at q'
          have := (nI_eq (a := i) (b := k) (by omega) (by have := hom2 k h; omega)).mp q'
          rw [this]
      exact hnext x _ (step (by unfold rHo1; rw [decide_eq_true e] <;> rfl) x hx) (by (repeat' apply And.intro) <;> first | rfl | trivial | exact congrArg Sum.inl (nI_1 _).symm | exact congrArg Sum.inl (nI_1 _).symm)
    · have e : decide (om = some i) = false := decide_eq_false (fun h => q (by show nI i = x 100 0 32; rw [ho, h] <;> rfl))
      refine Exists.intro (i) (And.intro rfl (And.intro (show _ < 10 by omega) ?_))
      have q1 : x 119 0 i = gb (rG R i) := by rw [hx 119 (by decide)]; exact r1
      have ebg : x 119 0 i = gb go ↔ rG R i = go := by
        rw [q1]
        cases rG R i <;> cases go <;> decide
      refine And.intro (fun q2 => ?_) (fun q2 => ?_)
      · refine gT_go 400 [2] kX12_holds ?_
        have e2 : ¬ rG R i = go := fun z => q2 (ebg.mpr z)
        exact hnext x _ (step (by unfold rHo1; rw [bne_iff_ne.mpr e2]; simp) x hx) (by (repeat' apply And.intro) <;> first | rfl | trivial | exact congrArg Sum.inl (nI_1 _).symm | exact congrArg Sum.inl (nI_1 _).symm)
      · have e2 : rG R i = go := ebg.mp q2
        have hCo : gCo x (rOf R i) (rC R i) := by unfold gCo; rw [hx 115 (by decide), hx 116 (by decide)]; exact r3
        have hle : rOf R (i + 1) ≤ rOf R R.length := rOf_mono R _ hi
        have hw := p_worked d (rOf R i) (rOf R (i + 1)) nm (rC R i) rfl (by omega) x hCo (by intro j hj; rw [hx 124 (by decide)]; exact hnm j hj) r4 L y
        have fin : ∀ (v : Int32) (x' : Nat → Nat → Nat → Int32), v = (rRun nm [] (rC R i)).headD 0 → (∀ b, b ≠ 123 → x' b = x b) → (rYes nm (rC R i) = true ↔ ¬ v = 0) ∧ ∀ b, b ≠ 123 → x' b = I b := by
          intro v x' hv hx'
          subst hv
          exact ⟨by unfold rYes; rw [decide_eq_true_eq], fun b hb => (hx' b hb).trans (hx b hb)⟩
        refine bNe i 0 rfl rfl (fun c0 => ?_) (fun c0 => ?_)
        · refine Exists.intro (i) (And.intro rfl (And.intro (show _ < 11 by omega) ?_))
          refine Exists.intro (i + 1) (And.intro (nI_1 i) (And.intro (show i + 1 < 11 by omega) ?_))
          have t1 : x 120 0 i = nI (rOf R i) := by
            have := (R4 (i - 1) (by omega)).2.1
            rw [show i - 1 + 1 = i by omega] at this
            rw [hx 120 (by decide)]; exact this
          have t2 : x 120 0 (i + 1) = nI (rOf R (i + 1)) := by rw [hx 120 (by decide)]; exact r2
          refine gTM_use (by rw [← t1, ← t2] <;> rfl) hw (fun v h' z => ?_)
          obtain ⟨rfl, x', rfl, hx'⟩ := z
          obtain ⟨f1, f2⟩ := fin _ x' rfl hx'
          refine And.intro (fun z => ?_) (fun z => ?_)
          · refine gT_go 400 [2] kX12_holds ?_
            exact hnext x' _ (step (by unfold rHo1; rw [f1.mpr z]; simp) x' f2) (by (repeat' apply And.intro) <;> first | rfl | trivial | exact congrArg Sum.inl (nI_1 _).symm | exact congrArg Sum.inl (nI_1 _).symm)
          · refine ⟨Or.inl rfl, ?_, x', rfl, f2⟩
            rw [rHo_f hi (by unfold rHo1; rw [e, e2]; simp; exact decide_eq_false (fun w => w z))]
            rfl
        · refine Exists.intro (i + 1) (And.intro (nI_1 i) (And.intro (show i + 1 < 11 by omega) ?_))
          have t1 : rOf R i = 0 := by rw [c0] <;> rfl
          have t2 : x 120 0 (i + 1) = nI (rOf R (i + 1)) := by rw [hx 120 (by decide)]; exact r2
          refine gTM_use (by rw [← t2, t1] <;> rfl) hw (fun v h' z => ?_)
          obtain ⟨rfl, x', rfl, hx'⟩ := z
          obtain ⟨f1, f2⟩ := fin _ x' rfl hx'
          refine And.intro (fun z => ?_) (fun z => ?_)
          · refine gT_go 400 [2] kX12_holds ?_
            exact hnext x' _ (step (by unfold rHo1; rw [f1.mpr z]; simp) x' f2) (by (repeat' apply And.intro) <;> first | rfl | trivial | exact congrArg Sum.inl (nI_1 _).symm | exact congrArg Sum.inl (nI_1 _).symm)
          · refine ⟨Or.inl rfl, ?_, x', rfl, f2⟩
            rw [rHo_f hi (by unfold rHo1; rw [e, e2]; simp; exact decide_eq_false (fun w => w z))]
            rfl
/-- the names that rules know: of a state, a leader, where a move goes, its snow -/
def rNm (A : Nat → Nat) (k h p n to s : Nat) : Nat → Int32
  | 0 => nI h
  | 1 => nI (A 3) - nI h
  | 2 => nI n
  | 3 => if A (7 + p) = 1 then 1 else 0
  | 4 => nI k
  | 5 => nI p
  | 6 => nI to
  | _ => nI s
/-- what is lawful: bits of the first w ways, and of rest -/
def gLb (A : Nat → Nat) (R : RL) (om : Option Nat) (k h p n : Nat) : Nat → Nat
  | 0 => bif rHo R om false (rNm A k h p n p 0) then 1 else 0
  | w + 1 => bif aAt A w p && rHo R om true (rNm A k h p n (aOth A w p) (gSnA A w h)) then gLb A R om k h p n w ||| 2 ^ (w + 1) else gLb A R om k h p n w
theorem gLb_lt (A : Nat → Nat) (R : RL) (om : Option Nat) (k h p n : Nat) : ∀ w, gLb A R om k h p n w < 2 ^ (w + 1) := by
  intro w
  induction w with
  | zero => unfold gLb; cases rHo R om false (rNm A k h p n p 0) <;> decide
  | succ w ih =>
    unfold gLb
    have e : 2 ^ (w + 1 + 1) = 2 ^ (w + 1) + 2 ^ (w + 1) := by rw [Nat.pow_succ]; omega
    cases aAt A w p && rHo R om true (rNm A k h p n (aOth A w p) (gSnA A w h)) with
    | true => exact Nat.or_lt_two_pow (by omega) (by have := Nat.two_pow_pos (w + 1); omega)
    | false => show gLb A R om k h p n w < _; omega
theorem gMv_bit {x W : Nat} (h : x < 2 ^ (W + 1)) : ∃ m0, m0 ≤ W ∧ (gMv x).testBit m0 = true := by
  unfold gMv
  by_cases e : x = 0
  · rw [if_pos e]; exact ⟨0, Nat.zero_le _, by decide⟩
  · rw [if_neg e]
    obtain ⟨i, hi⟩ := Nat.exists_testBit_of_ne_zero e
    refine ⟨i, ?_, hi⟩
    rcases Nat.lt_or_ge W i with q | q
    · have : x.testBit i = false := Nat.testBit_lt_two_pow (Nat.lt_of_lt_of_le h (Nat.pow_le_pow_right (by decide) q))
      rw [this] at hi; cases hi
    · exact q
set_option maxRecDepth 100000 in
theorem p_lawfulIn (d k h p n : Nat) (hk : k < 5) (A : Nat → Nat) (hA : gLd A) (hh : h < A 3) (hp : p < 12) (hn : n < 13) (R : RL) (om : Option Nat) (I : Nat → Nat → Nat → Int32) (hl : gLx I A) (hR : gRm R I) (hom : I 100 0 32 = gOI om) (hom2 : ∀ k, om = some k → k < 10) (L : Nat → Nat → Nat → Int64) (y : Dy) :
    gTM mX12_lawfulIn (d + 3) (0, 0) [gM0, gI (nI k), gI (nI h), gI (nI p), gI (nI n)] (gH I L y) (fun v h' => v = [gI (nI (gLb A R om k h p n (A 1)))] ∧ ∃ I', h' = gH I' L y ∧ ∀ b, b ≠ 123 → b ≠ 124 → I' b = I b) (fun _ _ => False) := by
  have a1 := hA.2.1
  have a3 := hA.2.2.2.1
  have tr : ∀ x : Nat → Nat → Nat → Int32, (∀ b, b ≠ 123 → b ≠ 124 → x b = I b) → gLx x A ∧ gRm R x ∧ x 100 0 32 = gOI om := by
    intro x hx
    refine ⟨fun j hj => by rw [hx 110 (by decide) (by decide)]; exact hl j hj, ?_, by rw [hx 100 (by decide) (by decide)]; exact hom⟩
    unfold gRm gCo
    rw [hx 100 (by decide) (by decide), hx 119 (by decide) (by decide), hx 120 (by decide) (by decide), hx 115 (by decide) (by decide), hx 116 (by decide) (by decide)]
    exact hR
  refine gEnter 400 [101] kX12_lawfulIn rfl rfl ?_
  refine Exists.intro (0) (And.intro rfl (And.intro (show _ < 8 by omega) ?_))
  refine Exists.intro (3) (And.intro rfl (And.intro (show _ < 708 by omega) ?_))
  refine Exists.intro (1) (And.intro rfl (And.intro (show _ < 8 by omega) ?_))
  refine Exists.intro (2) (And.intro rfl (And.intro (show _ < 8 by omega) ?_))
  refine Exists.intro (7 + p) (And.intro (nI_add 7 p) (And.intro (show 7 + p < 708 by omega) ?_))
  have e7 : I 110 0 (7 + p) = nI (A (7 + p)) := hl (7 + p) (by omega)
  have a7 := hA.lt (7 + p) (by omega)
  have e3 := hl 3 (by omega)
  have main : ∀ (z : Int32), z = (if A (7 + p) = 1 then 1 else 0) → ∀ (x : Nat → Nat → Nat → Int32), x = u3 (u3 (u3 (u3 (u3 (u3 (u3 (u3 I 124 0 0 (nI h)) 124 0 1 (I 110 0 3 - nI h)) 124 0 2 (nI n)) 124 0 3 z) 124 0 4 (nI k)) 124 0 5 (nI p)) 124 0 6 (nI p)) 124 0 7 0 → (∀ b, b ≠ 124 → x b = I b) ∧ ∀ j, j < 8 → x 124 0 j = rNm A k h p n p 0 j := by
    intro z hz x hx
    subst hx
    refine ⟨fun b hb => by rw [u3_ne1 hb, u3_ne1 hb, u3_ne1 hb, u3_ne1 hb, u3_ne1 hb, u3_ne1 hb, u3_ne1 hb, u3_ne1 hb], fun j hj => ?_⟩
    match j, hj with
    | 0, _ => rfl
    | 1, _ => exact congrArg (fun q => q - nI h) e3
    | 2, _ => rfl
    | 3, _ => exact hz
    | 4, _ => rfl
    | 5, _ => rfl
    | 6, _ => rfl
    | 7, _ => rfl
    | j + 8, hj => exact absurd hj (by omega)
  have rest : ∀ (x : Nat → Nat → Nat → Int32), (∀ b, b ≠ 124 → x b = I b) → (∀ j, j < 8 → x 124 0 j = rNm A k h p n p 0 j) → gTM mX12_holds (d + 2) (0, 0) [gM0, gI (gb false)] (gH x L y) (fun v h' => v = [gI (gb (rHo R om false (rNm A k h p n p 0)))] ∧ ∃ I', h' = gH I' L y ∧ ∀ b, b ≠ 123 → I' b = x b) (fun _ _ => False) := by
    intro x h1 h2
    obtain ⟨t1, t2, t3⟩ := tr x (fun b _ h => h1 b h)
    exact p_holds d false _ R om x t2 t3 hom2 h2 L y
  refine bNe (A (7 + p)) 1 e7 rfl (fun c => ?_) (fun c => ?_)
  all_goals
    refine Exists.intro (3) (And.intro rfl (And.intro (show _ < 8 by omega) ?_))
    refine Exists.intro (4) (And.intro rfl (And.intro (show _ < 8 by omega) ?_))
    refine Exists.intro (5) (And.intro rfl (And.intro (show _ < 8 by omega) ?_))
    refine Exists.intro (6) (And.intro rfl (And.intro (show _ < 8 by omega) ?_))
    refine Exists.intro (7) (And.intro rfl (And.intro (show _ < 8 by omega) ?_))
    first
    | (obtain ⟨m1, m2⟩ := main 0 (by rw [if_neg c]) _ rfl; refine gTM_use rfl (rest _ m1 m2) (fun v h' q => ?_); obtain ⟨rfl, x0, rfl, hx0⟩ := q; have hx1 : ∀ b, b ≠ 123 → b ≠ 124 → x0 b = I b := fun b h1 h2 => (hx0 b h1).trans (m1 b h2); have hx2 : ∀ j, j < 8 → x0 124 0 j = rNm A k h p n p 0 j := fun j hj => by rw [hx0 124 (by decide)]; exact m2 j hj)
    | (obtain ⟨m1, m2⟩ := main 1 (by rw [if_pos c]) _ rfl; refine gTM_use rfl (rest _ m1 m2) (fun v h' q => ?_); obtain ⟨rfl, x0, rfl, hx0⟩ := q; have hx1 : ∀ b, b ≠ 123 → b ≠ 124 → x0 b = I b := fun b h1 h2 => (hx0 b h1).trans (m1 b h2); have hx2 : ∀ j, j < 8 → x0 124 0 j = rNm A k h p n p 0 j := fun j hj => by rw [hx0 124 (by decide)]; exact m2 j hj)
    have loop : ∀ (B0 : Nat) (lo0 : Lo), B0 = gLb A R om k h p n 0 → glle [some gM0, some (gI (nI k)), some (gI (nI h)), some (gI (nI p)), some (gI (nI n)), some (gI (nI B0)), some (gI (nI 0))] lo0 → gT mX12_lawfulIn (d + 3) (0, 0) (fun v h' => v = [gI (nI (gLb A R om k h p n (A 1)))] ∧ ∃ I', h' = gH I' L y ∧ ∀ b, b ≠ 123 → b ≠ 124 → I' b = I b) (fun _ _ => False) 101 lo0 [] (gH x0 L y) (0, 0) := by
      intro B0 lo0 hB0 hlo
      subst hB0
      refine gT_for (σ := Nat → Nat → Nat → Int32) (pc := 101) (lo := fun i _ => [some gM0, some (gI (nI k)), some (gI (nI h)), some (gI (nI p)), some (gI (nI n)), some (gI (nI (gLb A R om k h p n i))), some (gI (nI i))]) (hp := fun _ x => gH x L y)
        (Inv := fun i x => (∀ b, b ≠ 123 → b ≠ 124 → x b = I b) ∧ ∀ j, j < 6 → x 124 0 j = rNm A k h p n p 0 j) (A 1) ?_ ?_ 0 x0 (Nat.zero_le _) ⟨hx1, fun j hj => hx2 j (by omega)⟩ hlo
      · intro x ⟨g1, g2⟩
        refine gT_go 400 [101] kX12_lawfulIn ?_
        refine Exists.intro (1) (And.intro rfl (And.intro (show _ < 708 by omega) ?_))
        refine bGe (A 1) (A 1) rfl ((tr x g1).1 1 (by omega)) (fun c => ?_) (fun c => absurd c (by omega))
        exact ⟨rfl, x, rfl, g1⟩
      · intro i x hi ⟨g1, g2⟩ hnext
        obtain ⟨t1, t2, t3⟩ := tr x g1
        have hlt := gLb_lt A R om k h p n i
        have hpw : 2 ^ (i + 1) ≤ 2 ^ 25 := Nat.pow_le_pow_right (by decide) (by omega)
        refine gT_go 400 [101] kX12_lawfulIn ?_
        refine Exists.intro (1) (And.intro rfl (And.intro (show _ < 708 by omega) ?_))
        refine bGe i (A 1) rfl (t1 1 (by omega)) (fun c => absurd c (by omega)) (fun c => ?_)
        refine gP_use (p_isAt (d + 1) i p (by omega) hp A x t1 hA.lt L y) ?_
        refine bB1 (aAt A i p) rfl (fun c1 => ?_) (fun c1 => ?_)
        · refine gP_use (p_otherEnd (d + 1) i p (by omega) hp A x t1 hA.lt L y) ?_
          refine Exists.intro (6) (And.intro rfl (And.intro (show _ < 8 by omega) ?_))
          refine Exists.intro (132 + 24 * i + h) (And.intro (by simp only [gic, gbc, gsc, litI, pk_mul, nI_add]) (And.intro (show _ < 708 by omega) ?_))
          refine Exists.intro (7) (And.intro rfl (And.intro (show _ < 8 by omega) ?_))
          have es : x 110 0 (132 + 24 * i + h) = nI (gSnA A i h) := t1 _ (by omega)
          have h1 : ∀ b, b ≠ 123 → b ≠ 124 → u3 (u3 x 124 0 6 (nI (aOth A i p))) 124 0 7 (x 110 0 (132 + 24 * i + h)) b = I b := fun b z1 z2 => by rw [u3_ne1 z2, u3_ne1 z2]; exact g1 b z1 z2
          obtain ⟨w1, w2, w3⟩ := tr _ h1
          have h2 : ∀ j, j < 8 → u3 (u3 x 124 0 6 (nI (aOth A i p))) 124 0 7 (x 110 0 (132 + 24 * i + h)) 124 0 j = rNm A k h p n (aOth A i p) (gSnA A i h) j := by
            intro j hj
            match j, hj with
            | 0, _ => exact g2 0 (by omega)
            | 1, _ => exact g2 1 (by omega)
            | 2, _ => exact g2 2 (by omega)
            | 3, _ => exact g2 3 (by omega)
            | 4, _ => exact g2 4 (by omega)
            | 5, _ => exact g2 5 (by omega)
            | 6, _ => rfl
            | 7, _ => exact es
            | j + 8, hj => exact absurd hj (by omega)
          refine gTM_use rfl (p_holds d true _ R om _ w2 w3 hom2 h2 L y) (fun v h' q => ?_)
          obtain ⟨rfl, x', rfl, hx'⟩ := q
          have hx1' : ∀ b, b ≠ 123 → b ≠ 124 → x' b = I b := fun b z1 z2 => (hx' b z1).trans (h1 b z1 z2)
          have hx2' : ∀ j, j < 6 → x' 124 0 j = rNm A k h p n p 0 j := fun j hj => by
            rw [hx' 124 (by decide), h2 j (by omega)]
            match j, hj with
            | 0, _ => rfl
            | 1, _ => rfl
            | 2, _ => rfl
            | 3, _ => rfl
            | 4, _ => rfl
            | 5, _ => rfl
            | j + 6, hj => exact absurd hj (by omega)
          refine bB0 (rHo R om true (rNm A k h p n (aOth A i p) (gSnA A i h))) rfl (fun c2 => ?_) (fun c2 => ?_)
          · refine hnext x' _ ⟨hx1', hx2'⟩ ?_
            rw [show gLb A R om k h p n (i + 1) = gLb A R om k h p n i by rw [gLb, c1, c2]; rfl]
            exact (by (repeat' apply And.intro) <;> first | rfl | trivial | exact congrArg Sum.inl (nI_1 _).symm | exact congrArg Sum.inl (nI_1 _).symm)
          · refine hnext x' _ ⟨hx1', hx2'⟩ ?_
            have hsh : nI 2 <<< (nI i &&& 31) = nI (2 ^ (i + 1)) := by
              have hz : 2 * 2 ^ i = 2 ^ (i + 1) := by rw [Nat.pow_succ]; omega
              rw [pk_shlN _ i (gs_l i (by omega)) (by rw [hz]; omega), hz]
            rw [show gLb A R om k h p n (i + 1) = gLb A R om k h p n i ||| 2 ^ (i + 1) by rw [gLb, c1, c2]; rfl, ← gIor, ← hsh]
            exact (by (repeat' apply And.intro) <;> first | rfl | trivial | exact congrArg Sum.inl (nI_1 _).symm | exact congrArg Sum.inl (nI_1 _).symm)
        · refine hnext x _ ⟨g1, g2⟩ ?_
          rw [show gLb A R om k h p n (i + 1) = gLb A R om k h p n i by rw [gLb, c1]; rfl]
          exact (by (repeat' apply And.intro) <;> first | rfl | trivial | exact congrArg Sum.inl (nI_1 _).symm | exact congrArg Sum.inl (nI_1 _).symm)
    refine bB0 (rHo R om false (rNm A k h p n p 0)) rfl (fun c2 => ?_) (fun c2 => ?_)
    · exact loop 0 _ (by rw [gLb, c2] <;> rfl) (by (repeat' apply And.intro) <;> first | rfl | trivial | exact congrArg Sum.inl (nI_1 _).symm | exact congrArg Sum.inl (nI_1 _).symm)
    · exact loop 1 _ (by rw [gLb, c2] <;> rfl) (by (repeat' apply And.intro) <;> first | rfl | trivial | exact congrArg Sum.inl (nI_1 _).symm | exact congrArg Sum.inl (nI_1 _).symm)
