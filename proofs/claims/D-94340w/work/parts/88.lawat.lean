/-! ===== the component: what is lawful in a state ===== -/
theorem cT0_cg {I I' : Nat → Nat → Nat → Int32} {r : Rf} {C : Cd} (e : ∀ b, b < 20 → I' b = I b) (H : cT0 I r C) : cT0 I' r C := by
  rcases H with ⟨i, n, a, b, c, d⟩ | ⟨i, k, a, b, c, d⟩
  · exact Or.inl ⟨i, n, a, b, by rw [e 16 (by decide)]; exact c, d⟩
  · exact Or.inr ⟨i, k, a, b, by rw [e 17 (by decide)]; exact c, d⟩
theorem cTm_cg {I I' : Nat → Nat → Nat → Int32} {y : Dy} (e : ∀ b, b < 20 → I' b = I b) : ∀ {h : Nat} {r : Rf} {C : Cd}, cTm I y h r C → cTm I' y h r C := by
  intro h
  induction h with
  | zero => intro r C H; exact cT0_cg e H
  | succ h ih =>
    intro r C H
    rcases H with H | ⟨i, r1, r2, C1, C2, o, sg, a, b, c, d, t1, t2, f, g⟩
    · exact Or.inl (cT0_cg e H)
    · exact Or.inr ⟨i, r1, r2, C1, C2, o, sg, a, b, c, d, ih t1, ih t2, by rw [e 18 (by decide)]; exact f, g⟩
theorem cAs_cg {I I' : Nat → Nat → Nat → Int32} {y : Dy} (e : ∀ b, b < 20 → I' b = I b) : ∀ {h : Nat} {r : Rf} {C : Cd}, cAs I y h r C → cAs I' y h r C := by
  intro h
  induction h with
  | zero => intro r C H; exact H.elim
  | succ h ih =>
    intro r C H
    rcases H with ⟨i, r1, r2, C1, C2, o, sg, a, b, c, d, t1, t2, f, g⟩ | ⟨i, r1, C1, a, b, c, d⟩ | ⟨i, r1, r2, C1, C2, b, a, b2, c, d, t1, t2, g⟩
    · exact Or.inl ⟨i, r1, r2, C1, C2, o, sg, a, b, c, d, cTm_cg e t1, cTm_cg e t2, by rw [e 15 (by decide)]; exact f, g⟩
    · exact Or.inr (Or.inl ⟨i, r1, C1, a, b, c, ih d⟩)
    · exact Or.inr (Or.inr ⟨i, r1, r2, C1, C2, b, a, b2, c, d, ih t1, ih t2, by rw [e 14 (by decide)]; exact g⟩)
theorem cRl_cg {I I' : Nat → Nat → Nat → Int32} {y : Dy} {R : RL} {ht : Nat} (e : ∀ b, b < 20 → I' b = I b) (H : cRl R ht I y) : cRl R ht I' y := by
  obtain ⟨h1, f, ⟨h2, h3, h4⟩, h5⟩ := H
  refine ⟨h1, f, ⟨by rw [e 10 (by decide)]; exact h2, h3, h4⟩, fun k hk => ?_⟩
  obtain ⟨j, ra, g1, g2, g3, g4⟩ := h5 k hk
  exact ⟨j, ra, g1, by rw [e 12 (by decide)]; exact g2, g3, cAs_cg e g4⟩
theorem cLd_cg {I I' : Nat → Nat → Nat → Int32} {i S : Nat} {A : Nat → Nat} (e : ∀ b, 40 ≤ b → b < 60 → I' b = I b) (H : cLd i S A I) : cLd i S A I' := by
  unfold cLd at H ⊢
  rw [e 40 (by decide) (by decide), e 47 (by decide) (by decide), e 48 (by decide) (by decide), e 49 (by decide) (by decide), e 50 (by decide) (by decide), e 51 (by decide) (by decide), e 55 (by decide) (by decide), e 54 (by decide) (by decide)]
  exact H
/-- the names of a state are told -/
def cNm (nm : Nat → Int32) (x : Nat → Nat → Nat → Int32) : Prop := ∀ j, j < 8 → x 73 0 j = nm j
set_option maxRecDepth 100000 in
theorem o_lawAt (d ht k h p n S : Nat) (hk : k < 5) (A : Nat → Nat) (hA : gLd A) (hh : h < A 3) (hp : p < 12) (hn : n < 13) (R : RL) (I : Nat → Nat → Nat → Int32) (L : Nat → Nat → Nat → Int64) (y : Dy) (hl : cLd y.1 S A I) (hR : cRl R ht I y) :
    gTM mX1_lawAt (d + ht + 5) (0, 0) [gG0, gI (nI (cN h p n)), gI (nI k)] (gH I L y) (fun v h' => v = [] ∧ ∃ I', h' = gH I' L y ∧ (∀ b, b ≠ 73 → b ≠ 160 → I' b = I b) ∧ (∀ j s, ¬ (j = k ∧ s = cN h p n) → I' 160 j s = I 160 j s) ∧ I' 160 k (cN h p n) = nI (gLb A R none k h p n (A 1))) (fun _ _ => False) := by
  have a1 := hA.2.1
  have a3 := hA.2.2.2.1
  have hc := cN_lt (show h < 25 by omega) hp hn
  have e1 := hl.1 1 (by decide)
  have e3 := hl.1 3 (by decide)
  have fr : ∀ x : Nat → Nat → Nat → Int32, (∀ b, b ≠ 73 → x b = I b) → cLd y.1 S A x ∧ cRl R ht x y := fun x hx => ⟨cLd_cg (fun b _ _ => hx b (by omega)) hl, cRl_cg (fun b _ => hx b (by omega)) hR⟩
  have at115 : ∀ (x : Nat → Nat → Nat → Int32) (B : Nat) (lo' : Lo), (∀ b, b ≠ 73 → x b = I b) → cNm (rNm A k h p n p 0) x → B = gLb A R none k h p n 0 → glle [some gG0, some (gI (nI (cN h p n))), some (gI (nI k)), some (gI (nI p)), some (gI (nI h)), some (gI (nI B)), some (gI (nI 0))] lo' → gT mX1_lawAt (d + ht + 5) (0, 0) (fun v h' => v = [] ∧ ∃ I', h' = gH I' L y ∧ (∀ b, b ≠ 73 → b ≠ 160 → I' b = I b) ∧ (∀ j s, ¬ (j = k ∧ s = cN h p n) → I' 160 j s = I 160 j s) ∧ I' 160 k (cN h p n) = nI (gLb A R none k h p n (A 1))) (fun _ _ => False) 115 lo' [] (gH x L y) (0, 0) := by
    intro x0 B lo' hx0 hnm0 hB hl'
    refine gT_for (σ := Nat → Nat → Nat → Int32) (pc := 115) (lo := fun w _ => [some gG0, some (gI (nI (cN h p n))), some (gI (nI k)), some (gI (nI p)), some (gI (nI h)), some (gI (nI (gLb A R none k h p n w))), some (gI (nI w))]) (hp := fun _ x => gH x L y) (Inv := fun _ x => (∀ b, b ≠ 73 → x b = I b) ∧ ∀ j, j < 6 → x 73 0 j = rNm A k h p n p 0 j) (A 1) ?_ ?_ 0 x0 (Nat.zero_le _) ⟨hx0, fun j hj => hnm0 j (by omega)⟩ (by rw [← hB]; exact hl')
    · intro x ⟨hx, _⟩
      refine gT_go 400 [115] kX1_lawAt ?_
      refine bGe (A 1) (A 1) rfl (by rw [← e1, ← hx 40 (by decide)] <;> rfl) (fun _ => ?_) (fun q => absurd q (by omega))
      refine Exists.intro (k) (And.intro rfl (And.intro (show _ < 5 by omega) ?_))
      refine Exists.intro (cN h p n) (And.intro rfl (And.intro (show _ < 3900 by omega) ?_))
      refine ⟨rfl, u3 x 160 k (cN h p n) (nI (gLb A R none k h p n (A 1))), rfl, fun b b1 b2 => (u3_ne1 b2).trans (hx b b1), fun j s q => (u3_ne (fun z => q z.2)).trans (by rw [hx 160 (by decide)]), u3_eq⟩
    · intro w x hw ⟨hx, hnm⟩ hnext
      obtain ⟨f1, f2⟩ := fr x hx
      have ee1 := f1.1 1 (by decide)
      have l9 := f1.2.2.2.2.2.2.2.2.1
      have hat := o_isAt (d + ht + 3) w p S (by omega) hp A hA x L y f1
      have hot := o_other (d + ht + 3) w p S (by omega) hp A hA x L y f1
      have at197 : ∀ (z : Nat → Nat → Nat → Int32) (B : Nat) (lo' : Lo), ((∀ b, b ≠ 73 → z b = I b) ∧ ∀ j, j < 6 → z 73 0 j = rNm A k h p n p 0 j) → B = gLb A R none k h p n (w + 1) → glle [some gG0, some (gI (nI (cN h p n))), some (gI (nI k)), some (gI (nI p)), some (gI (nI h)), some (gI (nI B)), some (gI (nI w))] lo' → gT mX1_lawAt (d + ht + 5) (0, 0) (fun v h' => v = [] ∧ ∃ I', h' = gH I' L y ∧ (∀ b, b ≠ 73 → b ≠ 160 → I' b = I b) ∧ (∀ j s, ¬ (j = k ∧ s = cN h p n) → I' 160 j s = I 160 j s) ∧ I' 160 k (cN h p n) = nI (gLb A R none k h p n (A 1))) (fun _ _ => False) 197 lo' [] (gH z L y) (0, 0) := by
        intro z B lo' hz hB hl'
        subst hB
        refine gT_lo _ hl' ?_
        refine gT_go 400 [115] kX1_lawAt ?_
        refine hnext z _ hz (by (repeat' apply And.intro) <;> first | rfl | trivial | exact congrArg Sum.inl (nI_1 _).symm | exact congrArg Sum.inl (nI_1 _).symm)
      refine gT_go 400 [115, 197] kX1_lawAt ?_
      refine bGe w (A 1) rfl ee1 (fun q => absurd q (by omega)) (fun _ => ?_)
      refine gP_use hat ?_
      refine bB1 (aAt A w p) rfl (fun c => ?_) (fun c => ?_)
      · refine gP_use hot ?_
        refine Exists.intro (6) (And.intro rfl (And.intro (show _ < 8 by omega) ?_))
        refine Exists.intro (w) (And.intro rfl (And.intro (show _ < 24 by omega) ?_))
        refine Exists.intro (h) (And.intro rfl (And.intro (show _ < 24 by omega) ?_))
        refine Exists.intro (7) (And.intro rfl (And.intro (show _ < 8 by omega) ?_))
        obtain ⟨z, hz⟩ : ∃ z, z = u3 (u3 x 73 0 6 (nI (aOth A w p))) 73 0 7 (x 54 (24 * y.1 + w) h) := ⟨_, rfl⟩
        have hzI : ∀ b, b ≠ 73 → z b = I b := fun b hb => by rw [hz, u3_ne1 hb, u3_ne1 hb]; exact hx b hb
        have hzn : cNm (rNm A k h p n (aOth A w p) (gSnA A w h)) z := by
          intro j hj
          rw [hz]
          rcases (show j < 6 ∨ j = 6 ∨ j = 7 by omega) with q | rfl | rfl
          · rw [u3_ne3 (by omega), u3_ne3 (by omega), hnm j q]
            match j, q with
            | 0, _ => rfl
            | 1, _ => rfl
            | 2, _ => rfl
            | 3, _ => rfl
            | 4, _ => rfl
            | 5, _ => rfl
            | j + 6, q => exact absurd q (by omega)
          · exact (u3_ne3 (by decide)).trans u3_eq
          · exact u3_eq.trans (l9 w h (by omega) (by omega))
        obtain ⟨g1, g2⟩ := fr z hzI
        have hho := o_holdsAll d ht true _ R z L y g2 hzn
        subst hz
        refine gP_use hho ?_
        refine bB0 (rHo R none true (rNm A k h p n (aOth A w p) (gSnA A w h))) rfl (fun c2 => ?_) (fun c2 => ?_)
        · refine at197 _ (gLb A R none k h p n w) _ ⟨hzI, fun j hj => ?_⟩ (by rw [gLb, c, c2] <;> rfl) (by (repeat' apply And.intro) <;> first | rfl | trivial | exact congrArg Sum.inl (nI_1 _).symm | exact congrArg Sum.inl (nI_1 _).symm)
          have q := hzn j (by omega)
          refine Eq.trans q ?_
          match j, hj with
          | 0, _ => rfl
          | 1, _ => rfl
          | 2, _ => rfl
          | 3, _ => rfl
          | 4, _ => rfl
          | 5, _ => rfl
          | j + 6, q => exact absurd q (by omega)
        · have hb := gLb_lt A R none k h p n w
          have ev : nI (gLb A R none k h p n w) ||| ((2 : Int32) <<< (nI w &&& 31)) = nI (gLb A R none k h p n w ||| 2 ^ (w + 1)) := by
            have hp2 : 2 ^ (w + 1) ≤ 2 ^ 25 := Nat.pow_le_pow_right (by decide) (by omega)
            have hsh : (2 : Int32) <<< (nI w &&& 31) = nI (2 ^ (w + 1)) := by
              have q := pk_shlN (n := 2) (nI w &&& 31) w (gs_l w (by omega)) (by rw [← Nat.pow_succ']; omega)
              rw [← Nat.pow_succ'] at q
              exact q
            rw [hsh, gIor]
          refine at197 _ (gLb A R none k h p n w ||| 2 ^ (w + 1)) _ ⟨hzI, fun j hj => ?_⟩ (by rw [gLb, c, c2] <;> rfl) ?_
          · have q := hzn j (by omega)
            refine Eq.trans q ?_
            match j, hj with
            | 0, _ => rfl
            | 1, _ => rfl
            | 2, _ => rfl
            | 3, _ => rfl
            | 4, _ => rfl
            | 5, _ => rfl
            | j + 6, q => exact absurd q (by omega)
          · exact ⟨rfl, rfl, rfl, rfl, rfl, congrArg (fun z => gI z) ev.symm, rfl, trivial⟩
      · exact at197 x (gLb A R none k h p n w) _ ⟨hx, hnm⟩ (by rw [gLb, c] <;> rfl) (by (repeat' apply And.intro) <;> first | rfl | trivial | exact congrArg Sum.inl (nI_1 _).symm | exact congrArg Sum.inl (nI_1 _).symm)
  have l5 := (hl.2.2.2.2.1 p hp).1
  have at70 : ∀ (z : Int32) (lo' : Lo), z = (if A (7 + p) = 1 then 1 else 0) → glle [some gG0, some (gI (nI (cN h p n))), some (gI (nI k)), some (gI (nI p)), some (gI (nI h)), some (gI 0), none] lo' → gT mX1_lawAt (d + ht + 5) (0, 0) (fun v h' => v = [] ∧ ∃ I', h' = gH I' L y ∧ (∀ b, b ≠ 73 → b ≠ 160 → I' b = I b) ∧ (∀ j s, ¬ (j = k ∧ s = cN h p n) → I' 160 j s = I 160 j s) ∧ I' 160 k (cN h p n) = nI (gLb A R none k h p n (A 1))) (fun _ _ => False) 70 lo' [gI z, gI 3, gNm] (gH (u3 (u3 (u3 I 73 0 0 (nI h)) 73 0 1 (I 40 y.1 3 - nI h)) 73 0 2 (nI n)) L y) (0, 0) := by
    intro z lo' hz hl'
    refine gT_lo _ hl' ?_
    refine gT_go 400 [101, 115] kX1_lawAt ?_
    refine Exists.intro (3) (And.intro rfl (And.intro (show _ < 8 by omega) ?_))
    refine Exists.intro (4) (And.intro rfl (And.intro (show _ < 8 by omega) ?_))
    refine Exists.intro (5) (And.intro rfl (And.intro (show _ < 8 by omega) ?_))
    refine Exists.intro (6) (And.intro rfl (And.intro (show _ < 8 by omega) ?_))
    refine Exists.intro (7) (And.intro rfl (And.intro (show _ < 8 by omega) ?_))
    have at101 : ∀ (x : Nat → Nat → Nat → Int32) (lo' : Lo), (∀ b, b ≠ 73 → x b = I b) → cNm (rNm A k h p n p 0) x → glle [some gG0, some (gI (nI (cN h p n))), some (gI (nI k)), some (gI (nI p)), some (gI (nI h)), some (gI 0), none] lo' → gT mX1_lawAt (d + ht + 5) (0, 0) (fun v h' => v = [] ∧ ∃ I', h' = gH I' L y ∧ (∀ b, b ≠ 73 → b ≠ 160 → I' b = I b) ∧ (∀ j s, ¬ (j = k ∧ s = cN h p n) → I' 160 j s = I 160 j s) ∧ I' 160 k (cN h p n) = nI (gLb A R none k h p n (A 1))) (fun _ _ => False) 101 lo' [] (gH x L y) (0, 0) := by
      intro x lo' hx hnm hl'
      obtain ⟨f1, f2⟩ := fr x hx
      have hho := o_holdsAll d ht false _ R x L y f2 hnm
      refine gT_lo _ hl' ?_
      refine gT_go 400 [112, 115] kX1_lawAt ?_
      refine gP_use hho ?_
      refine bB0 (rHo R none false (rNm A k h p n p 0)) rfl (fun c => ?_) (fun c => ?_)
      · refine gT_go 400 [115] kX1_lawAt ?_
        exact at115 x 0 _ hx hnm (by rw [gLb, c] <;> rfl) (by (repeat' apply And.intro) <;> first | rfl | trivial | exact congrArg Sum.inl (nI_1 _).symm | exact congrArg Sum.inl (nI_1 _).symm)
      · refine gT_go 400 [115] kX1_lawAt ?_
        exact at115 x 1 _ hx hnm (by rw [gLb, c] <;> rfl) (by (repeat' apply And.intro) <;> first | rfl | trivial | exact congrArg Sum.inl (nI_1 _).symm | exact congrArg Sum.inl (nI_1 _).symm)
    refine at101 (u3 (u3 (u3 (u3 (u3 (u3 (u3 (u3 I 73 0 0 (nI h)) 73 0 1 (I 40 y.1 3 - nI h)) 73 0 2 (nI n)) 73 0 3 z) 73 0 4 (nI k)) 73 0 5 (nI p)) 73 0 6 (nI p)) 73 0 7 0) _ (fun b hb => by rw [u3_ne1 hb, u3_ne1 hb, u3_ne1 hb, u3_ne1 hb, u3_ne1 hb, u3_ne1 hb, u3_ne1 hb, u3_ne1 hb]) (fun j hj => ?_) (by (repeat' apply And.intro) <;> first | rfl | trivial | exact congrArg Sum.inl (nI_1 _).symm | exact congrArg Sum.inl (nI_1 _).symm)
    match j, hj with
    | 0, _ => rfl
    | 1, _ => exact congrArg (fun q => q - nI h) e3
    | 2, _ => rfl
    | 3, _ => exact hz
    | 4, _ => rfl
    | 5, _ => rfl
    | 6, _ => rfl
    | 7, _ => rfl
    | j + 8, hj => exact absurd hj (by omega)
  refine gEnter 400 [70] kX1_lawAt rfl rfl ?_
  refine gP_use (o_placeOf (d + ht + 3) h p n (by omega) hp hn (gH I L y)) ?_
  refine gP_use (o_hourOf (d + ht + 3) h p n (by omega) hp hn (gH I L y)) ?_
  refine Exists.intro (0) (And.intro rfl (And.intro (show _ < 8 by omega) ?_))
  refine Exists.intro (1) (And.intro rfl (And.intro (show _ < 8 by omega) ?_))
  refine gP_use (o_storesOf (d + ht + 3) h p n (by omega) hp hn _) ?_
  refine Exists.intro (2) (And.intro rfl (And.intro (show _ < 8 by omega) ?_))
  refine Exists.intro (p) (And.intro rfl (And.intro (show _ < 12 by omega) ?_))
  refine bB0 (decide (A (7 + p) = 1)) l5 (fun c => ?_) (fun c => ?_)
  · exact at70 0 _ (if_neg (of_decide_eq_false c)).symm (by (repeat' apply And.intro) <;> first | rfl | trivial | exact congrArg Sum.inl (nI_1 _).symm | exact congrArg Sum.inl (nI_1 _).symm)
  · exact at70 1 _ (if_pos (of_decide_eq_true c)).symm (by (repeat' apply And.intro) <;> first | rfl | trivial | exact congrArg Sum.inl (nI_1 _).symm | exact congrArg Sum.inl (nI_1 _).symm)
