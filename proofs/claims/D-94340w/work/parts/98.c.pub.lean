/-! ===== public methods of the component: traps ===== -/
theorem pcn_0 : ∀ N n, n < 2 ^ N → pcn N n = 0 → n = 0 := by
  intro N
  induction N with
  | zero => intro n hn _; omega
  | succ N ih =>
    intro n hn h
    rw [pcn] at h
    have := ih (n / 2) (by rw [Nat.pow_succ] at hn; omega) (by omega)
    omega
theorem pcn_1 : ∀ N n, n < 2 ^ N → (pcn N n < 2 ↔ n &&& (n - 1) = 0) := by
  intro N
  induction N with
  | zero =>
    intro n hn
    have : n = 0 := by omega
    subst this
    exact ⟨fun _ => rfl, fun _ => by decide⟩
  | succ N ih =>
    intro n hn
    have hq : n / 2 < 2 ^ N := by rw [Nat.pow_succ] at hn; omega
    rw [pcn]
    rcases Nat.mod_two_eq_zero_or_one n with b | b
    · by_cases z : n / 2 = 0
      · have : n = 0 := by omega
        subst this
        exact ⟨fun _ => rfl, fun _ => by rw [show (0 : Nat) / 2 = 0 from rfl]; have := (ih 0 (by omega)).mpr rfl; omega⟩
      · have e1 : n = 0 + 2 ^ 1 * (n / 2) := by omega
        have e2 : n - 1 = 1 + 2 ^ 1 * (n / 2 - 1) := by omega
        have e3 : n &&& (n - 1) = 2 * (n / 2 &&& (n / 2 - 1)) := by
          have q := and_dg (k := 1) (x := 0) (y := 1) (X := n / 2) (Y := n / 2 - 1) (by decide) (by decide)
          rw [← e1, ← e2] at q
          rw [q]
          show (0 &&& 1) + 2 ^ 1 * _ = _
          simp
        rw [e3, b]
        have i := ih (n / 2) hq
        omega
    · have e1 : n = 1 + 2 ^ 1 * (n / 2) := by omega
      have e2 : n - 1 = 0 + 2 ^ 1 * (n / 2) := by omega
      have e3 : n &&& (n - 1) = 2 * (n / 2) := by
        have q := and_dg (k := 1) (x := 1) (y := 0) (X := n / 2) (Y := n / 2) (by decide) (by decide)
        rw [← e1, ← e2] at q
        rw [q, Nat.and_self]
        show (1 &&& 0) + 2 ^ 1 * _ = _
        simp
      rw [e3, b]
      constructor
      · intro h
        have := pcn_0 N (n / 2) hq (by omega)
        omega
      · intro h
        have z : n / 2 = 0 := by omega
        rw [z]
        have i := (ih 0 (by have := Nat.two_pow_pos N; omega)).mpr rfl
        have j : pcn N 0 = 0 := by
          clear ih i hq
          induction N with
          | zero => rfl
          | succ N ihn => rw [pcn, show (0 : Nat) / 2 = 0 from rfl, ihn (by omega)]
        omega
theorem gOneB_pcn {n : Nat} (hn : n < 2 ^ 31) : gOneB n = decide (pcn 32 n < 2) := by
  have h := pcn_1 32 n (by omega)
  unfold gOneB
  refine decide_eq_decide.mpr ?_
  rw [h]
  by_cases z : n = 0
  · subst z
    exact ⟨fun _ => rfl, fun _ => by decide⟩
  · rw [show nI n - 1 = nI (n - 1) from pk_sub (b := 1) (by omega), gIand]
    have le : n &&& (n - 1) ≤ n := Nat.and_le_left
    exact (nI_eq (a := n &&& (n - 1)) (b := 0) (by omega) (by decide))
set_option maxRecDepth 100000 in
theorem o_isTrap (d : Nat) (V : VS) (hw : gWf V) (hL : vL V = true) (h p n : Nat) (hh : h ≤ vA V 3) (hp : p < vA V 0) (hn : n ≤ vA V 4) (I : Nat → Nat → Nat → Int32) (L : Nat → Nat → Nat → Int64) (y : Dy) (H : cR V I L y) (kl : cKl (vA V) (vA V 4) (vR V) I L) :
    gP mX1_isTrap (d + 4) [gG0, gI (nI (cN h p n))] (gH I L y) (gI (gb (gTrp V (gP0 V) h p n))) := by
  have hS := vA4 hw
  have a0 := hw.1.1
  have a2 := hw.1.2.2.1
  have a3 := hw.1.2.2.2.1
  have hc := cN_lt (show h < 25 by omega) (show p < 12 by omega) (show n < 13 by omega)
  have hl := H.1.1
  refine gEnter 400 [] kX1_isTrap rfl rfl ?_
  refine gP_use (o_endedOf (d + 1) h p n (vA V 4) (by omega) (by omega) (by omega) (vA V) hw.1 I L y hl) ?_
  refine bNe (aEnd (vA V) h p n) 0 rfl rfl (fun e => ?_) (fun e => ?_) (by have := aEnd_lt (vA V) h p n; omega) (by decide)
  · exact ⟨Or.inl rfl, by unfold gTrp; rw [decide_eq_false e]; rfl, rfl⟩
  · have hh3 : h < vA V 3 := by have := (aEnd_0 e).2; omega
    have hle := (cLe_V hw hL H.1).use (d + 2) h (vA V 4) (by omega) hw.1 ((hw.2.1 hL).2.2.1) L y hl
    rw [cWho_V V h] at hle
    have hk := gP0_lt hw hh3
    obtain ⟨q1, q2, -⟩ := kl.lw hw.1 ((gP0 V).1 h) h p n hk hh3 hp hn e
    obtain ⟨k, ek⟩ : ∃ k, k = (gP0 V).1 h := ⟨_, rfl⟩
    rw [← ek] at hle hk q1 q2
    refine gP_use (o_hourOf (d + 2) h p n (by omega) (by omega) (by omega) (gH I L y)) ?_
    refine gP_use hle ?_
    refine Exists.intro (k) (And.intro rfl (And.intro (show _ < 5 by omega) ?_))
    refine Exists.intro (cN h p n) (And.intro rfl (And.intro (show _ < 3900 by omega) ?_))
    refine gP_use (gP_eq (by rw [← q1]) (p_bitCount (d + 2) _ (show gMw (vA V) (vR V) none k h p n < 2 ^ 31 by omega) (gH I L y))) ?_
    have eb := gOneB_pcn (show gMw (vA V) (vR V) none k h p n < 2 ^ 31 by omega)
    have pl := pcn_le 32 (gMw (vA V) (vR V) none k h p n)
    refine bGe (pcn 32 (gMw (vA V) (vR V) none k h p n)) 2 rfl rfl (fun c => ?_) (fun c => ?_)
    · exact ⟨Or.inl rfl, by unfold gTrp; rw [decide_eq_true e, ← ek, eb, decide_eq_false (by omega)]; rfl, rfl⟩
    · exact ⟨Or.inr rfl, by unfold gTrp; rw [decide_eq_true e, ← ek, eb, decide_eq_true (by omega)]; rfl, rfl⟩
set_option maxRecDepth 100000 in
theorem c2_trap (V : VS) (hw : gWf V) (a b c : Int32) : cC mX1_trap 608 (2, 12) [38, 39] [gI a, gI b, gI c] V (xTrap V a b c) := by
  intro d I L y H
  obtain ⟨o, ho⟩ : ∃ o, o = xTrap V a b c := ⟨_, rfl⟩
  rw [← ho]
  refine gEnter 400 [4] kX1_trap rfl rfl ?_
  refine gT_cx 361 (2, 12) rfl rfl rfl rfl rfl dX1_trap_4 (o_stateAt (d + 600) V hw a b c I L y H) rfl (by decide) (by decide) (fun q h' hx => cX_st (c1 := 1) (c2 := 0) (fun e => by rw [ho]; unfold xTrap; rw [e]; exact ⟨rfl, rfl⟩) (fun g e => by rw [ho]; unfold xTrap; rw [g, e]; exact ⟨rfl, rfl⟩) rfl rfl hx) (fun v h' q => ?_)
  obtain ⟨g1, g2, rfl, rfl⟩ := q
  obtain ⟨p, h, n, rfl, rfl, rfl, b1, b2, b3, t1, t2, t3⟩ := gIsS_n hw.1 g2
  rw [t1, t2, t3]
  refine gT_go 400 [] kX1_trap ?_
  refine gTM_use rfl (o_findLawV (d + 1) V hw g1 I L y H) (fun v h' q => ?_)
  obtain ⟨rfl, I', L', rfl, fr, H', kl⟩ := q
  refine gP_use (o_isTrap (d + 603) V hw g1 h p n b2 b1 b3 I' L' y H' kl) ?_
  refine ⟨?_, cDone (by rw [ho]; unfold xTrap; rw [g1, g2, t1, t2, t3]; exact ⟨rfl, rfl, rfl⟩) fr.out H'⟩
  cases gTrp V (gP0 V) h p n
  · exact Or.inl rfl
  · exact Or.inr rfl
set_option maxRecDepth 100000 in
theorem c2_force (V : VS) (hw : gWf V) (a b c : Int32) : cC mX1_force 608 (2, 12) [38, 39] [gI a, gI b, gI c] V (xForce V a b c) := by
  intro d I L y H
  obtain ⟨o, ho⟩ : ∃ o, o = xForce V a b c := ⟨_, rfl⟩
  rw [← ho]
  refine gEnter 400 [4] kX1_force rfl rfl ?_
  refine gT_cx 361 (2, 12) rfl rfl rfl rfl rfl dX1_force_4 (o_stateAt (d + 600) V hw a b c I L y H) rfl (by decide) (by decide) (fun q h' hx => cX_st (c1 := 1) (c2 := 0) (fun e => by rw [ho]; unfold xForce; rw [e]; exact ⟨rfl, rfl⟩) (fun g e => by rw [ho]; unfold xForce; rw [g, e]; exact ⟨rfl, rfl⟩) rfl rfl hx) (fun v h' q => ?_)
  obtain ⟨g1, g2, rfl, rfl⟩ := q
  obtain ⟨p, h, n, rfl, rfl, rfl, b1, b2, b3, t1, t2, t3⟩ := gIsS_n hw.1 g2
  rw [t1, t2, t3]
  have hA := hw.2.1 g1
  have hS := vA4 hw
  have a0 := hw.1.1
  have a1 := hw.1.2.1
  have a2 := hw.1.2.2.1
  have a3 := hw.1.2.2.2.1
  refine gT_go 400 [40] kX1_force ?_
  refine gTM_use rfl (o_findLawV (d + 1) V hw g1 I L y H) (fun v h' q => ?_)
  obtain ⟨rfl, I', L', rfl, fr, H', kl⟩ := q
  have hl' := H'.1.1
  refine gP_use (o_endedOf (d + 605) h p n (vA V 4) (by omega) (by omega) (by omega) (vA V) hw.1 I' L' y hl') ?_
  refine bEq (aEnd (vA V) h p n) 0 rfl rfl (fun e => ?_) (fun e => ?_) (by have := aEnd_lt (vA V) h p n; omega) (by decide)
  · have hh3 : h < vA V 3 := by have := (aEnd_0 e).2; omega
    have hn0 := (aEnd_0 e).1
    have hle := (cLe_V hw g1 H'.1).use (d + 606) h (vA V 4) (by omega) hw.1 hA.2.2.1 L' y hl'
    rw [cWho_V V h] at hle
    have hk := gP0_lt hw hh3
    have q := kl.lw hw.1 ((gP0 V).1 h) h p n hk hh3 b1 b3 e
    refine gP_use hle ?_
    have hB : xMay V (gP0 V) h p n < 2 ^ 31 := gMv_lt q.2.1
    have hmay : gP mX1_mayOf (d + 606 + 1) [gG0, gI (nI ((gP0 V).1 h)), gI (nI (cN h p n))] (gH I' L' y) (gI (nI (xMay V (gP0 V) h p n))) := o_mayOf (d + 606) ((gP0 V).1 h) h p n _ (by omega) (by omega) (by omega) (by omega) (by have := q.2.1; omega) I' L' y q.1
    refine gP_use hmay ?_
    refine gT_for (σ := Unit) (pc := 40) (lo := fun i _ => [some gG0, none, none, none, some (gI (nI (cN h p n))), some (gI (nI (xMay V (gP0 V) h p n))), some (gI (nI i))]) (hp := fun _ _ => gH I' L' y) (Inv := fun i _ => ∀ j, j < i → cForce V h p n j = false) (vA V 1 + 1) ?_ ?_ 0 () (Nat.zero_le _) (fun j hj => absurd hj (Nat.not_lt_zero _)) (by (repeat' apply And.intro) <;> first | rfl | trivial | exact congrArg Sum.inl (nI_1 _).symm | exact congrArg Sum.inl (nI_1 _).symm)
    · intro _ hi
      refine gT_go 400 [40] kX1_force ?_
      refine bGt (vA V 1 + 1) (vA V 1) rfl (hl'.1 1 (by decide)) (fun _ => ?_) (fun q => absurd q (by omega))
      exact cDone (by rw [ho]; unfold xForce; rw [g1, g2, t1, t2, t3, if_pos e, gFst_none _ hi]; exact ⟨rfl, rfl, rfl⟩) fr.out H'
    · intro i _ hi hv hnext
      refine gT_go 400 [40, 81] kX1_force ?_
      refine bGt i (vA V 1) rfl (hl'.1 1 (by decide)) (fun q => absurd q (by omega)) (fun _ => ?_)
      have hbit : (nI (xMay V (gP0 V) h p n) >>> (nI i &&& 31)) &&& 1 = gb ((xMay V (gP0 V) h p n).testBit i) := gbit hB (by omega)
      have at81 : ∀ (lo' : Lo), cForce V h p n i = false → glle [some gG0, none, none, none, some (gI (nI (cN h p n))), some (gI (nI (xMay V (gP0 V) h p n))), some (gI (nI i))] lo' → gT mX1_force (d + 608) (2, 12) (cQr o I L) (cQx [38, 39] o I L) 81 lo' [] (gH I' L' y) (2, 12) := by
        intro lo' hf hl2
        refine gT_lo _ hl2 ?_
        refine gT_go 400 [40] kX1_force ?_
        refine hnext () _ (fun j hj => ?_) (by (repeat' apply And.intro) <;> first | rfl | trivial | exact congrArg Sum.inl (nI_1 _).symm | exact congrArg Sum.inl (nI_1 _).symm)
        rcases Nat.lt_or_ge j i with q | q
        · exact hv j q
        · rw [show j = i by omega]; exact hf
      cases hbt : (xMay V (gP0 V) h p n).testBit i with
      | false =>
        rw [hbt] at hbit
        refine And.intro (fun _ => ?_) (fun q => absurd (hbit.symm.trans q) (by decide))
        exact at81 _ (by unfold cForce; rw [hbt] <;> rfl) (by (repeat' apply And.intro) <;> first | rfl | trivial | exact congrArg Sum.inl (nI_1 _).symm | exact congrArg Sum.inl (nI_1 _).symm)
      | true =>
        rw [hbt] at hbit
        refine And.intro (fun q => absurd hbit q) (fun _ => ?_)
        have hg := gGo_ltR hA (show i ≤ vA V 1 by omega) b1
        refine gP_use (o_behind (d + 605) h p n i (vA V 4) (by omega) (by omega) (by omega) hn0 (by omega) hS (vA V) hw.1 I' L' y hl') ?_
        refine gP_use (o_isTrap (d + 603) V hw g1 (h + 1) (gGo (vA V) i p) (aNx (vA V) (vA V 4) n (gGo (vA V) i p)) (by omega) hg (aNx_le b3) I' L' y H' kl) ?_
        refine bB0 (gTrp V (gP0 V) (h + 1) (gGo (vA V) i p) (aNx (vA V) (vA V 4) n (gGo (vA V) i p))) rfl (fun c => ?_) (fun c => ?_)
        · exact at81 _ (by unfold cForce; rw [hbt, c] <;> rfl) (by (repeat' apply And.intro) <;> first | rfl | trivial | exact congrArg Sum.inl (nI_1 _).symm | exact congrArg Sum.inl (nI_1 _).symm)
        · have hf : cForce V h p n i = true := by unfold cForce; rw [hbt, c] <;> rfl
          exact cDone (by rw [ho]; unfold xForce; rw [g1, g2, t1, t2, t3, if_pos e, gFst_some hf hv _ hi]; exact ⟨rfl, rfl, rfl⟩) fr.out H'
  · exact cDone (by rw [ho]; unfold xForce; rw [g1, g2, t1, t2, t3, if_neg e]; exact ⟨rfl, rfl, rfl⟩) fr.out H'
