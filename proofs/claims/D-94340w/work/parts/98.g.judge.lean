/-! ===== public methods of the component: rows are judged ===== -/
set_option maxRecDepth 100000 in
theorem c2_judge (V : VS) (hw : gWf V) : cC mX1_judge 608 (1, 6) [39] [] V (xJudge V) := by
  intro d I L y H
  obtain ⟨o, ho⟩ : ∃ o, o = xJudge V := ⟨_, rfl⟩
  rw [← ho]
  have hS := vA4 hw
  have a0 := hw.1.1
  have a1 := hw.1.2.1
  have a2 := hw.1.2.2.1
  have a3 := hw.1.2.2.2.1
  obtain ⟨N, w1, w2, w3⟩ := hw.2.2.2.1.2.2.2.2.2.2
  refine gEnter 400 [1] kX1_judge rfl rfl ?_
  refine gT_gate 287 (1, 6) rfl rfl rfl rfl rfl dX1_judge_1 (o_mustLand (d + 601) V I L y H) rfl (by decide) (by decide) (fun q h' hx => cX_of (c := 0) (fun e => by rw [ho]; unfold xJudge; rw [e]; exact ⟨rfl, rfl⟩) rfl hx) (fun g1 => ?_)
  have hA := hw.2.1 g1
  refine gT_go 400 [15] kX1_judge ?_
  refine gTM_use rfl (o_findLawV (d + 1) V hw g1 I L y H) (fun v h' q => ?_)
  obtain ⟨rfl, I', L', rfl, fr, H', kl⟩ := q
  have hl' := H'.1.1
  have e8 : I' 20 0 8 = nI N := H'.1.2.2.1.2.2.2.2.1.trans w1
  have e24 : ∀ k, k < N → I' 24 0 k = nI (sRow (vS V) k) ∧ sRow (vS V) k ≤ vA V 1 := fun k hk => by
    obtain ⟨m, m1, m2⟩ := w3 k hk
    have e : sRow (vS V) k = m := by unfold sRow; rw [m1]; exact gTo_n (by omega)
    rw [e]
    exact ⟨(H'.1.2.2.1.2.2.2.2.2.1 N k w1 w2 hk).trans m1, m2⟩
  have fin : ∀ r : Int32, r = jJu (vA V) (vA V 4) (xMay V (gP0 V)) (sRow (vS V)) N 0 (vA V 6) (vA V 4) → o.1 = 0 ∧ [gI r] = [o.2.1] ∧ cEnd o.2.2 I L (gH I' L' y) := by
    intro r hr
    exact cDone (by rw [ho]; unfold xJudge; rw [g1, w1, gTo_n (by omega), hr]; exact ⟨rfl, rfl, rfl⟩) fr.out H'
  have loop : ∀ (f k p n : Nat) (lo' : Lo), k + f = N → p < vA V 0 → n ≤ vA V 4 → (0 < f → k ≤ vA V 3) → jJu (vA V) (vA V 4) (xMay V (gP0 V)) (sRow (vS V)) f k p n = jJu (vA V) (vA V 4) (xMay V (gP0 V)) (sRow (vS V)) N 0 (vA V 6) (vA V 4) → glle [some gG0, some (gI (nI (cN k p n))), some (gI (nI k))] lo' → gT mX1_judge (d + 608) (1, 6) (cQr o I L) (cQx [39] o I L) 15 lo' [] (gH I' L' y) (1, 6) := by
    intro f
    induction f with
    | zero =>
      intro k p n lo' hk b1 b3 hk3 hR hl2
      refine gT_lo _ hl2 ?_
      refine gT_go 400 [15] kX1_judge ?_
      refine bGe k N rfl e8 (fun _ => ?_) (fun q => absurd q (by omega))
      exact fin _ (by rw [← hR] <;> rfl)
    | succ f ih =>
      intro k p n lo' hk b1 b3 hk3 hR hl2
      have b2 := hk3 (Nat.succ_pos f)
      rw [jJu] at hR
      refine gT_lo _ hl2 ?_
      refine gT_go 400 [15] kX1_judge ?_
      refine bGe k N rfl e8 (fun q => absurd q (by omega)) (fun _ => ?_)
      refine gP_use (o_endedOf (d + 605) k p n (vA V 4) (by omega) (by omega) (by omega) (vA V) hw.1 I' L' y hl') ?_
      refine bEq (aEnd (vA V) k p n) 0 rfl rfl (fun e => ?_) (fun e => ?_) (by have := aEnd_lt (vA V) k p n; omega) (by decide)
      · rw [if_pos e] at hR
        have hh3 : k < vA V 3 := by have := (aEnd_0 e).2; omega
        have hn0 := (aEnd_0 e).1
        have hle := (cLe_V hw g1 H'.1).use (d + 606) k (vA V 4) (by omega) hw.1 hA.2.2.1 L' y hl'
        rw [cWho_V V k] at hle
        have hkk := gP0_lt hw hh3
        have q := kl.lw hw.1 ((gP0 V).1 k) k p n hkk hh3 b1 b3 e
        have hB : xMay V (gP0 V) k p n < 2 ^ 31 := gMv_lt q.2.1
        have hmay : gP mX1_mayOf (d + 606 + 1) [gG0, gI (nI ((gP0 V).1 k)), gI (nI (cN k p n))] (gH I' L' y) (gI (nI (xMay V (gP0 V) k p n))) := o_mayOf (d + 606) ((gP0 V).1 k) k p n _ (by omega) (by omega) (by omega) (by omega) (by have := q.2.1; omega) I' L' y q.1
        obtain ⟨r1, r2⟩ := e24 k (by omega)
        have hbit : (nI (xMay V (gP0 V) k p n) >>> (I' 24 0 k &&& 31)) &&& 1 = gb ((xMay V (gP0 V) k p n).testBit (sRow (vS V) k)) := by rw [r1]; exact gbit hB (by omega)
        refine gP_use (o_hourOf (d + 606) k p n (by omega) (by omega) (by omega) (gH I' L' y)) ?_
        refine gP_use hle ?_
        refine gP_use hmay ?_
        refine Exists.intro (k) (And.intro rfl (And.intro (show _ < 24 by omega) ?_))
        refine bB1 ((xMay V (gP0 V) k p n).testBit (sRow (vS V) k)) hbit (fun c => ?_) (fun c => ?_)
        · rw [c] at hR
          refine Exists.intro (k) (And.intro rfl (And.intro (show _ < 24 by omega) ?_))
          refine gP_use (gP_eq (by rw [← r1]) (o_behind (d + 605) k p n (sRow (vS V) k) (vA V 4) (by omega) (by omega) (by omega) hn0 (by omega) hS (vA V) hw.1 I' L' y hl')) ?_
          exact ih (k + 1) (gGo (vA V) (sRow (vS V) k) p) (aNx (vA V) (vA V 4) n (gGo (vA V) (sRow (vS V) k) p)) _ (by omega) (gGo_ltR hA r2 b1) (aNx_le b3) (fun _ => by omega) hR (by (repeat' apply And.intro) <;> first | rfl | trivial | exact congrArg Sum.inl (nI_1 _).symm | exact congrArg Sum.inl (nI_1 _).symm)
        · rw [c] at hR
          refine fin _ (Eq.trans ?_ hR)
          show nI 10 * nI k + nI 1 = nI (10 * k + 1)
          rw [pk_mul, nI_add]
      · rw [if_neg e] at hR
        refine fin _ (Eq.trans ?_ hR)
        show nI 10 * nI k + nI 2 = nI (10 * k + 2)
        rw [pk_mul, nI_add]
  refine gP_use (o_begin (d + 605) V I' L' y hl') ?_
  exact loop N 0 (vA V 6) (vA V 4) _ (by omega) hA.2.2.2.2.2.1 (Nat.le_refl _) (fun _ => Nat.zero_le _) rfl (by (repeat' apply And.intro) <;> first | rfl | trivial | exact congrArg Sum.inl (nI_1 _).symm | exact congrArg Sum.inl (nI_1 _).symm)
set_option maxRecDepth 100000 in
theorem c2_proof (V : VS) (hw : gWf V) (a : Int32) : cC mX1_proof 608 (2, 12) [57, 39] [gI a] V (xProof V a) := by
  intro d I L y H
  obtain ⟨o, ho⟩ : ∃ o, o = xProof V a := ⟨_, rfl⟩
  rw [← ho]
  have hS := vA4 hw
  have a0 := hw.1.1
  have a1 := hw.1.2.1
  have a2 := hw.1.2.2.1
  have a3 := hw.1.2.2.2.1
  obtain ⟨N, w1, w2, w3⟩ := hw.2.2.2.1.2.2.2.2.2.2
  refine gEnter 400 [1] kX1_proof rfl rfl ?_
  refine gT_gate 287 (1, 6) rfl rfl rfl rfl rfl dX1_proof_1 (o_mustLand (d + 601) V I L y H) rfl (by decide) (by decide) (fun q h' hx => cX_of (c := 1) (fun e => by rw [ho]; unfold xProof; rw [e]; exact ⟨rfl, rfl⟩) rfl hx) (fun g1 => ?_)
  have hA := hw.2.1 g1
  refine gT_go 400 [6] kX1_proof ?_
  refine gT_gate 266 (2, 12) rfl rfl rfl rfl rfl dX1_proof_6 (o_mustPerson (d + 601) V a I L y H) rfl (by decide) (by decide) (fun q h' hx => cX_of (c := 0) (fun e => by rw [ho]; unfold xProof; rw [g1, e]; exact ⟨rfl, rfl⟩) rfl hx) (fun g2 => ?_)
  obtain ⟨k, rfl, hk⟩ := gWi_n rfl (by omega) g2
  have ek : gTo (nI k) = k := gTo_n (by omega)
  refine gT_go 400 [20] kX1_proof ?_
  refine gTM_use rfl (o_findAloneV d V hw g1 I L y H) (fun v h' q => ?_)
  obtain ⟨rfl, I', L', rfl, fr, H', kl, ka⟩ := q
  have hl' := H'.1.1
  have e8 : I' 20 0 8 = nI N := H'.1.2.2.1.2.2.2.2.1.trans w1
  have e24 : ∀ k, k < N → I' 24 0 k = nI (sRow (vS V) k) ∧ sRow (vS V) k ≤ vA V 1 := fun k hk => by
    obtain ⟨m, m1, m2⟩ := w3 k hk
    have e : sRow (vS V) k = m := by unfold sRow; rw [m1]; exact gTo_n (by omega)
    rw [e]
    exact ⟨(H'.1.2.2.1.2.2.2.2.2.1 N k w1 w2 hk).trans m1, m2⟩
  obtain ⟨r, hr⟩ : ∃ r, r = wAt (vA V) (vA V 4) (gMw (vA V) (vR V) none) k := ⟨_, rfl⟩
  have gbe : ∀ h p n m, h < vA V 3 → p < vA V 0 → n ≤ vA V 4 → m ≤ vA V 1 → gBr (vA V) (vA V 4) (gSn (vA V) h) (vw (fun s => L' 162 k s)) h p n m = gBr (vA V) (vA V 4) (gSn (vA V) h) r h p n m := by
    intro h p n m b2 b1 b3 bm
    refine gBr_cgR hA b3 b1 bm (fun t j ht hj => ?_)
    rw [vw_s (by omega) (by omega), hr]
    exact ka.w hA hS hk (by omega) ht hj
  obtain ⟨R, hRd⟩ : ∃ R, R = jPr (vA V) (vA V 4) (xMy V k) r (sRow (vS V)) N (vA V 3) 0 (vA V 6) (vA V 4) := ⟨_, rfl⟩
  have fin : ∀ z : Int32, z = R → o.1 = 0 ∧ [gI z] = [o.2.1] ∧ cEnd o.2.2 I L (gH I' L' y) := by
    intro z hz
    exact cDone (by rw [ho]; unfold xProof; rw [g1, g2, w1, ek, gTo_n (show N < 2 ^ 31 by omega), ← hr, hz, hRd]; exact ⟨rfl, rfl, rfl⟩) fr.out H'
  have loop : ∀ (f h p n : Nat) (lo' : Lo), h + f = vA V 3 → p < vA V 0 → n ≤ vA V 4 → jPr (vA V) (vA V 4) (xMy V k) r (sRow (vS V)) N f h p n = R → glle [some gG0, some (gI (nI k)), some (gI (nI (cN h p n))), some (gI (nI h)), none, none] lo' → gT mX1_proof (d + 608) (2, 12) (cQr o I L) (cQx [57, 39] o I L) 20 lo' [] (gH I' L' y) (2, 12) := by
    intro f
    induction f with
    | zero =>
      intro h p n lo' hk b1 b3 hR hl2
      have e : ¬ aEnd (vA V) h p n = 0 := fun e => (aEnd_0 e).2 (by omega)
      refine gT_lo _ hl2 ?_
      refine gT_go 400 [20] kX1_proof ?_
      refine gP_use (o_endedOf (d + 605) h p n (vA V 4) (by omega) (by omega) (by omega) (vA V) hw.1 I' L' y hl') ?_
      refine bNe (aEnd (vA V) h p n) 0 rfl rfl (fun _ => ?_) (fun q => absurd q e) (by have := aEnd_lt (vA V) h p n; omega) (by decide)
      exact fin _ (by rw [← hR] <;> rfl)
    | succ f ih =>
      intro h p n lo' hk3 b1 b3 hR hl2
      rw [jPr] at hR
      refine gT_lo _ hl2 ?_
      refine gT_go 400 [78] kX1_proof ?_
      refine gP_use (o_endedOf (d + 605) h p n (vA V 4) (by omega) (by omega) (by omega) (vA V) hw.1 I' L' y hl') ?_
      refine bNe (aEnd (vA V) h p n) 0 rfl rfl (fun e => ?_) (fun e => ?_) (by have := aEnd_lt (vA V) h p n; omega) (by decide)
      · rw [if_neg e] at hR
        exact fin _ (by rw [← hR] <;> rfl)
      · rw [if_pos e] at hR
        have hh3 : h < vA V 3 := by omega
        have hn0 := (aEnd_0 e).1
        have q := kl.lw hw.1 k h p n hk hh3 b1 b3 e
        have hB : xMy V k h p n < 2 ^ 31 := gMv_lt q.2.1
        obtain ⟨m0, m1, m2⟩ := q.2.2
        have hmay : gP mX1_mayOf (d + 606 + 1) [gG0, gI (nI k), gI (nI (cN h p n))] (gH I' L' y) (gI (nI (xMy V k h p n))) := o_mayOf (d + 606) k h p n _ (by omega) (by omega) (by omega) (by omega) (by have := q.2.1; omega) I' L' y q.1
        obtain ⟨mv, hmv⟩ : ∃ mv, mv = jPm (xMy V k) (sRow (vS V)) N h p n := ⟨_, rfl⟩
        rw [← hmv] at hR
        have at78 : ∀ (z : Int32) (lo' : Lo), z = nI mv → mv ≤ vA V 1 → glle [some gG0, some (gI (nI k)), some (gI (nI (cN h p n))), some (gI (nI h)), some (gI (nI (xMy V k h p n))), none] lo' → gT mX1_proof (d + 608) (2, 12) (cQr o I L) (cQx [57, 39] o I L) 78 lo' [gI z] (gH I' L' y) (2, 12) := by
          intro z lo' hz hm hl3
          subst hz
          have hx : gXb (xMy V k h p n) (gBr (vA V) (vA V 4) (gSn (vA V) h) (vw (fun s => L' 162 k s)) h p n) (vA V 1) = gXb (xMy V k h p n) (gBr (vA V) (vA V 4) (gSn (vA V) h) r h p n) (vA V 1) := gXb_cg (fun m hm => gbe h p n m hh3 b1 b3 hm)
          have ht := o_takes_31 (d + 603) 0 k (xMy V k h p n) h p n (vA V 4) (fun s => L' 162 k s) hB (vA V) hw.1 hh3 (by omega) (by omega) hn0 hS I' L' y hl' (o_own (d + 603) k 0 (by omega) I' L' y)
          have hx2 : gXb (gMv (gMw (vA V) (vR V) none k h p n)) (gBr (vA V) (vA V 4) (gSn (vA V) h) (vw (fun s => L' 162 k s)) h p n) (vA V 1) = _ := hx
          rw [show xMy V k h p n = gMv (gMw (vA V) (vR V) none k h p n) from rfl, (gXb_bit (v := gBr (vA V) (vA V 4) (gSn (vA V) h) (vw (fun s => L' 162 k s)) h p n) m2 m1).1, hx2] at ht
          have hle := gXb_le (xMy V k h p n) (gBr (vA V) (vA V 4) (gSn (vA V) h) r h p n) (vA V 1)
          obtain ⟨b, hb⟩ : ∃ b, b = gXb (xMy V k h p n) (gBr (vA V) (vA V 4) (gSn (vA V) h) r h p n) (vA V 1) := ⟨_, rfl⟩
          rw [← hb] at ht hle hR
          have hw1 := o_weighs_31 (d + 604) 0 k h p n b (vA V 4) (fun s => L' 162 k s) (vA V) hw.1 hh3 (by omega) (by omega) hn0 hle hS I' L' y hl' (o_own (d + 604) k 0 (by omega) I' L' y)
          have hw2 := o_weighs_31 (d + 604) 0 k h p n mv (vA V 4) (fun s => L' 162 k s) (vA V) hw.1 hh3 (by omega) (by omega) hn0 hm hS I' L' y hl' (o_own (d + 604) k 0 (by omega) I' L' y)
          rw [gbe h p n b hh3 b1 b3 hle] at hw1
          rw [gbe h p n mv hh3 b1 b3 hm] at hw2
          refine gT_lo _ hl3 ?_
          refine gT_go 400 [20] kX1_proof ?_
          refine gP_use ht ?_
          refine gP_use hw1 ?_
          refine gP_use hw2 ?_
          refine bcLe (fun c => ?_) (fun c => ?_)
          · rw [if_neg c] at hR
            refine gP_use (o_behind (d + 605) h p n mv (vA V 4) (by omega) (by omega) (by omega) hn0 (by omega) hS (vA V) hw.1 I' L' y hl') ?_
            exact ih (h + 1) (gGo (vA V) mv p) (aNx (vA V) (vA V 4) n (gGo (vA V) mv p)) _ (by omega) (gGo_ltR hA hm b1) (aNx_le b3) hR (by (repeat' apply And.intro) <;> first | rfl | trivial | exact congrArg Sum.inl (nI_1 _).symm | exact congrArg Sum.inl (nI_1 _).symm)
          · rw [if_pos c] at hR
            exact fin _ hR
        refine gP_use hmay ?_
        refine bGe h N rfl e8 (fun c => ?_) (fun c => ?_)
        · have em : mv = 0 := by rw [hmv]; unfold jPm; rw [show Nat.blt h N = false from by rw [Bool.eq_false_iff]; exact fun z => by have := Nat.blt_eq.mp z; omega] <;> rfl
          exact at78 _ _ (by rw [em] <;> rfl) (by omega) (by (repeat' apply And.intro) <;> first | rfl | trivial | exact congrArg Sum.inl (nI_1 _).symm | exact congrArg Sum.inl (nI_1 _).symm)
        · obtain ⟨r1, r2⟩ := e24 h c
          have hbl : Nat.blt h N = true := Nat.blt_eq.mpr c
          have hbit : (nI (xMy V k h p n) >>> (I' 24 0 h &&& 31)) &&& 1 = gb ((xMy V k h p n).testBit (sRow (vS V) h)) := by rw [r1]; exact gbit hB (by omega)
          refine Exists.intro (h) (And.intro rfl (And.intro (show _ < 24 by omega) ?_))
          cases hbt : (xMy V k h p n).testBit (sRow (vS V) h) with
          | false =>
            rw [hbt] at hbit
            refine And.intro (fun _ => ?_) (fun q => absurd (hbit.symm.trans q) (by decide))
            have em : mv = 0 := by rw [hmv]; unfold jPm; rw [hbl, hbt] <;> rfl
            exact at78 _ _ (by rw [em] <;> rfl) (by omega) (by (repeat' apply And.intro) <;> first | rfl | trivial | exact congrArg Sum.inl (nI_1 _).symm | exact congrArg Sum.inl (nI_1 _).symm)
          | true =>
            rw [hbt] at hbit
            refine And.intro (fun q => absurd hbit q) (fun _ => ?_)
            have em : mv = sRow (vS V) h := by rw [hmv]; unfold jPm; rw [hbl, hbt] <;> rfl
            refine Exists.intro (h) (And.intro rfl (And.intro (show _ < 24 by omega) ?_))
            exact at78 _ _ (by rw [em]; exact r1) (by omega) (by (repeat' apply And.intro) <;> first | rfl | trivial | exact congrArg Sum.inl (nI_1 _).symm | exact congrArg Sum.inl (nI_1 _).symm)
  refine gP_use (o_begin (d + 605) V I' L' y hl') ?_
  exact loop (vA V 3) 0 (vA V 6) (vA V 4) _ (by omega) hA.2.2.2.2.2.1 (Nat.le_refl _) hRd.symm (by (repeat' apply And.intro) <;> first | rfl | trivial | exact congrArg Sum.inl (nI_1 _).symm | exact congrArg Sum.inl (nI_1 _).symm)
