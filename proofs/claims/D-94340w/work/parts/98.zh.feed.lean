/-! ===== public methods of the component: texts are fed ===== -/
theorem gNw59 {I : Nat → Nat → Nat → Int32} {L : Nat → Nat → Nat → Int64} {y : Dy} : ∃ y1 : Dy, gNw (gH I L y) 59 5 = gH (fNw I 0 59 (y.2.2.2.2 59)) (fNw L 0 59 (y.2.2.2.2 59)) y1 ∧ y1.1 = y.1 ∧ y1.2.1 = y.2.1 ∧ (∀ b, gRX y1 b = gRX y b ∨ b = 59) ∧ (∀ b, gNX y1 b = gNX y b ∨ b = 59) ∧ ∀ b, b ≠ 59 → y1.2.2.2.2 b = y.2.2.2.2 b := by
  have rw9 : ∀ b i k, b ≠ 59 → hR (gNw (gH I L y) 59 5) b i k = gRX y b i k := fun b i k hb => gNw_R (fun z => hb z.1)
  have nw9 : ∀ b i, b ≠ 59 → hN (gNw (gH I L y) 59 5) b i = gNX y b i := fun b i hb => gNw_N (fun z => hb z.1)
  refine ⟨(y.1, y.2.1, hR (gNw (gH I L y) 59 5), hN (gNw (gH I L y) 59 5), hC (gNw (gH I L y) 59 5)), ?_, rfl, rfl, fun b => ?_, fun b => ?_, fun b hb => gNw_C hb⟩
  · refine gRaw (R := hR (gNw (gH I L y) 59 5)) (N := hN (gNw (gH I L y) 59 5)) (C := hC (gNw (gH I L y) 59 5)) (fun b f q i k => ?_) (fun b n q i => ?_)
    · have q' : glk (gRt y) b = some f := q
      have hb : b ≠ 59 := fun z => by subst z; cases q'
      rw [rw9 b i k hb]
      unfold gRX
      rw [q']
    · by_cases hb : b = 59
      · subst hb
        cases q
        by_cases e : i = y.2.2.2.2 59
        · subst e; exact gNw_N0
        · exact (gNw_N (fun z => e z.2)).trans rfl
      · rw [nw9 b i hb]
        unfold gNX
        rw [q]
  · by_cases hb : b = 59
    · exact Or.inr hb
    · refine Or.inl ?_
      funext i k
      show (match glk (gRt y) b with | some f => f i k | none => hR (gNw (gH I L y) 59 5) b i k) = gRX y b i k
      rw [rw9 b i k hb]
      unfold gRX
      cases glk (gRt y) b <;> rfl
  · by_cases hb : b = 59
    · exact Or.inr hb
    · refine Or.inl ?_
      funext i
      show (match glk gNt b with | some n => n | none => hN (gNw (gH I L y) 59 5) b i) = gNX y b i
      rw [nw9 b i hb]
      unfold gNX
      cases glk gNt b <;> rfl
theorem gBy_of (v : Int32) : v.toInt8.toInt32.toInt8.toInt32 = gBy (v.toBitVec.toNat % 2 ^ 8) := by
  unfold gBy
  refine congrArg Int8.toInt32 ?_
  rw [Int8.toInt8_toInt32]
  apply Int8.toBitVec_inj.mp
  show v.toBitVec.signExtend 8 = (nI (v.toBitVec.toNat % 2 ^ 8)).toBitVec.signExtend 8
  rw [BitVec.signExtend_eq_setWidth_of_le _ (by decide), BitVec.signExtend_eq_setWidth_of_le _ (by decide)]
  apply BitVec.eq_of_toNat_eq
  rw [BitVec.toNat_setWidth, BitVec.toNat_setWidth]
  show _ = (BitVec.ofNat 32 (v.toBitVec.toNat % 2 ^ 8)).toNat % 2 ^ 8
  rw [BitVec.toNat_ofNat]
  omega
def kv8 (r : Nat) : Int32 := if r = 0 then 24 else if r = 1 then 16 else if r = 2 then 8 else if r = 3 then 0 else -8
theorem kv8_s : ∀ r, r < 4 → kv8 (r + 1) = kv8 r + -8 ∧ kv8 r = nI 24 - nI 8 * nI r ∧ ¬ kv8 r < 0 := by decide +kernel
set_option maxRecDepth 100000 in
theorem c2_feed (V : VS) (hw : gWf V) (a b c d' e : Int32) : cC mX1_feed 2 (1, 5) [] [gI a, gI b, gI c, gI d', gI e] V (xFeed V a b c d' e) := by
  intro d I L y H
  obtain ⟨o, ho⟩ : ∃ o, o = xFeed V a b c d' e := ⟨_, rfl⟩
  rw [← ho]
  obtain ⟨⟨H1, ⟨ht, ht6, H2⟩, H3, ⟨g, ⟨h4, sp⟩, h4b⟩, H5, H6, H7, H8, H9, H10, H11, H12, H13⟩, Hk⟩ := id H
  have w6 := hw.2.2.2.2.2.2.1
  refine gEnter 400 [16] kX1_feed rfl rfl ?_
  refine bLe ((vT V).1 + 20) 600 (by rw [← nI_add, ← H7] <;> rfl) rfl (fun q => ?_) (fun q => ?_)
  · have gf : Nat.blt 600 ((vT V).1 + 20) = false := by
      cases h : Nat.blt 600 ((vT V).1 + 20) with
      | false => rfl
      | true => exact absurd (Nat.le_of_ble_eq_true h) (by omega)
    obtain ⟨y1, ey, y1a, y1b, y1c, y1d, y1e⟩ := gNw59 (I := I) (L := L) (y := y)
    refine gT_newA 59 5 (by decide) rfl rfl rfl rfl rfl (by decide) q270 dX1_feed_16 (by decide) (by decide) ?_
    obtain ⟨k9, hk9⟩ : ∃ k9, k9 = y.2.2.2.2 59 := ⟨_, rfl⟩
    rw [ey]
    change gT _ _ _ _ _ _ _ [gR (some (59, y.2.2.2.2 59))] _ _
    rw [← hk9]
    obtain ⟨L1, hL1⟩ : ∃ L1, L1 = fNw L 0 59 k9 := ⟨_, rfl⟩
    rw [← hL1]
    refine gT_go 400 [45] kX1_feed ?_
    refine Exists.intro (0) (And.intro rfl (And.intro (show _ < 5 by omega) ?_))
    refine Exists.intro (1) (And.intro rfl (And.intro (show _ < 5 by omega) ?_))
    refine Exists.intro (2) (And.intro rfl (And.intro (show _ < 5 by omega) ?_))
    refine Exists.intro (3) (And.intro rfl (And.intro (show _ < 5 by omega) ?_))
    refine Exists.intro (4) (And.intro rfl (And.intro (show _ < 5 by omega) ?_))
    obtain ⟨J, hJ⟩ : ∃ J, J = u3 (u3 (u3 (u3 (u3 (fNw I 0 59 k9) 59 k9 0 a) 59 k9 1 b) 59 k9 2 c) 59 k9 3 d') 59 k9 4 e := ⟨_, rfl⟩
    have j9 : ∀ q, q ≠ 59 → J q = I q := fun q hq => by rw [hJ, u3_ne1 hq, u3_ne1 hq, u3_ne1 hq, u3_ne1 hq, u3_ne1 hq]; exact fNw_ne hq
    have jv : ∀ i, i < 5 → J 59 k9 i = fSel a b c d' e (4 * i) := by
      intro i hi
      rw [hJ]
      rcases (show i = 0 ∨ i = 1 ∨ i = 2 ∨ i = 3 ∨ i = 4 by omega) with rfl | rfl | rfl | rfl | rfl
      · exact (u3_ne3 (by decide)).trans ((u3_ne3 (by decide)).trans ((u3_ne3 (by decide)).trans ((u3_ne3 (by decide)).trans u3_eq)))
      · exact (u3_ne3 (by decide)).trans ((u3_ne3 (by decide)).trans ((u3_ne3 (by decide)).trans u3_eq))
      · exact (u3_ne3 (by decide)).trans ((u3_ne3 (by decide)).trans u3_eq)
      · exact (u3_ne3 (by decide)).trans u3_eq
      · exact u3_eq
    change gT _ _ _ _ _ _ _ _ (gH (u3 (u3 (u3 (u3 (u3 (fNw I 0 59 k9) 59 k9 0 a) 59 k9 1 b) 59 k9 2 c) 59 k9 3 d') 59 k9 4 e) L1 y1) _
    rw [← hJ]
    obtain ⟨P, hP⟩ : ∃ P : Nat → (Nat → Nat → Nat → Int32) → Prop, P = fun m z => (∀ q, q ≠ 60 → q ≠ 66 → z q = J q) ∧ (∀ j, j ≠ 7 → z 60 0 j = J 60 0 j) ∧ z 60 0 7 = nI ((vT V).1 + m) ∧ ∀ j, j < (vT V).1 + m → z 66 0 j = gBy (fTp V a b c d' e j) := ⟨_, rfl⟩
    refine gT_for (σ := Nat → Nat → Nat → Int32) (pc := 45) (lo := fun i _ => [some gG0, none, none, none, none, none, some (gR (some (59, k9))), some (gI (nI i)), none]) (hp := fun _ z => gH z L1 y1) (Inv := fun i z => P (4 * i) z) 5 ?_ ?_ 0 J (Nat.zero_le _) (by rw [hP]; exact ⟨fun _ _ _ => rfl, fun _ _ => rfl, (by rw [j9 60 (by decide)]; exact H7), fun j hj => by rw [j9 66 (by decide)]; unfold fTp; rw [if_pos (show j < (vT V).1 from hj)]; exact H8 j hj⟩) (by (repeat' apply And.intro) <;> first | rfl | trivial | exact congrArg Sum.inl (nI_1 _).symm | exact congrArg Sum.inl (nI_1 _).symm)
    · intro z hz
      rw [hP] at hz
      obtain ⟨z1, z2, z3, z4⟩ := hz
      refine gT_go 400 [] kX1_feed ?_
      refine bGe 5 5 rfl rfl (fun _ => ?_) (fun q => absurd q (by omega))
      have eI : ∀ q, q ≠ 59 → q ≠ 60 → q ≠ 66 → z q = I q := fun q q1 q2 q3 => (z1 q q2 q3).trans (j9 q q1)
      have eJ : ∀ j, j ≠ 7 → z 60 0 j = I 60 0 j := fun j hj => (z2 j hj).trans (by rw [j9 60 (by decide)])
      have er : ∀ q, q < 59 → gRX y1 q = gRX y q := fun q hq => (y1c q).resolve_right (by omega)
      have en : gNX y1 11 = gNX y 11 := (y1d 11).resolve_right (by decide)
      refine cDone (V' := xT V ((vT V).1 + 20, fTp V a b c d' e)) (by rw [ho]; unfold xFeed; rw [gf]; exact ⟨rfl, congrArg gI z3.symm, rfl⟩) (fun q q1 q2 => ⟨eI q (by omega) (by omega) (by omega), by rw [hL1]; exact fNw_ne (by omega)⟩) ⟨⟨?_, ⟨ht, ht6, ?_⟩, ?_, ⟨g, ⟨?_, ?_⟩, fun k hk => ⟨(h4b k hk).1, cSt_cg (fun q q1 q2 => eI q (by omega) (by omega) (by omega)) (h4b k hk).2⟩⟩, ?_, ?_, ?_, ?_, ?_, ?_, ?_, ?_, ?_⟩, ?_⟩
      · rw [y1a]; exact cLd_cg2 (fun q q1 q2 => eI q (by omega) (by omega) (by omega)) H1
      · exact cRl_cg2 (fun q hq => eI q (by omega) (by omega) (by omega)) (fun q hq => er q (by omega)) en y1b H2
      · exact cSt_cg (fun q q1 q2 => eI q (by omega) (by omega) (by omega)) H3
      · exact cLi_cg2 (eI 10 (by decide) (by decide) (by decide)) (fun q hq => er q (by omega)) en h4
      · exact cSep_cg (er 10 (by decide)) y1b (fun q hq => y1e q (by omega)) sp
      · exact (eJ 2 (by decide)).trans H5
      · intro k hk; rw [eI 65 (by decide) (by decide) (by decide)]; exact H6 k hk
      · exact z3
      · exact z4
      · exact (eJ 8 (by decide)).trans H9
      · exact (eJ 10 (by decide)).trans H10
      · exact (eJ 11 (by decide)).trans H11
      · exact (eJ 32 (by decide)).trans H12
      · intro k hk; rw [eI 72 (by decide) (by decide) (by decide)]; exact H13 k hk
      · exact cKw_cg (eI 160 (by decide) (by decide) (by decide)) (eI 86 (by decide) (by decide) (by decide)) (fun q hq => by rw [hL1]; exact fNw_ne (by omega)) (fun j hj => eJ j (by omega)) Hk
    · intro i z hi hz hnext
      refine gT_go 400 [55] kX1_feed ?_
      refine bGe i 5 rfl rfl (fun q => absurd q (by omega)) (fun _ => ?_)
      refine gT_for (σ := Nat → Nat → Nat → Int32) (pc := 55) (lo := fun r _ => [some gG0, none, none, none, none, none, some (gR (some (59, k9))), some (gI (nI i)), some (gI (kv8 r))]) (hp := fun _ z => gH z L1 y1) (Inv := fun r z => P (4 * i + r) z) 4 ?_ ?_ 0 z (Nat.zero_le _) hz (by (repeat' apply And.intro) <;> first | rfl | trivial | exact congrArg Sum.inl (nI_1 _).symm | exact congrArg Sum.inl (nI_1 _).symm)
      · intro z hz
        refine gT_go 400 [45] kX1_feed ?_
        refine And.intro (fun _ => ?_) (fun c => absurd (show kv8 4 < 0 by decide) c)
        exact hnext z _ hz (by (repeat' apply And.intro) <;> first | rfl | trivial | exact congrArg Sum.inl (nI_1 _).symm | exact congrArg Sum.inl (nI_1 _).symm)
      · intro r z hr hz hnextr
        obtain ⟨k1, k2, k3⟩ := kv8_s r hr
        rw [hP] at hz
        obtain ⟨z1, z2, z3, z4⟩ := hz
        refine gT_go 400 [55] kX1_feed ?_
        refine And.intro (fun c => absurd c k3) (fun _ => ?_)
        refine Exists.intro (i) (And.intro rfl (And.intro (show _ < 5 by omega) ?_))
        refine Exists.intro ((vT V).1 + (4 * i + r)) (And.intro (z3) (And.intro (show (vT V).1 + (4 * i + r) < 600 by omega) ?_))
        have ex : u3 z 60 0 7 (z 60 0 7 + 1) 59 k9 i = fSel a b c d' e (4 * i + r) := by
          rw [u3_ne1 (by decide), z1 59 (by decide) (by decide), jv i hi]
          unfold fSel
          rcases (show i = 0 ∨ i = 1 ∨ i = 2 ∨ i = 3 ∨ i = 4 by omega) with rfl | rfl | rfl | rfl | rfl <;> rcases (show r = 0 ∨ r = 1 ∨ r = 2 ∨ r = 3 by omega) with rfl | rfl | rfl | rfl <;> rfl
        have ev : ∀ x, x = fSel a b c d' e (4 * i + r) → (x >>> (kv8 r &&& 31)).toInt8.toInt32.toInt8.toInt32 = gBy (fTp V a b c d' e ((vT V).1 + (4 * i + r))) := by
          intro x hx
          rw [gBy_of, k2]
          unfold fTp fB
          rw [if_neg (by omega), show (vT V).1 + (4 * i + r) - (vT V).1 = 4 * i + r by omega, ← hx, show (4 * i + r) % 4 = r by omega]
        refine hnextr (u3 (u3 z 60 0 7 (z 60 0 7 + 1)) 66 0 ((vT V).1 + (4 * i + r)) ((u3 z 60 0 7 (z 60 0 7 + 1) 59 k9 i >>> (kv8 r &&& 31)).toInt8.toInt32.toInt8.toInt32)) _ ?_ ⟨rfl, rfl, rfl, congrArg (fun q => gI q) k1, trivial⟩
        rw [hP]
        refine ⟨fun q q1 q2 => (u3_ne1 q2).trans ((u3_ne1 q1).trans (z1 q q1 q2)), fun j hj => ?_, ?_, fun j hj => ?_⟩
        · rw [u3_ne1 (by decide)]; exact (u3_ne3 hj).trans (z2 j hj)
        · rw [u3_ne1 (by decide)]; exact u3_eq.trans (by rw [z3]; exact nI_1 _)
        · by_cases e' : j = (vT V).1 + (4 * i + r)
          · subst e'; exact u3_eq.trans (ev _ ex)
          · refine (u3_ne3 e').trans ?_
            rw [u3_ne1 (by decide)]
            exact z4 j (by omega)
  · have gt : Nat.blt 600 ((vT V).1 + 20) = true := Nat.ble_eq_true_of_le q
    exact cDone (by rw [ho]; unfold xFeed; rw [gt]; exact ⟨rfl, rfl, rfl⟩) (cOut.rf I L) H
