/-! ===== texts are fed ===== -/
def xT (V : VS) (t : Nat × (Nat → Nat)) : VS := (vA V, vL V, vR V, vS V, vI V, vQ V, t, vF V)
def fSel (a b c d e : Int32) (k : Nat) : Int32 := if k < 4 then a else if k < 8 then b else if k < 12 then c else if k < 16 then d else e
def fB (v : Int32) (r : Nat) : Nat := (v >>> ((nI 24 - nI 8 * nI r) &&& 31)).toBitVec.toNat % 2 ^ 8
def fTp (V : VS) (a b c d e : Int32) (j : Nat) : Nat := if j < (vT V).1 then (vT V).2 j else fB (fSel a b c d e (j - (vT V).1)) ((j - (vT V).1) % 4)
def xFeed (V : VS) (a b c d e : Int32) : Int32 × AV × VS :=
  bif Nat.blt 600 ((vT V).1 + 20) then (0, gI (-1), V) else (0, gI (nI ((vT V).1 + 20)), xT V ((vT V).1 + 20, fTp V a b c d e))
set_option maxRecDepth 100000 in
theorem c_feed (V : VS) (hw : gWf V) (a b c d' e : Int32) : mC mX12_feed 1 [gI a, gI b, gI c, gI d', gI e] V (xFeed V a b c d' e) := by
  intro d I L y hm
  have hm0 := mR_thr hm 0
  have w6 := hw.2.2.2.2.2.2.1
  have e2 : u3 I 100 0 0 0 100 0 2 = nI (vT V).1 := hm0.2.2.2.2.2.2.2.1
  have e109 := hm0.2.2.2.2.2.2.2.2.1
  refine gEnter 400 [23] kX12_feed rfl rfl ?_
  refine bLe ((vT V).1 + 20) 600 (by rw [← nI_add, ← e2] <;> rfl) rfl (fun q => ?_) (fun q => ?_)
  · have g : Nat.blt 600 ((vT V).1 + 20) = false := by
      cases h : Nat.blt 600 ((vT V).1 + 20) with
      | false => rfl
      | true => exact absurd (Nat.le_of_ble_eq_true h) (by omega)
    refine gT_for (σ := Nat → Nat → Nat → Int32) (pc := 23) (lo := fun k _ => [some gM0, some (gI a), some (gI b), some (gI c), some (gI d'), some (gI e), some (gI (nI k)), none]) (hp := fun _ z => gH z L y)
      (Inv := fun k z => (∀ q, q ≠ 100 → q ≠ 109 → z q = u3 I 100 0 0 0 q) ∧ (∀ j, j ≠ 2 → z 100 0 j = u3 I 100 0 0 0 100 0 j) ∧ z 100 0 2 = nI ((vT V).1 + k) ∧ ∀ j, j < (vT V).1 + k → z 109 0 j = nI (fTp V a b c d' e j)) 20 ?_ ?_ 0 (u3 I 100 0 0 0) (Nat.zero_le _) ⟨fun _ _ _ => rfl, fun _ _ => rfl, e2, fun j hj => by unfold fTp; rw [if_pos (show j < (vT V).1 from hj)]; exact e109 j hj⟩ (by (repeat' apply And.intro) <;> first | rfl | trivial | exact congrArg Sum.inl (nI_1 _).symm | exact congrArg Sum.inl (nI_1 _).symm)
    · intro z ⟨z1, z2, z3, z4⟩
      refine gT_go 400 [23] kX12_feed ?_
      refine bGe 20 20 rfl rfl (fun _ => ?_) (fun q => absurd q (by omega))
      refine mDone (I' := z) (o2 := (0, gI (nI ((vT V).1 + 20)), xT V ((vT V).1 + 20, fTp V a b c d' e))) (by unfold xFeed; rw [g] <;> rfl) (congrArg gI z3) (fun q hq => ⟨z1 q (by omega) (by omega), rfl⟩) ?_ (z2 0 (by decide))
      obtain ⟨h1, h2, h3, h4, h5, h6, h7, h8, h9, h10, h11, h12, h13, h14, kn, h15, h16⟩ := hm0
      exact ⟨fun j hj => by rw [z1 110 (by decide) (by decide)]; exact h1 j hj, (z2 12 (by decide)).trans h2, gRm_cg (z1 115 (by decide) (by decide)) (z1 116 (by decide) (by decide)) (z1 119 (by decide) (by decide)) (z1 120 (by decide) (by decide)) (z2 13 (by decide)) h3, fun j hj => by rw [z1 125 (by decide) (by decide)]; exact h4 j hj, (z2 27 (by decide)).trans h5, fun k j hk hj => by rw [z1 126 (by decide) (by decide)]; exact h6 k j hk hj, fun j hj => by rw [z1 101 (by decide) (by decide)]; exact h7 j hj, z3, z4, (z2 8 (by decide)).trans h10, (z2 32 (by decide)).trans h11, (z2 33 (by decide)).trans h12, (z2 34 (by decide)).trans h13, (z2 35 (by decide)).trans h14, kn, (z2 28 (by decide)).trans h15, fun q => ⟨(h16 q).1, gKn_cg (z1 136 (by decide) (by decide)) (z1 142 (by decide) (by decide)) rfl rfl (h16 q).2⟩⟩
    · intro k z hk ⟨z1, z2, z3, z4⟩ hnext
      have at76 : ∀ (x : Int32) (lo' : Lo), x = fSel a b c d' e k → glle [some gM0, some (gI a), some (gI b), some (gI c), some (gI d'), some (gI e), some (gI (nI k)), none] lo' →
          gT mX12_feed (d + 1) (0, 0) (fun v h' => v = [(xFeed V a b c d' e).2.1] ∧ ∃ I' L', h' = gH I' L' y ∧ mOut I L I' L' ∧ mR (xFeed V a b c d' e).2.2 I' L' ∧ I' 100 0 0 = (xFeed V a b c d' e).1) (fun _ _ => False) 76 lo' [gI x] (gH z L y) (0, 0) := by
        intro x lo' hx hl'
        refine gT_lo _ hl' ?_
        refine gT_go 400 [23] kX12_feed ?_
        refine And.intro (by decide) ?_
        refine Exists.intro ((vT V).1 + k) (And.intro (z3) (And.intro (show (vT V).1 + k < 600 by omega) ?_))
        have er : nI k - nI k / 4 * 4 = nI (k % 4) := pk_rem (d := 4) (by omega) (by decide) (by decide)
        have eB : (x >>> ((24 - 8 * (nI k - nI k / 4 * 4)) &&& 31)) &&& 255 = nI (fTp V a b c d' e ((vT V).1 + k)) := by
          rw [er, pk_and _ 8 rfl]
          unfold fTp fB
          rw [if_neg (by omega), show (vT V).1 + k - (vT V).1 = k by omega, ← hx]
          rfl
        have ez : ∀ v : Int32, v = nI (fTp V a b c d' e ((vT V).1 + k)) → (∀ q, q ≠ 100 → q ≠ 109 → u3 (u3 z 109 0 ((vT V).1 + k) v) 100 0 2 (z 100 0 2 + 1) q = u3 I 100 0 0 0 q) ∧ (∀ j, j ≠ 2 → u3 (u3 z 109 0 ((vT V).1 + k) v) 100 0 2 (z 100 0 2 + 1) 100 0 j = u3 I 100 0 0 0 100 0 j) ∧ u3 (u3 z 109 0 ((vT V).1 + k) v) 100 0 2 (z 100 0 2 + 1) 100 0 2 = nI ((vT V).1 + (k + 1)) ∧ ∀ j, j < (vT V).1 + (k + 1) → u3 (u3 z 109 0 ((vT V).1 + k) v) 100 0 2 (z 100 0 2 + 1) 109 0 j = nI (fTp V a b c d' e j) := by
          intro v hv
          refine ⟨fun q g1 g2 => (u3_ne1 g1).trans ((u3_ne1 g2).trans (z1 q g1 g2)), fun j hj => (u3_ne3 hj).trans (by rw [u3_ne1 (by decide)]; exact z2 j hj), u3_eq.trans (by rw [z3]; exact nI_1 _), fun j hj => ?_⟩
          rw [u3_ne1 (by decide)]
          by_cases q : j = (vT V).1 + k
          · subst q; exact u3_eq.trans hv
          · exact (u3_ne3 q).trans (z4 j (by omega))
        exact hnext (u3 (u3 z 109 0 ((vT V).1 + k) ((x >>> ((24 - 8 * (nI k - nI k / 4 * 4)) &&& 31)) &&& 255)) 100 0 2 (z 100 0 2 + 1)) _ (ez _ eB) (by (repeat' apply And.intro) <;> first | rfl | trivial | exact congrArg Sum.inl (nI_1 _).symm | exact congrArg Sum.inl (nI_1 _).symm)
      refine gT_go 400 [23, 76] kX12_feed ?_
      refine bGe k 20 rfl rfl (fun q => absurd q (by omega)) (fun _ => ?_)
      refine bGe k 4 rfl rfl (fun q1 => ?_) (fun q1 => ?_)
      · refine bGe k 8 rfl rfl (fun q2 => ?_) (fun q2 => ?_)
        · refine bGe k 12 rfl rfl (fun q3 => ?_) (fun q3 => ?_)
          · refine bGe k 16 rfl rfl (fun q4 => ?_) (fun q4 => ?_)
            · exact at76 e _ (by unfold fSel; rw [if_neg (by omega), if_neg (by omega), if_neg (by omega), if_neg (by omega)]) (by (repeat' apply And.intro) <;> first | rfl | trivial | exact congrArg Sum.inl (nI_1 _).symm | exact congrArg Sum.inl (nI_1 _).symm)
            · exact at76 d' _ (by unfold fSel; rw [if_neg (by omega), if_neg (by omega), if_neg (by omega), if_pos q4]) (by (repeat' apply And.intro) <;> first | rfl | trivial | exact congrArg Sum.inl (nI_1 _).symm | exact congrArg Sum.inl (nI_1 _).symm)
          · exact at76 c _ (by unfold fSel; rw [if_neg (by omega), if_neg (by omega), if_pos q3]) (by (repeat' apply And.intro) <;> first | rfl | trivial | exact congrArg Sum.inl (nI_1 _).symm | exact congrArg Sum.inl (nI_1 _).symm)
        · exact at76 b _ (by unfold fSel; rw [if_neg (by omega), if_pos q2]) (by (repeat' apply And.intro) <;> first | rfl | trivial | exact congrArg Sum.inl (nI_1 _).symm | exact congrArg Sum.inl (nI_1 _).symm)
      · exact at76 a _ (by unfold fSel; rw [if_pos q1]) (by (repeat' apply And.intro) <;> first | rfl | trivial | exact congrArg Sum.inl (nI_1 _).symm | exact congrArg Sum.inl (nI_1 _).symm)
  · have g : Nat.blt 600 ((vT V).1 + 20) = true := Nat.ble_eq_true_of_le q
    exact mDone (o2 := (0, gI (-1), V)) (by unfold xFeed; rw [g] <;> rfl) rfl (mOut.rf _ _) hm0 u3_eq
set_option maxRecDepth 100000 in
theorem p_thrown (d : Nat) (I : Nat → Nat → Nat → Int32) (L : Nat → Nat → Nat → Int64) (y : Dy) : gP mX12_thrown (d + 1) [gM0] (gH I L y) (gI (I 100 0 0)) := by
  refine gEnter 400 [] kX12_thrown rfl rfl ?_
  exact ⟨rfl, rfl⟩
