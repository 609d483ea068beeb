/-! ===== public methods of the component: without a rule (the walk) ===== -/
set_option maxRecDepth 100000 in
theorem c2_without (V : VS) (hw : gWf V) (a b : Int32) : cC mX1_without 612 (3, 18) [57, 56, 39] [gI a, gI b] V (xWithout V a b) := by
  intro d I L y H
  obtain ⟨o, ho⟩ : ∃ o, o = xWithout V a b := ⟨_, rfl⟩
  rw [← ho]
  have a2 := hw.1.2.2.1
  have h10 : (vR V).length ≤ 10 := H.1.2.1.choose_spec.2.1
  obtain ⟨f0, hl0, -⟩ := H.1.2.1.choose_spec.2.2
  refine gEnter 400 [1] kX1_without rfl rfl ?_
  refine gT_gate 287 (1, 6) rfl rfl rfl rfl rfl dX1_without_1 (o_mustLand (d + 605) V I L y H) rfl (by decide) (by decide) (fun q h' hx => cX_of (c := 2) (fun e => by rw [ho]; unfold xWithout; rw [e]; exact ⟨rfl, rfl⟩) rfl hx) (fun g1 => ?_)
  refine gT_go 400 [6] kX1_without ?_
  refine gT_gate 479 (2, 12) rfl rfl rfl rfl rfl dX1_without_6 (o_mustOne (d + 604) V b I L y H) rfl (by decide) (by decide) (fun q h' hx => cX_of (c := 0) (fun e => by rw [ho]; unfold xWithout; rw [g1, e]; exact ⟨rfl, rfl⟩) rfl hx) (fun g2 => ?_)
  obtain ⟨eb, hb⟩ := tOne_x hw.1 g2
  have at32 : ∀ (z : Int32) (lo' : Lo), z = gb (!gWi a 0 (nI (vR V).length - 1)) → glle [some gG0, some (gI a), some (gI b), none, none, none, none, none] lo' → gT mX1_without (d + 612) (3, 18) (cQr o I L) (cQx [57, 56, 39] o I L) 32 lo' [gI z, gG0] (gH I L y) (2, 12) := by
    intro z lo' hz hl'
    rw [hz]
    refine gT_gate 260 (3, 18) rfl rfl rfl rfl rfl dX1_without_32 (o_missing (d + 605) V (gWi a 0 (nI (vR V).length - 1)) I L y H) rfl (by decide) (by decide) (fun q h' hx => cX_of (c := 1) (fun e => by rw [ho]; unfold xWithout; rw [g1, g2, e]; exact ⟨rfl, rfl⟩) rfl hx) (fun g3 => ?_)
    obtain ⟨r, rfl, hr⟩ := gWi_n rfl (by omega) g3
    have er : gTo (nI r) = r := gTo_n (by omega)
    obtain ⟨n, hn⟩ : ∃ n, (vR V).length = n + 1 := ⟨(vR V).length - 1, by omega⟩
    refine gT_lo _ hl' ?_
    refine gT_val (fun hv hlo => ?_)
    have v60 : 0 < y.2.2.2.2 60 := hlo 0 gG0 rfl
    have v10 : 1 < y.2.2.2.2 10 := hv 60 0 4 (10, 1) v60 (gvk_o rfl) rfl
    have vr : y.2.1 < y.2.2.2.2 10 := hv 60 0 1 (10, y.2.1) v60 (gvk_o rfl) rfl
    have ve : ∀ q e, q < y.2.2.2.2 10 → gRX y 10 q 1 = some (11, e) → e < y.2.2.2.2 11 := fun q e hq he => hv 10 q 1 (11, e) hq (gvk_o rfl) he
    obtain ⟨-, -, -, ⟨-, ⟨-, sp1, sp2, -⟩, -⟩, -⟩ := id H.1
    have hsep : ∀ e, gRX y 10 1 1 = some (11, e) → gRX y 10 y.2.1 1 ≠ some (11, e) ∧ e < y.2.2.2.2 11 := fun e he => ⟨fun z => sp2 e z he, ve 1 e v10 he⟩
    rw [eb]
    refine gT_go 400 [49] kX1_without ?_
    refine gTM_use rfl (o_worthV (d + 2) V hw g1 (tOne b) hb I L y H) (fun v h' q => ?_)
    obtain ⟨rfl, I1, L1, rfl, f1, H1, -⟩ := q
    obtain ⟨ht, ht6, -, f, hl, h5⟩ := id H1.1.2.1
    have hf : ∀ k, k < n + 1 → ∃ j, f k = some (12, j) := fun k hk => by
      obtain ⟨j, ra, g1, -⟩ := h5 k (by omega)
      exact ⟨j, g1⟩
    obtain ⟨j, hj⟩ := hf r (by omega)
    have hl1 : cLi y.2.1 (n + 1) f I1 y := by rw [← hn]; exact hl
    refine gTM_use rfl (o_removeAt (d + 608) y.2.1 n r f I1 L1 y hf hl1 (by omega)) (fun v h' q => ?_)
    obtain ⟨rfl, I2, y2, rfl, fr2, l2⟩ := q
    rw [hj]
    refine gT_cast (v := (12, j)) (show (12 : Nat) ≠ 2 by decide) rfl rfl q1430 dX1_without_49 ?_
    obtain ⟨H3, o3⟩ := cR_rules H1 hsep fr2 ⟨ht, ht6, rules_del (by omega) hn fr2 l2 h10 h5⟩
    refine gT_go 400 [72] kX1_without ?_
    refine gTM_use rfl (o_changes (d + 609) I2 L1 y2) (fun v h' q => ?_)
    obtain ⟨rfl, rfl⟩ := q
    obtain ⟨I3, hI3⟩ : ∃ I3, I3 = u3 (u3 (u3 (u3 I2 60 0 28 0) 60 0 29 0) 60 0 30 0) 60 0 31 0 := ⟨_, rfl⟩
    have e32 : ∀ q, q ≠ 60 → I3 q = I2 q := fun q hq => by rw [hI3, u3_ne1 hq, u3_ne1 hq, u3_ne1 hq, u3_ne1 hq]
    rw [← hI3] at H3 o3 ⊢
    refine gTM_use rfl (o_worthV (d + 2) (xRl V ((vR V).eraseIdx r)) (gWf_Rl _ hw) g1 (tOne b) hb I3 L1 y2 H3) (fun v h' q => ?_)
    obtain ⟨rfl, I4, L4, rfl, f4, H4, -⟩ := q
    have y21 : y2.2.1 = y.2.1 := fr2.2.2.2.2.1
    have e4 : ∀ q, q < 60 → I4 q = I2 q := fun q hq => (f4.1 q (by omega) (by omega) (by omega) (by omega) (by omega)).trans (e32 q (by omega))
    have l4 : cLi y.2.1 n (fDel f r) I4 y2 := ⟨(congrFun (congrFun (e4 10 (by decide)) y.2.1) 2).trans l2.1, l2.2⟩
    obtain ⟨e, he⟩ : ∃ e, gRX y2 10 y.2.1 1 = some (11, e) := ⟨_, fr2.2.2.2.2.2.2.2.2.choose_spec.1⟩
    have hN : gNX y2 11 e = 10 := by
      rcases l4.2.2 with ⟨-, w⟩ | ⟨e', w, -, -, w2⟩
      · exact absurd (he.symm.trans w) (fun z => by have := congrArg Prod.fst (Option.some.inj z); exact absurd this (show (11 : Nat) ≠ 3 by decide))
      · have : e' = e := congrArg Prod.snd (Option.some.inj (w.symm.trans he))
        subst this
        exact w2
    have hfd : ∀ k, k < n → ∃ j, fDel f r k = some (12, j) := fun k hk => by
      unfold fDel
      split
      · exact hf k (by omega)
      · exact hf (k + 1) (by omega)
    have hM := o_addAt (d + 608) y.2.1 n e r (fDel f r) (12, j) (Or.inr rfl) I4 L4 y2 hfd l4 he hN (by omega) (by omega)
    rw [← y21] at hM
    refine gT_val (fun hv2 hlo2 => ?_)
    refine gT_callV (k := (0, 0)) rfl rfl rfl rfl rfl dX1_without_72 hM (by decide) (by decide) (fun v h' q => ?_) (fun _ _ q => q.elim)
    obtain ⟨rfl, I5, y5, rfl, fr5, l5⟩ := q
    have eL : ∀ q, 12 ≤ q → q < 20 → I5 q = I1 q := fun q b1 b2 => (fr5.1 q (by omega) (by omega)).trans ((e4 q (by omega)).trans (fr2.1 q (by omega) (by omega)))
    have eR : ∀ q, 12 ≤ q → q < 20 → gRX y5 q = gRX y q := fun q b1 b2 => (fr5.2.2.2.2.2.1 q (by omega) (by omega)).trans (fr2.2.2.2.2.2.1 q (by omega) (by omega))
    have hR5 : cRl (vR V) ht I5 y5 := by
      refine ⟨h10, f, ?_, fun k hk => ?_⟩
      · rw [fr5.2.2.2.2.1, hn]
        refine cLi_f (fun k hk => ?_) l5
        unfold fIns fDel
        by_cases w : k < r
        · rw [if_pos w, if_pos w]
        · rw [if_neg w]
          by_cases w2 : k = r
          · rw [if_pos w2, w2]; exact hj
          · rw [if_neg w2, if_neg (by omega), show k - 1 + 1 = k by omega]
      · obtain ⟨j, ra, g1, g2, g3, g4⟩ := h5 k hk
        exact ⟨j, ra, g1, by rw [eL 12 (by decide) (by decide)]; exact g2, by rw [eR 12 (by decide) (by decide)]; exact g3, cAs_cg3 eL eR g4⟩
    have hsep4 : ∀ e, gRX y2 10 1 1 = some (11, e) → gRX y2 10 y2.2.1 1 ≠ some (11, e) ∧ e < y2.2.2.2.2 11 := by
      intro e9 he9
      obtain ⟨-, -, -, ⟨-, ⟨-, -, sq, -⟩, -⟩, -⟩ := id H4.1
      have w60 : 0 < y2.2.2.2.2 60 := hlo2 0 gG0 rfl
      have w10 : 1 < y2.2.2.2.2 10 := hv2 60 0 4 (10, 1) w60 (gvk_o rfl) rfl
      exact ⟨fun z => sq e9 z he9, hv2 10 1 1 (11, e9) w10 (gvk_o rfl) he9⟩
    obtain ⟨H6, o6⟩ := cR_rules (R := vR V) H4 hsep4 fr5 ⟨ht, ht6, hR5⟩
    refine gT_go 400 [] kX1_without ?_
    refine gTM_use rfl (o_changes (d + 609) I5 L4 y5) (fun v h' q => ?_)
    obtain ⟨rfl, rfl⟩ := q
    have ew : wTo (xRl V ((vR V).eraseIdx r)) (vA V 4) none (gP0 (xRl V ((vR V).eraseIdx r))) (tOne b) = wTo V (vA V 4) (some r) (gP0 V) (tOne b) := (cWt_V (xRl V ((vR V).eraseIdx r)) _ _).trans (cWt_del (by omega) (gP0 V) (tOne b) rfl rfl)
    refine cDone (V' := V) (by rw [ho]; unfold xWithout; rw [g1, g2, g3, er]; exact ⟨rfl, congrArg gL (congrArg (fun z => z - _) ew.symm), rfl⟩) (((f1.out.tr o3).tr f4.out).tr o6) H6
  refine gT_go 400 [32] kX1_without ?_
  refine gP_use (o_size (d + 610) y.2.1 (vR V).length _ I L y hl0) ?_
  refine gP_use (gP_eq (by rfl) (o_in (d + 610) a 0 (nI (vR V).length - 1) (gH I L y))) ?_
  refine bB1 (gWi a 0 (nI (vR V).length - 1)) rfl (fun c => ?_) (fun c => ?_)
  · exact at32 _ _ (by rw [c] <;> rfl) (by (repeat' apply And.intro) <;> first | rfl | trivial | exact congrArg Sum.inl (nI_1 _).symm | exact congrArg Sum.inl (nI_1 _).symm)
  · exact at32 _ _ (by rw [c] <;> rfl) (by (repeat' apply And.intro) <;> first | rfl | trivial | exact congrArg Sum.inl (nI_1 _).symm | exact congrArg Sum.inl (nI_1 _).symm)
