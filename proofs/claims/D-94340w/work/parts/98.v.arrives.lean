/-! ===== public methods of the component: when, where ===== -/
theorem cMa_v {A : Nat → Nat} {S : Nat} {T : Nat → Nat → Nat → Nat} {h p n : Nat} (hA : gLd A) (hS : S < 13) (hh : h ≤ A 3) (hp : p < A 0) (hn : n ≤ S) : cMa A S T (cN h p n) = mFl A S T h p n := by
  have a0 := hA.1
  have a3 := hA.2.2.2.1
  have e1 := cN_p (h := h) (n := n) (show p < 12 by omega)
  have e2 := cN_n (h := h) (show p < 12 by omega) (show n < 13 by omega)
  have e3 : cN h p n / 156 = h := by unfold cN; omega
  unfold cMa
  rw [e1, e2, e3, if_pos ⟨hp, hn, hh⟩]
set_option maxRecDepth 100000 in
theorem c2_arrives (V : VS) (hw : gWf V) (a b : Int32) : cC mX1_arrives 611 (2, 12) [38, 39] [gI a, gI b] V (xArrives V a b) := by
  intro d I L y H
  obtain ⟨o, ho⟩ : ∃ o, o = xArrives V a b := ⟨_, rfl⟩
  rw [← ho]
  have hS := vA4 hw
  have a0 := hw.1.1
  have a3 := hw.1.2.2.2.1
  have e3 := H.1.1.1 3 (by decide)
  refine gEnter 400 [1] kX1_arrives rfl rfl ?_
  refine gT_gate 287 (1, 6) rfl rfl rfl rfl rfl dX1_arrives_1 (o_mustLand (d + 604) V I L y H) rfl (by decide) (by decide) (fun q h' hx => cX_of (c := 1) (fun e => by rw [ho]; unfold xArrives; rw [e]; exact ⟨rfl, rfl⟩) rfl hx) (fun g1 => ?_)
  have at34 : ∀ (z : Int32) (lo' : Lo), z = gb (!(gWi a 0 (nI (vA V 3)) && gWi b 0 2)) → glle [some gG0, some (gI a), some (gI b), none, none, none, none] lo' → gT mX1_arrives (d + 611) (2, 12) (cQr o I L) (cQx [38, 39] o I L) 34 lo' [gI z, gG0] (gH I L y) (1, 6) := by
    intro z lo' hz hl'
    rw [hz]
    refine gT_gate 173 (2, 12) rfl rfl rfl rfl rfl dX1_arrives_34 (o_wrong (d + 604) V (gWi a 0 (nI (vA V 3)) && gWi b 0 2) I L y H) rfl (by decide) (by decide) (fun q h' hx => cX_of (c := 0) (fun e => by rw [ho]; unfold xArrives; rw [g1, e]; exact ⟨rfl, rfl⟩) rfl hx) (fun g2 => ?_)
    have g' := (Bool.and_eq_true _ _).mp g2
    obtain ⟨h, rfl, hh⟩ := gWi_m rfl (by omega) g'.1
    obtain ⟨w, rfl, hw2⟩ := gWi_m (N := 2) rfl (by decide) g'.2
    have eh : gTo (nI h) = h := gTo_n (by omega)
    have ew : gTo (nI w) = w := gTo_n (by omega)
    refine gT_lo _ hl' ?_
    refine gT_go 400 [46] kX1_arrives ?_
    refine gTM_use rfl (o_findMass (d + 1) V hw g1 I L y H) (fun v h' q => ?_)
    obtain ⟨rfl, I1, L1, rfl, f1, H1, kn, ms⟩ := q
    have hl := H1.1.1
    obtain ⟨G, hG⟩ : ∃ G : Nat → Nat → Int64, G = fun p n => if aEnd (vA V) h p n = w + 1 then mFl (vA V) (vA V 4) (wM (vA V) (vA V 4) (gMw (vA V) (vR V) none) (gP0 V)) h p n else 0 := ⟨_, rfl⟩
    have at107 : ∀ (n p : Nat) (g : Int64) (lo' : Lo), g = sNn (fun n => sNn (fun p => G p n) (vA V 0)) n + sNn (fun p => G p n) (p + 1) → p < vA V 0 → (∀ lo', glle [some gG0, some (gI (nI h)), some (gI (nI w)), some (gL (sNn (fun n => sNn (fun p => G p n) (vA V 0)) n + sNn (fun p => G p n) (p + 1))), none, some (gI (nI n)), some (gI (nI (p + 1)))] lo' → gT mX1_arrives (d + 611) (2, 12) (cQr o I L) (cQx [38, 39] o I L) 61 lo' [] (gH I1 L1 y) (2, 12)) → glle [some gG0, some (gI (nI h)), some (gI (nI w)), some (gL g), none, some (gI (nI n)), some (gI (nI p))] lo' → gT mX1_arrives (d + 611) (2, 12) (cQr o I L) (cQx [38, 39] o I L) 107 lo' [] (gH I1 L1 y) (2, 12) := by
      intro n p g lo' hg hp kk hl2
      subst hg
      refine gT_lo _ hl2 ?_
      refine gT_go 400 [61] kX1_arrives ?_
      exact kk _ (by (repeat' apply And.intro) <;> first | rfl | trivial | exact congrArg Sum.inl (nI_1 _).symm | exact congrArg Sum.inl (nI_1 _).symm)
    refine gT_for (σ := Unit) (pc := 46) (lo := fun i _ => [some gG0, some (gI (nI h)), some (gI (nI w)), some (gL (sNn (fun n => sNn (fun p => G p n) (vA V 0)) i)), none, some (gI (nI i)), none]) (hp := fun _ _ => gH I1 L1 y) (Inv := fun _ _ => True) (vA V 4 + 1) ?_ ?_ 0 () (Nat.zero_le _) trivial (by (repeat' apply And.intro) <;> first | rfl | trivial | exact congrArg Sum.inl (nI_1 _).symm | exact congrArg Sum.inl (nI_1 _).symm)
    · intro _ _
      refine gT_go 400 [] kX1_arrives ?_
      refine bGt (vA V 4 + 1) (vA V 4) rfl hl.2.1 (fun _ => ?_) (fun q => absurd q (by omega))
      refine Exists.intro (h) (And.intro rfl (And.intro (show _ < 26 by omega) ?_))
      have ev : fEn (vA V) (vA V 4) (wMf V (vA V 4) (gP0 V)) h (w + 1) = sNn (fun n => sNn (fun p => G p n) (vA V 0)) (vA V 4 + 1) * L1 74 0 h := by
        rw [sNn_sw, kn.1.2 h hh, sP_mulr]
        unfold fEn
        refine sP_cg (vA V 0) (fun p n hp hn => ?_)
        rw [hG]
        show (if aEnd (vA V) h p n = w + 1 then _ else 0) = (if aEnd (vA V) h p n = w + 1 then _ else 0) * _
        by_cases c : aEnd (vA V) h p n = w + 1
        · rw [if_pos c, if_pos c] <;> rfl
        · rw [if_neg c, if_neg c, Int64.zero_mul]
      exact cDone (by rw [ho]; unfold xArrives; rw [g1, g2, eh, ew]; exact ⟨rfl, congrArg gL ev, rfl⟩) f1 H1
    · intro n _ hn _ hnext
      refine gT_go 400 [61] kX1_arrives ?_
      refine bGt n (vA V 4) rfl hl.2.1 (fun q => absurd q (by omega)) (fun _ => ?_)
      refine gT_for (σ := Unit) (pc := 61) (lo := fun p _ => [some gG0, some (gI (nI h)), some (gI (nI w)), some (gL (sNn (fun n => sNn (fun p => G p n) (vA V 0)) n + sNn (fun p => G p n) p)), none, some (gI (nI n)), some (gI (nI p))]) (hp := fun _ _ => gH I1 L1 y) (Inv := fun _ _ => True) (vA V 0) ?_ ?_ 0 () (Nat.zero_le _) trivial ?_
      · intro _ _
        refine gT_go 400 [46] kX1_arrives ?_
        refine bGe (vA V 0) (vA V 0) rfl (hl.1 0 (by decide)) (fun _ => ?_) (fun q => absurd q (by omega))
        exact hnext () _ trivial (by (repeat' apply And.intro) <;> first | rfl | trivial | exact congrArg Sum.inl (nI_1 _).symm | exact congrArg Sum.inl (nI_1 _).symm)
      · intro p _ hp _ hnextp
        have hc := cN_lt (show h < 25 by omega) (show p < 12 by omega) (show n < 13 by omega)
        refine gT_go 400 [107] kX1_arrives ?_
        refine bGe p (vA V 0) rfl (hl.1 0 (by decide)) (fun q => absurd q (by omega)) (fun _ => ?_)
        refine gP_use (o_state (d + 609) h p n (gH I1 L1 y)) ?_
        refine gP_use (o_endedOf (d + 608) h p n (vA V 4) (by omega) (by omega) (by omega) (vA V) hw.1 I1 L1 y hl) ?_
        refine bNe (aEnd (vA V) h p n) (w + 1) rfl (nI_1 w) (fun c => ?_) (fun c => ?_) (by have := aEnd_lt (vA V) h p n; omega) (by omega)
        · refine at107 n p _ _ ?_ hp (fun lo' hl2 => hnextp () lo' trivial hl2) (by (repeat' apply And.intro) <;> first | rfl | trivial | exact congrArg Sum.inl (nI_1 _).symm | exact congrArg Sum.inl (nI_1 _).symm)
          have z : G p n = 0 := by rw [hG]; exact if_neg c
          show _ = _ + (sNn (fun p => G p n) p + G p n)
          rw [z, Int64.add_zero]
        · refine gP_use (o_state (d + 609) h p n (gH I1 L1 y)) ?_
          refine Exists.intro (cN h p n) (And.intro rfl (And.intro (show _ < 3900 by omega) ?_))
          refine at107 n p _ _ ?_ hp (fun lo' hl2 => hnextp () lo' trivial hl2) (by (repeat' apply And.intro) <;> first | rfl | trivial | exact congrArg Sum.inl (nI_1 _).symm | exact congrArg Sum.inl (nI_1 _).symm)
          show _ = _ + (sNn (fun p => G p n) p + G p n)
          rw [← Int64.add_assoc]
          have z : G p n = L1 94 0 (cN h p n) := by
            rw [ms _ hc, cMa_v hw.1 hS hh hp (by omega), hG]
            exact if_pos c
          show _ = _ + G p n
          rw [z]
      · exact ⟨rfl, rfl, rfl, congrArg (fun q => gL q) (Int64.add_zero _), rfl, rfl, trivial⟩
  refine gT_go 400 [34] kX1_arrives ?_
  refine gP_use (gP_eq (by rw [← e3] <;> rfl) (o_in (d + 609) a 0 (nI (vA V 3)) (gH I L y))) ?_
  refine bB0 (gWi a 0 (nI (vA V 3))) rfl (fun c => ?_) (fun c => ?_)
  · exact at34 _ _ (by rw [c] <;> rfl) (by (repeat' apply And.intro) <;> first | rfl | trivial | exact congrArg Sum.inl (nI_1 _).symm | exact congrArg Sum.inl (nI_1 _).symm)
  · refine gP_use (o_in (d + 609) b 0 2 _) ?_
    refine bB1 (gWi b 0 2) rfl (fun c2 => ?_) (fun c2 => ?_)
    · exact at34 _ _ (by rw [c, c2] <;> rfl) (by (repeat' apply And.intro) <;> first | rfl | trivial | exact congrArg Sum.inl (nI_1 _).symm | exact congrArg Sum.inl (nI_1 _).symm)
    · exact at34 _ _ (by rw [c, c2] <;> rfl) (by (repeat' apply And.intro) <;> first | rfl | trivial | exact congrArg Sum.inl (nI_1 _).symm | exact congrArg Sum.inl (nI_1 _).symm)
