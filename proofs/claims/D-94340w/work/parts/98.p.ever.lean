/-! ===== public methods of the component: whether one ever comes there ===== -/
set_option maxRecDepth 100000 in
theorem c2_ever (V : VS) (hw : gWf V) (a b c : Int32) : cC mX1_ever 608 (2, 12) [38, 39] [gI a, gI b, gI c] V (xEver V a b c) := by
  intro d I L y H
  obtain ⟨o, ho⟩ : ∃ o, o = xEver V a b c := ⟨_, rfl⟩
  rw [← ho]
  refine gEnter 400 [4] kX1_ever rfl rfl ?_
  refine gT_cx 361 (2, 12) rfl rfl rfl rfl rfl dX1_ever_4 (o_stateAt (d + 600) V hw a b c I L y H) rfl (by decide) (by decide) (fun q h' hx => cX_st (c1 := 1) (c2 := 0) (fun e => by rw [ho]; unfold xEver; rw [e]; exact ⟨rfl, rfl⟩) (fun g e => by rw [ho]; unfold xEver; rw [g, e]; exact ⟨rfl, rfl⟩) rfl rfl hx) (fun v h' q => ?_)
  obtain ⟨g1, g2, rfl, rfl⟩ := q
  obtain ⟨p0, h0, n0, rfl, rfl, rfl, b1, b2, b3, t1, t2, t3⟩ := gIsS_n hw.1 g2
  rw [t1, t2, t3]
  have hA := hw.2.1 g1
  have hS := vA4 hw
  have a0 := hw.1.1
  have a3 := hw.1.2.2.2.1
  have hc0 := cN_lt (show h0 < 25 by omega) (show p0 < 12 by omega) (show n0 < 13 by omega)
  refine gT_go 400 [24] kX1_ever ?_
  refine gTM_use rfl (o_findLawV (d + 1) V hw g1 I L y H) (fun v h' q => ?_)
  obtain ⟨rfl, I1, L1, rfl, fr, H1, kl⟩ := q
  refine gTM_use rfl (o_marks (d + 604) V hw g1 false h0 p0 n0 b2 b1 b3 I1 L1 y H1 kl) (fun v h' q => ?_)
  obtain ⟨rfl, I2, rfl, f2, mk⟩ := q
  have o2 : cOut I L I2 L1 := fr.out.tr (fun b c1 c2 => ⟨f2 b (by omega), rfl⟩)
  have H2 : cR V I2 L1 y := ⟨cRb_cg ⟨fun b hb => f2 b (by omega), fun j _ => by rw [f2 60 (by decide)], rfl, rfl, fun _ _ => ⟨rfl, rfl⟩, fun _ _ => rfl⟩ H1.1, cKw_cg (f2 160 (by decide)) (f2 86 (by decide)) (fun _ _ => rfl) (fun j _ => by rw [f2 60 (by decide)]) H1.2⟩
  have hl2 := H2.1.1
  have fin : ∀ r : Int32, r = gOI (gFst (cEver V p0 h0 n0) (vA V 3 - h0 + 1)) → o.1 = 0 ∧ [gI r] = [o.2.1] ∧ cEnd o.2.2 I L (gH I2 L1 y) := by
    intro r hr
    exact cDone (by rw [ho]; unfold xEver; rw [g1, g2, t1, t2, t3, hr]; exact ⟨rfl, rfl, rfl⟩) o2 H2
  refine gT_for (σ := Unit) (pc := 24) (lo := fun s _ => [some gG0, none, some (gI (nI h0)), none, none, some (gI (nI s))]) (hp := fun _ _ => gH I2 L1 y) (Inv := fun s _ => cN h0 p0 n0 ≤ s ∧ ∀ i p n, rE (vA V) (vA V 4) (xMay V (gP0 V)) false h0 p0 n0 i p n → aEnd (vA V) (h0 + i) p n = 1 → s ≤ cN (h0 + i) p n) 3900 ?_ ?_ (cN h0 p0 n0) () (by omega) ⟨Nat.le_refl _, fun i p n r _ => ?_⟩ (by (repeat' apply And.intro) <;> first | rfl | trivial | exact congrArg Sum.inl (nI_1 _).symm | exact congrArg Sum.inl (nI_1 _).symm)
  · intro _ ⟨_, iv⟩
    refine gT_go 400 [] kX1_ever ?_
    refine bGe 3900 3900 rfl rfl (fun _ => ?_) (fun q => absurd q (by omega))
    refine fin _ ?_
    have e0 : gFst (cEver V p0 h0 n0) (vA V 3 - h0 + 1) = none := by
      refine gFst_none _ (fun j hj => dP_f ?_)
      rintro ⟨p, n, c1, c3, r, e⟩
      have := iv j p n r e
      have := cN_lt (show h0 + j < 25 by omega) (show p < 12 by omega) (show n < 13 by omega)
      omega
    rw [e0] <;> rfl
  · intro s _ hs ⟨sf, iv⟩ hnext
    obtain ⟨h, p, n, hsd, hp, hn⟩ : ∃ h p n, s = cN h p n ∧ p < 12 ∧ n < 13 := ⟨_, _, _, cN_dec s, Nat.mod_lt _ (by decide), Nat.mod_lt _ (by decide)⟩
    have hh : h < 25 := by rw [hsd] at hs; unfold cN at hs; omega
    have at60 : ∀ (lo' : Lo), (∀ i p n, s = cN (h0 + i) p n → rE (vA V) (vA V 4) (xMay V (gP0 V)) false h0 p0 n0 i p n → ¬ aEnd (vA V) (h0 + i) p n = 1) → glle [some gG0, none, some (gI (nI h0)), none, none, some (gI (nI s))] lo' → gT mX1_ever (d + 608) (2, 12) (cQr o I L) (cQx [38, 39] o I L) 60 lo' [] (gH I2 L1 y) (2, 12) := by
      intro lo' no hl'
      refine gT_lo _ hl' ?_
      refine gT_go 400 [24] kX1_ever ?_
      refine hnext () _ ⟨by omega, fun i p n r e => ?_⟩ (by (repeat' apply And.intro) <;> first | rfl | trivial | exact congrArg Sum.inl (nI_1 _).symm | exact congrArg Sum.inl (nI_1 _).symm)
      have := iv i p n r e
      by_cases q : s = cN (h0 + i) p n
      · exact absurd e (no i p n q r)
      · omega
    refine gT_go 400 [60] kX1_ever ?_
    refine bGe s 3900 rfl rfl (fun q => absurd q (by omega)) (fun _ => ?_)
    refine Exists.intro (s) (And.intro rfl (And.intro (show _ < 3900 by omega) ?_))
    refine bB0 (dP (cRc (vA V) (vA V 4) (xMay V (gP0 V)) false h0 p0 n0 s)) (mk s hs) (fun c => ?_) (fun c => ?_)
    · exact at60 _ (fun i p n e r => absurd ⟨i, p, n, e, r⟩ (dP_n c)) (by (repeat' apply And.intro) <;> first | rfl | trivial | exact congrArg Sum.inl (nI_1 _).symm | exact congrArg Sum.inl (nI_1 _).symm)
    · obtain ⟨i, p', n', e, r⟩ := dP_i c
      obtain ⟨c1, c3⟩ := rE_ok hA b1 b3 i p' n' r
      obtain ⟨rfl, rfl, rfl⟩ : h = h0 + i ∧ p = p' ∧ n = n' := cN_inj hp hn (by omega) (by omega) (hsd.symm.trans e)
      have i3 := rE_hr b2 i p n r
      refine gP_use (gP_eq (by rw [← hsd]) (o_endedOf (d + 605) (h0 + i) p n (vA V 4) hh hp hn (vA V) hw.1 I2 L1 y hl2)) ?_
      refine bNe (aEnd (vA V) (h0 + i) p n) 1 rfl rfl (fun e1 => ?_) (fun e1 => ?_) (by have := aEnd_lt (vA V) (h0 + i) p n; omega) (by decide)
      · refine at60 _ (fun i' p' n' w r' z => ?_) (by (repeat' apply And.intro) <;> first | rfl | trivial | exact congrArg Sum.inl (nI_1 _).symm | exact congrArg Sum.inl (nI_1 _).symm)
        obtain ⟨w1, w2, w3⟩ := cN_inj hp hn (show p' < 12 by have := (rE_ok hA b1 b3 i' p' n' r').1; omega) (show n' < 13 by have := (rE_ok hA b1 b3 i' p' n' r').2; omega) (hsd.symm.trans w)
        rw [← w1, ← w2, ← w3] at z
        exact e1 z
      · refine gP_use (gP_eq (by rw [← hsd]) (o_hourOf (d + 606) (h0 + i) p n hh hp hn (gH I2 L1 y))) ?_
        have ev : cEver V p0 h0 n0 i = true := dP_t ⟨p, n, c1, c3, r, e1⟩
        have ne : ∀ j, j < i → cEver V p0 h0 n0 j = false := fun j hj => dP_f (fun ⟨p', n', w1, w3, r', e'⟩ => by
          have := iv j p' n' r' e'
          have : cN (h0 + j) p' n' < cN (h0 + i) p n := by
            unfold cN
            omega
          omega)
        refine fin _ ?_
        rw [gFst_some ev ne _ (by omega)]
        show nI (h0 + i) - nI h0 = nI i
        rw [pk_sub (by omega)]
        exact congrArg nI (by omega)
  · cases i with
    | zero => obtain ⟨rfl, rfl⟩ := r; exact Nat.le_refl _
    | succ i =>
      have := rE_ok hA b1 b3 (i + 1) p n r
      unfold cN
      omega
