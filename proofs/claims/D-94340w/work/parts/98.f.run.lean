/-! ===== public methods of the component: journeys and rows ===== -/
set_option maxRecDepth 100000 in
theorem o_notes (d h p n : Nat) (hh : h < 25) (hp : p < 12) (hn : n < 13) (m : Int32) (I : Nat → Nat → Nat → Int32) (L : Nat → Nat → Nat → Int64) (y : Dy) : gTM mX1_notes (d + 2) (0, 0) [gG0, gI (nI (cN h p n)), gI m] (gH I L y) (fun v h' => v = [] ∧ h' = gH (u3 (u3 (u3 I 25 0 h (nI p)) 26 0 h (nI n)) 27 0 h m) L y) (fun _ _ => False) := by
  refine gEnter 400 [] kX1_notes rfl rfl ?_
  refine gP_use (o_hourOf d h p n hh hp hn (gH I L y)) ?_
  refine gP_use (o_placeOf d h p n hh hp hn (gH I L y)) ?_
  refine Exists.intro (h) (And.intro rfl (And.intro (show _ < 25 by omega) ?_))
  refine gP_use (o_storesOf d h p n hh hp hn _) ?_
  refine Exists.intro (h) (And.intro rfl (And.intro (show _ < 25 by omega) ?_))
  refine Exists.intro (h) (And.intro rfl (And.intro (show _ < 25 by omega) ?_))
  exact ⟨rfl, rfl⟩
set_option maxRecDepth 100000 in
theorem o_draw (d : Nat) (I : Nat → Nat → Nat → Int32) (L : Nat → Nat → Nat → Int64) (y : Dy) : gTM mX1_draw (d + 1) (0, 0) [gG0, gI 16] (gH I L y) (fun v h' => v = [gI (gRoll (gNxt (I 60 0 9)))] ∧ h' = gH (u3 I 60 0 9 (gNxt (I 60 0 9))) L y) (fun _ _ => False) := by
  refine gEnter 400 [] kX1_draw rfl rfl ?_
  refine And.intro (by decide) ?_
  exact ⟨rfl, rfl⟩
/-- a journey under way, in the component: at h, the numbers drawn at x, what images keep at s -/
def cJ (V : VS) (I : Nat → Nat → Nat → Int32) (z : Nat → Nat → Nat → Int32) (x : Int32) (h p n : Nat) (s : Nat → Int32) : Prop :=
  (∀ b, b ≠ 25 → b ≠ 26 → b ≠ 27 → b ≠ 60 → z b = I b) ∧ (∀ j, j ≠ 9 → z 60 0 j = I 60 0 j) ∧ z 60 0 9 = x ∧ (∀ b i k, 0 < i → b < 60 → z b i k = I b i k) ∧
  (∀ i, i < h → z 25 0 i = s (82 + i) ∧ z 26 0 i = s (107 + i) ∧ z 27 0 i = s (132 + i)) ∧ (∀ j, j < 79 → s j = vS V j) ∧ s 79 = 1 ∧ s (82 + h) = nI p ∧ s (107 + h) = nI n
theorem cJ.fin {V : VS} {I z : Nat → Nat → Nat → Int32} {x : Int32} {h p n : Nat} {s : Nat → Int32} (H : cSt 0 (vS V) I) (hh : h ≤ 24) (J : cJ V I z x h p n s) (e : Nat) :
    cSt 0 (jFin (vA V) h p n s) (u3 (u3 (u3 (u3 (u3 z 25 0 h (nI p)) 26 0 h (nI n)) 27 0 h (-1)) 20 0 9 (nI h)) 20 0 10 (nI (aEnd (vA V) h p n % 3))) := by
  obtain ⟨j1, j2, j3, j4, j5, j6, j7, j8, j9⟩ := J
  obtain ⟨w, hw⟩ : ∃ w, w = u3 (u3 (u3 (u3 (u3 z 25 0 h (nI p)) 26 0 h (nI n)) 27 0 h (-1)) 20 0 9 (nI h)) 20 0 10 (nI (aEnd (vA V) h p n % 3)) := ⟨_, rfl⟩
  rw [← hw]
  have wb : ∀ b, b ≠ 20 → b ≠ 25 → b ≠ 26 → b ≠ 27 → b ≠ 60 → w b = I b := fun b b0 b1 b2 b3 b4 => by
    rw [hw, u3_ne1 b0, u3_ne1 b0, u3_ne1 b3, u3_ne1 b2, u3_ne1 b1]; exact j1 b b1 b2 b3 b4
  have w20 : ∀ j, j ≠ 9 → j ≠ 10 → w 20 0 j = I 20 0 j := fun j b1 b2 => by
    rw [hw]
    refine (u3_ne3 b2).trans ((u3_ne3 b1).trans ?_)
    rw [u3_ne1 (by decide), u3_ne1 (by decide), u3_ne1 (by decide), j1 20 (by decide) (by decide) (by decide) (by decide)]
  have sj : ∀ j, j ≠ 80 → j ≠ 81 → jFin (vA V) h p n s j = s j := fun j b1 b2 => (up1_ne b2).trans (up1_ne b1)
  refine ⟨fun k hk => ?_, fun k hk => ?_, fun k hk => ?_, ?_, ?_, fun m k g1 g2 g3 => ?_, fun g => ?_, fun g => ⟨?_, ?_, fun m k g1 g2 g3 => ?_⟩⟩
  · rw [wb 21 (by decide) (by decide) (by decide) (by decide) (by decide), sj k (by omega) (by omega), j6 k (by omega)]; exact H.1 k hk
  · rw [wb 22 (by decide) (by decide) (by decide) (by decide) (by decide), sj _ (by omega) (by omega), j6 _ (by omega)]; exact H.2.1 k hk
  · rw [wb 23 (by decide) (by decide) (by decide) (by decide) (by decide), sj _ (by omega) (by omega), j6 _ (by omega)]; exact H.2.2.1 k hk
  · rw [sj _ (by omega) (by omega), j6 _ (by omega)]; exact (w20 7 (by decide) (by decide)).trans H.2.2.2.1
  · rw [sj _ (by omega) (by omega), j6 _ (by omega)]; exact (w20 8 (by decide) (by decide)).trans H.2.2.2.2.1
  · rw [sj _ (by omega) (by omega), j6 _ (by omega)] at g1
    rw [wb 24 (by decide) (by decide) (by decide) (by decide) (by decide), sj _ (by omega) (by omega), j6 _ (by omega)]
    exact H.2.2.2.2.2.1 m k g1 g2 g3
  · rw [sj 79 (by decide) (by decide), j7] at g
    exact absurd g (by decide)
  · rw [hw]; exact (u3_ne3 (by decide)).trans (u3_eq.trans ((up1_ne (by decide)).trans up1_eq).symm)
  · rw [hw]; exact u3_eq.trans up1_eq.symm
  · have e80 : jFin (vA V) h p n s 80 = nI h := (up1_ne (by decide)).trans up1_eq
    rw [e80] at g1
    have em := (nI_eq (a := h) (b := m) (by omega) (by omega)).mp g1
    subst em
    rw [sj _ (by omega) (by omega), sj _ (by omega) (by omega)]
    have w25 : w 25 0 k = u3 z 25 0 h (nI p) 25 0 k := by rw [hw, u3_ne1 (by decide), u3_ne1 (by decide), u3_ne1 (by decide), u3_ne1 (by decide)]
    have w26 : w 26 0 k = u3 (u3 z 25 0 h (nI p)) 26 0 h (nI n) 26 0 k := by rw [hw, u3_ne1 (by decide), u3_ne1 (by decide), u3_ne1 (by decide)]
    have w27 : w 27 0 k = u3 (u3 (u3 z 25 0 h (nI p)) 26 0 h (nI n)) 27 0 h (-1) 27 0 k := by rw [hw, u3_ne1 (by decide), u3_ne1 (by decide)]
    by_cases q : k = h
    · subst q
      refine ⟨w25.trans (u3_eq.trans j8.symm), w26.trans (u3_eq.trans j9.symm), ?_⟩
      rw [if_pos rfl]
      exact w27.trans u3_eq
    · obtain ⟨r1, r2, r3⟩ := j5 k (by omega)
      refine ⟨w25.trans ((u3_ne3 q).trans r1), w26.trans ((u3_ne3 q).trans (by rw [u3_ne1 (by decide)]; exact r2)), ?_⟩
      rw [if_neg q, sj _ (by omega) (by omega)]
      exact w27.trans ((u3_ne3 q).trans (by rw [u3_ne1 (by decide), u3_ne1 (by decide)]; exact r3))
set_option maxRecDepth 100000 in
theorem c2_run (V : VS) (hw : gWf V) (a : Int32) : cC mX1_run 610 (1, 6) [39] [gI a] V (xRun V a) := by
  intro d I L y H
  obtain ⟨o, ho⟩ : ∃ o, o = xRun V a := ⟨_, rfl⟩
  rw [← ho]
  have hS := vA4 hw
  have a0 := hw.1.1
  have a1 := hw.1.2.1
  have a3 := hw.1.2.2.2.1
  refine gEnter 400 [1] kX1_run rfl rfl ?_
  refine gT_gate 287 (1, 6) rfl rfl rfl rfl rfl dX1_run_1 (o_mustLand (d + 603) V I L y H) rfl (by decide) (by decide) (fun q h' hx => cX_of (c := 0) (fun e => by rw [ho]; unfold xRun; rw [e]; exact ⟨rfl, rfl⟩) rfl hx) (fun g1 => ?_)
  have hA := hw.2.1 g1
  refine gT_go 400 [20] kX1_run ?_
  refine gTM_use rfl (o_findV (d + 1) V hw g1 I L y H) (fun v h' q => ?_)
  obtain ⟨rfl, I', L', rfl, fr, H', kn⟩ := q
  obtain ⟨T, hT⟩ : ∃ T, T = wM (vA V) (vA V 4) (gMw (vA V) (vR V) none) (gP0 V) := ⟨_, rfl⟩
  have ld : ∀ z : Nat → Nat → Nat → Int32, (∀ b, b ≠ 20 → b ≠ 25 → b ≠ 26 → b ≠ 27 → b ≠ 60 → z b = I' b) → cLd y.1 (vA V 4) (vA V) z := fun z hz => cLd_cg2 (fun b b1 b2 => hz b (by omega) (by omega) (by omega) (by omega) (by omega)) H'.1.1
  have fin : ∀ (x : Int32) (h p n : Nat) (s : Nat → Int32) (z : Nat → Nat → Nat → Int32) (lo' : Lo), h ≤ vA V 3 → p < vA V 0 → n ≤ vA V 4 → ¬ aEnd (vA V) h p n = 0 → cJ V I' z x h p n s → (h, jFin (vA V) h p n s) = xRunR V a → glle [some gG0, none, some (gI (nI (cN h p n))), some (gI (nI h)), none, none] lo' → gT mX1_run (d + 610) (1, 6) (cQr o I L) (cQx [39] o I L) 20 lo' [] (gH z L' y) (1, 6) := by
    intro x h p n s z lo' b2 b1 b3 e J hR hl'
    have lz := ld z (fun b _ c1 c2 c3 c4 => J.1 b c1 c2 c3 c4)
    have hen := aEnd_lt (vA V) h p n
    have done : ∀ v : Int32, v = nI (aEnd (vA V) h p n % 3) → o.1 = 0 ∧ [gI (nI h)] = [o.2.1] ∧ cEnd o.2.2 I L (gH (u3 (u3 (u3 (u3 (u3 z 25 0 h (nI p)) 26 0 h (nI n)) 27 0 h (-1)) 20 0 9 (nI h)) 20 0 10 v) L' y) := by
      intro v hv
      subst hv
      have wb : ∀ b, b ≠ 20 → b ≠ 25 → b ≠ 26 → b ≠ 27 → u3 (u3 (u3 (u3 (u3 z 25 0 h (nI p)) 26 0 h (nI n)) 27 0 h (-1)) 20 0 9 (nI h)) 20 0 10 (nI (aEnd (vA V) h p n % 3)) b = z b := fun b c0 c1 c2 c3 => by
        rw [u3_ne1 c0, u3_ne1 c0, u3_ne1 c3, u3_ne1 c2, u3_ne1 c1]
      refine cDone (V' := xS V (jFin (vA V) h p n s)) (by rw [ho]; unfold xRun; rw [g1, ← hR]; exact ⟨rfl, rfl, rfl⟩) (fr.out.tr (fun b c1 c2 => ⟨(wb b (by omega) (by omega) (by omega) (by omega)).trans (J.1 b (by omega) (by omega) (by omega) (by omega)), rfl⟩)) ?_
      refine cR_S3 hw H' (fun b c1 c2 => (wb b (by omega) (by omega) (by omega) (by omega)).trans (J.1 b (by omega) (by omega) (by omega) c1)) (fun j hj => by rw [wb 60 (by decide) (by decide) (by decide) (by decide)]; exact J.2.1 j hj) (fun b i k c1 c2 hi => ?_) (fun j hj => ?_) (J.fin H'.1.2.2.1 (by omega) 0) (fun h hh => gP0_lt hw hh)
      · have n0 : ∀ (f : Nat → Nat → Nat → Int32) (b0 k0 : Nat) (v : Int32), u3 f b0 0 k0 v b i k = f b i k := fun f b0 k0 v => u3_ne (fun q => by have := q.2.1; omega)
        rw [n0, n0, n0, n0, n0]
        exact J.2.2.2.1 b i k hi (by omega)
      · exact (up1_ne (by omega)).trans ((up1_ne (by omega)).trans (J.2.2.2.2.2.1 j (by omega)))
    refine gT_lo _ hl' ?_
    refine gT_go 400 [138] kX1_run ?_
    refine gP_use (o_endedOf (d + 607) h p n (vA V 4) (by omega) (by omega) (by omega) (vA V) hw.1 z L' y lz) ?_
    refine bNe (aEnd (vA V) h p n) 0 rfl rfl (fun _ => ?_) (fun q => absurd q e) (by omega) (by decide)
    refine gTM_use rfl (o_notes (d + 607) h p n (by omega) (by omega) (by omega) (-1) z L' y) (fun v h' q => ?_)
    obtain ⟨rfl, rfl⟩ := q
    have lw := ld (u3 (u3 (u3 (u3 z 25 0 h (nI p)) 26 0 h (nI n)) 27 0 h (-1)) 20 0 9 (nI h)) (fun b c0 c1 c2 c3 c4 => by rw [u3_ne1 c0, u3_ne1 c3, u3_ne1 c2, u3_ne1 c1]; exact J.1 b c1 c2 c3 c4)
    have hen2 := o_endedOf (d + 607) h p n (vA V 4) (by omega) (by omega) (by omega) (vA V) hw.1 (u3 (u3 (u3 (u3 z 25 0 h (nI p)) 26 0 h (nI n)) 27 0 h (-1)) 20 0 9 (nI h)) L' y lw
    refine gP_use hen2 ?_
    have at138 : ∀ (v : Int32) (lo' : Lo), v = nI (aEnd (vA V) h p n % 3) → glle [none, none, none, some (gI (nI h)), none, none] lo' → gT mX1_run (d + 610) (1, 6) (cQr o I L) (cQx [39] o I L) 138 lo' [gI v, gR (some (20, 0))] (gH (u3 (u3 (u3 (u3 z 25 0 h (nI p)) 26 0 h (nI n)) 27 0 h (-1)) 20 0 9 (nI h)) L' y) (1, 6) := by
      intro v lo' hv hl2
      refine gT_lo _ hl2 ?_
      refine gT_go 400 [] kX1_run ?_
      exact done v hv
    refine bNe (aEnd (vA V) h p n) 3 rfl rfl (fun c => ?_) (fun c => ?_) (by omega) (by decide)
    · refine gP_use hen2 ?_
      exact at138 _ _ (by rw [Nat.mod_eq_of_lt (by omega)]) (by (repeat' apply And.intro) <;> first | rfl | trivial | exact congrArg Sum.inl (nI_1 _).symm | exact congrArg Sum.inl (nI_1 _).symm)
    · exact at138 _ _ (by rw [c] <;> rfl) (by (repeat' apply And.intro) <;> first | rfl | trivial | exact congrArg Sum.inl (nI_1 _).symm | exact congrArg Sum.inl (nI_1 _).symm)
  have loop : ∀ (f : Nat) (x : Int32) (h p n : Nat) (s : Nat → Int32) (z : Nat → Nat → Nat → Int32) (lo' : Lo), h + f = vA V 3 → p < vA V 0 → n ≤ vA V 4 → cJ V I' z x h p n s → jGo (vA V) (vA V 4) T f x h p n s = xRunR V a → glle [some gG0, none, some (gI (nI (cN h p n))), some (gI (nI h)), none, none] lo' → gT mX1_run (d + 610) (1, 6) (cQr o I L) (cQx [39] o I L) 20 lo' [] (gH z L' y) (1, 6) := by
    intro f
    induction f with
    | zero =>
      intro x h p n s z lo' b2 b1 b3 J hR hl'
      exact fin x h p n s z lo' (by omega) b1 b3 (fun e => (aEnd_0 e).2 (by omega)) J hR hl'
    | succ f ih =>
      intro x h p n s z lo' b2 b1 b3 J hR hl'
      rw [jGo] at hR
      by_cases e : aEnd (vA V) h p n = 0
      · rw [if_pos e] at hR
        have hh3 : h < vA V 3 := by omega
        have hn0 := (aEnd_0 e).1
        obtain ⟨m, m1, m2, m3⟩ := wT_le hA hS (gPok_V hw g1) kn (by omega) b1 b3 e
        have mT : T h p n = m := by
          have q := (kn.w hA hS (gPok_V hw g1) (show h ≤ vA V 3 by omega) b1 b3).1
          rw [m2] at q
          rw [hT]
          unfold wM
          rw [← q, gTo_n (by omega)]
        rw [mT] at hR
        have lz := ld z (fun b _ c1 c2 c3 c4 => J.1 b c1 c2 c3 c4)
        have hc := cN_lt (show h < 25 by omega) (show p < 12 by omega) (show n < 13 by omega)
        have z86 : z 86 0 (cN h p n) = nI m := by rw [J.1 86 (by decide) (by decide) (by decide) (by decide)]; exact m2
        obtain ⟨n0, hn0d⟩ : ∃ n0, n0 = (if m = 0 then 0 else gSnA (vA V) (m - 1) h) := ⟨_, rfl⟩
        have hn31 : n0 < 2 ^ 31 := by
          rw [hn0d]
          split
          · omega
          · have q := hw.1.lt (132 + 24 * (m - 1) + h) (by omega)
            unfold gSnA
            omega
        obtain ⟨w, hwd⟩ : ∃ w, w = u3 (u3 (u3 z 25 0 h (nI p)) 26 0 h (nI n)) 27 0 h (nI m) := ⟨_, rfl⟩
        have wb : ∀ b, b ≠ 25 → b ≠ 26 → b ≠ 27 → w b = z b := fun b c1 c2 c3 => by rw [hwd, u3_ne1 c3, u3_ne1 c2, u3_ne1 c1]
        have at92 : ∀ (mv : Nat) (x' : Int32) (v : Nat → Nat → Nat → Int32) (lo' : Lo), mv ≤ vA V 1 → jSt (vA V) x h p m = (x', aMv (vA V) p mv) → (∀ b, b ≠ 60 → v b = w b) → (∀ j, j ≠ 9 → v 60 0 j = w 60 0 j) → v 60 0 9 = x' → glle [some gG0, none, none, some (gI (nI h)), none, none] lo' → gT mX1_run (d + 610) (1, 6) (cQr o I L) (cQx [39] o I L) 92 lo' [gI (nI mv), gI (nI (cN h p n)), gG0] (gH v L' y) (1, 6) := by
          intro mv x' v lo' c1 c2 v1 v2 v3 hl2
          have lv := ld v (fun b _ d1 d2 d3 d4 => by rw [v1 b d4, wb b d1 d2 d3]; exact J.1 b d1 d2 d3 d4)
          have ht := gGo_ltR hA c1 b1
          refine gT_lo _ hl2 ?_
          refine gT_go 400 [20] kX1_run ?_
          refine gP_use (o_behind (d + 607) h p n mv (vA V 4) (by omega) (by omega) (by omega) hn0 (by omega) hS (vA V) hw.1 v L' y lv) ?_
          rw [c2] at hR
          refine ih x' (h + 1) (aMv (vA V) p mv) (aNx (vA V) (vA V 4) n (aMv (vA V) p mv)) _ v _ (by omega) ht (aNx_le b3) ?_ hR (by (repeat' apply And.intro) <;> first | rfl | trivial | exact congrArg Sum.inl (nI_1 _).symm | exact congrArg Sum.inl (nI_1 _).symm)
          obtain ⟨j1, j2, j3, j4, j5, j6, j7, j8, j9⟩ := J
          refine ⟨fun b d1 d2 d3 d4 => by rw [v1 b d4, wb b d1 d2 d3]; exact j1 b d1 d2 d3 d4, fun j hj => by rw [v2 j hj, wb 60 (by decide) (by decide) (by decide)]; exact j2 j hj, v3, fun b i k hi hb => ?_, fun i hi => ?_, fun j hj => ?_, ?_, ?_, ?_⟩
          · have n0 : ∀ (f : Nat → Nat → Nat → Int32) (b0 k0 : Nat) (v : Int32), u3 f b0 0 k0 v b i k = f b i k := fun f b0 k0 v => u3_ne (fun q => by have := q.2.1; omega)
            rw [v1 b (by omega), hwd, n0, n0, n0]
            exact j4 b i k hi hb
          · rw [v1 25 (by decide), v1 26 (by decide), v1 27 (by decide), hwd]
            have e25 : u3 (u3 (u3 z 25 0 h (nI p)) 26 0 h (nI n)) 27 0 h (nI m) 25 0 i = u3 z 25 0 h (nI p) 25 0 i := by rw [u3_ne1 (by decide), u3_ne1 (by decide)]
            have e26 : u3 (u3 (u3 z 25 0 h (nI p)) 26 0 h (nI n)) 27 0 h (nI m) 26 0 i = u3 (u3 z 25 0 h (nI p)) 26 0 h (nI n) 26 0 i := by rw [u3_ne1 (by decide)]
            rw [e25, e26, up1_ne (show ¬ 82 + i = 107 + (h + 1) by omega), up1_ne (show ¬ 82 + i = 82 + (h + 1) by omega), up1_ne (show ¬ 82 + i = 132 + h by omega), up1_ne (show ¬ 107 + i = 107 + (h + 1) by omega), up1_ne (show ¬ 107 + i = 82 + (h + 1) by omega), up1_ne (show ¬ 107 + i = 132 + h by omega), up1_ne (show ¬ 132 + i = 107 + (h + 1) by omega), up1_ne (show ¬ 132 + i = 82 + (h + 1) by omega)]
            by_cases q : i = h
            · subst q
              exact ⟨u3_eq.trans j8.symm, u3_eq.trans j9.symm, u3_eq.trans up1_eq.symm⟩
            · obtain ⟨r1, r2, r3⟩ := j5 i (by omega)
              refine ⟨(u3_ne3 q).trans r1, (u3_ne3 q).trans (by rw [u3_ne1 (by decide)]; exact r2), (u3_ne3 q).trans ?_⟩
              rw [u3_ne1 (by decide), u3_ne1 (by decide), up1_ne (show ¬ 132 + i = 132 + h by omega)]
              exact r3
          · rw [up1_ne (by omega), up1_ne (by omega), up1_ne (by omega)]; exact j6 j hj
          · rw [up1_ne (by omega), up1_ne (by omega), up1_ne (by omega)]; exact j7
          · rw [up1_ne (by omega), up1_eq]
          · rw [up1_eq]
        have w60 : w 60 0 9 = x := by rw [wb 60 (by decide) (by decide) (by decide)]; exact J.2.2.1
        have at59 : ∀ (v : Int32) (lo' : Lo), v = nI n0 → glle [some gG0, none, some (gI (nI (cN h p n))), some (gI (nI h)), some (gI (nI m)), none] lo' → gT mX1_run (d + 610) (1, 6) (cQr o I L) (cQx [39] o I L) 59 lo' [gI v] (gH z L' y) (1, 6) := by
          intro v lo' hv hl2
          subst hv
          refine gT_lo _ hl2 ?_
          refine gT_go 400 [92] kX1_run ?_
          refine gTM_use rfl (o_notes (d + 607) h p n (by omega) (by omega) (by omega) (nI m) z L' y) (fun v h' q => ?_)
          obtain ⟨rfl, rfl⟩ := q
          rw [← hwd]
          refine bLe n0 0 rfl rfl (fun c => ?_) (fun c => ?_)
          · refine at92 m x w _ m1 ?_ (fun _ _ => rfl) (fun _ _ => rfl) w60 (by (repeat' apply And.intro) <;> first | rfl | trivial | exact congrArg Sum.inl (nI_1 _).symm | exact congrArg Sum.inl (nI_1 _).symm)
            unfold jSt aMv
            by_cases z0 : m = 0
            · rw [if_pos z0, if_pos z0]
            · rw [if_neg z0, if_neg z0]
              rw [if_neg z0] at hn0d
              rw [if_pos (by omega)]
          · refine gTM_use rfl (o_draw (d + 608) w L' y) (fun v h' q => ?_)
            obtain ⟨rfl, rfl⟩ := q
            rw [w60]
            have z0 : ¬ m = 0 := fun z0 => by rw [if_pos z0] at hn0d; omega
            rw [if_neg z0] at hn0d
            have js : jSt (vA V) x h p m = (gNxt x, if gRoll (gNxt x) < nI n0 then p else aOth (vA V) (m - 1) p) := by
              unfold jSt
              rw [if_neg z0, if_neg (by omega), hn0d]
            refine And.intro (fun q => ?_) (fun q => ?_)
            · refine at92 m (gNxt x) _ _ m1 ?_ (fun b hb => u3_ne1 hb) (fun j hj => u3_ne3 hj) u3_eq (by (repeat' apply And.intro) <;> first | rfl | trivial | exact congrArg Sum.inl (nI_1 _).symm | exact congrArg Sum.inl (nI_1 _).symm)
              rw [js, if_neg (Int32.not_lt.mpr (show nI n0 ≤ gRoll (gNxt x) from q))]
              unfold aMv
              rw [if_neg z0]
            · refine at92 0 (gNxt x) _ _ (Nat.zero_le _) ?_ (fun b hb => u3_ne1 hb) (fun j hj => u3_ne3 hj) u3_eq (by (repeat' apply And.intro) <;> first | rfl | trivial | exact congrArg Sum.inl (nI_1 _).symm | exact congrArg Sum.inl (nI_1 _).symm)
              rw [js, if_pos (Int32.not_le.mp (show ¬ nI n0 ≤ gRoll (gNxt x) from q))]
              rfl
        refine gT_lo _ hl' ?_
        refine gT_go 400 [59] kX1_run ?_
        refine gP_use (o_endedOf (d + 607) h p n (vA V 4) (by omega) (by omega) (by omega) (vA V) hw.1 z L' y lz) ?_
        refine bNe (aEnd (vA V) h p n) 0 rfl rfl (fun q => absurd e q) (fun _ => ?_) (by have := aEnd_lt (vA V) h p n; omega) (by decide)
        refine Exists.intro (cN h p n) (And.intro rfl (And.intro (show _ < 3900 by omega) ?_))
        refine bNe m 0 z86 rfl (fun c => ?_) (fun c => ?_)
        · have l9 := lz.2.2.2.2.2.2.2.2.1
          refine Exists.intro (m - 1) (And.intro (by show z 86 0 (cN h p n) - 1 = _; rw [z86]; exact pk_sub (b := 1) (by omega)) (And.intro (show m - 1 < 24 by omega) ?_))
          refine Exists.intro (h) (And.intro rfl (And.intro (show _ < 24 by omega) ?_))
          exact at59 _ _ (by rw [hn0d, if_neg c]; exact l9 (m - 1) h (by omega) (by omega)) ⟨rfl, rfl, rfl, congrArg (fun q => gI q) z86.symm, trivial⟩
        · exact at59 _ _ (by rw [hn0d, if_pos c] <;> rfl) ⟨rfl, rfl, rfl, congrArg (fun q => gI q) z86.symm, trivial⟩
      · rw [if_neg e] at hR
        exact fin x h p n s z lo' (by omega) b1 b3 e J hR hl'
  have l1 := H'.1.1
  refine gP_use (o_begin (d + 607) V (u3 I' 60 0 9 a) L' y (ld _ (fun b _ _ _ _ c4 => u3_ne1 c4))) ?_
  refine loop (vA V 3) a 0 (vA V 6) (vA V 4) (up1 (up1 (up1 (vS V) 79 1) 82 (nI (vA V 6))) 107 (nI (vA V 4))) (u3 I' 60 0 9 a) _ (by omega) hA.2.2.2.2.2.1 (Nat.le_refl _) ?_ (by rw [hT] <;> rfl) (by (repeat' apply And.intro) <;> first | rfl | trivial | exact congrArg Sum.inl (nI_1 _).symm | exact congrArg Sum.inl (nI_1 _).symm)
  refine ⟨fun b _ _ _ c4 => u3_ne1 c4, fun j hj => u3_ne3 hj, u3_eq, fun b i k hi _ => u3_ne (fun q => by have := q.2.1; omega), fun i hi => absurd hi (Nat.not_lt_zero _), fun j hj => ?_, ?_, ?_, ?_⟩
  · rw [up1_ne (by omega), up1_ne (by omega), up1_ne (by omega)]
  · rw [up1_ne (by decide), up1_ne (by decide), up1_eq]
  · rw [up1_ne (by decide), up1_eq]
  · rw [up1_eq]
