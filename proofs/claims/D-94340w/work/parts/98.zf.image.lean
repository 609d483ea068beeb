/-! ===== public methods of the component: an image ===== -/
set_option maxRecDepth 100000 in
theorem c2_image (V : VS) (hw : gWf V) : cC mX1_image 8 (9, 173) [] [] V (xImage V) := by
  intro d I L y H
  obtain ⟨o, ho⟩ : ∃ o, o = xImage V := ⟨_, rfl⟩
  rw [← ho]
  obtain ⟨⟨H1, ⟨ht, ht6, H2⟩, H3, ⟨g, ⟨h4, sp1, sp2, sp3⟩, h4b⟩, H5, H6, H7, H8, H9, H10, H11, H12, H13⟩, Hk⟩ := id H
  have w1 := hw.2.2.2.2.1
  refine gEnter 400 [17] kX1_image rfl rfl ?_
  refine gP_use (o_size (d + 6) 1 (vI V).1 _ I L y h4) ?_
  refine bNe (vI V).1 3 rfl rfl (fun c => ?_) (fun c => ?_)
  · refine gT_val (fun hv hlo => ?_)
    have v60 : 0 < y.2.2.2.2 60 := hlo 0 gG0 rfl
    have v20 : 0 < y.2.2.2.2 20 := hv 60 0 3 (20, 0) v60 (gvk_o rfl) rfl
    have v10 : 1 < y.2.2.2.2 10 := hv 60 0 4 (10, 1) v60 (gvk_o rfl) rfl
    have vr : y.2.1 < y.2.2.2.2 10 := hv 60 0 1 (10, y.2.1) v60 (gvk_o rfl) rfl
    have ve : ∀ q e, q < y.2.2.2.2 10 → gRX y 10 q 1 = some (11, e) → e < y.2.2.2.2 11 := fun q e hq he => hv 10 q 1 (11, e) hq (gvk_o rfl) he
    have vg : ∀ k, k < (vI V).1 → g k < y.2.2.2.2 20 := by
      intro k hk
      rcases h4.2.2 with ⟨z, -⟩ | ⟨e, a, b, cc, -⟩
      · omega
      · exact hv 11 e k (20, g k) (ve 1 e v10 a) (gvk_a rfl (show k < gNX y 11 e by omega)) (cc k hk)
    refine gT_new 20 (by decide) rfl rfl (by decide) dX1_image_17 q297 q298 q139 (by decide) (by decide) ?_
    refine gT_go 400 [21] kX1_image ?_
    refine gT_callP (k := (7, 152)) rfl rfl (by decide) rfl rfl rfl dX1_image_21 (o_stNew (d + 5) (y.2.2.2.2 20) I L y rfl (fun b b1 b2 => sp3.1 b b1 b2)) (by decide) (by decide) (fun v h' q => ?_) (fun _ _ q => q.elim)
    obtain ⟨rfl, I1, L1, y1, rfl, f1, s1⟩ := q
    obtain ⟨c0, hc0⟩ : ∃ c0, c0 = y.2.2.2.2 20 := ⟨_, rfl⟩
    rw [← hc0] at f1 s1 v20 vg
    change gT _ _ _ _ _ _ _ [gR (some (20, y.2.2.2.2 20)), gR (some (10, 1))] _ _
    rw [← hc0]
    refine gT_go 400 [31] kX1_image ?_
    refine gTM_use rfl (o_over (d + 5) 0 c0 (by omega) I1 L1 y1) (fun v h' q => ?_)
    obtain ⟨rfl, I2, rfl, f2⟩ := q
    have er : ∀ b, b < 20 → gRX y1 b = gRX y b := fun b hb => (f1.2.2.2.2.1 b (by omega)).1
    have en : gNX y1 11 = gNX y 11 := (f1.2.2.2.2.1 11 (by decide)).2.1
    have ec : ∀ b, b < 20 → y1.2.2.2.2 b = y.2.2.2.2 b := fun b hb => (f1.2.2.2.2.1 b (by omega)).2.2
    have e12 : ∀ b, b < 20 → I2 b = I b := fun b hb => (f2.1 b (by omega)).trans (f1.1 b (by omega)).1
    have hl2 : cLi 1 (vI V).1 (fun k => some (20, g k)) I2 y1 := cLi_cg2 (e12 10 (by decide)) er en h4
    refine gT_callV (k := (1, 10)) rfl rfl rfl rfl rfl dX1_image_31 (o_add (d + 2) 1 (vI V).1 _ (20, c0) (Or.inl rfl) (by omega) I2 L1 y1 hl2) (by decide) (by decide) (fun v h' q => ?_) (fun _ _ q => q.elim)
    obtain ⟨rfl, I3, L3, y3, rfl, f3, l3⟩ := q
    have sep1 : ∀ e, gRX y1 10 y1.2.1 1 = some (11, e) → gRX y1 10 1 1 ≠ some (11, e) ∧ e < y1.2.2.2.2 11 := by
      intro e he
      rw [er 10 (by decide), f1.2.2.2.1] at he
      rw [er 10 (by decide), ec 11 (by decide)]
      exact ⟨sp2 e he, ve _ e vr he⟩
    have hq1 : y1.2.1 ≠ 1 := by rw [f1.2.2.2.1]; exact sp1
    have eI : ∀ b, b ≠ 10 → b ≠ 11 → ¬ (20 ≤ b ∧ b ≤ 27) → I3 b = I b := fun b b1 b2 b3 => (f3.1 b b1 b2).trans ((f2.1 b (by omega)).trans (f1.1 b b3).1)
    have eL : ∀ b, b ≠ 11 → ¬ (20 ≤ b ∧ b ≤ 27) → L3 b = L b := fun b b1 b2 => (f3.2.1 b b1).trans (f1.1 b b2).2
    have eS : ∀ b i k, 20 ≤ b → b ≤ 27 → i ≠ c0 → I3 b i k = I b i k := fun b i k b1 b2 hi => by
      rw [f3.1 b (by omega) (by omega)]
      exact (f2.2.1 b i k hi).trans (f1.2.1 b i k hi)
    have eY1 : y3.1 = y.1 := f3.2.2.2.1.trans f1.2.2.1
    have eY2 : y3.2.1 = y.2.1 := f3.2.2.2.2.1.trans f1.2.2.2.1
    have eC : ∀ b, b ≠ 11 → y3.2.2.2.2 b = y1.2.2.2.2 b := fun b hb => (f3.2.2.2.2.2.2.1 b hb).2
    refine gT_go 400 [] kX1_image ?_
    refine gP_use (o_size (d + 6) 1 ((vI V).1 + 1) _ I3 L3 y3 l3) ?_
    refine cDone (V' := xI V ((vI V).1 + 1, fun k => if k = (vI V).1 then vS V else (vI V).2 k)) (by rw [ho]; unfold xImage; rw [gbeqF c]; exact ⟨rfl, rfl, rfl⟩) (fun b b1 b2 => ⟨eI b (by omega) (by omega) (by omega), eL b (by omega) (by omega)⟩) ⟨⟨?_, ⟨ht, ht6, ?_⟩, ?_, ⟨fun k => if k = (vI V).1 then c0 else g k, ⟨?_, ?_, ?_, ?_⟩, ?_⟩, ?_, ?_, ?_, ?_, ?_, ?_, ?_, ?_, ?_⟩, ?_⟩
    · rw [eY1]; exact cLd_cg2 (fun b b1 b2 => eI b (by omega) (by omega) (by omega)) H1
    · exact f3.rules hq1 sep1 (cRl_cg2 e12 er en f1.2.2.2.1 H2)
    · exact cSt_pos (fun b k b1 b2 => eS b 0 k b1 (by omega) (by omega)) H3
    · refine cLi_f (fun k hk => ?_) l3
      show some (20, if k = (vI V).1 then c0 else g k) = if k = (vI V).1 then some (20, c0) else some (20, g k)
      split <;> rfl
    · rw [eY2]; exact sp1
    · rw [f3.2.2.2.2.1]; exact f3.sep hq1 sep1
    · refine ⟨fun b b1 b2 => ?_, fun b b1 b2 => ?_, ?_, ?_⟩
      · rw [eC b (by omega), eC 20 (by decide), f1.2.2.2.2.2 b (by omega) b2, f1.2.2.2.2.2 20 (by decide) (by decide)]
      · rw [eC b (by omega), eC 40 (by decide), (f1.2.2.2.2.1 b (by omega)).2.2, (f1.2.2.2.2.1 40 (by decide)).2.2]; exact sp3.2.1 b b1 b2
      · rw [eC 54 (by decide), eC 40 (by decide), (f1.2.2.2.2.1 54 (by decide)).2.2, (f1.2.2.2.2.1 40 (by decide)).2.2]; exact sp3.2.2.1
      · rw [eC 55 (by decide), eC 40 (by decide), (f1.2.2.2.2.1 55 (by decide)).2.2, (f1.2.2.2.2.1 40 (by decide)).2.2]; exact sp3.2.2.2
    · intro k hk
      have hk' : k < (vI V).1 + 1 := hk
      show 0 < (if k = (vI V).1 then c0 else g k) ∧ cSt (if k = (vI V).1 then c0 else g k) (if k = (vI V).1 then vS V else (vI V).2 k) I3
      by_cases e : k = (vI V).1
      · rw [if_pos e, if_pos e]
        refine ⟨v20, ?_⟩
        have q1 : cSt 0 (vS V) I1 := cSt_pos (fun b k b1 b2 => f1.2.1 b 0 k (by omega)) H3
        exact cSt_cg (fun b b1 b2 => f3.1 b (by omega) (by omega)) (f2.st q1)
      · rw [if_neg e, if_neg e]
        have hk2 : k < (vI V).1 := by omega
        refine ⟨(h4b k hk2).1, cSt_pos (fun b k' b1 b2 => eS b (g k) k' b1 (by omega) (by have := vg k hk2; omega)) (h4b k hk2).2⟩
    · rw [eI 60 (by decide) (by decide) (by decide)]; exact H5
    · intro k hk; rw [eI 65 (by decide) (by decide) (by decide)]; exact H6 k hk
    · rw [eI 60 (by decide) (by decide) (by decide)]; exact H7
    · intro k hk; rw [eI 66 (by decide) (by decide) (by decide)]; exact H8 k hk
    · rw [eI 60 (by decide) (by decide) (by decide)]; exact H9
    · rw [eI 60 (by decide) (by decide) (by decide)]; exact H10
    · rw [eI 60 (by decide) (by decide) (by decide)]; exact H11
    · rw [eI 60 (by decide) (by decide) (by decide)]; exact H12
    · intro k hk; rw [eI 72 (by decide) (by decide) (by decide)]; exact H13 k hk
    · exact cKw_cg (eI 160 (by decide) (by decide) (by decide)) (eI 86 (by decide) (by decide) (by decide)) (fun b hb => eL b (by omega) (by omega)) (fun j _ => by rw [eI 60 (by decide) (by decide) (by decide)]) Hk
  · exact cDone (by rw [ho]; unfold xImage; rw [c]; exact ⟨rfl, rfl, rfl⟩) (cOut.rf I L) H
