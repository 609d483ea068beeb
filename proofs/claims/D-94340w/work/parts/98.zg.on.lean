/-! ===== public methods of the component: back to an image ===== -/
set_option maxRecDepth 100000 in
theorem c2_on (V : VS) (hw : gWf V) : cC mX1_on 8 (0, 0) [] [] V (xOn V) := by
  intro d I L y H
  obtain ⟨o, ho⟩ : ∃ o, o = xOn V := ⟨_, rfl⟩
  rw [← ho]
  obtain ⟨⟨H1, ⟨ht, ht6, H2⟩, H3, ⟨g, ⟨h4, sp1, sp2, sp3⟩, h4b⟩, H5, H6, H7, H8, H9, H10, H11, H12, H13⟩, Hk⟩ := id H
  have w1 := hw.2.2.2.2.1
  refine gEnter 400 [12] kX1_on rfl rfl ?_
  refine gP_use (o_isEmpty (d + 6) 1 (vI V).1 _ I L y h4) ?_
  refine bB0 (decide ((vI V).1 = 0)) rfl (fun c => ?_) (fun c => ?_)
  · have c' : ¬ (vI V).1 = 0 := of_decide_eq_false c
    obtain ⟨m, hm⟩ : ∃ m, (vI V).1 = m + 1 := ⟨(vI V).1 - 1, by omega⟩
    refine gT_val (fun hv hlo => ?_)
    have v60 : 0 < y.2.2.2.2 60 := hlo 0 gG0 rfl
    have v10 : 1 < y.2.2.2.2 10 := hv 60 0 4 (10, 1) v60 (gvk_o rfl) rfl
    have vr : y.2.1 < y.2.2.2.2 10 := hv 60 0 1 (10, y.2.1) v60 (gvk_o rfl) rfl
    have ve : ∀ q e, q < y.2.2.2.2 10 → gRX y 10 q 1 = some (11, e) → e < y.2.2.2.2 11 := fun q e hq he => hv 10 q 1 (11, e) hq (gvk_o rfl) he
    have h4' : cLi 1 (m + 1) (fun k => some (20, g k)) I y := by rw [← hm]; exact h4
    have g0 : 0 < g m := (h4b m (by omega)).1
    have at29 : ∀ (x : Int32) (lo' : Lo), x = nI m → glle [some gG0] lo' → gT mX1_on (d + 8) (0, 0) (cQr o I L) (cQx [] o I L) 29 lo' [gI x, gR (some (10, 1)), gR (some (20, 0))] (gH I L y) (0, 0) := by
      intro x lo' hx hl'
      subst hx
      refine gT_lo _ hl' ?_
      refine gT_callV (k := (0, 0)) rfl rfl rfl rfl rfl dX1_on_29 (o_removeLast (d + 4) 1 m _ I L y h4') (by decide) (by decide) (fun v h' q => ?_) (fun _ _ q => q.elim)
      obtain ⟨rfl, I1, y1, rfl, f1, l1⟩ := q
      refine gT_cast (v := (20, g m)) (show (20 : Nat) ≠ 2 by decide) rfl rfl q297 dX1_on_32 ?_
      refine gT_callV (k := (0, 0)) rfl rfl rfl rfl rfl dX1_on_35 (o_over (d + 5) (g m) 0 (by omega) I1 L y1) (by decide) (by decide) (fun v h' q => ?_) (fun _ _ q => q.elim)
      obtain ⟨rfl, I2, rfl, f2⟩ := q
      refine gT_go 400 [] kX1_on ?_
      refine gTM_use rfl (o_leads (d + 6) I2 L y1) (fun v h' q => ?_)
      obtain ⟨rfl, rfl⟩ := q
      obtain ⟨I3, hI3⟩ : ∃ I3, I3 = u3 (u3 I2 60 0 30 0) 60 0 31 0 := ⟨_, rfl⟩
      have e3 : ∀ b, b ≠ 60 → I3 b = I2 b := fun b hb => by rw [hI3, u3_ne1 hb, u3_ne1 hb]
      have e60 : ∀ j, j ≠ 30 → j ≠ 31 → I3 60 0 j = I2 60 0 j := fun j j1 j2 => by rw [hI3]; exact (u3_ne3 j2).trans (u3_ne3 j1)
      have e31 : I3 60 0 31 = 0 := by rw [hI3]; exact u3_eq
      have eI : ∀ b, b ≠ 10 → b ≠ 11 → b ≠ 60 → ¬ (20 ≤ b ∧ b ≤ 27) → I3 b = I b := fun b b1 b2 b3 b4 => (e3 b b3).trans ((f2.1 b (by omega)).trans (f1.1 b b1 b2))
      have eJ : ∀ j, j ≠ 30 → j ≠ 31 → I3 60 0 j = I 60 0 j := fun j j1 j2 => (e60 j j1 j2).trans (by rw [f2.1 60 (by decide), f1.1 60 (by decide) (by decide)])
      have eS : ∀ b i k, 20 ≤ b → b ≤ 27 → i ≠ 0 → I3 b i k = I b i k := fun b i k b1 b2 hi => by
        rw [e3 b (by omega)]
        exact (f2.2.1 b i k hi).trans (by rw [f1.1 b (by omega) (by omega)])
      have eC : ∀ b, b ≠ 11 → y1.2.2.2.2 b = y.2.2.2.2 b := fun b hb => (f1.2.2.2.2.2.2.1 b hb).2
      have sep1 : ∀ e, gRX y 10 y.2.1 1 = some (11, e) → gRX y 10 1 1 ≠ some (11, e) ∧ e < y.2.2.2.2 11 := fun e he => ⟨sp2 e he, ve _ e vr he⟩
      have l3 : cLi 1 m (fun k => some (20, g k)) I3 y1 := ⟨(congrFun (congrFun ((e3 10 (by decide)).trans (f2.1 10 (by decide))) 1) 2).trans l1.1, l1.2⟩
      rw [← hI3]
      refine gP_use (o_size (d + 6) 1 m _ I3 L y1 l3) ?_
      refine cDone (V' := xS (xI V (m, (vI V).2)) ((vI V).2 m)) (by rw [ho]; unfold xOn; rw [gbeqF c', hm]; exact ⟨rfl, rfl, rfl⟩) (fun b b1 b2 => ⟨eI b (by omega) (by omega) (by omega) (by omega), rfl⟩) ⟨⟨?_, ⟨ht, ht6, ?_⟩, ?_, ⟨g, ⟨l3, ?_, ?_, ?_⟩, ?_⟩, ?_, ?_, ?_, ?_, ?_, ?_, ?_, ?_, ?_⟩, ?_⟩
      · rw [f1.2.2.2.1]; exact cLd_cg2 (fun b b1 b2 => eI b (by omega) (by omega) (by omega) (by omega)) H1
      · exact cRl_cg (fun b hb => (e3 b (by omega)).trans (f2.1 b (by omega))) (f1.rules sp1 sep1 H2)
      · have q1 : cSt (g m) ((vI V).2 m) I1 := cSt_cg (fun b b1 b2 => f1.1 b (by omega) (by omega)) (h4b m (by omega)).2
        exact cSt_cg (fun b b1 b2 => e3 b (by omega)) (f2.st q1)
      · rw [f1.2.2.2.2.1]; exact sp1
      · rw [f1.2.2.2.2.1]; exact f1.sep sp1 sep1
      · refine ⟨fun b b1 b2 => ?_, fun b b1 b2 => ?_, ?_, ?_⟩
        · rw [eC b (by omega), eC 20 (by decide)]; exact sp3.1 b b1 b2
        · rw [eC b (by omega), eC 40 (by decide)]; exact sp3.2.1 b b1 b2
        · rw [eC 54 (by decide), eC 40 (by decide)]; exact sp3.2.2.1
        · rw [eC 55 (by decide), eC 40 (by decide)]; exact sp3.2.2.2
      · intro k hk
        have hk' : k < m := hk
        exact ⟨(h4b k (by omega)).1, cSt_pos (fun b k' b1 b2 => eS b (g k) k' b1 (by omega) (by have := (h4b k (by omega)).1; omega)) (h4b k (by omega)).2⟩
      · exact (eJ 2 (by decide) (by decide)).trans H5
      · intro k hk; rw [eI 65 (by decide) (by decide) (by decide) (by decide)]; exact H6 k hk
      · exact (eJ 7 (by decide) (by decide)).trans H7
      · intro k hk; rw [eI 66 (by decide) (by decide) (by decide) (by decide)]; exact H8 k hk
      · exact (eJ 8 (by decide) (by decide)).trans H9
      · exact (eJ 10 (by decide) (by decide)).trans H10
      · exact (eJ 11 (by decide) (by decide)).trans H11
      · exact (eJ 32 (by decide) (by decide)).trans H12
      · intro k hk; rw [eI 72 (by decide) (by decide) (by decide) (by decide)]; exact H13 k hk
      · obtain ⟨b, c, f, k1, k2, k3, k4, k5, k6⟩ := Hk
        exact ⟨b, c, false, (eJ 28 (by decide) (by decide)).trans k1, (eJ 29 (by decide) (by decide)).trans k2, e31, fun e => cKl_cg (eI 160 (by decide) (by decide) (by decide) (by decide)) rfl (k4 e), k5, fun e => by cases e⟩
    refine gT_go 400 [29] kX1_on ?_
    refine gP_use (o_size (d + 6) 1 (vI V).1 _ I L y h4) ?_
    refine at29 _ _ ?_ (by (repeat' apply And.intro) <;> first | rfl | trivial | exact congrArg Sum.inl (nI_1 _).symm | exact congrArg Sum.inl (nI_1 _).symm)
    show nI (vI V).1 - 1 = nI m
    rw [hm]
    exact pk_sub (b := 1) (by omega)
  · have c' : (vI V).1 = 0 := of_decide_eq_true c
    exact cDone (by rw [ho]; unfold xOn; rw [c']; exact ⟨rfl, rfl, rfl⟩) (cOut.rf I L) H
