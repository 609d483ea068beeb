/-! ===== of one mind, walked ===== -/
set_option maxRecDepth 100000 in
theorem c_mind (V : VS) (hw : gWf V) : mC mX12_mind 9 [] V (xMind V) := by
  intro d I L y hm
  have hm0 := mR_thr hm 0
  have a0 := hw.1.1
  have a1 := hw.1.2.1
  have a2 := hw.1.2.2.1
  have a3 := hw.1.2.2.2.1
  have a4 := hw.1.2.2.2.2.1
  refine gEnter 400 [21] kX12_mind rfl rfl ?_
  refine gTM_use rfl (p_isHere (d + 6) V 1 (by decide) _ L y hm0 u3_eq) (fun v h' q => ?_)
  rcases q with ⟨g1, rfl, rfl⟩ | ⟨g1, rfl, I', rfl, q1, q2, q3⟩
  rotate_left
  · refine And.intro (fun q => absurd rfl q) (fun _ => ?_)
    exact mGt_no (by unfold xMind; simp only [g1, cond_true, cond_false] <;> rfl) q1 q2 q3
  refine And.intro (fun _ => ?_) (fun q => absurd q (by decide))
  have hA := hw.2.1 g1
  have hx : xMind V = (0, gI (nI (wMnd V (xMay V (gP0 V)) (cOm V (gP0 V)) (vA V 6) (vA V 4) (vA V 3))), V) := by unfold xMind; simp only [g1, cond_true]
  refine gTM_use rfl (p_asItIs d V hw g1 _ L y hm0) (fun v h' q => ?_)
  obtain ⟨rfl, I1, L1, rfl, o1, m1, u1, hp1, t1, k1⟩ := q
  have hBm : ∀ h p n, xMay V (gP0 V) h p n = xMay V (gP0 V) h p n := fun _ _ _ => rfl
  have h6 := hA.2.2.2.2.2.1
  have done : ∀ (z : Nat → Nat → Nat → Int32) (r : Int32), (∀ b, b ≠ 151 → z b = I1 b) → r = nI (wMnd V (xMay V (gP0 V)) (cOm V (gP0 V)) (vA V 6) (vA V 4) (vA V 3)) → [gI r] = [(xMind V).2.1] ∧ ∃ I' L', gH z L1 y = gH I' L' y ∧ mOut I L I' L' ∧ mR (xMind V).2.2 I' L' ∧ I' 100 0 0 = (xMind V).1 := by
    intro z r hz hr
    have mz : mR V z L1 := by
      refine mR_cg ⟨?_, ?_, ?_, ?_, ?_, ?_, ?_, ?_, ?_, ?_, ?_, rfl, rfl, fun k _ => by rw [hz 100 (by decide)]⟩ m1 <;> exact hz _ (by decide)
    exact mDone (I' := z) (o2 := (0, gI (nI (wMnd V (xMay V (gP0 V)) (cOm V (gP0 V)) (vA V 6) (vA V 4) (vA V 3))), V)) hx (by rw [hr]) (o1.tr (fun b hb => ⟨hz b (by omega), rfl⟩)) mz (by rw [hz 100 (by decide)]; exact t1.trans u3_eq)
  have tr : ∀ z : Nat → Nat → Nat → Int32, (∀ b, b ≠ 151 → z b = I1 b) → gLx z (vA V) ∧ mU V (vA V 4) none (gP0 V) z L1 ∧ mP V (vA V 4) none (gP0 V) z L1 := fun z hz =>
    ⟨fun j hj => by rw [hz 110 (by decide)]; exact m1.1 j hj, ⟨by rw [hz 100 (by decide)]; exact u1.1, gKn_cg (hz 136 (by decide)) (hz 142 (by decide)) rfl rfl u1.2.1, gPf_cg (hz 129 (by decide)) (hz 130 (by decide)) (by rw [hz 100 (by decide)]) (by rw [hz 100 (by decide)]) (by rw [hz 100 (by decide)]) (hz 125 (by decide)) u1.2.2⟩, mP_cg (hz 110 (by decide)) (by rw [hz 100 (by decide)]) (hz 137 (by decide)) rfl rfl rfl hp1⟩
  refine gT_for (σ := Nat → Nat → Nat → Int32) (pc := 21) (lo := fun i _ => [some gM0, some (gI (nI i)), none, none, none, none, none, none]) (hp := fun _ z => gH z L1 y) (Inv := fun i z => (∀ b, b ≠ 151 → z b = I1 b) ∧ ∀ j, j < i → z 151 0 j = 0) 3900 ?_ ?_ 0 I1 (Nat.zero_le _) ⟨fun _ _ => rfl, fun j hj => absurd hj (Nat.not_lt_zero _)⟩ (by (repeat' apply And.intro) <;> first | rfl | trivial | exact congrArg Sum.inl (nI_1 _).symm | exact congrArg Sum.inl (nI_1 _).symm)
  rotate_left
  · intro i z hi ⟨z1, z2⟩ hnext
    refine gT_go 400 [21] kX12_mind ?_
    refine bGe i 3900 rfl rfl (fun q => absurd q (by omega)) (fun _ => ?_)
    refine And.intro (Or.inl rfl) ?_
    refine Exists.intro (i) (And.intro rfl (And.intro (show _ < 3900 by omega) ?_))
    refine hnext (u3 z 151 0 i 0) _ ⟨fun b hb => (u3_ne1 hb).trans (z1 b hb), fun j hj => ?_⟩ (by (repeat' apply And.intro) <;> first | rfl | trivial | exact congrArg Sum.inl (nI_1 _).symm | exact congrArg Sum.inl (nI_1 _).symm)
    by_cases q : j = i
    · subst q; exact u3_eq
    · exact (u3_ne3 q).trans (z2 j (by omega))
  intro z ⟨z1, z2⟩
  have hs0 := sN_lt (h := 0) (p := vA V 6) (n := vA V 4) (by omega) (by omega) (by omega)
  refine gT_go 400 [55] kX12_mind ?_
  refine bGe 3900 3900 rfl rfl (fun _ => ?_) (fun q => absurd q (by omega))
  refine gP_use (p_start (d + 6) (vA V) (vA V 4) z (tr z z1).1 (tr z z1).2.1.1 L1 y) ?_
  refine And.intro (Or.inr rfl) ?_
  refine Exists.intro (sN 0 (vA V 6) (vA V 4)) (And.intro rfl (And.intro (show _ < 3900 by omega) ?_))
  refine gT_for (σ := Nat → Nat → Nat → Int32) (pc := 55) (lo := fun i _ => [some gM0, some (gI (nI (wMnd V (xMay V (gP0 V)) (cOm V (gP0 V)) (vA V 6) (vA V 4) i))), some (gI (nI i)), none, none, none, none, none]) (hp := fun _ z => gH z L1 y)
    (Inv := fun i z => (∀ b, b ≠ 151 → z b = I1 b) ∧ eTb (vA V) (vA V 4) (xMay V (gP0 V)) true 0 (vA V 6) (vA V 4) z i (fun _ _ => False)) (vA V 3) ?_ ?_ 0 (u3 z 151 0 (sN 0 (vA V 6) (vA V 4)) 1) (Nat.zero_le _) ⟨fun b hb => (u3_ne1 hb).trans (z1 b hb), ?_⟩ (by (repeat' apply And.intro) <;> first | rfl | trivial | exact congrArg Sum.inl (nI_1 _).symm | exact congrArg Sum.inl (nI_1 _).symm)
  · intro z ⟨z1, z2⟩
    refine gT_go 400 [55] kX12_mind ?_
    refine Exists.intro (3) (And.intro rfl (And.intro (show _ < 708 by omega) ?_))
    refine bGe (vA V 3) (vA V 3) rfl ((tr z z1).1 3 (by omega)) (fun _ => ?_) (fun q => absurd q (by omega))
    exact done z _ z1 rfl
  · intro i z hi ⟨z1, z2⟩ hnexti
    have hadd : 0 + i = i := Nat.zero_add i
    refine gT_go 400 [55, 67] kX12_mind ?_
    refine Exists.intro (3) (And.intro rfl (And.intro (show _ < 708 by omega) ?_))
    refine bGe i (vA V 3) rfl ((tr z z1).1 3 (by omega)) (fun q => absurd q (by omega)) (fun _ => ?_)
    refine gT_for (σ := Nat → Nat → Nat → Int32) (pc := 67) (lo := fun p _ => [some gM0, some (gI (nI (wFr V (xMay V (gP0 V)) (cOm V (gP0 V)) (vA V 6) (vA V 4) i p 0))), some (gI (nI i)), some (gI (nI p)), none, none, none, none]) (hp := fun _ z => gH z L1 y)
      (Inv := fun p z => (∀ b, b ≠ 151 → z b = I1 b) ∧ eTb (vA V) (vA V 4) (xMay V (gP0 V)) true 0 (vA V 6) (vA V 4) z i (eQ (vA V) (vA V 4) (xMay V (gP0 V)) true 0 (vA V 6) (vA V 4) i p 0 0)) (vA V 0) ?_ ?_ 0 z (Nat.zero_le _) ⟨z1, eTb_cg eQ_beg z2⟩ (by rw [wFr_beg]; exact (by (repeat' apply And.intro) <;> first | rfl | trivial | exact congrArg Sum.inl (nI_1 _).symm | exact congrArg Sum.inl (nI_1 _).symm))
    · intro z ⟨z1, z2⟩
      refine gT_go 400 [55, 67] kX12_mind ?_
      refine Exists.intro (0) (And.intro rfl (And.intro (show _ < 708 by omega) ?_))
      refine bGe (vA V 0) (vA V 0) rfl ((tr z z1).1 0 (by omega)) (fun _ => ?_) (fun q => absurd q (by omega))
      refine hnexti z _ ⟨z1, eTb_next eQ_end z2⟩ ?_
      rw [show wMnd V (xMay V (gP0 V)) (cOm V (gP0 V)) (vA V 6) (vA V 4) (i + 1) = wFr V (xMay V (gP0 V)) (cOm V (gP0 V)) (vA V 6) (vA V 4) i (vA V 0) 0 from rfl]
      exact (by (repeat' apply And.intro) <;> first | rfl | trivial | exact congrArg Sum.inl (nI_1 _).symm | exact congrArg Sum.inl (nI_1 _).symm)
    · intro p z hp ⟨z1, z2⟩ hnextp
      refine gT_go 400 [67, 80] kX12_mind ?_
      refine Exists.intro (0) (And.intro rfl (And.intro (show _ < 708 by omega) ?_))
      refine bGe p (vA V 0) rfl ((tr z z1).1 0 (by omega)) (fun q => absurd q (by omega)) (fun _ => ?_)
      refine gT_for (σ := Nat → Nat → Nat → Int32) (pc := 80) (lo := fun n _ => [some gM0, some (gI (nI (wFr V (xMay V (gP0 V)) (cOm V (gP0 V)) (vA V 6) (vA V 4) i p n))), some (gI (nI i)), some (gI (nI p)), some (gI (nI n)), none, none, none]) (hp := fun _ z => gH z L1 y)
        (Inv := fun n z => (∀ b, b ≠ 151 → z b = I1 b) ∧ eTb (vA V) (vA V 4) (xMay V (gP0 V)) true 0 (vA V 6) (vA V 4) z i (eQ (vA V) (vA V 4) (xMay V (gP0 V)) true 0 (vA V 6) (vA V 4) i p n 0)) (vA V 4 + 1) ?_ ?_ 0 z (Nat.zero_le _) ⟨z1, z2⟩ (by (repeat' apply And.intro) <;> first | rfl | trivial | exact congrArg Sum.inl (nI_1 _).symm | exact congrArg Sum.inl (nI_1 _).symm)
      · intro z ⟨z1, z2⟩
        refine gT_go 400 [67, 80] kX12_mind ?_
        refine bGt (vA V 4 + 1) (vA V 4) rfl (tr z z1).2.1.1 (fun _ => ?_) (fun q => absurd q (by omega))
        refine hnextp z _ ⟨z1, eTb_cg eQ_row z2⟩ ?_
        rw [← wFr_row]
        exact (by (repeat' apply And.intro) <;> first | rfl | trivial | exact congrArg Sum.inl (nI_1 _).symm | exact congrArg Sum.inl (nI_1 _).symm)
      · intro n z hn ⟨z1, z2⟩ hnextn
        obtain ⟨zl, zU, zP⟩ := tr z z1
        have hs := sN_lt (h := i) (p := p) (n := n) (by omega) (by omega) (by omega)
        have ec := z2 i p n (by omega) hp (by omega)
        rw [hadd] at ec
        have ec2 : z 151 0 (sN i p n) = gb (dP (rE (vA V) (vA V 4) (xMay V (gP0 V)) true 0 (vA V 6) (vA V 4) i p n)) := by
          rw [ec]
          exact congrArg gb (dP_cg ⟨fun w => w.elim (fun r => r.2) (fun r => absurd r.1 (by omega)), fun w => Or.inl ⟨Nat.le_refl _, w⟩⟩)
        have skip : (¬ (rE (vA V) (vA V 4) (xMay V (gP0 V)) true 0 (vA V 6) (vA V 4) i p n ∧ aEnd (vA V) i p n = 0)) → ∀ lo', glle [some gM0, some (gI (nI (wFr V (xMay V (gP0 V)) (cOm V (gP0 V)) (vA V 6) (vA V 4) i p n))), some (gI (nI i)), some (gI (nI p)), some (gI (nI (n + 1))), none, none, none] lo' →
            gT mX12_mind (d + 9) (0, 0) (fun v h' => v = [(xMind V).2.1] ∧ ∃ I' L', h' = gH I' L' y ∧ mOut I L I' L' ∧ mR (xMind V).2.2 I' L' ∧ I' 100 0 0 = (xMind V).1) (fun _ _ => False) 80 lo' [] (gH z L1 y) (0, 0) := by
          intro w lo' hl'
          refine hnextn z lo' ⟨z1, eTb_cg (eQ_skip hp (by omega) (by rw [hadd]; exact w)) z2⟩ ?_
          rw [wFr_skip (fun q => w ⟨q.1, q.2.1⟩)]
          exact hl'
        refine gT_go 400 [80, 133, 155] kX12_mind ?_
        refine bGt n (vA V 4) rfl zU.1 (fun q => absurd q (by omega)) (fun _ => ?_)
        refine gP_use (p_state (d + 7) i p n _) ?_
        refine Exists.intro (sN i p n) (And.intro rfl (And.intro (show _ < 3900 by omega) ?_))
        refine bB0 _ ec2 (fun w => ?_) (fun w => ?_)
        · have hr := dP_n w
          exact skip (fun w => hr w.1) _ (by (repeat' apply And.intro) <;> first | rfl | trivial | exact congrArg Sum.inl (nI_1 _).symm | exact congrArg Sum.inl (nI_1 _).symm)
        · have hr := dP_i w
          refine gP_use (p_ended (d + 7) i p n (by omega) (by omega) (by omega) (vA V) z zl hA.1.lt L1 y) ?_
          refine bEq (aEnd (vA V) i p n) 0 rfl rfl (fun c0 => ?_) (fun c0 => ?_) (by have := aEnd_lt (vA V) i p n; omega) (by decide)
          · have hn0 := (aEnd_0 c0).1
            obtain ⟨l1, l2, l3, l4, -⟩ := mU_moves zU hi hp (by omega) c0
            have rest : ∀ (fr : Nat) (lo' : Lo), fr = wFr V (xMay V (gP0 V)) (cOm V (gP0 V)) (vA V 6) (vA V 4) i p (n + 1) → glle [some gM0, some (gI (nI fr)), some (gI (nI i)), some (gI (nI p)), some (gI (nI n)), none, none, none] lo' →
                gT mX12_mind (d + 9) (0, 0) (fun v h' => v = [(xMind V).2.1] ∧ ∃ I' L', h' = gH I' L' y ∧ mOut I L I' L' ∧ mR (xMind V).2.2 I' L' ∧ I' 100 0 0 = (xMind V).1) (fun _ _ => False) 133 lo' [] (gH z L1 y) (0, 0) := by
              intro fr lo' hfr hl'
              rw [hfr] at hl'
              refine gT_lo _ hl' ?_
              refine gT_go 400 [155] kX12_mind ?_
              refine Exists.intro (i) (And.intro rfl (And.intro (show _ < 24 by omega) ?_))
              refine gP_use (p_state (d + 7) i p n _) ?_
              refine gP_use (gP_eq (by rw [← l1] <;> rfl) (p_moves (d + 7) ((gP0 V).1 i) (sN i p n) _ (by omega) (by omega) z L1 y l3)) ?_
              refine gT_for (σ := Nat → Nat → Nat → Int32) (pc := 155) (lo := fun m _ => [some gM0, some (gI (nI (wFr V (xMay V (gP0 V)) (cOm V (gP0 V)) (vA V 6) (vA V 4) i p (n + 1)))), some (gI (nI i)), some (gI (nI p)), some (gI (nI n)), some (gI (nI (xMay V (gP0 V) i p n))), some (gI (nI m)), none]) (hp := fun _ z => gH z L1 y)
                (Inv := fun m z => (∀ b, b ≠ 151 → z b = I1 b) ∧ eTb (vA V) (vA V 4) (xMay V (gP0 V)) true 0 (vA V 6) (vA V 4) z i (eQ (vA V) (vA V 4) (xMay V (gP0 V)) true 0 (vA V 6) (vA V 4) i p n m)) (vA V 1 + 1) ?_ ?_ 0 z (Nat.zero_le _) ⟨z1, z2⟩ (by (repeat' apply And.intro) <;> first | rfl | trivial | exact congrArg Sum.inl (nI_1 _).symm | exact congrArg Sum.inl (nI_1 _).symm)
              · intro z ⟨z1, z2⟩
                refine gT_go 400 [80, 155] kX12_mind ?_
                refine Exists.intro (1) (And.intro rfl (And.intro (show _ < 708 by omega) ?_))
                refine bGt (vA V 1 + 1) (vA V 1) rfl ((tr z z1).1 1 (by omega)) (fun _ => ?_) (fun q => absurd q (by omega))
                exact hnextn z _ ⟨z1, eTb_cg (eQ_all hp (by omega) (by rw [hadd]; exact ⟨hr, c0⟩)) z2⟩ (by (repeat' apply And.intro) <;> first | rfl | trivial | exact congrArg Sum.inl (nI_1 _).symm | exact congrArg Sum.inl (nI_1 _).symm)
              · intro m z hm1 ⟨z1, z2⟩ hnextm
                obtain ⟨zl, zU, zP⟩ := tr z z1
                have mark : ∀ (z : Nat → Nat → Nat → Int32) (Qs : Nat → Nat → Prop) (t0 : Nat), t0 < vA V 0 → eTb (vA V) (vA V 4) (xMay V (gP0 V)) true 0 (vA V 6) (vA V 4) z i Qs → eTb (vA V) (vA V 4) (xMay V (gP0 V)) true 0 (vA V 6) (vA V 4) (u3 z 151 0 (sN (i + 1) t0 (aNx (vA V) (vA V 4) n t0)) 1) i (fun t j => Qs t j ∨ (t = t0 ∧ j = aNx (vA V) (vA V 4) n t0)) := by
                  intro z Qs t0 ht hz
                  have q := eTb_mark (j0 := aNx (vA V) (vA V 4) n t0) hA.1 (by omega) (show 0 + i + 1 ≤ vA V 3 by omega) ht (aNx_le (show n ≤ vA V 4 by omega)) hz
                  rw [hadd] at q
                  exact q
                have at229 : (xMay V (gP0 V) i p n).testBit m = true → ∀ (s : Nat) (z : Nat → Nat → Nat → Int32) (Qs : Nat → Nat → Prop) (lo' : Lo), s ≤ 16 → (∀ b, b ≠ 151 → z b = I1 b) → eTb (vA V) (vA V 4) (xMay V (gP0 V)) true 0 (vA V 6) (vA V 4) z i Qs → (s < 16 → 0 < m) →
                    (∀ t j, (Qs t j ∨ (s < 16 ∧ t = gGo (vA V) m p ∧ j = aNx (vA V) (vA V 4) n t)) ↔ eQ (vA V) (vA V 4) (xMay V (gP0 V)) true 0 (vA V 6) (vA V 4) i p n (m + 1) t j) →
                    glle [some gM0, some (gI (nI (wFr V (xMay V (gP0 V)) (cOm V (gP0 V)) (vA V 6) (vA V 4) i p (n + 1)))), some (gI (nI i)), some (gI (nI p)), some (gI (nI n)), some (gI (nI (xMay V (gP0 V) i p n))), some (gI (nI m)), some (gI (nI s))] lo' →
                    gT mX12_mind (d + 9) (0, 0) (fun v h' => v = [(xMind V).2.1] ∧ ∃ I' L', h' = gH I' L' y ∧ mOut I L I' L' ∧ mR (xMind V).2.2 I' L' ∧ I' 100 0 0 = (xMind V).1) (fun _ _ => False) 229 lo' [] (gH z L1 y) (0, 0) := by
                  intro hbt s z Qs lo' hs16 z1 z2 hsm hQ hl'
                  obtain ⟨zl, zU, zP⟩ := tr z z1
                  refine gT_lo _ hl' ?_
                  refine gT_go 400 [155] kX12_mind ?_
                  refine bGe s 16 rfl rfl (fun q => ?_) (fun q => ?_)
                  · refine hnextm z _ ⟨z1, eTb_cg (fun t j => ?_) z2⟩ (by (repeat' apply And.intro) <;> first | rfl | trivial | exact congrArg Sum.inl (nI_1 _).symm | exact congrArg Sum.inl (nI_1 _).symm)
                    rw [← hQ]
                    exact ⟨fun w => Or.inl w, fun w => w.elim id (fun r => absurd r.1 (by omega))⟩
                  · have hm0' := hsm q
                    have hto : gGo (vA V) m p = aOth (vA V) (m - 1) p := by unfold gGo; rw [if_neg (by omega)]
                    have htl : aOth (vA V) (m - 1) p < vA V 0 := aOth_ltR hA (by omega)
                    have hnx : aNx (vA V) (vA V 4) n (aOth (vA V) (m - 1) p) ≤ vA V 4 := aNx_le (by omega)
                    have hs2 := sN_lt (h := i + 1) (p := aOth (vA V) (m - 1) p) (n := aNx (vA V) (vA V 4) n (aOth (vA V) (m - 1) p)) (by omega) (by omega) (by omega)
                    refine gP_use (gP_eq (by rw [← pk_sub (b := 1) hm0'] <;> rfl) (p_otherEnd (d + 7) (m - 1) p (by omega) (by omega) (vA V) z zl hA.1.lt L1 y)) ?_
                    refine gP_use (p_behind (d + 6) i p n _ (by omega) hn0 (vA V) z zl hA.1.lt (vA V 4) zU.1 L1 y) ?_
                    refine And.intro (Or.inr rfl) ?_
                    refine Exists.intro (sN (i + 1) (aOth (vA V) (m - 1) p) (aNx (vA V) (vA V 4) n (aOth (vA V) (m - 1) p))) (And.intro rfl (And.intro (show _ < 3900 by omega) ?_))
                    refine hnextm (u3 z 151 0 (sN (i + 1) (aOth (vA V) (m - 1) p) (aNx (vA V) (vA V 4) n (aOth (vA V) (m - 1) p))) 1) _ ⟨fun b hb => (u3_ne1 hb).trans (z1 b hb), eTb_cg (fun t j => ?_) (mark z Qs _ htl z2)⟩ (by (repeat' apply And.intro) <;> first | rfl | trivial | exact congrArg Sum.inl (nI_1 _).symm | exact congrArg Sum.inl (nI_1 _).symm)
                    rw [← hQ, hto]
                    refine or_congr Iff.rfl ⟨fun w => ⟨q, w.1, by rw [w.1]; exact w.2⟩, fun w => ⟨w.2.1, by rw [w.2.2, w.2.1]⟩⟩
                have stay : ∀ (z : Nat → Nat → Nat → Int32), (∀ b, b ≠ 151 → z b = I1 b) → gP mX12_behind (d + 8) [gM0, gI (nI i), gI (nI p), gI (nI n), gI (nI p)] (gH z L1 y) (gI (nI (sN (i + 1) p (aNx (vA V) (vA V 4) n p)))) := fun z z1 => p_behind (d + 6) i p n p (by omega) hn0 (vA V) z (tr z z1).1 hA.1.lt (vA V 4) (tr z z1).2.1.1 L1 y
                have hs3 := sN_lt (h := i + 1) (p := p) (n := aNx (vA V) (vA V 4) n p) (by omega) (by omega) (by have := aNx_le (A := vA V) (t := p) (show n ≤ vA V 4 by omega); omega)
                refine gT_go 400 [155, 229] kX12_mind ?_
                refine Exists.intro (1) (And.intro rfl (And.intro (show _ < 708 by omega) ?_))
                refine bGt m (vA V 1) rfl (zl 1 (by omega)) (fun q => absurd q (by omega)) (fun _ => ?_)
                refine bB1 ((xMay V (gP0 V) i p n).testBit m) (gbit (gMv_lt l4) (by omega)) (fun hbt => ?_) (fun hbt => ?_)
                · have gen := fun (T : Nat → Nat → Prop) hT => eQ_gen (A := vA V) (S := vA V 4) (B := xMay V (gP0 V)) (cl := true) (h0 := 0) (p0 := vA V 6) (n0 := vA V 4) (i := i) (p := p) (n := n) (m := m) (T := T) (by omega) (by rw [hadd]; exact hbt) (by rw [hadd]; exact ⟨hr, c0⟩) hT
                  rw [hadd] at gen
                  refine bNe m 0 rfl rfl (fun q => ?_) (fun q => ?_)
                  · have em : nI m - 1 = nI (m - 1) := pk_sub (b := 1) (show 1 ≤ m by omega)
                    refine Exists.intro (132 + 24 * (m - 1) + i) (And.intro (by rw [← nI_add (132 + 24 * (m - 1)) i, ← nI_add 132 (24 * (m - 1)), ← pk_mul 24 (m - 1), ← em] <;> rfl) (And.intro (show 132 + 24 * (m - 1) + i < 708 by omega) ?_))
                    have es : eSn (vA V) m i = gSnA (vA V) (m - 1) i := by unfold eSn; rw [if_neg q]
                    have ez : z 110 0 (132 + 24 * (m - 1) + i) = nI (eSn (vA V) m i) := by rw [es]; exact zl _ (by omega)
                    have es16 : eSn (vA V) m i ≤ 16 := by
                      rw [es]
                      have q := hA.1.2.2.2.2.2.2.2.2.2.2.1 (24 * (m - 1) + i) (by omega)
                      rw [show 132 + (24 * (m - 1) + i) = 132 + 24 * (m - 1) + i by omega] at q
                      exact q
                    refine bLe (eSn (vA V) m i) 0 ez rfl (fun q2 => ?_) (fun q2 => ?_)
                    · refine at229 hbt (eSn (vA V) m i) z _ _ es16 z1 z2 (fun _ => by omega) (gen (fun t j => eSn (vA V) m i < 16 ∧ t = gGo (vA V) m p ∧ j = aNx (vA V) (vA V 4) n t) (fun t j => ?_)) (by rw [← ez]; exact (by (repeat' apply And.intro) <;> first | rfl | trivial | exact congrArg Sum.inl (nI_1 _).symm | exact congrArg Sum.inl (nI_1 _).symm))
                      unfold eT1
                      constructor
                      · rintro ⟨⟨w1, w2⟩ | ⟨⟨_, w1⟩ | w1, w2⟩, w3⟩
                        · exact ⟨w1, w2, w3⟩
                        · omega
                        · omega
                      · rintro ⟨w1, w2, w3⟩; exact ⟨Or.inl ⟨w1, w2⟩, w3⟩
                    · refine gP_use (stay z z1) ?_
                      refine And.intro (Or.inr rfl) ?_
                      refine Exists.intro (sN (i + 1) p (aNx (vA V) (vA V 4) n p)) (And.intro rfl (And.intro (show _ < 3900 by omega) ?_))
                      refine at229 hbt (eSn (vA V) m i) (u3 z 151 0 (sN (i + 1) p (aNx (vA V) (vA V 4) n p)) 1) _ _ es16 (fun b hb => (u3_ne1 hb).trans (z1 b hb)) (mark z _ p hp z2) (fun _ => by omega) (fun t j => ?_) (by rw [← ez]; exact (by (repeat' apply And.intro) <;> first | rfl | trivial | exact congrArg Sum.inl (nI_1 _).symm | exact congrArg Sum.inl (nI_1 _).symm))
                      rw [← gen (fun t j => (t = p ∧ j = aNx (vA V) (vA V 4) n p) ∨ (eSn (vA V) m i < 16 ∧ t = gGo (vA V) m p ∧ j = aNx (vA V) (vA V 4) n t)) (fun t j => ?_), or_assoc]
                      unfold eT1
                      constructor
                      · rintro ⟨⟨w1, w2⟩ | ⟨_, w2⟩, w3⟩
                        · exact Or.inr ⟨w1, w2, w3⟩
                        · exact Or.inl ⟨w2, by rw [w3, w2]⟩
                      · rintro (⟨w1, w2⟩ | ⟨w1, w2, w3⟩)
                        · exact ⟨Or.inr ⟨Or.inl ⟨rfl, q2⟩, w1⟩, by rw [w2, w1]⟩
                        · exact ⟨Or.inl ⟨w1, w2⟩, w3⟩
                  · refine And.intro (fun w => absurd w (by decide)) (fun _ => ?_)
                    refine gP_use (stay z z1) ?_
                    refine And.intro (Or.inr rfl) ?_
                    refine Exists.intro (sN (i + 1) p (aNx (vA V) (vA V 4) n p)) (And.intro rfl (And.intro (show _ < 3900 by omega) ?_))
                    have eg : gGo (vA V) m p = p := by unfold gGo; rw [if_pos q]
                    have es : eSn (vA V) m i = 0 := by unfold eSn; rw [if_pos q]
                    refine at229 hbt 16 (u3 z 151 0 (sN (i + 1) p (aNx (vA V) (vA V 4) n p)) 1) _ _ (Nat.le_refl _) (fun b hb => (u3_ne1 hb).trans (z1 b hb)) (mark z _ p hp z2) (fun w => absurd w (by decide)) (fun t j => ?_) (by (repeat' apply And.intro) <;> first | rfl | trivial | exact congrArg Sum.inl (nI_1 _).symm | exact congrArg Sum.inl (nI_1 _).symm)
                    rw [← gen (fun t j => t = p ∧ j = aNx (vA V) (vA V 4) n p) (fun t j => ?_)]
                    · exact ⟨fun w => w.elim id (fun r => absurd r.1 (by decide)), fun w => Or.inl w⟩
                    · unfold eT1
                      rw [es, eg]
                      constructor
                      · rintro ⟨⟨_, w2⟩ | ⟨_, w2⟩, w3⟩ <;> exact ⟨w2, by rw [w3, w2]⟩
                      · rintro ⟨w1, w2⟩; exact ⟨Or.inl ⟨by decide, w1⟩, by rw [w2, w1]⟩
                · exact hnextm z _ ⟨z1, eTb_cg (eQ_no (by rw [hadd]; exact hbt)) z2⟩ (by (repeat' apply And.intro) <;> first | rfl | trivial | exact congrArg Sum.inl (nI_1 _).symm | exact congrArg Sum.inl (nI_1 _).symm)
            refine gP_use (p_isOneMind (d + 2) V hA (gP0 V) i p n hi hp (by omega) c0 z L1 y zl zU zP) ?_
            refine bB1 (cOm V (gP0 V) i p n) rfl (fun w => ?_) (fun w => ?_)
            · exact rest (wFr V (xMay V (gP0 V)) (cOm V (gP0 V)) (vA V 6) (vA V 4) i p n) _ (wFr_skip (fun q => by rw [w] at q; exact absurd q.2.2 (by decide))).symm (by (repeat' apply And.intro) <;> first | rfl | trivial | exact congrArg Sum.inl (nI_1 _).symm | exact congrArg Sum.inl (nI_1 _).symm)
            · exact rest (i + 1) _ (wFr_hit hp (by omega) ⟨hr, c0, w⟩).symm (by rw [← nI_1 i]; exact (by (repeat' apply And.intro) <;> first | rfl | trivial | exact congrArg Sum.inl (nI_1 _).symm | exact congrArg Sum.inl (nI_1 _).symm))
          · exact skip (fun w => c0 w.2) _ (by (repeat' apply And.intro) <;> first | rfl | trivial | exact congrArg Sum.inl (nI_1 _).symm | exact congrArg Sum.inl (nI_1 _).symm)
  · intro i' t j r1 r2 r3
    have hadd : 0 + i' = i' := Nat.zero_add i'
    rw [hadd] at r1 ⊢
    by_cases e : sN i' t j = sN 0 (vA V 6) (vA V 4)
    · have w := sN_inj (h := i') (h' := 0) (by omega) (by omega) (by omega) (by omega) e
      have i0 : i' = 0 := w.1
      subst i0
      rw [e, dP_t (Or.inl ⟨Nat.le_refl _, w.2.1, w.2.2⟩)]
      exact u3_eq
    · have hs3 := sN_lt (h := i') (p := t) (n := j) (by omega) (by omega) (by omega)
      refine (u3_ne3 e).trans ((z2 _ hs3).trans ?_)
      rw [dP_f]
      · rfl
      · rintro (⟨w1, w2⟩ | ⟨_, w⟩)
        · have i0 : i' = 0 := by omega
          subst i0
          exact e (by rw [w2.1, w2.2])
        · exact w
