/-! ===== ever, walked ===== -/
theorem eT1_ever {A : Nat → Nat} {S h p n m to : Nat} (hs : eSn A m h ≤ 16) (ht : to = if eSn A m h = 16 then p else gGo A m p) (t j : Nat) : eT1 A S false h p n m t j ↔ t = to ∧ j = aNx A S n to := by
  unfold eT1
  subst ht
  by_cases q : eSn A m h = 16
  · rw [if_pos q]
    constructor
    · rintro ⟨⟨w, _⟩ | ⟨_, w⟩, e⟩
      · omega
      · exact ⟨w, by rw [e, w]⟩
    · rintro ⟨w, e⟩
      exact ⟨Or.inr ⟨Or.inr q, w⟩, by rw [e, w]⟩
  · rw [if_neg q]
    constructor
    · rintro ⟨⟨_, w⟩ | ⟨⟨w, _⟩ | w, _⟩, e⟩
      · exact ⟨w, by rw [e, w]⟩
      · cases w
      · exact absurd w q
    · rintro ⟨w, e⟩
      exact ⟨Or.inl ⟨by omega, w⟩, by rw [e, w]⟩
set_option maxRecDepth 100000 in
theorem c_ever (V : VS) (hw : gWf V) (a b c : Int32) : mC mX12_ever 8 [gI a, gI b, gI c] V (xEver V a b c) := by
  intro d I L y hm
  have hm0 := mR_thr hm 0
  have a0 := hw.1.1
  have a1 := hw.1.2.1
  have a2 := hw.1.2.2.1
  have a3 := hw.1.2.2.2.1
  have a4 := hw.1.2.2.2.2.1
  refine gEnter 400 [38] kX12_ever rfl rfl ?_
  refine gTM_use rfl (p_isHere (d + 5) V 2 (by decide) _ L y hm0 u3_eq) (fun v h' q => ?_)
  rcases q with ⟨g1, rfl, rfl⟩ | ⟨g1, rfl, I', rfl, q1, q2, q3⟩
  rotate_left
  · refine And.intro (fun _ => ?_) (fun q => absurd rfl q)
    exact mGt_no (by unfold xEver; simp only [g1, cond_true, cond_false] <;> rfl) q1 q2 q3
  refine And.intro (fun q => absurd q (by decide)) (fun _ => ?_)
  refine gP_use (p_isState (d + 5) V a b c _ L y hm0) ?_
  refine gTM_use rfl (p_may (d + 6) V _ 1 (by decide) 2 (by decide) _ L y hm0 u3_eq) (fun v h' q => ?_)
  rcases q with ⟨g2, rfl, rfl⟩ | ⟨g2, rfl, I', rfl, q1, q2, q3⟩
  rotate_left
  · refine And.intro (fun q => absurd rfl q) (fun _ => ?_)
    exact mGt_no (by unfold xEver; simp only [g1,g2, cond_true, cond_false] <;> rfl) q1 q2 q3
  refine And.intro (fun _ => ?_) (fun q => absurd q (by decide))
  obtain ⟨p0, h0, n0, rfl, rfl, rfl, q1, q2, q3, ep, eh, en⟩ := gIsS_n hw.1 g2
  have hA := hw.2.1 g1
  have hx : xEver V (nI p0) (nI h0) (nI n0) = (0, gI (gOI (gFst (cEver V p0 h0 n0) (vA V 3 - h0 + 1))), V) := by unfold xEver; simp only [g1, g2, cond_true]; rw [ep, eh, en]
  refine gTM_use rfl (p_setUp d V hw g1 _ L y hm0) (fun v h' q => ?_)
  obtain ⟨rfl, I1, L1, rfl, o1, m1, u1, t1, k1⟩ := q
  generalize hBm : xMay V (gP0 V) = Bm at *
  have done : ∀ (z : Nat → Nat → Nat → Int32) (r : Int32), (∀ b, b ≠ 151 → z b = I1 b) → r = gOI (gFst (cEver V p0 h0 n0) (vA V 3 - h0 + 1)) → [gI r] = [(xEver V (nI p0) (nI h0) (nI n0)).2.1] ∧ ∃ I' L', gH z L1 y = gH I' L' y ∧ mOut I L I' L' ∧ mR (xEver V (nI p0) (nI h0) (nI n0)).2.2 I' L' ∧ I' 100 0 0 = (xEver V (nI p0) (nI h0) (nI n0)).1 := by
    intro z r hz hr
    have mz : mR V z L1 := by
      refine mR_cg ⟨?_, ?_, ?_, ?_, ?_, ?_, ?_, ?_, ?_, ?_, ?_, rfl, rfl, fun k _ => by rw [hz 100 (by decide)]⟩ m1 <;> exact hz _ (by decide)
    exact mDone (I' := z) (o2 := (0, gI (gOI (gFst (cEver V p0 h0 n0) (vA V 3 - h0 + 1))), V)) hx (by rw [hr]) (o1.tr (fun b hb => ⟨hz b (by omega), rfl⟩)) mz (by rw [hz 100 (by decide)]; exact t1.trans u3_eq)
  have tr : ∀ z : Nat → Nat → Nat → Int32, (∀ b, b ≠ 151 → z b = I1 b) → gLx z (vA V) ∧ mU V (vA V 4) none (gP0 V) z L1 := fun z hz =>
    ⟨fun j hj => by rw [hz 110 (by decide)]; exact m1.1 j hj, by rw [hz 100 (by decide)]; exact u1.1, gKn_cg (hz 136 (by decide)) (hz 142 (by decide)) rfl rfl u1.2.1, gPf_cg (hz 129 (by decide)) (hz 130 (by decide)) (by rw [hz 100 (by decide)]) (by rw [hz 100 (by decide)]) (by rw [hz 100 (by decide)]) (hz 125 (by decide)) u1.2.2⟩
  refine gT_for (σ := Nat → Nat → Nat → Int32) (pc := 38) (lo := fun i _ => [some gM0, some (gI (nI p0)), some (gI (nI h0)), some (gI (nI n0)), some (gI (nI i)), none, none, none, none, none, none]) (hp := fun _ z => gH z L1 y) (Inv := fun i z => (∀ b, b ≠ 151 → z b = I1 b) ∧ ∀ j, j < i → z 151 0 j = 0) 3900 ?_ ?_ 0 I1 (Nat.zero_le _) ⟨fun _ _ => rfl, fun j hj => absurd hj (Nat.not_lt_zero _)⟩ (by (repeat' apply And.intro) <;> first | rfl | trivial | exact congrArg Sum.inl (nI_1 _).symm | exact congrArg Sum.inl (nI_1 _).symm)
  rotate_left
  · intro i z hi ⟨z1, z2⟩ hnext
    refine gT_go 400 [38] kX12_ever ?_
    refine bGe i 3900 rfl rfl (fun q => absurd q (by omega)) (fun _ => ?_)
    refine And.intro (Or.inl rfl) ?_
    refine Exists.intro (i) (And.intro rfl (And.intro (show _ < 3900 by omega) ?_))
    refine hnext (u3 z 151 0 i 0) _ ⟨fun b hb => (u3_ne1 hb).trans (z1 b hb), fun j hj => ?_⟩ (by (repeat' apply And.intro) <;> first | rfl | trivial | exact congrArg Sum.inl (nI_1 _).symm | exact congrArg Sum.inl (nI_1 _).symm)
    by_cases q : j = i
    · subst q; exact u3_eq
    · exact (u3_ne3 q).trans (z2 j (by omega))
  intro z ⟨z1, z2⟩
  have hs0 := sN_lt (h := h0) (p := p0) (n := n0) (by omega) (by omega) (by omega)
  refine gT_go 400 [75] kX12_ever ?_
  refine bGe 3900 3900 rfl rfl (fun _ => ?_) (fun q => absurd q (by omega))
  refine gP_use (p_state (d + 6) h0 p0 n0 _) ?_
  refine And.intro (Or.inr rfl) ?_
  refine Exists.intro (sN h0 p0 n0) (And.intro rfl (And.intro (show _ < 3900 by omega) ?_))
  refine gT_for (σ := Nat → Nat → Nat → Int32) (pc := 75) (lo := fun i _ => [some gM0, some (gI (nI p0)), some (gI (nI h0)), some (gI (nI n0)), some (gI (nI (h0 + i))), none, none, none, none, none, none]) (hp := fun _ z => gH z L1 y)
    (Inv := fun i z => (∀ b, b ≠ 151 → z b = I1 b) ∧ eTb (vA V) (vA V 4) Bm false h0 p0 n0 z i (fun _ _ => False) ∧ ∀ j, j < i → cEver V p0 h0 n0 j = false) (vA V 3 - h0 + 1) ?_ ?_ 0 (u3 z 151 0 (sN h0 p0 n0) 1) (Nat.zero_le _) ⟨fun b hb => (u3_ne1 hb).trans (z1 b hb), ?_, fun j hj => absurd hj (Nat.not_lt_zero _)⟩ (by (repeat' apply And.intro) <;> first | rfl | trivial | exact congrArg Sum.inl (nI_1 _).symm | exact congrArg Sum.inl (nI_1 _).symm)
  · intro z ⟨z1, z2, z3⟩
    refine gT_go 400 [75] kX12_ever ?_
    refine Exists.intro (3) (And.intro rfl (And.intro (show _ < 708 by omega) ?_))
    refine bGt (h0 + (vA V 3 - h0 + 1)) (vA V 3) rfl ((tr z z1).1 3 (by omega)) (fun _ => ?_) (fun q => absurd q (by omega))
    exact done z _ z1 (by rw [gFst_none _ z3] <;> rfl)
  · intro i z hi ⟨z1, z2, z3⟩ hnexti
    refine gT_go 400 [75, 89] kX12_ever ?_
    refine Exists.intro (3) (And.intro rfl (And.intro (show _ < 708 by omega) ?_))
    refine bGt (h0 + i) (vA V 3) rfl ((tr z z1).1 3 (by omega)) (fun q => absurd q (by omega)) (fun _ => ?_)
    refine gT_for (σ := Nat → Nat → Nat → Int32) (pc := 89) (lo := fun p _ => [some gM0, some (gI (nI p0)), some (gI (nI h0)), some (gI (nI n0)), some (gI (nI (h0 + i))), some (gI (nI p)), none, none, none, none, none]) (hp := fun _ z => gH z L1 y)
      (Inv := fun p z => (∀ b, b ≠ 151 → z b = I1 b) ∧ eTb (vA V) (vA V 4) Bm false h0 p0 n0 z i (eQ (vA V) (vA V 4) Bm false h0 p0 n0 i p 0 0) ∧ ∀ p' n', p' < vA V 0 → n' ≤ vA V 4 → p' < p → rE (vA V) (vA V 4) Bm false h0 p0 n0 i p' n' → ¬ aEnd (vA V) (h0 + i) p' n' = 1) (vA V 0) ?_ ?_ 0 z (Nat.zero_le _) ⟨z1, eTb_cg eQ_beg z2, fun p' n' _ _ w => absurd w (Nat.not_lt_zero _)⟩ (by (repeat' apply And.intro) <;> first | rfl | trivial | exact congrArg Sum.inl (nI_1 _).symm | exact congrArg Sum.inl (nI_1 _).symm)
    · intro z ⟨z1, z2, z4⟩
      refine gT_go 400 [75, 89] kX12_ever ?_
      refine Exists.intro (0) (And.intro rfl (And.intro (show _ < 708 by omega) ?_))
      refine bGe (vA V 0) (vA V 0) rfl ((tr z z1).1 0 (by omega)) (fun _ => ?_) (fun q => absurd q (by omega))
      refine hnexti z _ ⟨z1, eTb_next eQ_end z2, fun j hj => ?_⟩ (by (repeat' apply And.intro) <;> first | rfl | trivial | exact congrArg Sum.inl (nI_1 _).symm | exact congrArg Sum.inl (nI_1 _).symm)
      rcases Nat.lt_or_ge j i with w | w
      · exact z3 j w
      · have : j = i := by omega
        subst this
        refine dP_f ?_
        rintro ⟨p, n, r1, r2, r3, r4⟩
        exact z4 p n r1 r2 r1 (by rw [← hBm]; exact r3) r4
    · intro p z hp ⟨z1, z2, z4⟩ hnextp
      refine gT_go 400 [89, 103] kX12_ever ?_
      refine Exists.intro (0) (And.intro rfl (And.intro (show _ < 708 by omega) ?_))
      refine bGe p (vA V 0) rfl ((tr z z1).1 0 (by omega)) (fun q => absurd q (by omega)) (fun _ => ?_)
      refine gT_for (σ := Nat → Nat → Nat → Int32) (pc := 103) (lo := fun n _ => [some gM0, some (gI (nI p0)), some (gI (nI h0)), some (gI (nI n0)), some (gI (nI (h0 + i))), some (gI (nI p)), some (gI (nI n)), none, none, none, none]) (hp := fun _ z => gH z L1 y)
        (Inv := fun n z => (∀ b, b ≠ 151 → z b = I1 b) ∧ eTb (vA V) (vA V 4) Bm false h0 p0 n0 z i (eQ (vA V) (vA V 4) Bm false h0 p0 n0 i p n 0) ∧ ∀ p' n', p' < vA V 0 → n' ≤ vA V 4 → (p' < p ∨ (p' = p ∧ n' < n)) → rE (vA V) (vA V 4) Bm false h0 p0 n0 i p' n' → ¬ aEnd (vA V) (h0 + i) p' n' = 1) (vA V 4 + 1) ?_ ?_ 0 z (Nat.zero_le _) ⟨z1, z2, fun p' n' r1 r2 w => z4 p' n' r1 r2 (by omega)⟩ (by (repeat' apply And.intro) <;> first | rfl | trivial | exact congrArg Sum.inl (nI_1 _).symm | exact congrArg Sum.inl (nI_1 _).symm)
      · intro z ⟨z1, z2, z4⟩
        refine gT_go 400 [89, 103] kX12_ever ?_
        refine bGt (vA V 4 + 1) (vA V 4) rfl (tr z z1).2.1 (fun _ => ?_) (fun q => absurd q (by omega))
        exact hnextp z _ ⟨z1, eTb_cg eQ_row z2, fun p' n' r1 r2 w => z4 p' n' r1 r2 (by omega)⟩ (by (repeat' apply And.intro) <;> first | rfl | trivial | exact congrArg Sum.inl (nI_1 _).symm | exact congrArg Sum.inl (nI_1 _).symm)
      · intro n z hn ⟨z1, z2, z4⟩ hnextn
        obtain ⟨zl, zU⟩ := tr z z1
        have hs := sN_lt (h := h0 + i) (p := p) (n := n) (by omega) (by omega) (by omega)
        have ec := z2 i p n (by omega) hp (by omega)
        have ec2 : z 151 0 (sN (h0 + i) p n) = gb (dP (rE (vA V) (vA V 4) Bm false h0 p0 n0 i p n)) := by
          rw [ec]
          exact congrArg gb (dP_cg ⟨fun w => w.elim (fun r => r.2) (fun r => absurd r.1 (by omega)), fun w => Or.inl ⟨Nat.le_refl _, w⟩⟩)
        have skip : (¬ (rE (vA V) (vA V 4) Bm false h0 p0 n0 i p n ∧ aEnd (vA V) (h0 + i) p n = 0)) → (rE (vA V) (vA V 4) Bm false h0 p0 n0 i p n → ¬ aEnd (vA V) (h0 + i) p n = 1) →
            (∀ b, b ≠ 151 → z b = I1 b) ∧ eTb (vA V) (vA V 4) Bm false h0 p0 n0 z i (eQ (vA V) (vA V 4) Bm false h0 p0 n0 i p (n + 1) 0) ∧ ∀ p' n', p' < vA V 0 → n' ≤ vA V 4 → (p' < p ∨ (p' = p ∧ n' < n + 1)) → rE (vA V) (vA V 4) Bm false h0 p0 n0 i p' n' → ¬ aEnd (vA V) (h0 + i) p' n' = 1 := by
          intro w1 w2
          refine ⟨z1, eTb_cg (eQ_skip hp (by omega) w1) z2, fun p' n' r1 r2 w r3 => ?_⟩
          by_cases w3 : p' = p ∧ n' = n
          · obtain ⟨rfl, rfl⟩ := w3; exact w2 r3
          · exact z4 p' n' r1 r2 (by omega) r3
        refine gT_go 400 [103, 188] kX12_ever ?_
        refine bGt n (vA V 4) rfl zU.1 (fun q => absurd q (by omega)) (fun _ => ?_)
        refine gP_use (p_state (d + 6) (h0 + i) p n _) ?_
        refine Exists.intro (sN (h0 + i) p n) (And.intro rfl (And.intro (show _ < 3900 by omega) ?_))
        refine bB1 _ ec2 (fun w => ?_) (fun w => ?_)
        · have hr := dP_i w
          refine gP_use (p_ended (d + 6) (h0 + i) p n (by omega) (by omega) (by omega) (vA V) z zl hA.1.lt L1 y) ?_
          refine bNe (aEnd (vA V) (h0 + i) p n) 1 rfl rfl (fun c1 => ?_) (fun c1 => ?_) (by have := aEnd_lt (vA V) (h0 + i) p n; omega) (by decide)
          · refine bEq (aEnd (vA V) (h0 + i) p n) 0 rfl rfl (fun c0 => ?_) (fun c0 => ?_) (by have := aEnd_lt (vA V) (h0 + i) p n; omega) (by decide)
            · have hh3 : h0 + i < vA V 3 := by have := (aEnd_0 c0).2; omega
              have hn0 := (aEnd_0 c0).1
              obtain ⟨l1, l2, l3, l4, -⟩ := mU_moves zU hh3 hp (by omega) c0
              have l4' : Bm (h0 + i) p n < 2 ^ 31 := by rw [← hBm]; exact gMv_lt l4
              refine Exists.intro (h0 + i) (And.intro rfl (And.intro (show _ < 24 by omega) ?_))
              refine gP_use (p_state (d + 6) (h0 + i) p n _) ?_
              refine gP_use (gP_eq (by rw [← l1] <;> rfl) (p_moves (d + 6) ((gP0 V).1 (h0 + i)) (sN (h0 + i) p n) _ (by omega) (by omega) z L1 y l3)) ?_
              refine gT_for (σ := Nat → Nat → Nat → Int32) (pc := 188) (lo := fun m _ => [some gM0, some (gI (nI p0)), some (gI (nI h0)), some (gI (nI n0)), some (gI (nI (h0 + i))), some (gI (nI p)), some (gI (nI n)), none, some (gI (nI (Bm (h0 + i) p n))), some (gI (nI m)), none]) (hp := fun _ z => gH z L1 y)
                (Inv := fun m z => (∀ b, b ≠ 151 → z b = I1 b) ∧ eTb (vA V) (vA V 4) Bm false h0 p0 n0 z i (eQ (vA V) (vA V 4) Bm false h0 p0 n0 i p n m)) (vA V 1 + 1) ?_ ?_ 0 z (Nat.zero_le _) ⟨z1, z2⟩ (by rw [← hBm]; exact (by (repeat' apply And.intro) <;> first | rfl | trivial | exact congrArg Sum.inl (nI_1 _).symm | exact congrArg Sum.inl (nI_1 _).symm))
              · intro z ⟨z1, z2⟩
                refine gT_go 400 [103, 188] kX12_ever ?_
                refine Exists.intro (1) (And.intro rfl (And.intro (show _ < 708 by omega) ?_))
                refine bGt (vA V 1 + 1) (vA V 1) rfl ((tr z z1).1 1 (by omega)) (fun _ => ?_) (fun q => absurd q (by omega))
                refine hnextn z _ ⟨z1, eTb_cg (eQ_all hp (by omega) ⟨hr, c0⟩) z2, fun p' n' r1 r2 w r3 => ?_⟩ (by (repeat' apply And.intro) <;> first | rfl | trivial | exact congrArg Sum.inl (nI_1 _).symm | exact congrArg Sum.inl (nI_1 _).symm)
                by_cases w3 : p' = p ∧ n' = n
                · obtain ⟨rfl, rfl⟩ := w3; exact c1
                · exact z4 p' n' r1 r2 (by omega) r3
              · intro m z hm1 ⟨z1, z2⟩ hnextm
                obtain ⟨zl, zU⟩ := tr z z1
                have at284 : (Bm (h0 + i) p n).testBit m = true → ∀ (to : Nat) (lo' : Lo), eSn (vA V) m (h0 + i) ≤ 16 → (to = if eSn (vA V) m (h0 + i) = 16 then p else gGo (vA V) m p) → glle [some gM0, some (gI (nI p0)), some (gI (nI h0)), some (gI (nI n0)), some (gI (nI (h0 + i))), some (gI (nI p)), some (gI (nI n)), none, some (gI (nI (Bm (h0 + i) p n))), some (gI (nI m)), none] lo' →
                    gT mX12_ever (d + 8) (0, 0) (fun v h' => v = [(xEver V (nI p0) (nI h0) (nI n0)).2.1] ∧ ∃ I' L', h' = gH I' L' y ∧ mOut I L I' L' ∧ mR (xEver V (nI p0) (nI h0) (nI n0)).2.2 I' L' ∧ I' 100 0 0 = (xEver V (nI p0) (nI h0) (nI n0)).1) (fun _ _ => False) 284 lo' [gI (nI to), gI (nI n), gI (nI p), gI (nI (h0 + i)), gM0, gR (some (151, 0))] (gH z L1 y) (0, 0) := by
                  intro hbt to lo' hs1 hto hl'
                  have htl : to < vA V 0 := by
                    rw [hto]
                    split
                    · exact hp
                    · exact gGo_lt hA hp (by omega)
                  have hnx : aNx (vA V) (vA V 4) n to ≤ vA V 4 := aNx_le (by omega)
                  have hs2 := sN_lt (h := h0 + i + 1) (p := to) (n := aNx (vA V) (vA V 4) n to) (by omega) (by omega) (by omega)
                  refine gT_lo _ hl' ?_
                  refine gT_go 400 [188] kX12_ever ?_
                  refine gP_use (p_behind (d + 5) (h0 + i) p n to (by omega) hn0 (vA V) z zl hA.1.lt (vA V 4) zU.1 L1 y) ?_
                  refine And.intro (Or.inr rfl) ?_
                  refine Exists.intro (sN (h0 + i + 1) to (aNx (vA V) (vA V 4) n to)) (And.intro rfl (And.intro (show _ < 3900 by omega) ?_))
                  refine hnextm (u3 z 151 0 (sN (h0 + i + 1) to (aNx (vA V) (vA V 4) n to)) 1) _ ⟨fun b hb => (u3_ne1 hb).trans (z1 b hb), ?_⟩ (by (repeat' apply And.intro) <;> first | rfl | trivial | exact congrArg Sum.inl (nI_1 _).symm | exact congrArg Sum.inl (nI_1 _).symm)
                  exact eTb_cg (eQ_yes (by omega) hbt ⟨hr, c0⟩ (eT1_ever hs1 hto)) (eTb_mark hA.1 (by omega) (by omega) htl hnx z2)
                refine gT_go 400 [188, 284] kX12_ever ?_
                refine Exists.intro (1) (And.intro rfl (And.intro (show _ < 708 by omega) ?_))
                refine bGt m (vA V 1) rfl (zl 1 (by omega)) (fun q => absurd q (by omega)) (fun _ => ?_)
                refine bB1 ((Bm (h0 + i) p n).testBit m) (gbit l4' (by omega)) (fun hbt => ?_) (fun hbt => ?_)
                · refine bLe m 0 rfl rfl (fun q => ?_) (fun q => ?_)
                  · have m0 : m = 0 := by omega
                    have es : eSn (vA V) m (h0 + i) = 0 := by unfold eSn; rw [if_pos m0]
                    refine And.intro (fun _ => ?_) (fun q => absurd (show nI m = 0 by rw [m0] <;> rfl) q)
                    exact at284 hbt p _ (by omega) (by rw [es, if_neg (by decide)]; unfold gGo; rw [if_pos m0]) (by (repeat' apply And.intro) <;> first | rfl | trivial | exact congrArg Sum.inl (nI_1 _).symm | exact congrArg Sum.inl (nI_1 _).symm)
                  · have em : nI m - 1 = nI (m - 1) := pk_sub (b := 1) q
                    refine Exists.intro (132 + 24 * (m - 1) + (h0 + i)) (And.intro (by rw [← nI_add (132 + 24 * (m - 1)) (h0 + i), ← nI_add 132 (24 * (m - 1)), ← pk_mul 24 (m - 1), ← em] <;> rfl) (And.intro (show 132 + 24 * (m - 1) + (h0 + i) < 708 by omega) ?_))
                    have es : eSn (vA V) m (h0 + i) = gSnA (vA V) (m - 1) (h0 + i) := by unfold eSn; rw [if_neg (by omega)]
                    have ez : z 110 0 (132 + 24 * (m - 1) + (h0 + i)) = nI (eSn (vA V) m (h0 + i)) := by rw [es]; exact zl _ (by omega)
                    have es16 : eSn (vA V) m (h0 + i) ≤ 16 := by
                      rw [es]
                      have q := hA.1.2.2.2.2.2.2.2.2.2.2.1 (24 * (m - 1) + (h0 + i)) (by omega)
                      rw [show 132 + (24 * (m - 1) + (h0 + i)) = 132 + 24 * (m - 1) + (h0 + i) by omega] at q
                      exact q
                    refine bNe (eSn (vA V) m (h0 + i)) 16 ez rfl (fun q2 => ?_) (fun q2 => ?_)
                    · refine And.intro (fun q3 => absurd q3 (nI_ne0 q (by omega))) (fun _ => ?_)
                      refine And.intro (fun _ => ?_) (fun q3 => absurd rfl q3)
                      refine gP_use (gP_eq (by rw [← em] <;> rfl) (p_otherEnd (d + 6) (m - 1) p (by omega) (by omega) (vA V) z zl hA.1.lt L1 y)) ?_
                      exact at284 hbt (aOth (vA V) (m - 1) p) _ es16 (by rw [if_neg q2]; unfold gGo; rw [if_neg (by omega)]) (by (repeat' apply And.intro) <;> first | rfl | trivial | exact congrArg Sum.inl (nI_1 _).symm | exact congrArg Sum.inl (nI_1 _).symm)
                    · refine And.intro (fun q3 => absurd q3 (nI_ne0 q (by omega))) (fun _ => ?_)
                      refine And.intro (fun q3 => absurd q3 (by decide)) (fun _ => ?_)
                      exact at284 hbt p _ es16 (by rw [if_pos q2]) (by (repeat' apply And.intro) <;> first | rfl | trivial | exact congrArg Sum.inl (nI_1 _).symm | exact congrArg Sum.inl (nI_1 _).symm)
                · exact hnextm z _ ⟨z1, eTb_cg (eQ_no hbt) z2⟩ (by (repeat' apply And.intro) <;> first | rfl | trivial | exact congrArg Sum.inl (nI_1 _).symm | exact congrArg Sum.inl (nI_1 _).symm)
            · exact hnextn z _ (skip (fun w => c0 w.2) (fun _ => c1)) (by (repeat' apply And.intro) <;> first | rfl | trivial | exact congrArg Sum.inl (nI_1 _).symm | exact congrArg Sum.inl (nI_1 _).symm)
          · have hce : cEver V p0 h0 n0 i = true := by
              unfold cEver
              rw [hBm]
              exact dP_t ⟨p, n, hp, by omega, hr, c1⟩
            refine done z _ z1 ?_
            rw [gFst_some hce z3 _ (by omega)]
            show nI (h0 + i) - nI h0 = nI i
            rw [pk_sub (by omega), show h0 + i - h0 = i by omega]
        · have hr := dP_n w
          exact hnextn z _ (skip (fun w => hr w.1) (fun w => absurd w hr)) (by (repeat' apply And.intro) <;> first | rfl | trivial | exact congrArg Sum.inl (nI_1 _).symm | exact congrArg Sum.inl (nI_1 _).symm)
  · intro i' t j r1 r2 r3
    by_cases e : sN (h0 + i') t j = sN h0 p0 n0
    · have w := sN_inj (h := h0 + i') (h' := h0) (by omega) (by omega) (by omega) (by omega) e
      have i0 : i' = 0 := by omega
      subst i0
      rw [e, dP_t (Or.inl ⟨Nat.le_refl _, w.2.1, w.2.2⟩)]
      exact u3_eq
    · have hs3 := sN_lt (h := h0 + i') (p := t) (n := j) (by omega) (by omega) (by omega)
      refine (u3_ne3 e).trans ((z2 _ hs3).trans ?_)
      rw [dP_f]
      · rfl
      · rintro (⟨w1, w2⟩ | ⟨_, w⟩)
        · have i0 : i' = 0 := by omega
          subst i0
          exact e (by rw [w2.1, w2.2] <;> rfl)
        · exact w
