/-! ===== the component: its tables' makers, over V ===== -/
theorem cWho_V (V : VS) (h : Nat) : cWho (sTn (vS V)) (fun j => j) (sLn (vS V)) (vA V 2) h = (gP0 V).1 h := by
  show cWho (sTn (vS V)) (fun j => j) (sLn (vS V)) (vA V 2) h = gWho (sTn (vS V)) (sLn (vS V)) (vA V 2) h
  unfold cWho gWho
  cases sTn (vS V) h <;> rfl
theorem cLe_V {V : VS} (hw : gWf V) (hL : vL V = true) {I : Nat → Nat → Nat → Int32} {y : Dy} (H : cRb V I y) : cLe (sTn (vS V)) (fun j => j) (sLn (vS V)) (vA V) I := by
  obtain ⟨w1, w2, w3, w4, w5, w6, w7⟩ := hw.2.2.2.1
  have a2 := hw.1.2.2.1
  exact ⟨fun h hh => ⟨(H.2.2.1.2.2.1 h hh).trans (w3 h hh).1, (w3 h hh).2⟩, w5, w6, H.2.2.1.2.2.2.1.trans w4, fun j hj => ⟨H.2.2.2.2.2.2.2.2.2.2.2.2 j (by omega), hj⟩⟩
theorem cPy_V {V : VS} (hw : gWf V) (hL : vL V = true) {I : Nat → Nat → Nat → Int32} {y : Dy} (H : cRb V I y) : cPy (vA V) (sTn (vS V)) (fun j => j) (sLn (vS V)) (gP0 V) I := by
  obtain ⟨w1, w2, w3, w4, w5, w6, w7⟩ := hw.2.2.2.1
  exact ⟨cLe_V hw hL H, fun h => (cWho_V V h).symm, fun k hk => ⟨(H.2.2.1.1 k hk).trans (w1 k hk).1, (w1 k hk).2⟩, fun h hh => ⟨(H.2.2.1.2.1 h hh).trans (w2 h hh).1, (w2 h hh).2⟩, H.2.2.2.2.2.2.2.2.2.1, H.2.2.2.2.2.2.2.2.2.2.1, fun a b q => (by change none = some (a, b) at q; cases q), H.2.2.2.2.2.2.2.2.2.2.2.1⟩
theorem vA4 {V : VS} (hw : gWf V) : vA V 4 < 13 := by
  have := hw.1.2.2.2.2.1
  omega
set_option maxRecDepth 100000 in
theorem o_findV (d : Nat) (V : VS) (hw : gWf V) (hL : vL V = true) (I : Nat → Nat → Nat → Int32) (L : Nat → Nat → Nat → Int64) (y : Dy) (H : cR V I L y) :
    gTM mX1_find (d + 608) (0, 0) [gG0] (gH I L y) (fun v h' => v = [] ∧ ∃ I' L', h' = gH I' L' y ∧ cFr I L I' L' ∧ cR V I' L' y ∧ cKn (vA V) (vA V 4) (vR V) (gP0 V) I' L') (fun _ _ => False) := by
  obtain ⟨ht, h6, hR⟩ := H.1.2.1
  rw [show d + 608 = (d + (600 - ht)) + ht + 8 by omega]
  refine gTM_use rfl (o_find (d + (600 - ht)) ht (vA V 4) (vA V) (hw.2.1 hL) (vA4 hw) (vR V) _ _ _ (gP0 V) I L y H.1.1 hR H.2 (cPy_V hw hL H.1)) (fun v h' q => ?_)
  obtain ⟨rfl, I', L', rfl, f, k1, k2⟩ := q
  exact ⟨rfl, I', L', rfl, f, ⟨cRb_cg (f.sm y) H.1, k1⟩, k2⟩
set_option maxRecDepth 100000 in
theorem o_findLawV (d : Nat) (V : VS) (hw : gWf V) (hL : vL V = true) (I : Nat → Nat → Nat → Int32) (L : Nat → Nat → Nat → Int64) (y : Dy) (H : cR V I L y) :
    gTM mX1_findLaw (d + 606) (0, 0) [gG0] (gH I L y) (fun v h' => v = [] ∧ ∃ I' L', h' = gH I' L' y ∧ cFr I L I' L' ∧ cR V I' L' y ∧ cKl (vA V) (vA V 4) (vR V) I' L') (fun _ _ => False) := by
  obtain ⟨ht, h6, hR⟩ := H.1.2.1
  rw [show d + 606 = (d + (600 - ht)) + ht + 6 by omega]
  refine gTM_use rfl (o_findLawW (d + (600 - ht)) ht (vA V 4) (vA V) (hw.2.1 hL) (vA4 hw) (vR V) (gP0 V) I L y H.1.1 hR H.2) (fun v h' q => ?_)
  obtain ⟨rfl, I', L', rfl, f, k1, k2⟩ := q
  exact ⟨rfl, I', L', rfl, f, ⟨cRb_cg (f.sm y) H.1, k1⟩, k2⟩
theorem cCh_uq {A : Nat → Nat} {S : Nat} {R : RL} {P : PP} {L L' : Nat → Nat → Nat → Int64} {h p n : Nat} (hA : gLg A) (hS : S < 13) (hk : P.1 h < A 2) (hh : h < A 3) (hp : p < A 0) (hn : n ≤ S) (e1 : L' 161 = L 161) (e3 : L' 163 = L 163) (k : cKa A S R L) (k' : cKa A S R L') : cCh A S R P L' h p n = cCh A S R P L h p n := by
  have a0 := hA.1.1
  have a3 := hA.1.2.2.2.1
  unfold cCh gCh
  rw [e1, e3]
  refine gChk_cg0 hk (fun _ _ _ _ => rfl) (fun m hm => gBr_cgR hA hn hp hm (fun t j ht hj => ?_)) (fun _ _ _ => rfl)
  rw [wOf_s (sN_lt (by omega) (by omega) (by omega)), wOf_s (sN_lt (by omega) (by omega) (by omega))]
  exact cKa_uq hA k k' hk (by omega) ht hj
theorem cKn_uq {A : Nat → Nat} {S : Nat} {R : RL} {P : PP} {I I' : Nat → Nat → Nat → Int32} {L L' : Nat → Nat → Nat → Int64} (hA : gLg A) (hS : S < 13) (hk : ∀ h, h < A 3 → P.1 h < A 2) (e86 : I' 86 = I 86) (eL : ∀ b, b = 84 ∨ b = 85 ∨ b = 161 ∨ b = 163 → L' b = L b) (kl : cKl A S R I' L') (ka : cKa A S R L') (H : cKn A S R P I L) : cKn A S R P I' L' := by
  obtain ⟨k1, k2, k3, k4⟩ := H
  have e161 := eL 161 (by decide)
  have e163 := eL 163 (by decide)
  refine ⟨kl, ka, cKo_cg e163 k3, fun h p n b1 b2 b3 => ?_⟩
  obtain ⟨q1, q2, q3, q4⟩ := k4 h p n b1 b2 b3
  unfold cQ
  rw [e86, e161, eL 84 (by decide), eL 85 (by decide)]
  by_cases z : aEnd A h p n = 0
  · have hh3 : h < A 3 := by have := (aEnd_0 z).2; omega
    rw [cCh_uq hA hS (hk h hh3) hh3 b2 b3 e161 e163 k2 ka]
    exact ⟨q1, q2, q3, q4⟩
  · rw [if_neg z] at q1 q3 q4
    refine ⟨by rw [if_neg z]; exact q1, fun q hq => ?_, by rw [if_neg z]; exact q3, by rw [if_neg z]; exact q4⟩
    have w := q2 q hq
    rw [if_neg z] at w ⊢
    exact w
set_option maxRecDepth 100000 in
theorem o_findAloneV (d : Nat) (V : VS) (hw : gWf V) (hL : vL V = true) (I : Nat → Nat → Nat → Int32) (L : Nat → Nat → Nat → Int64) (y : Dy) (H : cR V I L y) :
    gTM mX1_findAlone (d + 607) (0, 0) [gG0] (gH I L y) (fun v h' => v = [] ∧ ∃ I' L', h' = gH I' L' y ∧ cFr I L I' L' ∧ cR V I' L' y ∧ cKl (vA V) (vA V 4) (vR V) I' L' ∧ cKa (vA V) (vA V 4) (vR V) L') (fun _ _ => False) := by
  obtain ⟨ht, h6, hR⟩ := H.1.2.1
  have hA := hw.2.1 hL
  obtain ⟨b, c, f, hb, hc, hf, kb, kc, kf⟩ := H.2
  rw [show d + 607 = (d + (600 - ht)) + ht + 7 by omega]
  refine gTM_use rfl (o_findAlone (d + (600 - ht)) ht (vA V 4) (vA V) hA.1 hA.2.1 (vA4 hw) (vR V) b c I L y H.1.1 hR hb kb hc kc) (fun v h' q => ?_)
  obtain ⟨rfl, I', L', rfl, f1, f2, f28, f29, f4, kl, ka⟩ := q
  have fr : cFr I L I' L' := ⟨fun q h1 h2 _ _ h5 => f1 q h1 h2 h5, fun j j1 j2 _ _ => f2 j j1 j2, fun q h1 _ _ _ h5 _ => f4 q h1 h5⟩
  refine ⟨rfl, I', L', rfl, fr, ⟨cRb_cg (fr.sm y) H.1, true, true, f, f28, f29, (f2 31 (by decide) (by decide)).trans hf, fun _ => kl, fun _ => ka, fun z => ?_⟩, kl, ka⟩
  exact cKn_uq hA (vA4 hw) (fun h hh => gP0_lt hw hh) (f1 86 (by decide) (by decide) (by decide)) (fun q hq => f4 q (by omega) (by omega)) kl ka (kf z)
set_option maxRecDepth 100000 in
/-- a state of the plain form, in the component -/
theorem o_begin (d : Nat) (V : VS) (I : Nat → Nat → Nat → Int32) (L : Nat → Nat → Nat → Int64) (y : Dy) (H : cLd y.1 (vA V 4) (vA V) I) : gP mX1_begin (d + 2) [gG0] (gH I L y) (gI (nI (cN 0 (vA V 6) (vA V 4)))) := by
  refine gEnter 400 [] kX1_begin rfl rfl ?_
  refine gP_use (gP_eq (by rw [← H.2.1, ← H.2.2.2.1] <;> rfl) (o_state d 0 (vA V 6) (vA V 4) (gH I L y))) ?_
  exact ⟨rfl, rfl⟩
theorem gPok_V {V : VS} (hw : gWf V) (hL : vL V = true) : gPok (vA V) (gP0 V) := by
  have a3 := hw.1.2.2.2.1
  exact ⟨fun h hh => gP0_lt hw hh, fun h hh => (hw.2.2.2.1.2.1 h (by omega)).2⟩
