/-! ===== public methods of the component: what is told of land and journey ===== -/
set_option maxRecDepth 100000 in
theorem c2_snow (V : VS) (hw : gWf V) (a b : Int32) : cC mX1_snow 8 (2, 12) [56, 38] [gI a, gI b] V (xSnow V a b) := by
  intro d I L y H
  obtain ⟨o, ho⟩ : ∃ o, o = xSnow V a b := ⟨_, rfl⟩
  rw [← ho]
  have a1 := hw.1.2.1
  have e1 := H.1.1.1 1 (by decide)
  have l9 := H.1.1.2.2.2.2.2.2.2.2.1
  have at23 : ∀ (z : Int32) (lo' : Lo), z = gb (!gWi a 0 (nI (vA V 1) - 1)) → glle [some gG0, some (gI a), some (gI b)] lo' → gT mX1_snow (d + 8) (2, 12) (cQr o I L) (cQx [56, 38] o I L) 23 lo' [gI z, gG0] (gH I L y) (0, 0) := by
    intro z lo' hz hl'
    rw [hz]
    refine gT_gate 260 (1, 6) rfl rfl rfl rfl rfl dX1_snow_23 (o_missing (d + 1) V (gWi a 0 (nI (vA V 1) - 1)) I L y H) rfl (by decide) (by decide) (fun q h' hx => cX_of (c := 0) (fun e => by rw [ho]; unfold xSnow; rw [e]; exact ⟨rfl, rfl⟩) rfl hx) (fun g1 => ?_)
    obtain ⟨j, rfl, hj⟩ := gWi_n rfl (by omega) g1
    have ej : gTo (nI j) = j := gTo_n (by omega)
    have at42 : ∀ (z : Int32) (lo' : Lo), z = gb (!gWi b 0 23) → glle [some gG0, some (gI (nI j)), some (gI b)] lo' → gT mX1_snow (d + 8) (2, 12) (cQr o I L) (cQx [56, 38] o I L) 42 lo' [gI z, gG0] (gH I L y) (1, 6) := by
      intro z lo' hz hl'
      rw [hz]
      refine gT_gate 173 (2, 12) rfl rfl rfl rfl rfl dX1_snow_42 (o_wrong (d + 1) V (gWi b 0 23) I L y H) rfl (by decide) (by decide) (fun q h' hx => cX_of (c := 1) (fun e => by rw [ho]; unfold xSnow; rw [g1, e]; exact ⟨rfl, rfl⟩) rfl hx) (fun g2 => ?_)
      obtain ⟨h, rfl, hh⟩ := gWi_m (N := 23) rfl (by decide) g2
      have eh : gTo (nI h) = h := gTo_n (by omega)
      refine gT_lo _ hl' ?_
      refine gT_go 400 [] kX1_snow ?_
      refine Exists.intro (j) (And.intro rfl (And.intro (show _ < 24 by omega) ?_))
      refine Exists.intro (h) (And.intro rfl (And.intro (show _ < 24 by omega) ?_))
      exact cDone (by rw [ho]; unfold xSnow; rw [g1, g2, ej, eh]; exact ⟨rfl, congrArg gI (l9 j h (by omega) (by omega)).symm, rfl⟩) (cOut.rf I L) H
    refine gT_lo _ hl' ?_
    refine gT_go 400 [42] kX1_snow ?_
    refine gP_use (o_in (d + 6) b 0 23 _) ?_
    refine bB1 (gWi b 0 23) rfl (fun c => ?_) (fun c => ?_)
    · exact at42 _ _ (by rw [c] <;> rfl) (by (repeat' apply And.intro) <;> first | rfl | trivial | exact congrArg Sum.inl (nI_1 _).symm | exact congrArg Sum.inl (nI_1 _).symm)
    · exact at42 _ _ (by rw [c] <;> rfl) (by (repeat' apply And.intro) <;> first | rfl | trivial | exact congrArg Sum.inl (nI_1 _).symm | exact congrArg Sum.inl (nI_1 _).symm)
  refine gEnter 400 [23] kX1_snow rfl rfl ?_
  refine gP_use (gP_eq (by rw [← e1] <;> rfl) (o_in (d + 6) a 0 (nI (vA V 1) - 1) (gH I L y))) ?_
  refine bB1 (gWi a 0 (nI (vA V 1) - 1)) rfl (fun c => ?_) (fun c => ?_)
  · exact at23 _ _ (by rw [c] <;> rfl) (by (repeat' apply And.intro) <;> first | rfl | trivial | exact congrArg Sum.inl (nI_1 _).symm | exact congrArg Sum.inl (nI_1 _).symm)
  · exact at23 _ _ (by rw [c] <;> rfl) (by (repeat' apply And.intro) <;> first | rfl | trivial | exact congrArg Sum.inl (nI_1 _).symm | exact congrArg Sum.inl (nI_1 _).symm)
set_option maxRecDepth 100000 in
theorem c2_wants (V : VS) (hw : gWf V) (a b : Int32) : cC mX1_wants 8 (2, 12) [57, 38] [gI a, gI b] V (xWants V a b) := by
  intro d I L y H
  obtain ⟨o, ho⟩ : ∃ o, o = xWants V a b := ⟨_, rfl⟩
  rw [← ho]
  have a0 := hw.1.1
  have a2 := hw.1.2.2.1
  have e0 := H.1.1.1 0 (by decide)
  have l7 := H.1.1.2.2.2.2.2.2.1
  have l8 := H.1.1.2.2.2.2.2.2.2.1
  refine gEnter 400 [2] kX1_wants rfl rfl ?_
  refine gT_gate 266 (1, 6) rfl rfl rfl rfl rfl dX1_wants_2 (o_mustPerson (d + 1) V a I L y H) rfl (by decide) (by decide) (fun q h' hx => cX_of (c := 0) (fun e => by rw [ho]; unfold xWants; rw [e]; exact ⟨rfl, rfl⟩) rfl hx) (fun g1 => ?_)
  obtain ⟨j, rfl, hj⟩ := gWi_n rfl (by omega) g1
  have ej : gTo (nI j) = j := gTo_n (by omega)
  have at28 : ∀ (z : Int32) (lo' : Lo), z = gb (!gWi b (-1) (nI (vA V 0) - 1)) → glle [some gG0, some (gI (nI j)), some (gI b)] lo' → gT mX1_wants (d + 8) (2, 12) (cQr o I L) (cQx [57, 38] o I L) 28 lo' [gI z, gG0] (gH I L y) (1, 6) := by
    intro z lo' hz hl'
    rw [hz]
    refine gT_gate 173 (2, 12) rfl rfl rfl rfl rfl dX1_wants_28 (o_wrong (d + 1) V (gWi b (-1) (nI (vA V 0) - 1)) I L y H) rfl (by decide) (by decide) (fun q h' hx => cX_of (c := 1) (fun e => by rw [ho]; unfold xWants; rw [g1, e]; exact ⟨rfl, rfl⟩) rfl hx) (fun g2 => ?_)
    refine gT_lo _ hl' ?_
    refine gT_go 400 [] kX1_wants ?_
    refine And.intro (fun e => ?_) (fun e => ?_)
    · have e' : ¬ b = -1 := e
      obtain ⟨p, rfl, hp⟩ := gWi_n1 rfl (by omega) g2 e'
      have ep : gTo (nI p) = p := gTo_n (by omega)
      refine Exists.intro (j) (And.intro rfl (And.intro (show _ < 5 by omega) ?_))
      refine Exists.intro (p) (And.intro rfl (And.intro (show _ < 12 by omega) ?_))
      exact cDone (by rw [ho]; unfold xWants; rw [g1, g2, ej, ep, if_neg e']; exact ⟨rfl, congrArg gI (l8 j p (by omega) (by omega)).symm, rfl⟩) (cOut.rf I L) H
    · have e' : b = -1 := e
      refine Exists.intro (j) (And.intro rfl (And.intro (show _ < 5 by omega) ?_))
      exact cDone (by rw [ho]; unfold xWants; rw [g1, g2, ej, if_pos e']; exact ⟨rfl, congrArg gI (l7 j (by omega)).symm, rfl⟩) (cOut.rf I L) H
  refine gT_go 400 [28] kX1_wants ?_
  refine gP_use (gP_eq (by rw [← e0] <;> rfl) (o_in (d + 6) b (-1) (nI (vA V 0) - 1) (gH I L y))) ?_
  refine bB1 (gWi b (-1) (nI (vA V 0) - 1)) rfl (fun c => ?_) (fun c => ?_)
  · exact at28 _ _ (by rw [c] <;> rfl) (by (repeat' apply And.intro) <;> first | rfl | trivial | exact congrArg Sum.inl (nI_1 _).symm | exact congrArg Sum.inl (nI_1 _).symm)
  · exact at28 _ _ (by rw [c] <;> rfl) (by (repeat' apply And.intro) <;> first | rfl | trivial | exact congrArg Sum.inl (nI_1 _).symm | exact congrArg Sum.inl (nI_1 _).symm)
set_option maxRecDepth 100000 in
theorem c2_was (V : VS) (hw : gWf V) (a b : Int32) : cC mX1_was 8 (1, 6) [38] [gI a, gI b] V (xWas V a b) := by
  intro d I L y H
  obtain ⟨o, ho⟩ : ∃ o, o = xWas V a b := ⟨_, rfl⟩
  rw [← ho]
  have h7 := H.1.2.2.1.2.2.2.2.2.2.1
  have h8 := H.1.2.2.1.2.2.2.2.2.2.2
  have hj := hw.2.2.2.2.2.2.2.2.1
  have at25 : ∀ (z : Int32) (lo' : Lo), z = gb (!(gWi a 0 24 && gWi b 0 2)) → glle [some gG0, some (gI a), some (gI b)] lo' → gT mX1_was (d + 8) (1, 6) (cQr o I L) (cQx [38] o I L) 25 lo' [gI z, gG0] (gH I L y) (0, 0) := by
    intro z lo' hz hl'
    rw [hz]
    refine gT_gate 173 (1, 6) rfl rfl rfl rfl rfl dX1_was_25 (o_wrong (d + 1) V (gWi a 0 24 && gWi b 0 2) I L y H) rfl (by decide) (by decide) (fun q h' hx => cX_of (c := 0) (fun e => by rw [ho]; unfold xWas; rw [e]; exact ⟨rfl, rfl⟩) rfl hx) (fun g1 => ?_)
    have g' := (Bool.and_eq_true _ _).mp g1
    obtain ⟨h, rfl, hh⟩ := gWi_m (N := 24) rfl (by decide) g'.1
    obtain ⟨k, rfl, hk⟩ := gWi_m (N := 2) rfl (by decide) g'.2
    have eh : gTo (nI h) = h := gTo_n (by omega)
    refine gT_lo _ hl' ?_
    by_cases c : vS V 79 = 0
    · have e9 : I 20 0 9 = -1 := (h7 c).1
      refine gT_go 400 [] kX1_was ?_
      refine And.intro (fun q => absurd (show nI h ≤ I 20 0 9 from q) (by rw [e9]; exact Int32.not_le.mpr (Int32.lt_of_lt_of_le (show (-1 : Int32) < 0 by decide) (Int32.not_lt.mp (nI_pos (by omega)))))) (fun q => ?_)
      exact cDone (by rw [ho]; unfold xWas; rw [g1, if_pos (Or.inl c)]; exact ⟨rfl, rfl, rfl⟩) (cOut.rf I L) H
    · obtain ⟨g, u1, u2⟩ := hj.resolve_left c
      obtain ⟨q9, q10, qz⟩ := h8 c
      have e9 : I 20 0 9 = nI g := q9.trans u1
      refine gT_go 400 [83] kX1_was ?_
      have at83 : ∀ (z : Int32) (lo' : Lo), h ≤ g → z = (if (nI k = 2 ∧ nI h = vS V 80) then -1 else if nI k = 0 then vS V (82 + h) else if nI k = 1 then vS V (107 + h) else vS V (132 + h)) → glle [none, none, none] lo' → gT mX1_was (d + 8) (1, 6) (cQr o I L) (cQx [38] o I L) 83 lo' [gI z] (gH I L y) (1, 6) := by
        intro z lo' hg hz hl2
        refine gT_lo _ hl2 ?_
        refine gT_go 400 [] kX1_was ?_
        have n80 : ¬ vS V 80 < nI h := by rw [u1]; exact Int32.not_lt.mpr ((nI_leI (by omega) (by omega)).mpr hg)
        have key : xWas V (nI h) (nI k) = (0, gI z, V) := by
          unfold xWas
          rw [g1, eh, hz]
          by_cases c3 : nI k = 2 ∧ nI h = vS V 80
          · rw [if_pos c3, if_pos (Or.inr (Or.inr c3))] <;> rfl
          · rw [if_neg c3, if_neg (fun q => by rcases q with q | q | q; exact c q; exact n80 q; exact c3 q)] <;> rfl
        exact cDone (by rw [ho, key]; exact ⟨rfl, rfl, rfl⟩) (cOut.rf I L) H
      refine bGe g h e9 rfl (fun c2 => ?_) (fun c2 => ?_)
      · obtain ⟨r1, r2, r3⟩ := qz g h u1 u2 c2
        refine bNe k 0 rfl rfl (fun k0 => ?_) (fun k0 => ?_)
        · refine bNe k 1 rfl rfl (fun k1 => ?_) (fun k1 => ?_)
          · have k2 : k = 2 := by omega
            refine Exists.intro (h) (And.intro rfl (And.intro (show _ < 25 by omega) ?_))
            refine at83 _ _ c2 ?_ (by (repeat' apply And.intro) <;> first | rfl | trivial | exact congrArg Sum.inl (nI_1 _).symm | exact congrArg Sum.inl (nI_1 _).symm)
            subst k2
            by_cases e : h = g
            · rw [if_pos ⟨rfl, by rw [u1, e]⟩]
              exact r3.trans (if_pos e)
            · rw [if_neg (fun q => e ((nI_eq (by omega) (by omega)).mp (q.2.trans u1))), if_neg (by decide), if_neg (by decide)]
              exact r3.trans (if_neg e)
          · subst k1
            refine Exists.intro (h) (And.intro rfl (And.intro (show _ < 25 by omega) ?_))
            refine at83 _ _ c2 ?_ (by (repeat' apply And.intro) <;> first | rfl | trivial | exact congrArg Sum.inl (nI_1 _).symm | exact congrArg Sum.inl (nI_1 _).symm)
            rw [if_neg (fun q => absurd q.1 (by decide)), if_neg (by decide), if_pos (show nI 1 = 1 from rfl)]
            exact r2
        · subst k0
          refine Exists.intro (h) (And.intro rfl (And.intro (show _ < 25 by omega) ?_))
          refine at83 _ _ c2 ?_ (by (repeat' apply And.intro) <;> first | rfl | trivial | exact congrArg Sum.inl (nI_1 _).symm | exact congrArg Sum.inl (nI_1 _).symm)
          rw [if_neg (fun q => absurd q.1 (by decide)), if_pos (show nI 0 = 0 from rfl)]
          exact r1
      · exact cDone (by rw [ho]; unfold xWas; rw [g1, if_pos (Or.inr (Or.inl (by rw [u1]; exact (nI_ltI (by omega) (by omega)).mpr c2)))]; exact ⟨rfl, rfl, rfl⟩) (cOut.rf I L) H
  refine gEnter 400 [25] kX1_was rfl rfl ?_
  refine gP_use (o_in (d + 6) a 0 24 _) ?_
  refine bB0 (gWi a 0 24) rfl (fun c => ?_) (fun c => ?_)
  · exact at25 _ _ (by rw [c] <;> rfl) (by (repeat' apply And.intro) <;> first | rfl | trivial | exact congrArg Sum.inl (nI_1 _).symm | exact congrArg Sum.inl (nI_1 _).symm)
  · refine gP_use (o_in (d + 6) b 0 2 _) ?_
    refine bB1 (gWi b 0 2) rfl (fun c2 => ?_) (fun c2 => ?_)
    · exact at25 _ _ (by rw [c, c2] <;> rfl) (by (repeat' apply And.intro) <;> first | rfl | trivial | exact congrArg Sum.inl (nI_1 _).symm | exact congrArg Sum.inl (nI_1 _).symm)
    · exact at25 _ _ (by rw [c, c2] <;> rfl) (by (repeat' apply And.intro) <;> first | rfl | trivial | exact congrArg Sum.inl (nI_1 _).symm | exact congrArg Sum.inl (nI_1 _).symm)
set_option maxRecDepth 100000 in
theorem c2_count (V : VS) (a : Int32) : cC mX1_count 2 (0, 0) [] [gI a] V (xCount V a) := by
  intro d I L y H
  obtain ⟨o, ho⟩ : ∃ o, o = xCount V a := ⟨_, rfl⟩
  rw [← ho]
  obtain ⟨g, ⟨h4, -⟩, h4b⟩ := H.1.2.2.2.1
  have e23 := H.1.2.2.1.2.2.1
  have e8 := H.1.2.2.1.2.2.2.2.1
  have e7 := H.1.2.2.2.2.2.2.1
  refine gEnter 400 [4] kX1_count rfl rfl ?_
  have le : ∀ n, gTnC (vS V) n ≤ n := by
    intro n
    induction n with
    | zero => exact Nat.le_refl _
    | succ n ih => unfold gTnC; split <;> omega
  refine gT_for (σ := Unit) (pc := 4) (lo := fun i _ => [some gG0, some (gI a), some (gI (nI (gTnC (vS V) i))), some (gI (nI i))]) (hp := fun _ _ => gH I L y) (Inv := fun _ _ => True) 24 ?_ ?_ 0 () (Nat.zero_le _) trivial (by (repeat' apply And.intro) <;> first | rfl | trivial | exact congrArg Sum.inl (nI_1 _).symm | exact congrArg Sum.inl (nI_1 _).symm)
  · intro _ _
    have at88 : ∀ (z : Int32) (lo' : Lo), gI z = o.2.1 → glle [none, none, none, none] lo' → gT mX1_count (d + 2) (0, 0) (cQr o I L) (cQx [] o I L) 88 lo' [gI z] (gH I L y) (0, 0) := by
      intro z lo' hz hl'
      refine gT_lo _ hl' ?_
      refine gT_go 400 [] kX1_count ?_
      exact cDone ⟨by rw [ho]; rfl, hz.symm, by rw [ho]; rfl⟩ (cOut.rf I L) H
    refine gT_go 400 [88] kX1_count ?_
    refine bGe 24 24 rfl rfl (fun _ => ?_) (fun q => absurd q (by omega))
    refine And.intro (fun c0 => ?_) (fun c0 => ?_)
    · have c0' : ¬ a = 0 := c0
      refine And.intro (fun c1 => ?_) (fun c1 => ?_)
      · have c1' : ¬ a = 1 := c1
        refine And.intro (fun c2 => ?_) (fun c2 => ?_)
        · have c2' : ¬ a = 2 := c2
          refine And.intro (fun c3 => ?_) (fun c3 => ?_)
          · have c3' : ¬ a = 3 := c3
            exact at88 _ _ (by rw [ho]; unfold xCount; rw [if_neg c0', if_neg c1', if_neg c2', if_neg c3'] <;> rfl) (by (repeat' apply And.intro) <;> first | rfl | trivial | exact congrArg Sum.inl (nI_1 _).symm | exact congrArg Sum.inl (nI_1 _).symm)
          · have c3' : a = 3 := c3
            exact at88 _ _ (by rw [ho]; unfold xCount; rw [if_neg c0', if_neg c1', if_neg c2', if_pos c3']) (by (repeat' apply And.intro) <;> first | rfl | trivial | exact congrArg Sum.inl (nI_1 _).symm | exact congrArg Sum.inl (nI_1 _).symm)
        · have c2' : a = 2 := c2
          exact at88 _ _ (by rw [ho]; unfold xCount; rw [if_neg c0', if_neg c1', if_pos c2']; exact congrArg gI e7) (by (repeat' apply And.intro) <;> first | rfl | trivial | exact congrArg Sum.inl (nI_1 _).symm | exact congrArg Sum.inl (nI_1 _).symm)
      · have c1' : a = 1 := c1
        refine gP_use (o_size d 1 _ _ I L y h4) ?_
        exact at88 _ _ (by rw [ho]; unfold xCount; rw [if_neg c0', if_pos c1']) (by (repeat' apply And.intro) <;> first | rfl | trivial | exact congrArg Sum.inl (nI_1 _).symm | exact congrArg Sum.inl (nI_1 _).symm)
    · have c0' : a = 0 := c0
      exact at88 _ _ (by rw [ho]; unfold xCount; rw [if_pos c0']; exact congrArg gI e8) (by (repeat' apply And.intro) <;> first | rfl | trivial | exact congrArg Sum.inl (nI_1 _).symm | exact congrArg Sum.inl (nI_1 _).symm)
  · intro i _ hi _ hnext
    have li := le i
    refine gT_go 400 [4] kX1_count ?_
    refine bGe i 24 rfl rfl (fun q => absurd q (by omega)) (fun _ => ?_)
    refine Exists.intro (i) (And.intro rfl (And.intro (show _ < 24 by omega) ?_))
    refine And.intro (fun c => ?_) (fun c => ?_)
    · have c' : ¬ vS V (29 + i) = -1 := fun q => c ((e23 i hi).trans q)
      refine hnext () _ trivial ?_
      rw [gTnC, if_neg c']
      exact (by (repeat' apply And.intro) <;> first | rfl | trivial | exact congrArg Sum.inl (nI_1 _).symm | exact congrArg Sum.inl (nI_1 _).symm)
    · have c' : vS V (29 + i) = -1 := (e23 i hi).symm.trans c
      refine hnext () _ trivial ?_
      rw [gTnC, if_pos c', Nat.add_zero]
      exact (by (repeat' apply And.intro) <;> first | rfl | trivial | exact congrArg Sum.inl (nI_1 _).symm | exact congrArg Sum.inl (show nI _ = nI _ + gic 0 from (Int32.add_zero _).symm))
