/-! ===== public methods of the component: how long one leads ===== -/
set_option maxRecDepth 100000 in
theorem o_mustOne (d : Nat) (V : VS) (x : Int32) (I : Nat → Nat → Nat → Int32) (L : Nat → Nat → Nat → Int64) (y : Dy) (H : cR V I L y) : gTM mX1_mustOne (d + 7) (1, 6) [gG0, gI x] (gH I L y) (cGr (gOne (vA V) x) (gH I L y)) (cGx V 0 57 (gOne (vA V) x) I L) := by
  refine gEnter 400 [7] kX1_mustOne rfl rfl ?_
  refine And.intro (fun e => ?_) (fun e => ?_)
  · exact ⟨by unfold gOne; rw [decide_eq_true (show x = -1 from e)]; rfl, rfl, rfl⟩
  · have e1 : gOne (vA V) x = gWi x 0 (nI (vA V 2) - 1) := by unfold gOne; rw [decide_eq_false (show ¬ x = -1 from e)] <;> rfl
    rw [e1]
    refine gT_gate 266 (1, 6) rfl rfl rfl rfl rfl dX1_mustOne_7 (o_mustPerson d V x I L y H) rfl (by decide) (by decide) (fun q h' hx => hx) (fun g1 => ?_)
    refine gT_go 400 [] kX1_mustOne ?_
    exact ⟨g1, rfl, rfl⟩
theorem up1_up1 {s : Nat → Int32} {k : Nat} {v w : Int32} : up1 (up1 s k v) k w = up1 s k w := by
  funext j
  by_cases q : j = k
  · subst q; rw [up1_eq, up1_eq]
  · rw [up1_ne q, up1_ne q, up1_ne q]
theorem gPn_eq {V : VS} {n : Nat} (hn : n < 13) : pEq (gPn V n) (gP0 (xS V (up1 (vS V) 53 (nI n)))) := by
  refine ⟨fun q hq => ?_, fun j hj => ?_, (rfl : (none : Option (Nat × Nat)) = none), (rfl : false = false), fun q hq => ?_⟩
  · show gWho (sTn (up1 (vS V) 53 (nI n))) (sLn (up1 (vS V) 53 (nI n))) (vA V 2) q = gWho (sTn (vS V)) n (vA V 2) q
    have eL : sLn (up1 (vS V) 53 (nI n)) = n := by unfold sLn; rw [up1_eq]; exact gTo_n (by omega)
    have eT : sTn (up1 (vS V) 53 (nI n)) q = sTn (vS V) q := by unfold sTn; rw [up1_ne (by omega)]
    unfold gWho
    rw [eT, eL]
  · show sKd (up1 (vS V) 53 (nI n)) j = sKd (vS V) j
    unfold sKd
    rw [up1_ne (by omega)]
  · show sPl (up1 (vS V) 53 (nI n)) q = sPl (vS V) q
    unfold sPl
    rw [up1_ne (by omega)]
theorem gPn_ok {V : VS} (hw : gWf V) (hL : vL V = true) (n : Nat) : gPok (vA V) (gPn V n) := by
  have a3 := hw.1.2.2.2.1
  have h2 := (hw.2.1 hL).2.2.1
  refine ⟨fun q hq => ?_, fun q hq => (hw.2.2.2.1.2.1 q (by omega)).2⟩
  show gWho (sTn (vS V)) n (vA V 2) q < vA V 2
  unfold gWho
  cases e : sTn (vS V) q with
  | none => exact Nat.mod_lt _ h2
  | some k => exact (hw.2.2.2.1.2.2.1 q (by omega)).2 k e
def gO0 : Option Nat → Int32
  | none => 0
  | some b => nI (b + 1)
set_option maxRecDepth 100000 in
theorem c2_length (V : VS) (hw : gWf V) (a : Int32) : cC mX1_length 611 (2, 12) [57, 39] [gI a] V (xLength V a) := by
  intro d I L y H
  obtain ⟨o, ho⟩ : ∃ o, o = xLength V a := ⟨_, rfl⟩
  rw [← ho]
  have w4 := hw.2.2.2.1.2.2.2
  refine gEnter 400 [1] kX1_length rfl rfl ?_
  refine gT_gate 287 (1, 6) rfl rfl rfl rfl rfl dX1_length_1 (o_mustLand (d + 604) V I L y H) rfl (by decide) (by decide) (fun q h' hx => cX_of (c := 1) (fun e => by rw [ho]; unfold xLength; rw [e]; exact ⟨rfl, rfl⟩) rfl hx) (fun g1 => ?_)
  refine gT_go 400 [6] kX1_length ?_
  refine gT_gate 479 (2, 12) rfl rfl rfl rfl rfl dX1_length_6 (o_mustOne (d + 603) V a I L y H) rfl (by decide) (by decide) (fun q h' hx => cX_of (c := 0) (fun e => by rw [ho]; unfold xLength; rw [g1, e]; exact ⟨rfl, rfl⟩) rfl hx) (fun g2 => ?_)
  obtain ⟨ea, hk⟩ := tOne_x hw.1 g2
  obtain ⟨k, ek⟩ : ∃ k, k = tOne a := ⟨_, rfl⟩
  rw [← ek] at ea hk
  subst ea
  have e7 : I 20 0 7 = vS V 53 := H.1.2.2.1.2.2.2.1
  have all : ∀ i, i < 12 → (4095 : Nat).testBit i = true := by decide
  obtain ⟨F, hF⟩ : ∃ F, F = wLen V k := ⟨_, rfl⟩
  refine gT_go 400 [25] kX1_length ?_
  have set : ∀ {v w : Int32} {J : Nat → Nat → Nat → Int32} {K : Nat → Nat → Nat → Int64}, cR (xS V (up1 (vS V) 53 v)) J K y → cR (xS V (up1 (vS V) 53 w)) (u3 (u3 (u3 J 20 0 7 w) 60 0 30 0) 60 0 31 0) K y := by
    intro v w J K q
    have t := cSt_len (v := w) q.1.2.2.1
    rw [show up1 (vS (xS V (up1 (vS V) 53 v))) 53 w = up1 (vS V) 53 w from up1_up1] at t
    exact cR_Sl (V := xS V (up1 (vS V) 53 v)) (s' := up1 (vS V) 53 w) q (fun b hb => u3_ne1 (by omega)) u3_no0 t
  have own : xS V (up1 (vS V) 53 (vS V 53)) = V := by
    have e : up1 (vS V) 53 (vS V 53) = vS V := by
      funext j
      by_cases q : j = 53
      · subst q; exact up1_eq
      · exact up1_ne q
    rw [e] <;> rfl
  refine gT_for (σ := (Nat → Nat → Nat → Int32) × (Nat → Nat → Nat → Int64)) (pc := 25) (lo := fun i _ => [some gG0, some (gI (gOI k)), some (gI (vS V 53)), some (gI (gO0 (gBs 4095 F false i))), some (gL (gOv F (gBs 4095 F false i))), none, some (gI (nI (i + 1))), none, none]) (hp := fun _ x => gH x.1 x.2 y) (Inv := fun _ x => cOut I L x.1 x.2 ∧ ∃ v, cR (xS V (up1 (vS V) 53 v)) x.1 x.2 y) 12 ?_ ?_ 0 (I, L) (Nat.zero_le _) ⟨cOut.rf I L, vS V 53, by rw [own]; exact H⟩ ⟨rfl, rfl, congrArg (fun q => gI q) e7.symm, rfl, rfl, rfl, trivial⟩
  · intro x ⟨x1, v, x2⟩
    refine gT_go 400 [] kX1_length ?_
    refine bGt 13 12 rfl rfl (fun _ => ?_) (fun q => absurd q (by decide))
    refine gTM_use rfl (o_leads (d + 609) (u3 x.1 20 0 7 (vS V 53)) x.2 y) (fun v h' q => ?_)
    obtain ⟨rfl, rfl⟩ := q
    obtain ⟨b, hb⟩ := gBs_some (v := F) (l := false) (all 0 (by decide)) 12 (by decide)
    refine cDone (V' := V) (by rw [ho]; unfold xLength; rw [g1, g2, ← ek, ← hF, hb]; exact ⟨rfl, rfl, rfl⟩) (x1.tr (cO_l (by decide))) ?_
    have q := set (w := vS V 53) x2
    rw [own] at q
    exact q
  · intro i x hi ⟨x1, v, x2⟩ hnext
    have hw1 : gWf (xS V (up1 (vS V) 53 (nI (i + 1)))) := gWf_S hw (gSw_len hw.1 hw.2.2.2.1 (by omega) (by omega)) (gJr_up (by omega) hw.2.2.2.2.2.2.2.2.1)
    have eF : wTo (xS V (up1 (vS V) 53 (nI (i + 1)))) (vA V 4) none (gP0 (xS V (up1 (vS V) 53 (nI (i + 1))))) k = F i := by
      rw [hF]
      show _ = wTo V (vA V 4) none (gPn V (i + 1)) k
      refine (cWt_V (xS V _) _ _).trans (Eq.trans ?_ (cWt_V V _ _).symm)
      exact cWt_P (gPn_eq (by omega)) hw.1 (gPn_ok hw g1 (i + 1)).1 k
    refine gT_go 400 [25, 67] kX1_length ?_
    refine bGt (i + 1) 12 rfl rfl (fun q => absurd q (by omega)) (fun _ => ?_)
    refine gTM_use rfl (o_leads (d + 609) (u3 x.1 20 0 7 (nI (i + 1))) x.2 y) (fun v h' q => ?_)
    obtain ⟨rfl, rfl⟩ := q
    refine gTM_use rfl (o_worthV (d + 1) (xS V (up1 (vS V) 53 (nI (i + 1)))) hw1 g1 k hk _ x.2 y (set (w := nI (i + 1)) x2)) (fun v h' q => ?_)
    obtain ⟨rfl, I2, L2, rfl, f2, H2, -⟩ := q
    rw [show wTo (xS V (up1 (vS V) 53 (nI (i + 1)))) (vA (xS V (up1 (vS V) 53 (nI (i + 1)))) 4) none (gP0 (xS V (up1 (vS V) 53 (nI (i + 1))))) k = F i from eF]
    have o2 : cOut I L I2 L2 := (x1.tr (cO_l (by decide))).tr f2.out
    have at67 : ∀ (lo' : Lo), gBs 4095 F false (i + 1) = some i → glle [some gG0, some (gI (gOI k)), some (gI (vS V 53)), none, none, none, some (gI (nI (i + 1))), some (gL (F i)), none] lo' → gT mX1_length (d + 611) (2, 12) (cQr o I L) (cQx [57, 39] o I L) 67 lo' [] (gH I2 L2 y) (2, 12) := by
      intro lo' hg hl2
      refine gT_lo _ hl2 ?_
      refine gT_go 400 [25] kX1_length ?_
      refine hnext (I2, L2) _ ⟨o2, nI (i + 1), H2⟩ ?_
      rw [hg]
      exact (by (repeat' apply And.intro) <;> first | rfl | trivial | exact congrArg Sum.inl (nI_1 _).symm | exact congrArg Sum.inl (nI_1 _).symm)
    cases hg : gBs 4095 F false i with
    | none =>
      refine bLe 0 0 rfl rfl (fun _ => ?_) (fun q => absurd q (by decide))
      exact at67 _ (gBs_n (all i hi) hg) (by (repeat' apply And.intro) <;> first | rfl | trivial | exact congrArg Sum.inl (nI_1 _).symm | exact congrArg Sum.inl (nI_1 _).symm)
    | some b =>
      have hb := gBs_lt hg
      refine bLe (b + 1) 0 rfl rfl (fun q => absurd q (by omega)) (fun _ => ?_)
      refine bcGt (fun c => ?_) (fun c => ?_)
      · exact at67 _ (gBs_f1 (all i hi) hg c) (by (repeat' apply And.intro) <;> first | rfl | trivial | exact congrArg Sum.inl (nI_1 _).symm | exact congrArg Sum.inl (nI_1 _).symm)
      · refine hnext (I2, L2) _ ⟨o2, nI (i + 1), H2⟩ ?_
        rw [gBs_f0 (all i hi) hg c]
        exact (by (repeat' apply And.intro) <;> first | rfl | trivial | exact congrArg Sum.inl (nI_1 _).symm | exact congrArg Sum.inl (nI_1 _).symm)
