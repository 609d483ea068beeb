/-! ===== public methods of the component: hours are traded ===== -/
theorem gLed_ok {V : VS} (hw : gWf V) {h k : Nat} (hk : k < vA V 2) : gPok (vA V) (gLed (gP0 V) h k) := by
  have a3 := hw.1.2.2.2.1
  refine ⟨fun q hq => ?_, fun q hq => (hw.2.2.2.1.2.1 q (by omega)).2⟩
  show (if q = h then k else (gP0 V).1 q) < vA V 2
  split
  · exact hk
  · exact gP0_lt hw hq
/-- a turn is set for a while -/
theorem cR_turn {V : VS} {I : Nat → Nat → Nat → Int32} {L : Nat → Nat → Nat → Int64} {y : Dy} {h : Nat} {v : Int32} (hh : h < 24) (H : cR V I L y) : cR (xS V (up1 (vS V) (29 + h) v)) (u3 (u3 (u3 I 23 0 h v) 60 0 30 0) 60 0 31 0) L y :=
  cR_Sl H (fun b hb => u3_ne1 (by omega)) u3_no0 (cSt_turn hh H.1.2.2.1)
theorem cO_l {I : Nat → Nat → Nat → Int32} {L : Nat → Nat → Nat → Int64} {b k : Nat} {v : Int32} (hb : b < 60) : cOut I L (u3 (u3 (u3 I b 0 k v) 60 0 30 0) 60 0 31 0) L := fun q h1 h2 => ⟨(u3_ne1 (by omega)).trans ((u3_ne1 (by omega)).trans (u3_ne1 (by omega))), rfl⟩
theorem wTo_led {V : VS} (hw : gWf V) {h k : Nat} (hh : h < 24) (hk : k < vA V 2) (j : Option Nat) : wTo (xS V (up1 (vS V) (29 + h) (nI k))) (vA V 4) none (gP0 (xS V (up1 (vS V) (29 + h) (nI k)))) j = wTo V (vA V 4) none (gLed (gP0 V) h k) j := by
  have a2 := hw.1.2.2.1
  refine (cWt_V (xS V _) _ _).trans (Eq.trans ?_ (cWt_V V _ _).symm)
  exact cWt_P (gLed_eq hh (by omega)) hw.1 (gLed_ok hw hk).1 j
theorem gWf_turn {V : VS} (hw : gWf V) {h : Nat} {v : Int32} (hh : h < 24) (hv : v = -1 ∨ ∃ z, v = nI z ∧ z < vA V 2) : gWf (xS V (up1 (vS V) (29 + h) v)) := gWf_S hw (gSw_turn hw.1 hw.2.2.2.1 hh hv) (gJr_up (by omega) hw.2.2.2.2.2.2.2.2.1)
set_option maxRecDepth 100000 in
theorem o_withHour (d : Nat) (V : VS) (hw : gWf V) (hL : vL V = true) (h k j : Nat) (hh : h < 24) (hk : k < vA V 2) (hj : j < vA V 2) (I : Nat → Nat → Nat → Int32) (L : Nat → Nat → Nat → Int64) (y : Dy) (H : cR V I L y) :
    gTM mX1_withHour (d + 610) (0, 0) [gG0, gI (nI h), gI (nI k), gI (nI j)] (gH I L y) (fun v h' => v = [gL (wTo V (vA V 4) none (gLed (gP0 V) h k) (some j))] ∧ ∃ I' L', h' = gH I' L' y ∧ cOut I L I' L' ∧ cR V I' L' y ∧ L' 93 = L 93) (fun _ _ => False) := by
  have hw1 := gWf_turn hw hh (Or.inr ⟨k, rfl, hk⟩)
  have e23 : I 23 0 h = vS V (29 + h) := H.1.2.2.1.2.2.1 h hh
  refine gEnter 400 [] kX1_withHour rfl rfl ?_
  refine Exists.intro (h) (And.intro rfl (And.intro (show _ < 24 by omega) ?_))
  refine Exists.intro (h) (And.intro rfl (And.intro (show _ < 24 by omega) ?_))
  refine gTM_use rfl (o_leads (d + 608) (u3 I 23 0 h (nI k)) L y) (fun v h' q => ?_)
  obtain ⟨rfl, rfl⟩ := q
  refine gTM_use rfl (o_worthV d (xS V (up1 (vS V) (29 + h) (nI k))) hw1 hL (some j) (fun i q => by cases q; exact hj) _ L y (cR_turn hh H)) (fun v h' q => ?_)
  obtain ⟨rfl, I1, L1, rfl, fr, H1, kn⟩ := q
  refine Exists.intro (h) (And.intro rfl (And.intro (show _ < 24 by omega) ?_))
  refine gTM_use rfl (o_leads (d + 608) (u3 I1 23 0 h (I 23 0 h)) L1 y) (fun v h' q => ?_)
  obtain ⟨rfl, rfl⟩ := q
  refine ⟨congrArg (fun z => [gL z]) (wTo_led hw hh hk (some j)), _, L1, rfl, ((cO_l (by decide)).tr fr.out).tr (cO_l (by decide)), ?_, fr.2.2 93 (by decide) (by decide) (by decide) (by decide) (by decide) (by decide)⟩
  rw [e23]
  have q := cR_turn (v := vS V (29 + h)) hh H1
  rw [show xS (xS V (up1 (vS V) (29 + h) (nI k))) (up1 (vS (xS V (up1 (vS V) (29 + h) (nI k)))) (29 + h) (vS V (29 + h))) = V from xS_back] at q
  exact q
set_option maxRecDepth 100000 in
theorem c2_hour (V : VS) (hw : gWf V) (a b : Int32) : cC mX1_hour 612 (3, 18) [57, 38, 39] [gI a, gI b] V (xHour V a b) := by
  intro d I L y H
  obtain ⟨o, ho⟩ : ∃ o, o = xHour V a b := ⟨_, rfl⟩
  rw [← ho]
  have a2 := hw.1.2.2.1
  have a3 := hw.1.2.2.2.1
  have e3 := H.1.1.1 3 (by decide)
  refine gEnter 400 [1] kX1_hour rfl rfl ?_
  refine gT_gate 287 (1, 6) rfl rfl rfl rfl rfl dX1_hour_1 (o_mustLand (d + 605) V I L y H) rfl (by decide) (by decide) (fun q h' hx => cX_of (c := 2) (fun e => by rw [ho]; unfold xHour; rw [e]; exact ⟨rfl, rfl⟩) rfl hx) (fun g1 => ?_)
  refine gT_go 400 [6] kX1_hour ?_
  refine gT_gate 266 (2, 12) rfl rfl rfl rfl rfl dX1_hour_6 (o_mustPerson (d + 605) V a I L y H) rfl (by decide) (by decide) (fun q h' hx => cX_of (c := 0) (fun e => by rw [ho]; unfold xHour; rw [g1, e]; exact ⟨rfl, rfl⟩) rfl hx) (fun g2 => ?_)
  obtain ⟨k, rfl, hk⟩ := gWi_n rfl (by omega) g2
  have ek : gTo (nI k) = k := gTo_n (by omega)
  have at32 : ∀ (z : Int32) (lo' : Lo), z = gb (!gWi b 0 (nI (vA V 3) - 1)) → glle [some gG0, some (gI (nI k)), some (gI b), none, none] lo' → gT mX1_hour (d + 612) (3, 18) (cQr o I L) (cQx [57, 38, 39] o I L) 32 lo' [gI z, gG0] (gH I L y) (2, 12) := by
    intro z lo' hz hl'
    rw [hz]
    refine gT_gate 173 (3, 18) rfl rfl rfl rfl rfl dX1_hour_32 (o_wrong (d + 605) V (gWi b 0 (nI (vA V 3) - 1)) I L y H) rfl (by decide) (by decide) (fun q h' hx => cX_of (c := 1) (fun e => by rw [ho]; unfold xHour; rw [g1, g2, e]; exact ⟨rfl, rfl⟩) rfl hx) (fun g3 => ?_)
    obtain ⟨h, rfl, hh⟩ := gWi_n rfl (by omega) g3
    have eh : gTo (nI h) = h := gTo_n (by omega)
    refine gT_lo _ hl' ?_
    refine gT_go 400 [] kX1_hour ?_
    refine gTM_use rfl (o_worthV (d + 2) V hw g1 (some k) (fun i q => by cases q; exact hk) I L y H) (fun v h' q => ?_)
    obtain ⟨rfl, I1, L1, rfl, fr, H1, kn⟩ := q
    refine gTM_use rfl (o_withHour (d + 1) V hw g1 h k k (by omega) hk hk I1 L1 y H1) (fun v h' q => ?_)
    obtain ⟨rfl, I2, L2, rfl, f2, H2, -⟩ := q
    exact cDone (by rw [ho]; unfold xHour; rw [g1, g2, g3, ek, eh]; exact ⟨rfl, rfl, rfl⟩) (fr.out.tr f2) H2
  refine gT_go 400 [32] kX1_hour ?_
  refine gP_use (gP_eq (by rw [← e3] <;> rfl) (o_in (d + 610) b 0 (nI (vA V 3) - 1) (gH I L y))) ?_
  refine bB1 (gWi b 0 (nI (vA V 3) - 1)) rfl (fun c => ?_) (fun c => ?_)
  · exact at32 _ _ (by rw [c] <;> rfl) (by (repeat' apply And.intro) <;> first | rfl | trivial | exact congrArg Sum.inl (nI_1 _).symm | exact congrArg Sum.inl (nI_1 _).symm)
  · exact at32 _ _ (by rw [c] <;> rfl) (by (repeat' apply And.intro) <;> first | rfl | trivial | exact congrArg Sum.inl (nI_1 _).symm | exact congrArg Sum.inl (nI_1 _).symm)
