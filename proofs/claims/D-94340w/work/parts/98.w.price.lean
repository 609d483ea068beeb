/-! ===== public methods of the component: the price of an hour, the pact that holds ===== -/
set_option maxRecDepth 100000 in
theorem c2_price (V : VS) (hw : gWf V) (a b : Int32) : cC mX1_price 612 (3, 18) [57, 38, 39] [gI a, gI b] V (xPrice V a b) := by
  intro d I L y H
  obtain ⟨o, ho⟩ : ∃ o, o = xPrice V a b := ⟨_, rfl⟩
  rw [← ho]
  have a2 := hw.1.2.2.1
  have a3 := hw.1.2.2.2.1
  have e3 := H.1.1.1 3 (by decide)
  refine gEnter 400 [1] kX1_price rfl rfl ?_
  refine gT_gate 287 (1, 6) rfl rfl rfl rfl rfl dX1_price_1 (o_mustLand (d + 605) V I L y H) rfl (by decide) (by decide) (fun q h' hx => cX_of (c := 2) (fun e => by rw [ho]; unfold xPrice; rw [e]; exact ⟨rfl, rfl⟩) rfl hx) (fun g1 => ?_)
  refine gT_go 400 [6] kX1_price ?_
  refine gT_gate 266 (2, 12) rfl rfl rfl rfl rfl dX1_price_6 (o_mustPerson (d + 605) V b I L y H) rfl (by decide) (by decide) (fun q h' hx => cX_of (c := 0) (fun e => by rw [ho]; unfold xPrice; rw [g1, e]; exact ⟨rfl, rfl⟩) rfl hx) (fun g2 => ?_)
  obtain ⟨k, rfl, hk⟩ := gWi_n rfl (by omega) g2
  have ek : gTo (nI k) = k := gTo_n (by omega)
  have hA := hw.2.1 g1
  have at32 : ∀ (z : Int32) (lo' : Lo), z = gb (!gWi a 0 (nI (vA V 3) - 1)) → glle [some gG0, some (gI a), some (gI (nI k)), none, none, none, none, none] lo' → gT mX1_price (d + 612) (3, 18) (cQr o I L) (cQx [57, 38, 39] o I L) 32 lo' [gI z, gG0] (gH I L y) (2, 12) := by
    intro z lo' hz hl'
    rw [hz]
    refine gT_gate 173 (3, 18) rfl rfl rfl rfl rfl dX1_price_32 (o_wrong (d + 605) V (gWi a 0 (nI (vA V 3) - 1)) I L y H) rfl (by decide) (by decide) (fun q h' hx => cX_of (c := 1) (fun e => by rw [ho]; unfold xPrice; rw [g1, g2, e]; exact ⟨rfl, rfl⟩) rfl hx) (fun g3 => ?_)
    obtain ⟨h, rfl, hh⟩ := gWi_n rfl (by omega) g3
    have eh : gTo (nI h) = h := gTo_n (by omega)
    have hkk := gP0_lt hw hh
    have hle := (cLe_V hw g1 H.1).use (d + 610) h (vA V 4) (by omega) hw.1 hA.2.2.1 L y H.1.1
    rw [cWho_V V h] at hle
    refine gT_lo _ hl' ?_
    refine gT_go 400 [] kX1_price ?_
    refine gP_use hle ?_
    refine bNe ((gP0 V).1 h) k rfl rfl (fun c => ?_) (fun c => ?_)
    · refine gTM_use rfl (o_worthV (d + 2) V hw g1 (some k) (fun i q => by cases q; exact hk) I L y H) (fun v h' q => ?_)
      obtain ⟨rfl, I1, L1, rfl, f1, H1, -⟩ := q
      refine gTM_use rfl (o_worthV (d + 2) V hw g1 (some ((gP0 V).1 h)) (fun i q => by cases q; exact hkk) I1 L1 y H1) (fun v h' q => ?_)
      obtain ⟨rfl, I2, L2, rfl, f2, H2, -⟩ := q
      refine gTM_use rfl (o_withHour (d + 1) V hw g1 h k k (by omega) hk hk I2 L2 y H2) (fun v h' q => ?_)
      obtain ⟨rfl, I3, L3, rfl, f3, H3, -⟩ := q
      refine gTM_use rfl (o_withHour (d + 1) V hw g1 h k ((gP0 V).1 h) (by omega) hk hkk I3 L3 y H3) (fun v h' q => ?_)
      obtain ⟨rfl, I4, L4, rfl, f4, H4, -⟩ := q
      exact cDone (by rw [ho]; unfold xPrice; rw [g1, g2, g3, ek, eh]; exact ⟨rfl, rfl, rfl⟩) (((f1.out.tr f2.out).tr f3).tr f4) H4
    · have hs : ∀ j, wV V (gLed (gP0 V) h k) j = wV V (gP0 V) j := fun j => by rw [← c, gLed_id]
      have e0 : wV V (gLed (gP0 V) h k) k - wV V (gP0 V) k - (wV V (gP0 V) ((gP0 V).1 h) - wV V (gLed (gP0 V) h k) ((gP0 V).1 h)) = 0 := by
        rw [hs, hs, c, Int64.sub_self]
      exact cDone (by rw [ho]; unfold xPrice; rw [g1, g2, g3, ek, eh]; exact ⟨rfl, congrArg gL e0, rfl⟩) (cOut.rf I L) H
  refine gT_go 400 [32] kX1_price ?_
  refine gP_use (gP_eq (by rw [← e3] <;> rfl) (o_in (d + 610) a 0 (nI (vA V 3) - 1) (gH I L y))) ?_
  refine bB1 (gWi a 0 (nI (vA V 3) - 1)) rfl (fun c => ?_) (fun c => ?_)
  · exact at32 _ _ (by rw [c] <;> rfl) (by (repeat' apply And.intro) <;> first | rfl | trivial | exact congrArg Sum.inl (nI_1 _).symm | exact congrArg Sum.inl (nI_1 _).symm)
  · exact at32 _ _ (by rw [c] <;> rfl) (by (repeat' apply And.intro) <;> first | rfl | trivial | exact congrArg Sum.inl (nI_1 _).symm | exact congrArg Sum.inl (nI_1 _).symm)
