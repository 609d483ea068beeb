/-! ===== the constructor of an exception of one's own ===== -/
abbrev gxlE : List Jvm.Cond := (Bundle.throwableAtoms ++ Bundle.chain0Atoms "java/lang/Exception" []).filter vx_no
theorem gxlE_g : ∀ w ∈ gxlE.filter goodWord, w ∈ lw_all := lw_in (gxlE.filter goodWord) [149, 750, 759, 766, 769, 771, 751, 752, 188, 189, 753, 758, 767, 784, 740, 785, 742, 786, 744, 754, 756, 746, 779, 780, 781, 751] (by decide +kernel) (by decide +kernel)
theorem gxlE_b : ∀ w ∈ gxlE.filter (fun w => !goodWord w), w ∈ lw_tbl := glw_t [735] (by decide +kernel)
theorem gxlE_n : (gxlE.filter (fun w => !goodWord w)).all gnw = true := by decide +kernel
theorem gcl_12 : gcl[12]? = some (RX15, TX15, 8) := rfl
theorem gtakes {s : State} {cell : Cell} {c : Nat} {k : Class} {f : Field} {v v0 : Value} (e1 : cell.cls = c) (e2 : cell.vm = .none) (h0 : cell.slots[f.slot]? = some v0) (hk : s.vm.classes[c]? = some k) (hord : k.kind = .ordinary) (hty : k.instanceTypes[f.slot]? = some f.type) (hv : fits f.type v = true) : Takes s cell f v :=
  ⟨(Array.getElem?_eq_some_iff.mp h0).1, by rw [e1, e2]; exact (Takes.of_laid hk hord hty hv).2⟩
section GSP
variable {m : GM} {d : Nat} {B : Nat × Nat} {Qr : List AV → Hp → Prop} {Qx : Rf → Hp → Prop} {u : Nat × Nat} {pc : Nat} {lo : Lo} {r : List AV} {h : Hp}
set_option maxHeartbeats 1000000 in
/-- super() of a Wrong -/
theorem gT_sup {i : Nat} (ho : gmO m = "GlassLeaders$Wrong") (hd : decode (gmC m) pc = .ok (.invokespecial 1, 3)) (hbk : hR h 37 i 4 = none) (hr : gsum r ≤ 16) (K : gT m (d + 6) B Qr Qx (pc + 3) lo r h u) : gT m (d + 6) B Qr Qx pc lo (gR (some (37, i)) :: r) h u := by
  intro p l e s mi args below meth c D base ad0 h0 H locs ls ad cx ex e2 rp vs lk sl u1 u2
  have hts := gcx_hts cx
  have hgk := cx.2.2.2.2.2.2.2.2.2.1
  have hgo := cx.2.2.2.2.2.2.2.2.2.2.1
  have hi : i < hC h 37 := (gl0 sl : glv h (gR (some (37, i))))
  have hk : grk 37 = some (.inl 12) := by decide +kernel
  obtain ⟨rr, cell, g1, g2, g3, g4, g5, gm⟩ := ggatO rp (by decide) hi hk
  cases gcl_12.symm.trans g1
  have hba : base ≤ ad 37 i := rp.2.2.1 37 i (by decide) hi
  have hown : s.vm.findClass "GlassLeaders$Wrong" = some mi.cls := by rw [← ho]; exact cx.2.2.2.2.2.1
  intro T0 hT X
  have howns : e.platform.frameOwnsMonitors = true := by rw [X.admits.platform]
  have hfin : e.platform.finalization = false := by rw [X.admits.platform]
  have hpl : e.platform.magicAccessors = ({} : Platform).magicAccessors := by rw [X.admits.platform]
  have htr : e.platform.stackTraces = false := (show e.platform.stackTraces = l.stackTraces by rw [X.admits.platform]).trans cx.2.2.2.2.2.2.2.1
  have hl0 : ∀ w ∈ gxlE, w.before args s = true := vx_hat (B := gxlE.filter (fun w => !goodWord w)) (fun w hw => hts _ (gxlE_g w hw)) (fun w hw => hw) (fun w hw => gnw_use (List.all_eq_true.mp gxlE_n w hw) (hgk.2.2.2.1 w (gxlE_b w hw) (List.all_eq_true.mp gxlE_n w hw)))
  have hl : ∀ w ∈ Bundle.throwableAtoms ++ Bundle.chain0Atoms "java/lang/Exception" [], w.before args s = true := vx_own hl0 (vx_isRefq hgo.2.2.1.1) (vx_isRefq hgo.2.2.2.1.1) hgo.2.2.1.2.word hgo.2.2.2.1.2.word
  obtain ⟨Tc, Z, L, LZ, Y⟩ := ThrowableC.of_atoms (args := args) howns hfin hpl (fun x hx => hl x (List.mem_append_left _ hx))
  obtain ⟨P1, Ps, hlen, L1, hL, hP1m, hlink1, hlink⟩ := Bundle.chain0 (args := args) hpl Y.init0 [] "java/lang/Exception" (by decide) (fun n hn => absurd hn List.not_mem_nil) (fun x hx => hl x (List.mem_append_right _ hx))
  have hPs : Ps = [] := List.eq_nil_of_length_eq_zero hlen
  subst hPs
  obtain ⟨hS, hfc, kC, hkC, hord⟩ := hgk.1 12 _ gcl_12
  have hsel0 : selectMethod e.platform s.vm cell.cls Tc.fill0 = .method Tc.fill0 := by
    obtain ⟨c2, r2, m2, q1, q2, q3, q4, -⟩ := Cond.selects_spec (hts _ q915)
    cases Option.some.inj (q1.symm.trans hfc)
    cases Option.some.inj (q2.symm.trans (State.methodFound?_of_named Y.fill0 (by decide)))
    cases Option.some.inj (q3.symm.trans Y.fill0)
    rw [Launch.admits_selectMethod X.admits, g3]; exact q4
  have hselF : selectMethod e.platform s.vm cell.cls Tc.fill = .method Tc.fill := by
    obtain ⟨c2, r2, m2, q1, q2, q3, q4, -⟩ := Cond.selects_spec (hts _ q761)
    cases Option.some.inj (q1.symm.trans hfc)
    cases Option.some.inj (q2.symm.trans (State.methodFound?_of_named Y.fill (by decide)))
    cases Option.some.inj (q3.symm.trans Y.fill)
    rw [Launch.admits_selectMethod X.admits, g3]; exact q4
  obtain ⟨cellS0, hcS0, hiss⟩ := Y.statics
  obtain ⟨u0, hu0⟩ := Cond.staticRefV Y.unassigned L.unassignedStatic L.statics hcS0 hiss (vx_isRefq (args := args) hgo.2.2.1.1)
  obtain ⟨sen, hsen⟩ := Cond.staticRefV Y.sentinel L.sentinelStatic L.statics hcS0 hiss (vx_isRefq (args := args) hgo.2.2.2.1.1)
  have hnb : ¬ base ≤ Tc.aS := by
    rcases hgo.2.2.1.1 with z | ⟨t, z⟩
    · obtain ⟨cf, kf, fi, f, a, cl9, h1, h2, h3, h4, h5, h6, h7, h8⟩ := z
      cases h1.symm.trans Y.unassigned
      cases h4.symm.trans L.statics
      exact h8
    · obtain ⟨cf, kf, fi, f, a, cl9, h1, h2, h3, h4, h5, h6, h7, h8⟩ := z
      cases h1.symm.trans Y.unassigned
      cases h4.symm.trans L.statics
      exact h8
  have hSlt : Tc.aS < s.heap.size := (Array.getElem?_eq_some_iff.mp hcS0).1
  have hcellS : T0.heap[Tc.aS]? = some cellS0 := by rw [hT, vs.2.1 _ hSlt hnb]; exact hcS0
  have hcell0 : T0.heap[ad 37 i]? = some cell := by rw [hT]; exact g2
  have hknownS : cellS0.vm ≠ .unknown := fun hu => by rw [hu] at hiss; cases hiss
  have hneS : Tc.aS ≠ ad 37 i := fun q => hnb (by rw [q]; exact hba)
  have sl' : ∀ k, k < 8 → ∃ v, cell.slots[D.2.1 12 k]? = some v := fun k hk => by obtain ⟨v, v1, -⟩ := g5 k hk; exact ⟨v, v1⟩
  have sC : Tc.fCause.slot = D.2.1 12 0 := by
    obtain ⟨cf, kf, fi, fd, hi9, hsl⟩ := hS 0 (by decide)
    cases hi9.symm.trans Y.cause
    exact hsl
  have sS : Tc.fStack.slot = D.2.1 12 1 := by
    obtain ⟨cf, kf, fi, fd, hi9, hsl⟩ := hS 1 (by decide)
    cases hi9.symm.trans Y.stack
    exact hsl
  have sP : Tc.fSupp.slot = D.2.1 12 2 := by
    obtain ⟨cf, kf, fi, fd, hi9, hsl⟩ := hS 2 (by decide)
    cases hi9.symm.trans Y.supp
    exact hsl
  obtain ⟨ci198, i198, fB, hk198, hg198, ha198, hsB, -, hnB, htB, hffB⟩ := Cond.ownField (t := .object "java/lang/Object") Y.found L.cls (by decide +kernel) (hts _ q749) (hts _ q748) e.platform hpl
  have sB : fB.slot = D.2.1 12 4 := by
    obtain ⟨cf, kf, fi, fd, hi9, hsl⟩ := hS 4 (by decide)
    cases hi9.symm.trans hffB
    exact hsl
  have ap := gap_of cx gcl_12 (by decide)
  obtain ⟨tyC, -⟩ := Cond.laysAt hfc hkC Y.cause (hts _ q916)
  obtain ⟨tyS, -⟩ := Cond.laysAt hfc hkC Y.stack (hts _ q917)
  obtain ⟨tyP, -⟩ := Cond.laysAt hfc hkC Y.supp (hts _ q918)
  obtain ⟨v0, w0⟩ := sl' 0 (by decide)
  obtain ⟨v1, w1⟩ := sl' 1 (by decide)
  obtain ⟨v2, w2⟩ := sl' 2 (by decide)
  have htC : Takes s cell Tc.fCause (.ref (ad 37 i)) := gtakes g3 g4 (by rw [sC]; exact w0) hkC hord tyC (by rw [Y.causeType]; rfl)
  have htS : Takes s cell Tc.fStack u0.v := gtakes g3 g4 (by rw [sS]; exact w1) hkC hord tyS (by rw [Y.stackType]; exact fits_refV_array _ u0)
  have htP : Takes s cell Tc.fSupp sen.v := gtakes g3 g4 (by rw [sP]; exact w2) hkC hord tyP (by rw [Y.suppType]; exact fits_refV_object _ sen)
  have w4 : cell.slots[D.2.1 12 4]? = some Value.null := by
    obtain ⟨v4, z1, z2, -⟩ := g5 4 (by decide)
    rw [z1, z2 (by decide) (by decide)]
    show some (gtr ad (gR (hR h 37 i 4))) = _
    rw [hbk]
    rfl
  have hprep : ∀ k, k < 8 → k ≠ 0 → k ≠ 1 → k ≠ 2 → (preparedCellV Tc.toThrowableT cell (ad 37 i) u0 sen).slots[D.2.1 12 k]? = cell.slots[D.2.1 12 k]? := by
    intro k hk8 n0 n1 n2
    refine (slot_ne _ _ ?_).trans ((slot_ne _ _ ?_).trans (slot_ne _ _ ?_))
    · rw [sP]; exact ap 2 k (by decide) hk8 (Ne.symm n2)
    · rw [sS]; exact ap 1 k (by decide) hk8 (Ne.symm n1)
    · rw [sC]; exact ap 0 k (by decide) hk8 (Ne.symm n0)
  have hskip : SkipFacts Tc e.platform s (fun u => u) u0 ((preparedCellV Tc.toThrowableT cell (ad 37 i) u0 sen).withEntry T0.cur) :=
    ⟨{ ci198 := ci198, i198 := i198, fBack := fB }, ⟨hk198, hg198, ha198, hsB⟩, by
      show (preparedCellV Tc.toThrowableT cell (ad 37 i) u0 sen).slots[fB.slot]? = some .null
      rw [sB, hprep 4 (by decide) (by decide) (by decide) (by decide)]
      exact w4, fun _ _ => rfl⟩
  obtain ⟨tm, methC, cdC, kC', vm₁, hnC, -, -, -, -, -, -, -, hW₁, st1⟩ := Steps.initCold (tb := p.tables) (e := e) (below := below) (s := s) (U := T0) X.here cx.1 X.warmed hpl hown (t := Bundle.init0 "java/lang/Exception") rfl rfl ⟨by decide, by decide⟩
    (hts _ q924) (hts _ q779) (bytes := Bundle.five) (maxL := 1) (hl (.code (Bundle.init0 "java/lang/Exception") Bundle.five 1 none) (by simp [Bundle.chain0Atoms, Bundle.passAtoms])) (f := F0 mi pc ls ((gR (some (37, i)) :: r).map (gtr ad))) rfl (a := ad 37 i) (rest := r.map (gtr ad)) rfl (by rw [cx.2.1]; exact hd)
  cases Option.some.inj (hnC.symm.trans hP1m)
  have X₁ := X.noted hW₁
  obtain ⟨vm₂, X₂, st2⟩ := X₁.ctorPlainOffV cx.1 (g := F0 mi pc ls (r.map (gtr ad))) rfl (lk.1.trans cx.2.2.2.1.symm) Tc L Z LZ [P1] (fun P hP => by cases List.mem_singleton.mp hP; exact L1) ⟨hlink1, hlink⟩ (u0 := u0) (sen := sen) (self := ad 37 i) (cell := cell) (cellS := cellS0)
    hcell0 (fun k => by rw [g4]; intro z; cases z) (by rw [g4]; intro z; cases z) (by rw [show cell.monitor = {} from gm]) (by rw [show cell.monitor = {} from gm]) hsel0 hselF hcellS hneS hknownS hu0 hsen htC htS htP Y.objLocals hskip htr [] (ig := .invokespecial 1) (len := 3) (by rw [cx.2.1]; exact hd)
    (by show 1 + 2 < d + 6; omega) (by show 2 * 0 + ((r.map (gtr ad)).map fun v => v.category).sum + (13 * 1 + 41) ≤ 48 * (d + 6) + 14000; rw [gsum_cat]; omega)
  have hlt : ad 37 i < ((T0.setVm vm₁).setVm vm₂).heap.size := (Array.getElem?_eq_some_iff.mp hcell0).1
  have hU := heapAt_setCell_self (s := (T0.setVm vm₁).setVm vm₂) ((preparedCellV Tc.toThrowableT cell (ad 37 i) u0 sen).setSlot Tc.fStack.slot u0.v) hlt
  have o1 : ∀ q : Nat, q ≠ ad 37 i → (((T0.setVm vm₁).setVm vm₂).setCell (ad 37 i) ((preparedCellV Tc.toThrowableT cell (ad 37 i) u0 sen).setSlot Tc.fStack.slot u0.v)).heap[q]? = H[q]? := fun q hq => by
    rw [heapAt_setCell_ne _ (Ne.symm hq), ← hT]; rfl
  have z1 : (((T0.setVm vm₁).setVm vm₂).setCell (ad 37 i) ((preparedCellV Tc.toThrowableT cell (ad 37 i) u0 sen).setSlot Tc.fStack.slot u0.v)).heap.size = H.size := by
    rw [size_setCell, ← hT]; rfl
  have hsz : ((preparedCellV Tc.toThrowableT cell (ad 37 i) u0 sen).setSlot Tc.fStack.slot u0.v).slots.size = cell.slots.size := by simp [preparedCellV, Cell.setSlot]
  have hat : gat D ad h 37 i (((T0.setVm vm₁).setVm vm₂).setCell (ad 37 i) ((preparedCellV Tc.toThrowableT cell (ad 37 i) u0 sen).setSlot Tc.fStack.slot u0.v)).heap := by
    unfold gat
    rw [hk]
    refine ⟨_, _, gcl_12, hU, g3, g4, fun k hk8 => ?_, gm⟩
    by_cases q : k < 3
    · obtain ⟨v, hv⟩ := sl' k hk8
      have hk9 : D.2.1 12 k < ((preparedCellV Tc.toThrowableT cell (ad 37 i) u0 sen).setSlot Tc.fStack.slot u0.v).slots.size := by rw [hsz]; exact (Array.getElem?_eq_some_iff.mp hv).1
      refine ⟨_, Array.getElem?_eq_getElem hk9, fun _ z => absurd z ?_, fun w => absurd w (by decide)⟩
      have : k = 0 ∨ k = 1 ∨ k = 2 := by omega
      rcases this with rfl | rfl | rfl <;> decide
    · obtain ⟨v, hv, hf⟩ := g5 k hk8
      refine ⟨v, ?_, hf⟩
      refine (slot_ne _ _ ?_).trans ((hprep k hk8 (by omega) (by omega) (by omega)).trans hv)
      rw [sS]; exact ap 1 k (by decide) hk8 (by omega)
  have rp1 := grep_put rp (by decide : 7 < 37) hi ⟨fun _ _ _ _ => ⟨rfl, rfl, rfl⟩, rfl, rfl⟩ rp.2.2.2.1 z1 o1 hat
  have vs1 : va_S (fun q => base ≤ q) s.heap (((T0.setVm vm₁).setVm vm₂).setCell (ad 37 i) ((preparedCellV Tc.toThrowableT cell (ad 37 i) u0 sen).setSlot Tc.fStack.slot u0.v)).heap (locs ++ [⟨ad 37 i, Tc.fCause.slot⟩, ⟨ad 37 i, Tc.fStack.slot⟩, ⟨ad 37 i, Tc.fSupp.slot⟩, ⟨ad 37 i, Tc.fStack.slot⟩]) := by
    refine ⟨by rw [z1]; exact vs.1, fun q h1 h2 => (o1 q (fun z => h2 (by rw [z]; exact hba))).trans (vs.2.1 q h1 h2), fun q hq => ?_⟩
    rcases List.mem_append.mp hq with a | a
    · exact vs.2.2 q a
    · simp only [List.mem_cons, List.not_mem_nil, or_false] at a
      rcases a with rfl | rfl | rfl | rfl <;> exact hba
  have K1 := K p l e s mi args below meth c D base ad0 h0 _ _ ls ad cx ex e2 rp1 vs1 lk (gl1 sl) u1 u2
  obtain ⟨t, a1, b1⟩ := K1 _ rfl X₂
  refine ⟨t, st1 _ (fun acts => ?_), b1⟩
  rw [doInvoke_state]
  exact st2 _ a1
end GSP
