/-! ===== the component: a default method that is called through a class; who spends first; plans ===== -/
section
variable {p : Program} {l : Launch} {e : Env} {R : Room} {s : State} {m : MethodId} {args : Array Value} {below : List Frame} {meth : Method} {c : Code} {H : Heap} {locs : List Loc} {cells slots : Nat}
theorem vx_callVD {T : State} {locs : List Loc} {cells slots : Nat} (X : Stand p l e R s m args below meth c T locs cells slots) (hexec : p.tables.exec = Jvm.exec) {own C owner : String} {index : Nat} {x y : MethodName}
    (hown : s.vm.findClass own = some m.cls) (hlink : (Cond.methodLink own index x).before args s = true) (hsame : (Cond.sameMethod x.cls owner x.name x.desc).before args s = true)
    (hd0 : va_Decl s ⟨owner, x.name, x.desc⟩) (howner : owner ≠ "java/lang/invoke/MethodHandle" ∧ owner ≠ "java/lang/invoke/VarHandle")
    (hsel : (Cond.landsInDefault C x y).before args s = true) (hinst : (Cond.instanceMethod y).before args s = true)
    {W : Nat} {Pre : Pt → Array Value → Prop} {Post : Pt → Array Value → Option Value → Pt → Prop} {PostX : Pt → Array Value → Addr → Pt → Prop} (hK : vx_Back l R p e below s args y 3 W Pre Post PostX)
    {b : Addr} {cellB : Cell} (hcell : T.heap[b]? = some cellB) (hobj : cellB.vm.isStatics = false) (hcls : s.vm.findClass C = some cellB.cls)
    {g : JFrame} (hg : g.method = m) (hsize : g.locals.size = c.maxLocals) {argsL rest : List Value} (hlen : ∀ sig, parseMethodDescriptor x.desc = some sig → argsL.length = sig.parameters.length)
    (hstack : g.stack = argsL.reverse ++ .ref b :: rest) (hW : 2 * g.monitorRoom + (rest.map fun v => v.category).sum ≤ W) (hdg : decode c.code g.pc = .ok (.invokevirtual index, 3))
    (hpre : ∀ vm₁, s.WarmedH vm₁ → Pre ⟨T.setVm vm₁, locs, cells, slots⟩ (Value.ref b :: argsL).toArray) :
    (∃ (v : Option Value) (vm₁ : Vm) (B : Pt), s.WarmedH vm₁ ∧ Stand p l e R s m args below meth c B.U B.locs B.cells B.slots ∧ Post ⟨T.setVm vm₁, locs, cells, slots⟩ (Value.ref b :: argsL).toArray v B ∧
      ∀ target, Steps p.tables e below (B.U.setTop { g with pc := g.pc + 3, stack := v.toList ++ rest }) target → Steps p.tables e below (T.setTop g) target) ∨
    (∃ (q : Addr) (vm₁ : Vm) (B : Pt), s.WarmedH vm₁ ∧ Stand p l e R s m args below meth c B.U B.locs B.cells B.slots ∧ PostX ⟨T.setVm vm₁, locs, cells, slots⟩ (Value.ref b :: argsL).toArray q B ∧
      Steps p.tables e below (T.setTop g) ((B.U.setTop { g with stack := rest }).pushFrame (.throwing q))) := by
  obtain ⟨r0, r, hn, hrm, hstR, hsigR⟩ := hd0
  obtain ⟨cn, ck, r1, hcn, hck, hni, hf, hn1⟩ := Cond.sameMethod_found hsame
  cases hn.symm.trans hn1
  obtain ⟨mk, methM, hnamed, hmethM, -, habM⟩ := Cond.instanceMethod_spec hinst
  obtain ⟨c2, r2, m2, rm, q1, q2, q3, q5, q4, ⟨kP, hkP, hkPi⟩, -, q7⟩ := Cond.landsInDefault_spec hsel
  cases hcls.symm.trans q1
  cases hf.symm.trans q2
  cases hnamed.symm.trans q3
  cases hrm.symm.trans q5
  have hselP : selectMethod e.platform s.vm cellB.cls r0 = .method mk := by rw [Launch.admits_selectMethod X.admits]; exact q4
  obtain ⟨vm₁, X₁, hstep₁⟩ := X.invokevirtualUpD hexec hown hlink hsame howner hn hrm hstR (a := b) (cell := cellB) hcell
    (fun z h => by rw [h] at hobj; cases hobj) hselP hmethM habM hkP hkPi q7 (g := g) hg (argsL := argsL) (rest := rest) (hlen _ hsigR) hstack hdg
  rcases hK m meth c ⟨T.setVm vm₁, locs, cells, slots⟩ { g with stack := rest } (.invokevirtual index) mk (Value.ref b :: argsL).toArray X₁ hg hsize hdg hW (X₁.named hnamed) (hpre vm₁ X₁.warmed) with ⟨v, B, X', hpost, hsteps⟩ | ⟨q, B, X', hpost, hsteps⟩
  · exact Or.inl ⟨v, vm₁, B, X₁.warmed, X', hpost, fun target h => hstep₁ _ fun acts => by rw [doInvoke_state]; exact hsteps.trans h⟩
  · exact Or.inr ⟨q, vm₁, B, X₁.warmed, X', hpost, hstep₁ _ fun acts => by rw [doInvoke_state]; exact hsteps⟩
end
theorem gcall_D {C : String} (hC : C ∈ gdfl) : gCall 10 (.invokevirtual 13) 3 (some C) mX26_firstOf 1 := by
  intro m d B k p l e s mi args below meth c D base ad0 H locs cells slots Pc Qc XC free As full st rest pc ls ho cx hM hbl hPc hst hn hls hcat hk1 hk2 hdg
  obtain ⟨b, rfl, rfl, cellB, hcB, hoB, hclB⟩ := hst
  have hts := gcx_hts cx
  have hgk := cx.2.2.2.2.2.2.2.2.2.1
  have hW0 : s.WarmedH s.vm := State.WarmedH.refl s
  have hown : s.vm.findClass RX10 = some mi.cls := by have q := gcx_own cx; rw [ho] at q; exact q
  have k10 := hgk.2.2.2.2.2.2.2.2.2.1
  have hlink : (Cond.methodLink "GlassLeaders$Spend" 13 ⟨"GlassLeaders$Spend", "firstOf", "(I)I"⟩).before args s = true := word_at (U := s) hW0 (Or.inl rfl) (k10 _ (by simp [gdfw]))
  have hsame : (Cond.sameMethod "GlassLeaders$Spend" "GlassLeaders$Leader" "firstOf" "(I)I").before args s = true := word_at (U := s) hW0 (Or.inl rfl) (k10 _ (by simp [gdfw]))
  have hsel : (Cond.landsInDefault C ⟨"GlassLeaders$Spend", "firstOf", "(I)I"⟩ ⟨"GlassLeaders$Leader", "firstOf", "(I)I"⟩).before args s = true := by
    have q := hgk.2.2.2.2.2.2.2.2.2.2 C hC
    simp only [Cond.before, Cond.holds, Cond.value] at q ⊢
    exact q
  have hin : (Cond.instanceMethod mX26_firstOf.1).before args s = true := hts _ q1604
  have hco : Cond.code mX26_firstOf.1 (gmC mX26_firstOf) (gmL mX26_firstOf) (gmR mX26_firstOf) ∈ lw_all := q1606
  have hini : (Cond.initialized mX26_firstOf.1.cls).before args s = true := hts _ q2855
  have hcee : gCee mX26_firstOf 1 := ⟨by decide, by decide +kernel, by decide +kernel, by decide +kernel⟩
  have hrm := grm_room (d := d) (k := d) (B := B) (K := k) hcee.1
  have hM2 : vx_Met l mX26_firstOf.1 (ws_ mX26_firstOf.1 (gmC mX26_firstOf) (gmL mX26_firstOf) (gmR mX26_firstOf)) (grm d k) Pc Qc XC k.1 k.2 free := by rw [← gws_nil (m := mX26_firstOf) rfl]; exact hM
  have hK : vx_Back l (grm (d + 1) B) p e below s args mX26_firstOf.1 3 16 (PreOf (grm (d + 1) B) k.1 k.2 Pc) (PostOf Qc k.1 k.2 free) (vx_Post XC k.1 k.2 free) :=
    vx_back (bytes := gmC mX26_firstOf) (maxL := gmL mX26_firstOf) (ret := gmR mX26_firstOf) hM2 hbl rfl rfl hrm.1 (rmU_lo hrm.2) (pay_in hts (lw_meth hco)) List.mem_cons_self (fun a' U hW => word_at hW (Or.inl rfl) hini)
  intro T hT X
  rcases vx_callVD X cx.1 (C := C) (owner := "GlassLeaders$Leader") (x := ⟨"GlassLeaders$Spend", "firstOf", "(I)I"⟩) (y := mX26_firstOf.1) hown hlink hsame (va_Decl.of hin (hts _ hco)) ⟨by decide, by decide⟩ hsel hin hK (by rw [hT]; exact hcB) hoB hclB (g := F0 mi pc ls _) rfl hls (argsL := As) (rest := rest) (fun sig h => hn.trans (by have q := hcee.2.2.2; have h' : parseMethodDescriptor mX26_firstOf.1.desc = some sig := h; rw [h'] at q; exact (Option.some.inj q).symm)) rfl (lv_room16 hcat) (by rw [cx.2.1]; exact hdg)
    (fun vm₁ hW₁ => ⟨hk1, hk2, hPc (T.setVm vm₁) hT hW₁⟩) with ⟨v, vm₁, ⟨U', l2, c2, s2⟩, hW₁, X', ⟨g', mk, t, L, e1, e2, hq, h1, hL, h2, h3⟩, st⟩ | ⟨q, vm₁, ⟨U', l2, c2, s2⟩, hW₁, X', ⟨g', mk, t, L, E, ce, e1, e2, hq, hce, hcv, hcl, h1, hL, h2, h3⟩, st⟩
  · dsimp only [Pt.U, Pt.locs, Pt.cells, Pt.slots] at X' e1 e2 h1 h2 h3 st
    subst h1; subst h2; subst h3
    exact Or.inl ⟨v, (T.setVm vm₁).calling g' mk (Value.ref b :: As).toArray, t, U', L, hT, X', hL, e1, e2, hq, st⟩
  · dsimp only [Pt.U, Pt.locs, Pt.cells, Pt.slots] at X' e1 e2 h1 h2 h3 st hcl
    subst h1; subst h2; subst h3
    exact Or.inr ⟨q, (T.setVm vm₁).calling g' mk (Value.ref b :: As).toArray, t, U', L, E, ce, hT, X', hL, e1, e2, hq, hce, hcv, vx_cls hW₁ hcl, st⟩
theorem gT_callD {m : GM} {d : Nat} {B k : Nat × Nat} {Qr Qr' : List AV → Hp → Prop} {Qx : Rf → Hp → Prop} {u : Nat × Nat} {pc : Nat} {lo : Lo} {h : Hp} {st av r : List AV} {b j ci : Nat} (ho : gmo m = 10) (e4 : grk b = some (.inl ci)) (hcd : gcn ci ∈ gdfl) (hst : gtk 1 [] st = some (av, gR (some (b, j)) :: r)) (hr : Nat.ble (gsum r) 16 = true) (hd : decode (gmC m) pc = .ok (.invokevirtual 13, 3)) (hM : gTM mX26_firstOf d k (gR (some (b, j)) :: av) h Qr' (fun _ _ => False)) (hu1 : u.1 + k.1 ≤ B.1) (hu2 : u.2 + k.2 ≤ B.2)
    (kk : ∀ v h', Qr' v h' → gT m (d + 1) B Qr Qx (pc + 3) lo (v ++ r) h' (u.1 + k.1, u.2 + k.2)) : gT m (d + 1) B Qr Qx pc lo st h u := by
  obtain ⟨hs, hav⟩ := gtk_0 hst
  have hC1 : gCall (gmo m) (.invokevirtual 13) 3 (some (gcn ci)) mX26_firstOf 1 := by rw [ho]; exact gcall_D hcd
  refine gT_rep fun D base ad H rp sl u1 u2 => ?_
  have hl : j < hC h b := (sl _ (by rw [hs]; exact List.mem_append_right _ List.mem_cons_self) : glv h (gR (some (b, j))))
  exact gcall_go (C := some (gcn ci)) (k := k) ⟨(b, j), rfl, hs, grcv rp (q := (b, j)) e4 hl⟩ rfl (@hC1) hM hd hav (Nat.le_of_ble_eq_true hr) hu1 hu2 kk (fun _ _ q => q.elim)
theorem lowB_of {B k : Nat} (h1 : B.testBit k = true) (h2 : ∀ j, j < k → B.testBit j = false) : lowB B k := by
  have e0 : B % 2 ^ k = 0 := by
    refine Nat.eq_of_testBit_eq fun i => ?_
    rw [Nat.testBit_mod_two_pow, Nat.zero_testBit]
    by_cases c : i < k
    · rw [h2 i c, Bool.and_false]
    · rw [decide_eq_false c, Bool.false_and]
  have e1 : B / 2 ^ k % 2 = 1 := by
    rw [Nat.testBit_eq_decide_div_mod_eq] at h1
    exact of_decide_eq_true h1
  refine ⟨B / 2 ^ k / 2, ?_⟩
  have e2 := Nat.div_add_mod B (2 ^ k)
  have e3 : 2 * (B / 2 ^ k / 2) + 1 = B / 2 ^ k := by omega
  rw [e3]
  rw [e0, Nat.add_zero] at e2
  exact e2.symm
/-- the first move that may be -/
theorem gFs_low {B m0 W : Nat} (h0 : B.testBit m0 = true) (h1 : m0 ≤ W) : lowB B (gFs B W) := by
  obtain ⟨q1, q2⟩ := gXb_bit (v := fun _ => 0) h0 h1
  exact lowB_of q2 (gFs_min (W + 1) q1)
set_option maxRecDepth 100000 in
theorem o_firstOf (d B m b i : Nat) (hB : B < 2 ^ 31) (hl : lowB B m) (H : Hp) : gP mX26_firstOf (d + 2) [gR (some (b, i)), gI (nI B)] H (gI (nI m)) := by
  refine gEnter 400 [] kX26_firstOf rfl rfl ?_
  refine gP_use (p_ntz d B m hB hl H) ?_
  exact ⟨rfl, rfl⟩
set_option maxRecDepth 100000 in
theorem o_spend (d B m b i : Nat) (hb : b = 35 ∨ b = 36) (hB : B < 2 ^ 31) (hl : lowB B m) (s k : Int32) (H : Hp) : gP mX10_takes (d + 3) [gR (some (b, i)), gI s, gI k, gI (nI B)] H (gI (nI m)) := by
  have at2 : ∀ lo', glle [none, none, none, none] lo' → gT mX10_takes (d + 3) (0, 0) (fun v h' => v = [gI (nI m)] ∧ h' = H) (fun _ _ => False) 2 lo' [gI (nI B), gR (some (b, i))] H (0, 0) := by
    intro lo' hl'
    have hd : decode (gmC mX10_takes) 2 = .ok (.invokevirtual 13, 3) := dX10_takes_2
    have kk : ∀ v h', v = [gI (nI m)] ∧ h' = H → gT mX10_takes (d + 3) (0, 0) (fun v h' => v = [gI (nI m)] ∧ h' = H) (fun _ _ => False) (2 + 3) lo' (v ++ []) h' (0 + 0, 0 + 0) := by
      intro v h' q
      obtain ⟨rfl, rfl⟩ := q
      show gT mX10_takes (d + 3) (0, 0) _ _ 5 lo' [gI (nI m)] h' (0, 0)
      refine gT_lo _ hl' ?_
      refine gT_go 400 [] kX10_takes ?_
      exact ⟨rfl, rfl⟩
    rcases hb with rfl | rfl
    · exact gT_callD (ci := 8) (k := (0, 0)) rfl rfl (by decide) rfl rfl hd (o_firstOf d B m 35 i hB hl H) (Nat.le_refl _) (Nat.le_refl _) kk
    · exact gT_callD (ci := 9) (k := (0, 0)) rfl rfl (by decide) rfl rfl hd (o_firstOf d B m 36 i hB hl H) (Nat.le_refl _) (Nat.le_refl _) kk
  rcases hb with rfl | rfl
  · refine gEnter 400 [2] kX10_takes rfl rfl ?_
    exact at2 _ (by (repeat' apply And.intro) <;> first | rfl | trivial | exact congrArg Sum.inl (nI_1 _).symm | exact congrArg Sum.inl (nI_1 _).symm)
  · refine gEnter 400 [2] kX10_takes rfl rfl ?_
    exact at2 _ (by (repeat' apply And.intro) <;> first | rfl | trivial | exact congrArg Sum.inl (nI_1 _).symm | exact congrArg Sum.inl (nI_1 _).symm)
set_option maxRecDepth 100000 in
theorem o_planned (d B m h p n x i : Nat) (hh : h < 24) (hp : p < 12) (hn : n < 13) (hx : x ≤ 24) (hB : B < 2 ^ 31) (hl : lowB B m) (k : Int32) (I : Nat → Nat → Nat → Int32) (L : Nat → Nat → Nat → Int64) (y : Dy) (hI : I 22 0 h = nI x) :
    gP mX11_takes (d + 4) [gR (some (36, i)), gI (nI (cN h p n)), gI k, gI (nI B)] (gH I L y) (gI (nI (bif B.testBit x then x else m))) := by
  have at39 : ∀ (z : Int32) (lo' : Lo), z = nI (bif B.testBit x then x else m) → glle [none, none, none, none, none] lo' → gT mX11_takes (d + 4) (0, 0) (fun v h' => v = [gI (nI (bif B.testBit x then x else m))] ∧ h' = gH I L y) (fun _ _ => False) 39 lo' [gI z] (gH I L y) (0, 0) := by
    intro z lo' hz hl'
    refine gT_lo _ hl' ?_
    refine gT_go 400 [] kX11_takes ?_
    exact ⟨by rw [hz], rfl⟩
  refine gEnter 400 [39] kX11_takes rfl rfl ?_
  refine gP_use (o_hourOf (d + 2) h p n (by omega) hp hn (gH I L y)) ?_
  refine Exists.intro (h) (And.intro rfl (And.intro (show _ < 24 by omega) ?_))
  have hbit : (nI B >>> (I 22 0 h &&& 31)) &&& 1 = gb (B.testBit x) := by rw [hI]; exact gbit hB (by omega)
  rcases Bool.eq_false_or_eq_true (B.testBit x) with hbt | hbt
  · rw [hbt] at hbit
    refine And.intro (fun q => absurd hbit q) (fun _ => ?_)
    exact at39 _ _ (by rw [hbt]; exact hI) (by (repeat' apply And.intro) <;> first | rfl | trivial | exact congrArg Sum.inl (nI_1 _).symm | exact congrArg Sum.inl (nI_1 _).symm)
  · rw [hbt] at hbit
    refine And.intro (fun _ => ?_) (fun q => absurd (hbit.symm.trans q) (by decide))
    refine gP_use (o_spend d B m 36 i (Or.inr rfl) hB hl _ _ (gH I L y)) ?_
    exact at39 _ _ (by rw [hbt] <;> rfl) (by (repeat' apply And.intro) <;> first | rfl | trivial | exact congrArg Sum.inl (nI_1 _).symm | exact congrArg Sum.inl (nI_1 _).symm)
