/-! ===== throws, handlers, calls that make cells ===== -/
def gRT : List String := ["java/lang/RuntimeException", "java/lang/Exception"]
theorem gRT_fit : ∀ n ∈ gRT, Bundle.fit n = true := List.all_eq_true.mp (by decide +kernel)
theorem glw_t {ws : List Jvm.Cond} (ps : List Nat) (hp : ws = ps.filterMap (fun i => lw_tbl[i]?)) : ∀ w ∈ ws, w ∈ lw_tbl := by
  intro w h
  rw [hp] at h
  obtain ⟨i, -, hi⟩ := List.mem_filterMap.mp h
  exact List.mem_of_getElem? hi
abbrev gxlA : List Jvm.Cond := vx_at0 "GlassLeaders" 149 "java/lang/IllegalArgumentException" gRT
theorem gxlA_g : ∀ w ∈ gxlA.filter goodWord, w ∈ lw_all := lw_in (gxlA.filter goodWord) [149, 750, 759, 766, 769, 771, 751, 752, 188, 189, 753, 758, 767, 784, 740, 785, 742, 786, 744, 754, 756, 746, 773, 774, 775, 776, 776, 777, 778, 779, 779, 780, 781, 751, 772, 729, 737, 738, 739, 741, 743, 745, 749, 748, 747] (by decide +kernel) (by decide +kernel)
theorem gxlA_b : ∀ w ∈ gxlA.filter (fun w => !goodWord w), w ∈ lw_tbl := glw_t [731, 733, 735, 730] (by decide +kernel)
theorem gxlA_n : (gxlA.filter (fun w => !goodWord w)).all gnw = true := by decide +kernel
theorem gxlA_o : (Jvm.Cond.classLink "GlassLeaders" 147 "java/lang/IllegalArgumentException" :: Jvm.Cond.initialized "java/lang/IllegalArgumentException" :: gxlA).all vx_ot = true := by decide +kernel
abbrev gxlN : List Jvm.Cond := vx_at0 "GlassLeaders" 152 "java/util/NoSuchElementException" gRT
theorem gxlN_g : ∀ w ∈ gxlN.filter goodWord, w ∈ lw_all := lw_in (gxlN.filter goodWord) [149, 750, 759, 766, 769, 771, 751, 752, 188, 189, 753, 758, 767, 784, 740, 785, 742, 786, 744, 754, 756, 746, 1256, 1257, 1258, 776, 776, 777, 778, 779, 779, 780, 781, 751, 1255, 1247, 1249, 765, 1250, 1251, 1252, 1253, 749, 748, 1254] (by decide +kernel) (by decide +kernel)
theorem gxlN_b : ∀ w ∈ gxlN.filter (fun w => !goodWord w), w ∈ lw_tbl := glw_t [731, 733, 735, 1248] (by decide +kernel)
theorem gxlN_n : (gxlN.filter (fun w => !goodWord w)).all gnw = true := by decide +kernel
theorem gxlN_o : (Jvm.Cond.classLink "GlassLeaders" 150 "java/util/NoSuchElementException" :: Jvm.Cond.initialized "java/util/NoSuchElementException" :: gxlN).all vx_ot = true := by decide +kernel
abbrev gxlS : List Jvm.Cond := vx_at0 "GlassLeaders" 159 "java/lang/IllegalStateException" gRT
theorem gxlS_g : ∀ w ∈ gxlS.filter goodWord, w ∈ lw_all := lw_in (gxlS.filter goodWord) [149, 750, 759, 766, 769, 771, 751, 752, 188, 189, 753, 758, 767, 784, 740, 785, 742, 786, 744, 754, 756, 746, 1369, 1370, 1371, 776, 776, 777, 778, 779, 779, 780, 781, 751, 1368, 1360, 1362, 763, 1363, 1364, 1365, 1366, 749, 748, 1367] (by decide +kernel) (by decide +kernel)
theorem gxlS_b : ∀ w ∈ gxlS.filter (fun w => !goodWord w), w ∈ lw_tbl := glw_t [731, 733, 735, 1361] (by decide +kernel)
theorem gxlS_n : (gxlS.filter (fun w => !goodWord w)).all gnw = true := by decide +kernel
theorem gxlS_o : (Jvm.Cond.classLink "GlassLeaders" 157 "java/lang/IllegalStateException" :: Jvm.Cond.initialized "java/lang/IllegalStateException" :: gxlS).all vx_ot = true := by decide +kernel
abbrev gxlB : List Jvm.Cond := vx_at0 "GlassLeaders" 169 "java/lang/IndexOutOfBoundsException" gRT
theorem gxlB_g : ∀ w ∈ gxlB.filter goodWord, w ∈ lw_all := lw_in (gxlB.filter goodWord) [149, 750, 759, 766, 769, 771, 751, 752, 188, 189, 753, 758, 767, 784, 740, 785, 742, 786, 744, 754, 756, 746, 1314, 1315, 1316, 776, 776, 777, 778, 779, 779, 780, 781, 751, 1313, 1305, 1307, 764, 1308, 1309, 1310, 1311, 749, 748, 1312] (by decide +kernel) (by decide +kernel)
theorem gxlB_b : ∀ w ∈ gxlB.filter (fun w => !goodWord w), w ∈ lw_tbl := glw_t [731, 733, 735, 1306] (by decide +kernel)
theorem gxlB_n : (gxlB.filter (fun w => !goodWord w)).all gnw = true := by decide +kernel
theorem gxlB_o : (Jvm.Cond.classLink "GlassLeaders" 167 "java/lang/IndexOutOfBoundsException" :: Jvm.Cond.initialized "java/lang/IndexOutOfBoundsException" :: gxlB).all vx_ot = true := by decide +kernel
theorem gnw_use {w : Jvm.Cond} {s : State} {args : Array Value} (hw : gnw w = true) (h : va_Nw w s) : w.before args s = true := by
  cases w with
  | fieldLinkNest => exact va_Nw.use rfl h
  | methodLinkNest => exact va_Nw.use rfl h
  | declares => exact va_Nw.use rfl h
  | castable => exact va_Nw.use rfl h
  | _ => cases hw
section GTH
variable {m : GM} {d : Nat} {B : Nat × Nat} {Qr : List AV → Hp → Prop} {Qx : Rf → Hp → Prop} {u : Nat × Nat} {pc : Nat} {lo : Lo} {h : Hp}
/-- throw new X() out of a method without handlers -/
theorem gT_thr (b : Nat) {ci ik ic : Nat} {X : String} (hb : 7 < b) (hk : grk b = some (.inl ci)) (h1 : gcl[ci]? = some (X, gT0, 0)) (ho : gmO m = "GlassLeaders") (h0 : gmH m = [])
    (d0 : decode (gmC m) pc = .ok (.new ik, 3)) (d3 : decode (gmC m) (pc + 3) = .ok (.dup, 1)) (d4 : decode (gmC m) (pc + 4) = .ok (.invokespecial ic, 3)) (d7 : decode (gmC m) (pc + 7) = .ok (.athrow, 1))
    (hlink : Jvm.Cond.classLink "GlassLeaders" ik X ∈ lw_all) (hini : Jvm.Cond.initialized X ∈ lw_all) (hfit : Bundle.fit X = true)
    (hg : ∀ w ∈ (vx_at0 "GlassLeaders" ic X gRT).filter goodWord, w ∈ lw_all) (hbad : ∀ w ∈ (vx_at0 "GlassLeaders" ic X gRT).filter (fun w => !goodWord w), w ∈ lw_tbl) (hn : ((vx_at0 "GlassLeaders" ic X gRT).filter (fun w => !goodWord w)).all gnw = true)
    (hot : (Jvm.Cond.classLink "GlassLeaders" ik X :: Jvm.Cond.initialized X :: vx_at0 "GlassLeaders" ic X gRT).all vx_ot = true)
    (hu1 : u.1 + 1 ≤ B.1) (hu2 : u.2 + 6 ≤ B.2) (hQ : Qx (b, hC h b) (gNw h b 0)) : gT m (d + 6) B Qr Qx pc lo [] h u := by
  intro p l e s mi args below meth c D base ad0 h0' H locs ls ad cx ex e2 rp vs lk sl u1 u2
  have hts := gcx_hts cx
  have hgk := cx.2.2.2.2.2.2.2.2.2.1
  have hgo := cx.2.2.2.2.2.2.2.2.2.2.1
  have hown : s.vm.findClass "GlassLeaders" = some mi.cls := by rw [← ho]; exact cx.2.2.2.2.2.1
  refine vx_throw0 (own := "GlassLeaders") (cls := X) (names := gRT) (ik := ik) (ic := ic) (A := fun q => base ≤ q) cx.1 cx.2.1 cx.2.2.2.2.2.2.2.1 hown hfit gRT_fit (hts _ hlink) (hts _ hini)
    (vx_hat (B := (vx_at0 "GlassLeaders" ic X gRT).filter (fun w => !goodWord w)) (fun w hw => hts _ (hg w hw)) (fun w hw => hw) (fun w hw => gnw_use (List.all_eq_true.mp hn w hw) (hgk.2.2.2.1 w (hbad w hw) (List.all_eq_true.mp hn w hw))))
    (List.all_eq_true.mp hot) hgo.2.2.1 hgo.2.2.2.1 vs (lk.1.trans cx.2.2.2.1.symm) d0 d3 d4 d7 (fun x hx => (gnoH h0 cx.2.2.2.2.2.2.2.2.2.2.2.2.2 x hx).elim)
    (by show 2 + 3 < d + 6; omega) (by show 0 + (13 * (2 + 1) + 42) ≤ 48 * (d + 6) + 14000; omega) hu1 hu2 cx.2.2.2.2.1 (fun t _ z1 o1 q ce hq hce hv hm hcl => ?_) vs.2.2 hu1 hu2
  have hat : gat D (gAd ad h b q) (gNw h b 0) b (hC h b) t.heap := by
    unfold gat
    rw [hk]
    exact ⟨_, ce, h1, by rw [gAd_n]; exact hce, gfindO hcl (gclassAt hgk h1).1, hv, fun k hk => absurd hk (Nat.not_lt_zero _), hm⟩
  exact ⟨(b, hC h b), gNw h b 0, gAd ad h b q, ci, _, gAd_n.symm, hQ, grep_new q hq rp hb (by decide) z1 o1 hat, gext_tr ex (gext_new h ad b 0 q), by show hC h b < hC (gNw h b 0) b; rw [gNw_C0]; omega, hb, hk, h1, rfl, (va_S_new vs z1 o1).F rfl⟩
/-! handlers -/
def gcov (z : Nat × Nat × Nat × Nat) (pc : Nat) : Bool := decide (z.1 ≤ pc) && decide (pc < z.2.1)
theorem gtab_split {c : Code} {hh pre suf : List (Nat × Nat × Nat × Nat)} {x : Nat × Nat × Nat × Nat} (h : c.exceptionTable.toList.map (fun x => (x.startPc, x.endPc, x.handlerPc, x.catchType)) = hh) (e : hh = pre ++ x :: suf) :
    ∃ pre' x' suf', c.exceptionTable.toList = pre' ++ x' :: suf' ∧ pre'.map (fun x => (x.startPc, x.endPc, x.handlerPc, x.catchType)) = pre ∧ (x'.startPc, x'.endPc, x'.handlerPc, x'.catchType) = x := by
  rw [e] at h
  obtain ⟨l1, l2, e1, e2, e3⟩ := List.map_eq_append_iff.mp h
  obtain ⟨a, l3, e4, e5, e6⟩ := List.map_eq_cons_iff.mp e3
  exact ⟨l1, a, l3, by rw [e1, e4], e2, e5⟩
theorem gTX_catch {q : Rf} {ci : Nat} {rr : vw_C} {name : String} (pre : List (Nat × Nat × Nat × Nat)) (x : Nat × Nat × Nat × Nat) (suf : List (Nat × Nat × Nat × Nat)) (hk : grk q.1 = some (.inl ci)) (h1 : gcl[ci]? = some rr) (hH : gmH m = pre ++ x :: suf)
    (hpass : ∀ z ∈ pre, gcov z pc = false ∨ (z.2.2.2 ≠ 0 ∧ ∃ nm : String, Jvm.Cond.classLink (gmO m) z.2.2.2 nm ∈ lw_all ∧ (rr.1, nm) ∈ gncs)) (hx : gcov x pc = true) (h0 : x.2.2.2 ≠ 0)
    (hlink : Jvm.Cond.classLink (gmO m) x.2.2.2 name ∈ lw_all) (hcast : Jvm.Cond.castable rr.1 name ∈ lw_tbl) (K : gT m d B Qr Qx x.2.2.1 lo [gR (some q)] h u) : gTX m d B Qr Qx pc lo q h u := by
  intro p l e s mi args below meth c D base ad0 h0' H locs ls ad rest cx ex e2 rp vs lk hl h7 hkk u1 u2
  have hts := gcx_hts cx
  have hgk := cx.2.2.2.2.2.2.2.2.2.1
  obtain ⟨rr', cell, g1, g2, g3, g4, -⟩ := ggatO rp (by omega) hl hk
  obtain ⟨pre', x', suf', s1, s2, s3⟩ := gtab_split cx.2.2.2.2.2.2.2.2.2.2.2.2.2 hH
  subst s3
  refine vx_catch (own := gmO m) (name := name) (E := rr.1) (ce := cell) cx.2.2.2.2.2.1 pre' x' suf' s1 (fun z hz => ?_) hx h0 (hts _ hlink) (va_Nw.use rfl (hgk.2.2.2.1 _ hcast rfl)) g2 g4 (by rw [g3]; exact (gclassAt hgk h1).1) ?_
  · have hz' : (z.startPc, z.endPc, z.handlerPc, z.catchType) ∈ pre := by rw [← s2]; exact List.mem_map_of_mem hz
    rcases hpass _ hz' with a | ⟨a, nm, b1, b2⟩
    · exact Or.inl a
    · exact Or.inr ⟨a, nm, hts _ b1, hgk.2.2.2.2.2.2.2.2.1 _ b2⟩
  · exact K p l e s mi args below meth c D base ad0 h0' H locs ls ad cx ex e2 rp vs lk (glc hl (fun _ z => absurd z List.not_mem_nil)) u1 u2
/-- no handler of this method takes it -/
theorem gTX_pass {q : Rf} {ci : Nat} {rr : vw_C} (hk : grk q.1 = some (.inl ci)) (h1 : gcl[ci]? = some rr) (hpass : ∀ z ∈ gmH m, gcov z pc = false ∨ (z.2.2.2 ≠ 0 ∧ ∃ nm : String, Jvm.Cond.classLink (gmO m) z.2.2.2 nm ∈ lw_all ∧ (rr.1, nm) ∈ gncs)) (hQ : Qx q h) : gTX m d B Qr Qx pc lo q h u := by
  intro p l e s mi args below meth c D base ad0 h0' H locs ls ad rest cx ex e2 rp vs lk hl h7 hkk u1 u2
  have hts := gcx_hts cx
  have hgk := cx.2.2.2.2.2.2.2.2.2.1
  obtain ⟨rr', cell, g1, g2, g3, g4, -⟩ := ggatO rp (by omega) hl hk
  refine vx_outP (own := gmO m) (E := rr.1) cx.2.2.2.2.2.1 cx.2.2.2.2.1 (fun z hz => ?_) g2 g4 (by rw [g3]; exact (gclassAt hgk h1).1)
    (fun t ht _ => ⟨q, h, ad, ci, rr, rfl, hQ, by rw [ht]; exact rp, ex, hl, h7, hk, h1, rfl, vs.F ht⟩) vs.2.2 u1 u2
  have hz' : (z.startPc, z.endPc, z.handlerPc, z.catchType) ∈ gmH m := by rw [← cx.2.2.2.2.2.2.2.2.2.2.2.2.2]; exact List.mem_map_of_mem hz
  rcases hpass _ hz' with a | ⟨a, nm, b1, b2⟩
  · exact Or.inl a
  · exact Or.inr ⟨a, nm, hts _ b1, hgk.2.2.2.2.2.2.2.2.1 _ b2⟩
/-! calls, with what they make -/
variable {st av r : List AV} {n idx : Nat} {al : Bool} {tb : List (Nat × GM)} {m' : GM} {k : Nat × Nat} {Qr' : List AV → Hp → Prop} {Qx' : Rf → Hp → Prop}
theorem gT_callS (e1 : gcs (gmo m) idx = some (n, al, tb)) (e3 : glk tb 0 = some m') (hst : gtk n [] st = some (av, r)) (hr : Nat.ble (gsum r) 16 = true) (hd : decode (gmC m) pc = .ok (.invokestatic idx, 3)) (hM : gTM m' d k av h Qr' Qx') (hu1 : u.1 + k.1 ≤ B.1) (hu2 : u.2 + k.2 ≤ B.2)
    (kk : ∀ v h', Qr' v h' → gT m (d + 1) B Qr Qx (pc + 3) lo (v ++ r) h' (u.1 + k.1, u.2 + k.2)) (kx : ∀ q h', Qx' q h' → gTX m (d + 1) B Qr Qx pc lo q h' (u.1 + k.1, u.2 + k.2)) : gT m (d + 1) B Qr Qx pc lo st h u := by
  obtain ⟨hs, hav⟩ := gtk_0 hst
  have hC1 : gCall (gmo m) (.invokestatic idx) 3 none m' n := gcs_ok e1 _ (glk_mem _ _ _ e3)
  exact gcall_go (C := none) (k := k) ⟨rfl, hs⟩ rfl (@hC1) hM hd hav (Nat.le_of_ble_eq_true hr) hu1 hu2 kk kx
theorem gT_callV {b j ci : Nat} (e1 : gcv (gmo m) idx = some (n, al, tb)) (e4 : grk b = some (.inl ci)) (e3 : glk tb ci = some m') (hst : gtk n [] st = some (av, gR (some (b, j)) :: r)) (hr : Nat.ble (gsum r) 16 = true) (hd : decode (gmC m) pc = .ok (.invokevirtual idx, 3)) (hM : gTM m' d k (gR (some (b, j)) :: av) h Qr' Qx') (hu1 : u.1 + k.1 ≤ B.1) (hu2 : u.2 + k.2 ≤ B.2)
    (kk : ∀ v h', Qr' v h' → gT m (d + 1) B Qr Qx (pc + 3) lo (v ++ r) h' (u.1 + k.1, u.2 + k.2)) (kx : ∀ q h', Qx' q h' → gTX m (d + 1) B Qr Qx pc lo q h' (u.1 + k.1, u.2 + k.2)) : gT m (d + 1) B Qr Qx pc lo st h u := by
  obtain ⟨hs, hav⟩ := gtk_0 hst
  have hC1 : gCall (gmo m) (.invokevirtual idx) 3 (some (gcn ci)) m' n := gcv_ok e1 _ (glk_mem _ _ _ e3)
  refine gT_rep fun D base ad H rp sl u1 u2 => ?_
  have hl : j < hC h b := (sl _ (by rw [hs]; exact List.mem_append_right _ List.mem_cons_self) : glv h (gR (some (b, j))))
  exact gcall_go (C := some (gcn ci)) (k := k) ⟨(b, j), rfl, hs, grcv rp (q := (b, j)) e4 hl⟩ rfl (@hC1) hM hd hav (Nat.le_of_ble_eq_true hr) hu1 hu2 kk kx
theorem gT_callP {q : Rf} {ci : Nat} (e1 : gcp (gmo m) idx = some (n, al, tb)) (e4 : grk q.1 = some (.inl ci)) (hci : ci ≤ 25) (e3 : glk tb 0 = some m') (hst : gtk n [] st = some (av, gR (some q) :: r)) (hr : Nat.ble (gsum r) 16 = true) (hd : decode (gmC m) pc = .ok (.invokespecial idx, 3)) (hM : gTM m' d k (gR (some q) :: av) h Qr' Qx') (hu1 : u.1 + k.1 ≤ B.1) (hu2 : u.2 + k.2 ≤ B.2)
    (kk : ∀ v h', Qr' v h' → gT m (d + 1) B Qr Qx (pc + 3) lo (v ++ r) h' (u.1 + k.1, u.2 + k.2)) (kx : ∀ z h', Qx' z h' → gTX m (d + 1) B Qr Qx pc lo z h' (u.1 + k.1, u.2 + k.2)) : gT m (d + 1) B Qr Qx pc lo st h u := by
  obtain ⟨hs, hav⟩ := gtk_0 hst
  refine gT_rep fun D base ad H rp sl u1 u2 => ?_
  have hl : q.2 < hC h q.1 := (sl _ (by rw [hs]; exact List.mem_append_right _ List.mem_cons_self) : glv h (gR (some q)))
  rcases grcv rp e4 hl with ⟨ci2, rr, z1, z2, z3, z4⟩ | ⟨z1, z2, z3⟩
  · have hC1 : gCall (gmo m) (.invokespecial idx) 3 (some rr.1) m' n := gcp_ok e1 _ (glk_mem _ _ _ e3) ci2 rr z3
    exact gcall_go (C := some rr.1) (k := k) ⟨q, rfl, hs, Or.inl ⟨ci2, rr, z1, z2, z3, rfl⟩⟩ rfl (@hC1) hM hd hav (Nat.le_of_ble_eq_true hr) hu1 hu2 kk kx
  · rw [z1, show grk 2 = some (.inl 62) by decide +kernel] at e4
    cases e4
    exact absurd hci (by decide)
end GTH
/-- the contract of a method with handlers -/
theorem gTM_ofH {m : GM} {d : Nat} {B : Nat × Nat} {av : List AV} {h : Hp} {Qr : List AV → Hp → Prop} {Qx : Rf → Hp → Prop} {a : Nat × Nat × Nat × Nat} {rh : List (Nat × Nat × Nat × Nat)} (hm : gMok m) (h0 : gmH m = a :: rh) (hs : Nat.ble (gsum av) (gmL m) = true)
    (H : gT m d B Qr Qx 0 (gent (gmL m) av) [] h (0, 0)) : gTM m d B av h Qr Qx := by
  intro l hl D base ad hv
  refine vx_ofWH (cc := gmC m) (maxL := gmL m) (ret := gmR m) (hh := gmH m) hm.2.2.2.2.2.1 (gws_cons h0) ?_
  intro p e s mi args below meth c s₁ Bd hml hP
  obtain ⟨rfl, hrep, hK, hold⟩ := hP
  have hts := atoms_spec (ws := gws m) Bd.pre
  rw [gws_cons h0] at hts
  have htab : c.exceptionTable.toList.map (fun x => (x.startPc, x.endPc, x.handlerPc, x.catchType)) = gmH m := by
    obtain ⟨m9, meth9, c9, hn9, h1, h2, h3, h4, h5, -⟩ := Cond.codeWith_spec (hts _ List.mem_cons_self)
    cases Bd.named.symm.trans hn9
    cases Option.some.inj (h1.symm.trans Bd.method)
    cases Option.some.inj (h2.symm.trans (Stand.of_body Bd).code)
    exact h5
  rw [lg_entry_eq]
  have hls := lv_entry (av.map (gtr ad)) (n := gmL m) (by rw [glg_len]; exact Nat.le_of_ble_eq_true hs)
  have hroom : (headSpec (gws m) (grm d B)).room = grm d B := rfl
  rw [hroom]
  refine H p l e s mi _ below meth c D base ad h s.heap [] _ ad ⟨Bd.exec, Bd.bytes, Bd.returns, hml, Bd.notSynchronized, ?_, (name_of_methodNamed Bd.named Bd.method).1, hl, fun w hw => hts w (List.mem_cons_of_mem _ hw), hK, hold, hrep.2.2.2.2.2.1, hm, htab⟩
    (gext_rf h ad) (fun _ _ _ => rfl) hrep va_S.rf ⟨hls.1, hls.2.1, gent_len _ _ (Nat.le_of_ble_eq_true hs), fun i v hi => ?_⟩ (fun _ q => absurd q List.not_mem_nil) (Nat.zero_le _) (Nat.zero_le _)
  · rw [show gmO m = m.1.cls from hm.2.2.2.1.symm]
    exact findClass_of_methodNamed Bd.named
  · obtain ⟨q1, q2⟩ := gent_args ad av (gmL m) 0 i v hi
    rw [Nat.zero_add] at q1
    exact ⟨hls.2.2 _ q1, hv v q2⟩
