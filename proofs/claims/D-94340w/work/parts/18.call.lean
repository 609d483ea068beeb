/-! ===== soundness: calls ===== -/
def gRun (p : Program) (l : Launch) (e : Env) (R : Room) (s : State) (m : MethodId) (args : Array Value) (below : List Frame) (meth : Method) (c : Code) (H : Heap) (locs : List Loc) (cells slots mc ms : Nat) (g : JFrame) (ln : Nat) (rest : List Value) (Qa : State → Outcome → State → Prop) (XC : Nat → String → State → State → Prop) (free : Addr → Prop) : Prop :=
  ∀ T : State, T.heap = H → Stand p l e R s m args below meth c T locs cells slots →
    (∃ (v : Option Value) (st₀ t T' : State) (L : List Loc), st₀.heap = H ∧ Stand p l e R s m args below meth c T' (locs ++ L) (cells + mc) (slots + ms) ∧ (∀ q ∈ L, free q.base) ∧ T'.heap = t.heap ∧ T'.vm = t.vm ∧ Qa st₀ (.returned v) t ∧
      Goes p e below T g T' { g with pc := g.pc + ln, stack := v.toList ++ rest }) ∨
    (∃ (q : Addr) (st₀ t T' : State) (L : List Loc) (E : String) (ce : Cell), st₀.heap = H ∧ Stand p l e R s m args below meth c T' (locs ++ L) (cells + mc) (slots + ms) ∧ (∀ z ∈ L, free z.base) ∧ T'.heap = t.heap ∧ T'.vm = t.vm ∧ XC q E st₀ t ∧ t.heap[q]? = some ce ∧ ce.vm = .none ∧ s.vm.findClass E = some ce.cls ∧
      Steps p.tables e below (T.setTop g) ((T'.setTop { g with stack := rest }).pushFrame (.throwing q)))
/-- a call: this instruction of the class o, on a receiver of the class C (none: static), runs m' -/
def gCall (o : Nat) (ins : Instr) (ln : Nat) (C : Option String) (m' : GM) (n : Nat) : Prop :=
  ∀ {m : GM} {d : Nat} {B k : Nat × Nat} {p : Program} {l : Launch} {e : Env} {s : State} {mi : MethodId} {args : Array Value} {below : List Frame} {meth : Method} {c : Code} {D : GD} {base : Nat} {ad0 : Nat → Nat → Nat} {H : Heap} {locs : List Loc} {cells slots : Nat}
    {Pc : Array Value → State → Prop} {Qc : Array Value → State → Outcome → State → Prop} {XC : Nat → String → State → State → Prop} {free : Addr → Prop} {As full st rest : List Value} {pc : Nat} {ls : Array Slot},
    gmo m = o → gcx m (grm (d + 1) B) p l s mi args meth c D base ad0 → vx_Met l m'.1 (gws m') (grm d k) Pc Qc XC k.1 k.2 free → FrameBlind Pc → (∀ U : State, U.heap = H → s.WarmedH U.vm → Pc full.toArray U) →
    (match C with
      | none => full = As ∧ st = As.reverse ++ rest
      | some C => ∃ b : Addr, full = .ref b :: As ∧ st = As.reverse ++ .ref b :: rest ∧ ∃ cellB : Cell, H[b]? = some cellB ∧ cellB.vm.isStatics = false ∧ s.vm.findClass C = some cellB.cls) →
    As.length = n → ls.size = c.maxLocals → (rest.map fun v => v.category).sum ≤ 16 → cells + k.1 ≤ B.1 → slots + k.2 ≤ B.2 → decode (gmC m) pc = .ok (ins, ln) →
    gRun p l e (grm (d + 1) B) s mi args below meth c H locs cells slots k.1 k.2 (F0 mi pc ls st) ln rest (Qc full.toArray) XC free
theorem gws_nil {m : GM} (h : gmH m = []) : gws m = ws_ m.1 (gmC m) (gmL m) (gmR m) := by
  unfold gws
  rw [h]
theorem gws_cons {m : GM} {a : Nat × Nat × Nat × Nat} {r : List (Nat × Nat × Nat × Nat)} (h : gmH m = a :: r) : gws m = wsW_ m.1 (gmC m) (gmL m) (gmR m) (gmH m) := by
  unfold gws
  rw [h]
theorem lv_room16 {m : MethodId} {pc : Nat} {ls rest : _} {st : List Value} (h : (st.map fun v => v.category).sum ≤ 16) : 2 * (F0 m pc ls rest).monitorRoom + (st.map fun v => v.category).sum ≤ 16 := by
  show 2 * 0 + _ ≤ 16
  omega
theorem grm_room {d k L : Nat} {B K : Nat × Nat} (h : L ≤ 14) : (grm d K).frames + 1 ≤ (grm (d + 1) B).frames ∧ 8 + (L + 11) + (rmU (grm d K)).locals ≤ (grm (d + 1) B).locals := by
  constructor
  · exact Nat.le_refl _
  · show 8 + (L + 11) + (48 * d + 14000 + 8) ≤ 48 * (d + 1) + 14000
    omega
/-- what is asked of a callee's name and code -/
def gCee (m' : GM) (n : Nat) : Prop := gmL m' ≤ 14 ∧ m'.1.cls ≠ "java/lang/invoke/MethodHandle" ∧ m'.1.cls ≠ "java/lang/invoke/VarHandle" ∧ (parseMethodDescriptor m'.1.desc).map (fun d => d.parameters.length) = some n
theorem gcall_V {o idx n : Nat} {m' : GM} (h0 : gmH m' = []) (hc : gCee m' n) (h1 : Cond.methodLink (gown o) idx m'.1 ∈ lw_all) (h2 : Cond.instanceMethod m'.1 ∈ lw_all) (h3 : Cond.selects m'.1.cls m'.1 m'.1 ∈ lw_all) (h4 : Cond.initialized m'.1.cls ∈ lw_all) (h5 : Cond.code m'.1 (gmC m') (gmL m') (gmR m') ∈ lw_all) :
    gCall o (.invokevirtual idx) 3 (some m'.1.cls) m' n := by
  intro m d B k p l e s mi args below meth c D base ad0 H locs cells slots Pc Qc XC free As full st rest pc ls ho cx hM hbl hPc hst hn hls hcat hk1 hk2 hdg
  obtain ⟨b, rfl, rfl, hcell⟩ := hst
  subst ho
  rw [gws_nil h0] at hM
  exact vx_runV (cc := gmC m) (nL := c.maxLocals) (own := gown (gmo m)) (Ts := lw_all) ⟨cx.1, cx.2.1, rfl, gcx_own cx, gcx_hts cx⟩ hM (cwV n (gcx_hts cx) (lw_V h1 h2 h3 h4 h5) rfl rfl rfl ⟨rfl, hc.2⟩ (grm_room (k := 0) hc.1)) ⟨hbl, hcell, hPc⟩ rfl hn hls rfl (lv_room16 hcat) hdg ⟨hk1, hk2⟩
theorem gcall_VX {o idx n : Nat} {m' : GM} {a : Nat × Nat × Nat × Nat} {r : List (Nat × Nat × Nat × Nat)} (h0 : gmH m' = a :: r) (hc : gCee m' n) (h1 : Cond.methodLink (gown o) idx m'.1 ∈ lw_all) (h2 : Cond.instanceMethod m'.1 ∈ lw_all) (h3 : Cond.selects m'.1.cls m'.1 m'.1 ∈ lw_all) (h4 : Cond.initialized m'.1.cls ∈ lw_all) (h5 : Cond.codeWith m'.1 (gmC m') (gmL m') (gmR m') (gmH m') ∈ lw_all) :
    gCall o (.invokevirtual idx) 3 (some m'.1.cls) m' n := by
  intro m d B k p l e s mi args below meth c D base ad0 H locs cells slots Pc Qc XC free As full st rest pc ls ho cx hM hbl hPc hst hn hls hcat hk1 hk2 hdg
  obtain ⟨b, rfl, rfl, hcell⟩ := hst
  subst ho
  rw [gws_cons h0] at hM
  exact vx_runVX (cc := gmC m) (nL := c.maxLocals) (own := gown (gmo m)) (Ts := lw_all) ⟨cx.1, cx.2.1, rfl, gcx_own cx, gcx_hts cx⟩ hM (vx_cwVW n (gcx_hts cx) (lw_VW h1 h2 h3 h4 h5) rfl rfl rfl ⟨rfl, hc.2⟩ (grm_room (k := 0) hc.1)) ⟨hbl, hcell, hPc⟩ rfl hn hls rfl (lv_room16 hcat) hdg ⟨hk1, hk2⟩
theorem gcall_VN {o idx n : Nat} {m' : GM} {host : String} (h0 : gmH m' = []) (hc : gCee m' n) (h1 : Cond.methodLinkNest (gown o) idx m'.1 host ∈ lw_tbl) (h2 : Cond.instanceMethod m'.1 ∈ lw_all) (h3 : Cond.selects m'.1.cls m'.1 m'.1 ∈ lw_all) (h4 : Cond.initialized m'.1.cls ∈ lw_all) (h5 : Cond.code m'.1 (gmC m') (gmL m') (gmR m') ∈ lw_all) :
    gCall o (.invokevirtual idx) 3 (some m'.1.cls) m' n := by
  intro m d B k p l e s mi args below meth c D base ad0 H locs cells slots Pc Qc XC free As full st rest pc ls ho cx hM hbl hPc hst hn hls hcat hk1 hk2 hdg
  obtain ⟨b, rfl, rfl, hcell⟩ := hst
  subst ho
  rw [gws_nil h0] at hM
  have hts := gcx_hts cx
  exact vx_runVN (cc := gmC m) (nL := c.maxLocals) (own := gown (gmo m)) (Ts := lw_all) ⟨cx.1, cx.2.1, rfl, gcx_own cx, hts⟩ hM ⟨va_cnB n hts (lw_meth h5) rfl rfl rfl (cx.2.2.2.2.2.2.2.2.2.1.2.2.2.1 _ h1 rfl) (hts _ h4) hc.2 (grm_room (k := 0) hc.1), hts _ h2, hts _ h3⟩ ⟨hbl, hcell, hPc⟩ rfl hn hls rfl (lv_room16 hcat) hdg ⟨hk1, hk2⟩
theorem gwsU_in {own : String} {idx : Nat} {C owner : String} {x y : MethodName} {b : ByteArray} {L : Nat} {r : Option FieldType} (h1 : Cond.methodLink own idx x ∈ lw_all) (h2 : Cond.sameMethod x.cls owner x.name x.desc ∈ lw_all) (h3 : Cond.selects C x y ∈ lw_all) (h4 : Cond.instanceMethod y ∈ lw_all) (h5 : Cond.initialized y.cls ∈ lw_all) (h6 : Cond.code y b L r ∈ lw_all) : GoodIn lw_all (va_wsU own idx C owner x y (ws_ y b L r)) := by
  refine lw_app ?_ (lw_meth h6)
  intro w hw
  simp only [List.mem_cons, List.not_mem_nil, or_false] at hw
  rcases hw with e | e | e | e | e
  · rw [e]; exact h1
  · rw [e]; exact h2
  · rw [e]; exact h3
  · rw [e]; exact h4
  · rw [e]; exact h5
theorem gcall_U {o idx n : Nat} {m' : GM} {x : MethodName} {C : String} (h0 : gmH m' = []) (hc : gCee m' n) (hx1 : x.name = m'.1.name) (hx2 : x.desc = m'.1.desc) (h1 : Cond.methodLink (gown o) idx x ∈ lw_all) (h6 : Cond.sameMethod x.cls m'.1.cls x.name x.desc ∈ lw_all) (h2 : Cond.instanceMethod m'.1 ∈ lw_all) (h3 : Cond.selects C x m'.1 ∈ lw_all) (h4 : Cond.initialized m'.1.cls ∈ lw_all) (h5 : Cond.code m'.1 (gmC m') (gmL m') (gmR m') ∈ lw_all) :
    gCall o (.invokevirtual idx) 3 (some C) m' n := by
  intro m d B k p l e s mi args below meth c D base ad0 H locs cells slots Pc Qc XC free As full st rest pc ls ho cx hM hbl hPc hst hn hls hcat hk1 hk2 hdg
  obtain ⟨b, rfl, rfl, hcell⟩ := hst
  subst ho
  rw [gws_nil h0] at hM
  exact vx_runU (cc := gmC m) (nL := c.maxLocals) (own := gown (gmo m)) (Ts := lw_all) ⟨cx.1, cx.2.1, rfl, gcx_own cx, gcx_hts cx⟩ hM (va_cwU n (gcx_hts cx) (gwsU_in h1 h6 h3 h2 h4 h5) rfl rfl rfl (by rw [hx1, hx2]) ⟨hc.2.1, hc.2.2.1, by rw [hx2]; exact hc.2.2.2⟩ (grm_room (k := 0) hc.1)) ⟨hbl, hcell, hPc⟩ rfl hn hls rfl (lv_room16 hcat) hdg ⟨hk1, hk2⟩
theorem gcall_A {o idx n : Nat} {m' : GM} {x : MethodName} {C : String} (h0 : gmH m' = []) (hc : gCee m' n) (hx0 : x.cls ≠ "java/lang/invoke/MethodHandle" ∧ x.cls ≠ "java/lang/invoke/VarHandle") (hx2 : x.desc = m'.1.desc) (h7 : Cond.declares x ∈ lw_tbl) (h1 : Cond.methodLink (gown o) idx x ∈ lw_all) (h6 : Cond.sameMethod x.cls x.cls x.name x.desc ∈ lw_all) (h2 : Cond.instanceMethod m'.1 ∈ lw_all) (h3 : Cond.selects C x m'.1 ∈ lw_all) (h4 : Cond.initialized m'.1.cls ∈ lw_all) (h5 : Cond.code m'.1 (gmC m') (gmL m') (gmR m') ∈ lw_all) :
    gCall o (.invokevirtual idx) 3 (some C) m' n := by
  intro m d B k p l e s mi args below meth c D base ad0 H locs cells slots Pc Qc XC free As full st rest pc ls ho cx hM hbl hPc hst hn hls hcat hk1 hk2 hdg
  obtain ⟨b, rfl, rfl, hcell⟩ := hst
  subst ho
  rw [gws_nil h0] at hM
  exact vx_runU (cc := gmC m) (nL := c.maxLocals) (own := gown (gmo m)) (Ts := lw_all) ⟨cx.1, cx.2.1, rfl, gcx_own cx, gcx_hts cx⟩ hM (va_cwA n (gcx_hts cx) (gwsU_in h1 h6 h3 h2 h4 h5) rfl rfl rfl (cx.2.2.2.2.2.2.2.2.2.1.2.2.2.1 _ h7 rfl) ⟨hx0.1, hx0.2, by rw [hx2]; exact hc.2.2.2⟩ (grm_room (k := 0) hc.1)) ⟨hbl, hcell, hPc⟩ rfl hn hls rfl (lv_room16 hcat) hdg ⟨hk1, hk2⟩
theorem gcall_S {o idx n : Nat} {m' : GM} (h0 : gmH m' = []) (hc : gCee m' n) (h1 : Cond.methodLink (gown o) idx m'.1 ∈ lw_all) (h2 : Cond.static m'.1 ∈ lw_all) (h4 : Cond.initialized m'.1.cls ∈ lw_all) (h5 : Cond.code m'.1 (gmC m') (gmL m') (gmR m') ∈ lw_all) :
    gCall o (.invokestatic idx) 3 none m' n := by
  intro m d B k p l e s mi args below meth c D base ad0 H locs cells slots Pc Qc XC free As full st rest pc ls ho cx hM hbl hPc hst hn hls hcat hk1 hk2 hdg
  obtain ⟨rfl, rfl⟩ := hst
  subst ho
  rw [gws_nil h0] at hM
  exact vx_runS (cc := gmC m) (nL := c.maxLocals) (own := gown (gmo m)) (Ts := lw_all) ⟨cx.1, cx.2.1, rfl, gcx_own cx, gcx_hts cx⟩ hM (va_cwS n (gcx_hts cx) (lw_S h1 h2 h4 h5) rfl rfl rfl hc.2 (grm_room (k := 0) hc.1)) ⟨hbl, hPc⟩ rfl hn hls rfl (lv_room16 hcat) hdg ⟨hk1, hk2⟩
theorem gcall_SX {o idx n : Nat} {m' : GM} {a : Nat × Nat × Nat × Nat} {r : List (Nat × Nat × Nat × Nat)} (h0 : gmH m' = a :: r) (hc : gCee m' n) (h1 : Cond.methodLink (gown o) idx m'.1 ∈ lw_all) (h2 : Cond.static m'.1 ∈ lw_all) (h4 : Cond.initialized m'.1.cls ∈ lw_all) (h5 : Cond.codeWith m'.1 (gmC m') (gmL m') (gmR m') (gmH m') ∈ lw_all) :
    gCall o (.invokestatic idx) 3 none m' n := by
  intro m d B k p l e s mi args below meth c D base ad0 H locs cells slots Pc Qc XC free As full st rest pc ls ho cx hM hbl hPc hst hn hls hcat hk1 hk2 hdg
  obtain ⟨rfl, rfl⟩ := hst
  subst ho
  rw [gws_cons h0] at hM
  exact vx_runSX (cc := gmC m) (nL := c.maxLocals) (own := gown (gmo m)) (Ts := lw_all) ⟨cx.1, cx.2.1, rfl, gcx_own cx, gcx_hts cx⟩ hM (vx_cwSW n (gcx_hts cx) (lw_SW h1 h2 h4 h5) rfl rfl rfl hc.2 (grm_room (k := 0) hc.1)) ⟨hbl, hPc⟩ rfl hn hls rfl (lv_room16 hcat) hdg ⟨hk1, hk2⟩
theorem gcall_SN {o idx n : Nat} {m' : GM} {host : String} (h0 : gmH m' = []) (hc : gCee m' n) (h1 : Cond.methodLinkNest (gown o) idx m'.1 host ∈ lw_tbl) (h2 : Cond.static m'.1 ∈ lw_all) (h4 : Cond.initialized m'.1.cls ∈ lw_all) (h5 : Cond.code m'.1 (gmC m') (gmL m') (gmR m') ∈ lw_all) :
    gCall o (.invokestatic idx) 3 none m' n := by
  intro m d B k p l e s mi args below meth c D base ad0 H locs cells slots Pc Qc XC free As full st rest pc ls ho cx hM hbl hPc hst hn hls hcat hk1 hk2 hdg
  obtain ⟨rfl, rfl⟩ := hst
  subst ho
  rw [gws_nil h0] at hM
  have hts := gcx_hts cx
  exact vx_runSN (cc := gmC m) (nL := c.maxLocals) (own := gown (gmo m)) (Ts := lw_all) ⟨cx.1, cx.2.1, rfl, gcx_own cx, hts⟩ hM ⟨va_cnB n hts (lw_meth h5) rfl rfl rfl (cx.2.2.2.2.2.2.2.2.2.1.2.2.2.1 _ h1 rfl) (hts _ h4) hc.2 (grm_room (k := 0) hc.1), hts _ h2, trivial⟩ ⟨hbl, hPc⟩ rfl hn hls rfl (lv_room16 hcat) hdg ⟨hk1, hk2⟩
theorem gcall_I {o idx n : Nat} {m' : GM} {C : String} (h0 : gmH m' = []) (hr : gmR m' = none) (hc : gCee m' n) (hin : m'.1.name = "<init>") (h1 : Cond.methodLink (gown o) idx m'.1 ∈ lw_all) (h2 : Cond.instanceMethod m'.1 ∈ lw_all) (h4 : Cond.initialized m'.1.cls ∈ lw_all) (h5 : Cond.code m'.1 (gmC m') (gmL m') (gmR m') ∈ lw_all) :
    gCall o (.invokespecial idx) 3 (some C) m' n := by
  intro m d B k p l e s mi args below meth c D base ad0 H locs cells slots Pc Qc XC free As full st rest pc ls ho cx hM hbl hPc hst hn hls hcat hk1 hk2 hdg
  obtain ⟨b, rfl, rfl, hcell⟩ := hst
  subst ho
  rw [gws_nil h0] at hM
  have hts := gcx_hts cx
  rw [hr] at hM h5
  exact vx_runI (cc := gmC m) (nL := c.maxLocals) (own := gown (gmo m)) (Ts := lw_all) ⟨cx.1, cx.2.1, rfl, gcx_own cx, hts⟩ hM (cwI n hts (lw_meth h5) rfl rfl rfl (hts _ h4) (hts _ h1) (hts _ h2) hin hc.2 (grm_room (k := 0) hc.1)) ⟨hbl, hPc⟩ rfl hn hls rfl (lv_room16 hcat) hdg ⟨hk1, hk2⟩
theorem gcall_IN {o idx n : Nat} {m' : GM} {C host : String} (h0 : gmH m' = []) (hr : gmR m' = none) (hc : gCee m' n) (hin : m'.1.name = "<init>") (h1 : Cond.methodLinkNest (gown o) idx m'.1 host ∈ lw_tbl) (h2 : Cond.instanceMethod m'.1 ∈ lw_all) (h4 : Cond.initialized m'.1.cls ∈ lw_all) (h5 : Cond.code m'.1 (gmC m') (gmL m') (gmR m') ∈ lw_all) :
    gCall o (.invokespecial idx) 3 (some C) m' n := by
  intro m d B k p l e s mi args below meth c D base ad0 H locs cells slots Pc Qc XC free As full st rest pc ls ho cx hM hbl hPc hst hn hls hcat hk1 hk2 hdg
  obtain ⟨b, rfl, rfl, hcell⟩ := hst
  subst ho
  rw [gws_nil h0] at hM
  have hts := gcx_hts cx
  rw [hr] at hM h5
  exact vx_runIN (cc := gmC m) (nL := c.maxLocals) (own := gown (gmo m)) (Ts := lw_all) ⟨cx.1, cx.2.1, rfl, gcx_own cx, hts⟩ hM ⟨va_cnB n hts (lw_meth h5) rfl rfl rfl (cx.2.2.2.2.2.2.2.2.2.1.2.2.2.1 _ h1 rfl) (hts _ h4) hc.2 (grm_room (k := 0) hc.1), hin, hts _ h2⟩ ⟨hbl, hPc⟩ rfl hn hls rfl (lv_room16 hcat) hdg ⟨hk1, hk2⟩
theorem gwsSU_in {own : String} {idx : Nat} {y : MethodName} {b : ByteArray} {L : Nat} {r : Option FieldType} (h1 : Cond.methodLink own idx y ∈ lw_all) (h2 : Cond.sameMethod y.cls y.cls y.name y.desc ∈ lw_all) (h3 : Cond.superclass own y.cls ∈ lw_all) (h4 : Cond.instanceMethod y ∈ lw_all) (h5 : Cond.initialized y.cls ∈ lw_all) (h6 : Cond.code y b L r ∈ lw_all) : GoodIn lw_all (va_wsSU own idx y (ws_ y b L r)) := by
  refine lw_app ?_ (lw_meth h6)
  intro w hw
  simp only [List.mem_cons, List.not_mem_nil, or_false] at hw
  rcases hw with e | e | e | e | e
  · rw [e]; exact h1
  · rw [e]; exact h2
  · rw [e]; exact h3
  · rw [e]; exact h4
  · rw [e]; exact h5
/-- a class of the table is laid -/
theorem gclassAt {D : GD} {s : State} (hK : gK D s) {ci : Nat} {r : vw_C} (h : gcl[ci]? = some r) : ClassAt s r.1 (D.1 ci) := (hK.1 ci r h).2
theorem gcall_SU {o idx n ci : Nat} {m' : GM} {r : vw_C} (hci : gcl[ci]? = some r) (h0 : gmH m' = []) (hc : gCee m' n) (hin : m'.1.name ≠ "<init>") (h1 : Cond.methodLink (gown o) idx m'.1 ∈ lw_all) (h6 : Cond.sameMethod m'.1.cls m'.1.cls m'.1.name m'.1.desc ∈ lw_all) (h7 : Cond.superclass (gown o) m'.1.cls ∈ lw_all) (h2 : Cond.instanceMethod m'.1 ∈ lw_all) (h4 : Cond.initialized m'.1.cls ∈ lw_all) (h5 : Cond.code m'.1 (gmC m') (gmL m') (gmR m') ∈ lw_all) :
    gCall o (.invokespecial idx) 3 (some r.1) m' n := by
  intro m d B k p l e s mi args below meth c D base ad0 H locs cells slots Pc Qc XC free As full st rest pc ls ho cx hM hbl hPc hst hn hls hcat hk1 hk2 hdg
  obtain ⟨b, rfl, rfl, hcell⟩ := hst
  subst ho
  rw [gws_nil h0] at hM
  have hts := gcx_hts cx
  exact vx_runSU (cc := gmC m) (nL := c.maxLocals) (own := gown (gmo m)) (Ts := lw_all) (gclassAt cx.2.2.2.2.2.2.2.2.2.1 hci) ⟨cx.1, cx.2.1, rfl, gcx_own cx, hts⟩ hM (va_cwSU n hts (gwsSU_in h1 h6 h7 h2 h4 h5) rfl rfl rfl ⟨hin, hc.2.2.2⟩ (grm_room (k := 0) hc.1)) ⟨hbl, hcell, hPc⟩ rfl hn hls rfl (lv_room16 hcat) hdg ⟨hk1, hk2⟩
theorem gwsF_in {own : String} {idx : Nat} {C : String} {x y : MethodName} {b : ByteArray} {L : Nat} {r : Option FieldType} (h1 : Cond.methodLink own idx x ∈ lw_all) (h3 : Cond.selects C x y ∈ lw_all) (h4 : Cond.instanceMethod y ∈ lw_all) (h5 : Cond.initialized y.cls ∈ lw_all) (h6 : Cond.code y b L r ∈ lw_all) : GoodIn lw_all (va_wsF own idx C x y (ws_ y b L r)) := by
  refine lw_app ?_ (lw_meth h6)
  intro w hw
  simp only [List.mem_cons, List.not_mem_nil, or_false] at hw
  rcases hw with e | e | e | e
  · rw [e]; exact h1
  · rw [e]; exact h3
  · rw [e]; exact h4
  · rw [e]; exact h5
theorem gcall_F {o idx cnt n ci : Nat} {m' : GM} {x : MethodName} {r : vw_C} (hci : gcl[ci]? = some r) (h0 : gmH m' = []) (hc : gCee m' n) (hx0 : x.cls ≠ "java/lang/invoke/MethodHandle" ∧ x.cls ≠ "java/lang/invoke/VarHandle") (hx2 : x.desc = m'.1.desc) (hf : (r.1, x, m'.1) ∈ gfws) (h1 : Cond.methodLink (gown o) idx x ∈ lw_all) (h2 : Cond.instanceMethod m'.1 ∈ lw_all) (h3 : Cond.selects r.1 x m'.1 ∈ lw_all) (h4 : Cond.initialized m'.1.cls ∈ lw_all) (h5 : Cond.code m'.1 (gmC m') (gmL m') (gmR m') ∈ lw_all) :
    gCall o (.invokeinterface idx cnt) 5 (some r.1) m' n := by
  intro m d B k p l e s mi args below meth c D base ad0 H locs cells slots Pc Qc XC free As full st rest pc ls ho cx hM hbl hPc hst hn hls hcat hk1 hk2 hdg
  obtain ⟨b, rfl, rfl, hcell⟩ := hst
  subst ho
  rw [gws_nil h0] at hM
  have hts := gcx_hts cx
  exact vx_runF (cc := gmC m) (nL := c.maxLocals) (own := gown (gmo m)) (Ts := lw_all) (gclassAt cx.2.2.2.2.2.2.2.2.2.1 hci) ⟨cx.1, cx.2.1, rfl, gcx_own cx, hts⟩ hM (va_cwF n hts (gwsF_in h1 h3 h2 h4 h5) rfl rfl rfl (cx.2.2.2.2.2.2.2.2.2.1.2.2.2.2.1 _ hf) ⟨hx0.1, hx0.2, by rw [hx2]; exact hc.2.2.2⟩ (grm_room (k := 0) hc.1)) ⟨hbl, hcell, hPc⟩ rfl hn hls rfl (lv_room16 hcat) hdg ⟨hk1, hk2⟩
