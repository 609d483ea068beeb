/-! ===== the judgement, over the machine ===== -/
abbrev gmC (m : GM) : ByteArray := m.2.1
abbrev gmL (m : GM) : Nat := m.2.2.1
abbrev gmR (m : GM) : Option FieldType := m.2.2.2.1
abbrev gmO (m : GM) : String := m.2.2.2.2.1
abbrev gmo (m : GM) : Nat := m.2.2.2.2.2.1
abbrev gmN (m : GM) : Bool := m.2.2.2.2.2.2.1
abbrev gmF (m : GM) : List (Nat × GFd) := m.2.2.2.2.2.2.2.1
abbrev gmI (m : GM) : List (Nat × Instr × Nat) := m.2.2.2.2.2.2.2.2.1
abbrev gmH (m : GM) : List (Nat × Nat × Nat × Nat) := m.2.2.2.2.2.2.2.2.2
def grm (d : Nat) (B : Nat × Nat) : Room := { frames := d, cells := B.1, slots := B.2, locals := 48 * d + 14000 }
def gyLd : MethodName := ⟨"GlassLeaders$Leader", "takes", "(III)I"⟩
/-- calls through the interface -/
def gfws : List (String × MethodName × MethodName) := [("GlassLeaders$Ahead", gyLd, yX4_takes), ("GlassLeaders$Own", gyLd, yX4_takes), ("GlassLeaders$Fearing", gyLd, yX4_takes), ("GlassLeaders$Kind", gyLd, yX4_takes), ("GlassLeaders$Pact", gyLd, yX4_takes), ("GlassLeaders$Spend", gyLd, yX10_takes), ("GlassLeaders$Planned", gyLd, yX11_takes)]
/-- private methods of Bytes, on its readers -/
def gxs : List Jvm.Cond := [Jvm.Cond.selects "GlassLeaders$LandReader" mX13_isSmall.1 mX13_isSmall.1, Jvm.Cond.selects "GlassLeaders$LawReader" mX13_isSmall.1 mX13_isSmall.1]
/-- classes that can't be cast -/
def gncs : List (String × String) := [("java/lang/IllegalArgumentException", "java/util/NoSuchElementException"), ("java/lang/IllegalArgumentException", "java/lang/IndexOutOfBoundsException"), ("java/lang/IllegalStateException", "java/lang/IllegalArgumentException"), ("java/lang/IllegalStateException", "java/lang/IndexOutOfBoundsException"), ("java/lang/IllegalStateException", "java/util/NoSuchElementException"), ("java/util/NoSuchElementException", "java/lang/IndexOutOfBoundsException")]
/-- the words of a default method that is called through a class: as in DF1 -/
def gdfw : List Jvm.Cond := [Jvm.Cond.methodLink "GlassLeaders$Spend" 13 ⟨"GlassLeaders$Spend", "firstOf", "(I)I"⟩, Jvm.Cond.sameMethod "GlassLeaders$Spend" "GlassLeaders$Leader" "firstOf" "(I)I"]
def gdfl : List String := ["GlassLeaders$Spend", "GlassLeaders$Planned"]
def gaoC : List String := ["GlassLeaders$Leader", "java/lang/Object", "java/lang/String"]
def gaoT : List FieldType := [.int, .long]
def gAA (ty : FieldType) (U : State) : Prop := (Cond.arrayOver (.array ty)).before #[] U = true
theorem gAA_spec {U : State} {t : FieldType} (h : gAA t U) :
    ∃ comp c k, U.vm.findClass (FieldType.array t).toString = some comp ∧ (U.vm.classes.findIdx? fun (x : Class) => match x.kind with | .array component _ => component == comp | _ => false) = some c ∧ U.vm.classes[c]? = some k ∧ k.kind = .array comp (.array t) ∧ U.vm.findClass ("[" ++ (FieldType.array t).toString) = some c := by
  unfold gAA Cond.before at h
  simp only [Cond.holds, Cond.value, beq_iff_eq] at h
  cases hc : U.vm.findClass (FieldType.array t).toString with
  | none => simp [hc] at h
  | some comp =>
    simp only [hc, Option.bind_some, Option.bind_eq_some_iff, Option.map_eq_some_iff] at h
    obtain ⟨c, hi, k, hk, hb⟩ := h
    obtain ⟨hlt, hp, -⟩ := Array.findIdx?_eq_some_iff_getElem.mp hi
    have hkk : U.vm.classes[c] = k := (Array.getElem?_eq_some_iff.mp hk).2
    rw [hkk] at hp
    cases hkind : k.kind with
    | array component ty =>
      rw [hkind] at hb hp
      simp at hb hp
      exact ⟨comp, c, k, rfl, hi, hk, by rw [hkind, hp, hb.1], hb.2⟩
    | _ => rw [hkind] at hb; simp at hb
theorem gAA.moved {ty : FieldType} {u U : State} (hvm : u.vm.Alike U.vm) (h : gAA ty u) : gAA ty U := by
  obtain ⟨comp, c, k, h1, h2, h3, h4, h5⟩ := gAA_spec h
  obtain ⟨k', hk', he⟩ := hvm.2.2 _ _ h3
  have hi : (U.vm.classes.findIdx? fun (x : Class) => match x.kind with | .array component _ => component == comp | _ => false) = some c := by
    refine (va_idx_bare U.vm comp).symm.trans ?_
    first | rw [hvm.bare_eq] | rw [← hvm.bare_eq]
    exact (va_idx_bare u.vm comp).trans h2
  have hkind : k'.kind = .array comp (.array ty) := by rw [he]; exact h4
  have f1 : U.vm.findClass (FieldType.array ty).toString = some comp := by rw [hvm.findClass]; exact h1
  have f2 : U.vm.findClass ("[" ++ (FieldType.array ty).toString) = some c := by rw [hvm.findClass]; exact h5
  unfold gAA Cond.before Cond.holds
  simp only [Cond.value]
  rw [f1, Option.bind_some]
  refine (congrArg (fun o : Option Nat => (o.bind (fun c => (U.vm.classes[c]?).map fun (k : Class) => match k.kind with | .array _ ty' => decide (ty' = FieldType.array ty) && decide (U.vm.findClass ("[" ++ (FieldType.array ty).toString) = some c) | _ => false) == some true)) hi).trans ?_
  simp [hk', hkind, f2]
def gK (D : GD) (s : State) : Prop :=
  (∀ ci r, gcl[ci]? = some r → u_Kn s r.1 r.2.1 r.2.2 (D.1 ci) (D.2.1 ci)) ∧ (∀ b ty, grk b = some (.inr ty) → ArrOfT s (D.2.2 b) ty) ∧ (∀ b ty, grk b = some (.inr ty) → 7 < b → va_RA s (D.2.2 b) ty) ∧
  (∀ w ∈ lw_tbl, gnw w = true → va_Nw w s) ∧ (∀ q ∈ gfws, va_Fw q.1 q.2.1 q.2.2 s) ∧ (∀ C ∈ gaoC, va_AO C s) ∧ (∀ w ∈ gxs, w.before #[] s = true) ∧ (∀ t ∈ gaoT, gAA t s) ∧ (∀ q ∈ gncs, va_Nc q.1 q.2 s) ∧ (∀ w ∈ gdfw, w.before #[] s = true) ∧ (∀ C ∈ gdfl, (Jvm.Cond.landsInDefault C ⟨"GlassLeaders$Spend", "firstOf", "(I)I"⟩ ⟨"GlassLeaders$Leader", "firstOf", "(I)I"⟩).before #[] s = true)
theorem gfws_mh : ∀ q ∈ gfws, q.2.1.cls ≠ "java/lang/invoke/MethodHandle" ∧ q.2.1.cls ≠ "java/lang/invoke/VarHandle" := by
  intro q hq
  simp only [gfws, List.mem_cons, List.not_mem_nil, or_false] at hq
  rcases hq with rfl | rfl | rfl | rfl | rfl | rfl | rfl <;> exact ⟨by decide, by decide⟩
theorem gK_warm {D : GD} {s U : State} (hW : s.WarmedH U.vm) (k : gK D s) : gK D U := by
  have hvm : s.vm.Alike U.vm := hW.alike
  obtain ⟨k1, k2, k3, k4, k5, k6, k7, k8, k9, k10, k11⟩ := k
  refine ⟨fun ci r h => u_Kn_moved hvm (k1 ci r h), fun b ty h => arrOfT_moved hvm (k2 b ty h), fun b ty h h7 => (k3 b ty h h7).moved hvm, fun w hw hn => gnw_warm hn hW (k4 w hw hn), fun q hq => (k5 q hq).moved (gfws_mh q hq) hvm, fun C hC => (k6 C hC).moved hvm, fun w hw => ?_, fun t ht => (k8 t ht).moved hvm, fun q hq => (k9 q hq).moved hvm, fun w hw => ?_, fun C hC => ?_⟩
  · have h1 := k7 w hw
    simp only [gxs, List.mem_cons, List.not_mem_nil, or_false] at hw
    rcases hw with rfl | rfl <;> exact word_at hW (Or.inl rfl) h1
  · have h1 := k10 w hw
    simp only [gdfw, List.mem_cons, List.not_mem_nil, or_false] at hw
    rcases hw with rfl | rfl <;> exact word_at hW (Or.inl rfl) h1
  · exact (Cond.landsInDefault_setVm (args' := #[]) (s := s) hvm (State.methodFound?_setVm hvm _ _ _)).trans (k11 C hC)
def glen : List Nat := gStr.map String.length
def gbyt : List (List Int32) := gStr.map (fun t => t.toList.map (fun c => Int32.ofNat c.toNat))
/-- what never moves: texts, the empty array of lists -/
def gfx (b i : Nat) : Prop := (b = 2 ∧ i < gStr.length) ∨ (b = 3 ∧ i = 0)
theorem gfx_C {D : GD} {base : Nat} {ad : Nat → Nat → Nat} {h : Hp} {H : Heap} (rp : grep D base ad h H) {b i : Nat} (hb : gfx b i) : i < hC h b := by
  rcases hb with ⟨rfl, h2⟩ | ⟨rfl, h2⟩
  · rw [rp.2.2.2.2.2.2.1]; exact h2
  · rw [rp.2.2.2.2.2.2.2, h2]; decide
/-- what lies in the old part of the heap: texts, statics -/
def gold (base : Nat) (ad : Nat → Nat → Nat) (s : State) (H : Heap) : Prop :=
  (∃ adV : Nat → Nat, vk_S gStr.length glen gbyt (ad 2) adV (fun q => base ≤ q) s H) ∧
  (∀ n k, glk gktl n = some (.inr (.inr k)) → vk_R (gown (n / 1024)) (n % 1024) (gStr.getD k "") (ad 2 k) s) ∧
  vx_Zq Bundle.tN "UNASSIGNED_STACK" Bundle.steD (fun q => base ≤ q) s H ∧ vx_Zq Bundle.tN "SUPPRESSED_SENTINEL" Bundle.listD (fun q => base ≤ q) s H ∧
  va_Z "java/lang/String" "COMPACT_STRINGS" "Z" (.int 1) (fun q => base ≤ q) s H ∧ va_Z "java/util/ArrayList" "DEFAULTCAPACITY_EMPTY_ELEMENTDATA" "[Ljava/lang/Object;" (.ref (ad 3 0)) (fun q => base ≤ q) s H ∧
  vx_Zq "jdk/internal/util/Preconditions" "SIOOBE_FORMATTER" "Ljava/util/function/BiFunction;" (fun q => base ≤ q) s H
def gcx (m : GM) (R : Room) (p : Program) (l : Launch) (s : State) (mi : MethodId) (args : Array Value) (meth : Method) (c : Code) (D : GD) (base : Nat) (ad : Nat → Nat → Nat) : Prop :=
  p.tables.exec = Jvm.exec ∧ c.code = gmC m ∧ meth.sig.returnType = gmR m ∧ c.maxLocals = gmL m ∧ meth.locks = false ∧ s.vm.findClass (gmO m) = some mi.cls ∧ meth.name = m.1.name ∧ l.stackTraces = false ∧
  (∀ w ∈ lw_all, w.before args s = true) ∧ gK D s ∧ gold base ad s s.heap ∧ base ≤ s.heap.size ∧ gMok m ∧ c.exceptionTable.toList.map (fun x => (x.startPc, x.endPc, x.handlerPc, x.catchType)) = gmH m
def glok (ad : Nat → Nat → Nat) (h : Hp) (n : Nat) (lo : Lo) (ls : Array Slot) : Prop :=
  ls.size = n ∧ lv_wf ls ∧ lo.length = n ∧ ∀ i v, glo lo i = some v → ls[i]? = some (.val (gtr ad v)) ∧ glv h v
def gQc (D : GD) (base : Nat) (ad : Nat → Nat → Nat) (h : Hp) (Qr : List AV → Hp → Prop) : Array Value → State → Outcome → State → Prop := fun _ st oc t =>
  ∃ v h' ad', oc = .returned (v.head?.map (gtr ad')) ∧ v.length ≤ 1 ∧ Qr v h' ∧ grep D base ad' h' t.heap ∧ gext h ad h' ad' ∧ (∀ x ∈ v, glv h' x) ∧ va_F (fun q => base ≤ q) st t
def gXC (D : GD) (base : Nat) (ad : Nat → Nat → Nat) (h : Hp) (Qx : Rf → Hp → Prop) : Nat → String → State → State → Prop := fun q0 E st t =>
  ∃ q h' ad' ci r, q0 = ad' q.1 q.2 ∧ Qx q h' ∧ grep D base ad' h' t.heap ∧ gext h ad h' ad' ∧ q.2 < hC h' q.1 ∧ 7 < q.1 ∧ grk q.1 = some (.inl ci) ∧ gcl[ci]? = some r ∧ r.1 = E ∧ va_F (fun q => base ≤ q) st t
/-- from here the method m comes to an answer with Qr, or throws with Qx -/
def gT (m : GM) (d : Nat) (B : Nat × Nat) (Qr : List AV → Hp → Prop) (Qx : Rf → Hp → Prop) (pc : Nat) (lo : Lo) (st : List AV) (h : Hp) (u : Nat × Nat) : Prop :=
  ∀ (p : Program) (l : Launch) (e : Env) (s : State) (mi : MethodId) (args : Array Value) (below : List Frame) (meth : Method) (c : Code) (D : GD) (base : Nat) (ad0 : Nat → Nat → Nat) (h0 : Hp) (H : Heap) (locs : List Loc) (ls : Array Slot) (ad : Nat → Nat → Nat),
    gcx m (grm d B) p l s mi args meth c D base ad0 → gext h0 ad0 h ad → (∀ b i, gfx b i → ad b i = ad0 b i) → grep D base ad h H → va_S (fun q => base ≤ q) s.heap H locs → glok ad h (gmL m) lo ls → (∀ v ∈ st, glv h v) → u.1 ≤ B.1 → u.2 ≤ B.2 →
    W p l e (grm d B) s mi args below meth c H locs u.1 u.2 (vx_MQ below (gQc D base ad0 h0 Qr) (gXC D base ad0 h0 Qx) args s B.1 B.2 (fun q => base ≤ q)) (F0 mi pc ls (st.map (gtr ad)))
/-- the same where the cell q has been thrown -/
def gTX (m : GM) (d : Nat) (B : Nat × Nat) (Qr : List AV → Hp → Prop) (Qx : Rf → Hp → Prop) (pc : Nat) (lo : Lo) (q : Rf) (h : Hp) (u : Nat × Nat) : Prop :=
  ∀ (p : Program) (l : Launch) (e : Env) (s : State) (mi : MethodId) (args : Array Value) (below : List Frame) (meth : Method) (c : Code) (D : GD) (base : Nat) (ad0 : Nat → Nat → Nat) (h0 : Hp) (H : Heap) (locs : List Loc) (ls : Array Slot) (ad : Nat → Nat → Nat) (rest : List Value),
    gcx m (grm d B) p l s mi args meth c D base ad0 → gext h0 ad0 h ad → (∀ b i, gfx b i → ad b i = ad0 b i) → grep D base ad h H → va_S (fun q => base ≤ q) s.heap H locs → glok ad h (gmL m) lo ls → q.2 < hC h q.1 → 7 < q.1 → (∃ ci, grk q.1 = some (.inl ci)) → u.1 ≤ B.1 → u.2 ≤ B.2 →
    vx_W p l e (grm d B) s mi args below meth c H locs u.1 u.2 (vx_MQ below (gQc D base ad0 h0 Qr) (gXC D base ad0 h0 Qx) args s B.1 B.2 (fun q => base ≤ q)) (F0 mi pc ls rest) (ad q.1 q.2)
def gws (m : GM) : List Jvm.Cond := match gmH m with
  | [] => ws_ m.1 (gmC m) (gmL m) (gmR m)
  | hh => wsW_ m.1 (gmC m) (gmL m) (gmR m) hh
def gPc (D : GD) (base : Nat) (ad : Nat → Nat → Nat) (av : List AV) (h : Hp) : Array Value → State → Prop :=
  va_Pc (av.map (gtr ad)) (fun U => grep D base ad h U.heap ∧ gK D U ∧ gold base ad U U.heap)
theorem gold_warm {base : Nat} {ad : Nat → Nat → Nat} {s U : State} {H H1 : Heap} (hW : s.WarmedH U.vm) (g : gold base ad s H) (hq : ∀ a : Nat, a < H.size → ¬ base ≤ a → H1[a]? = H[a]?) : gold base ad U H1 := by
  have hvm : s.vm.Alike U.vm := hW.alike
  obtain ⟨⟨adV, g1⟩, g2, g3, g4, g5, g6, g7⟩ := g
  exact ⟨⟨adV, (g1.moved hvm).kept hq⟩, fun n k h => (g2 n k h).warm hW, (g3.moved hvm).kept hq, (g4.moved hvm).kept hq, (g5.moved hvm).kept hq, (g6.moved hvm).kept hq, (g7.moved hvm).kept hq⟩
theorem gold_ad {base : Nat} {ad ad' : Nat → Nat → Nat} {s : State} {H : Heap} (g : gold base ad s H) (e : ∀ b i, gfx b i → ad' b i = ad b i) (hk : ∀ n k, glk gktl n = some (.inr (.inr k)) → k < gStr.length) : gold base ad' s H := by
  obtain ⟨⟨adV, g1⟩, g2, g3, g4, g5, g6, g7⟩ := g
  refine ⟨⟨adV, fun i hi => ?_, fun i j hi hj q => ?_⟩, fun n k h => ?_, g3, g4, g5, by rw [e 3 0 (Or.inr ⟨rfl, rfl⟩)]; exact g6, g7⟩
  · rw [e 2 i (Or.inl ⟨rfl, hi⟩)]; exact g1.1 i hi
  · rw [e 2 i (Or.inl ⟨rfl, hi⟩), e 2 j (Or.inl ⟨rfl, hj⟩)] at q; exact g1.2 i j hi hj q
  · rw [e 2 k (Or.inl ⟨rfl, hk n k h⟩)]; exact g2 n k h
theorem gPc_blind (D : GD) (base : Nat) (ad : Nat → Nat → Nat) (av : List AV) (h : Hp) : FrameBlind (gPc D base ad av h) := by
  intro a U g mk q
  obtain ⟨q0, q1, q2, q3⟩ := q
  exact ⟨q0, q1, gK_warm (s := U) (U := U.calling g mk a) (State.WarmedH.refl U) q2, gold_warm (s := U) (U := U.calling g mk a) (State.WarmedH.refl U) q3 (fun _ _ _ => rfl)⟩
/-- a method's contract -/
def gTM (m : GM) (d : Nat) (B : Nat × Nat) (av : List AV) (h : Hp) (Qr : List AV → Hp → Prop) (Qx : Rf → Hp → Prop) : Prop :=
  ∀ (l : Launch), l.stackTraces = false → ∀ (D : GD) (base : Nat) (ad : Nat → Nat → Nat), (∀ v ∈ av, glv h v) →
    vx_Met l m.1 (gws m) (grm d B) (gPc D base ad av h) (gQc D base ad h Qr) (gXC D base ad h Qx) B.1 B.2 (fun q => base ≤ q)
theorem gMet_imp {l : Launch} {x : MethodName} {S : Spec} {P : Array Value → State → Prop} {K : Program → Env → List Frame → State → Array Value → Prop} {Q Q' : Array Value → State → Outcome → State → Prop}
    (h : MetFree l x S P K Q) (hq : ∀ a s o s', Q a s o s' → Q' a s o s') : MetFree l x S P K Q' := by
  intro p e ha hc hk s m args below hf happ hP hK
  obtain ⟨n, o, h1, h2, h3, h4⟩ := h p e ha hc hk s m args below hf happ hP hK
  exact ⟨n, o, h1, h2, h3, hq _ _ _ _ h4⟩
theorem gTM_mono {m : GM} {d : Nat} {B : Nat × Nat} {av : List AV} {h : Hp} {Qr Qr' : List AV → Hp → Prop} {Qx Qx' : Rf → Hp → Prop} (H : gTM m d B av h Qr Qx) (hr : ∀ v h', Qr v h' → Qr' v h') (hx : ∀ q h', Qx q h' → Qx' q h') : gTM m d B av h Qr' Qx' := by
  intro l hl D base ad hv
  refine gMet_imp (H l hl D base ad hv) (fun a st o t q => ?_)
  rcases q with ⟨⟨v, h', ad', q1, q2, q3, q4⟩, q5⟩ | ⟨q0, e0, E, ce, L, ⟨q, h', ad', ci, r, q1, q2, q3⟩, q5⟩
  · exact Or.inl ⟨⟨v, h', ad', q1, q2, hr _ _ q3, q4⟩, q5⟩
  · exact Or.inr ⟨q0, e0, E, ce, L, ⟨q, h', ad', ci, r, q1, hx _ _ q2, q3⟩, q5⟩
/-- entry locals -/
def gent : Nat → List AV → Lo
  | n, [] => List.replicate n none
  | n, .inr (.inl x) :: r => some (gL x) :: none :: gent (n - 2) r
  | n, .inl x :: r => some (gI x) :: gent (n - 1) r
  | n, .inr (.inr x) :: r => some (gR x) :: gent (n - 1) r
