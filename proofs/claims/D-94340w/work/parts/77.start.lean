/-! ===== the start: what the base asks, out of the Statement's premises (printed by gen_start.py) ===== -/
abbrev gFl : List Jvm.Cond := flatC (Jvm.Cond.and given_1 narrow_1)
theorem st_inst : ∀ r ∈ gcl, ∃ n, Jvm.Cond.instantiable r.1 n ∈ lw_tbl := List.forall_mem_cons.mpr ⟨⟨36, (lw_all_tbl q183)⟩, List.forall_mem_cons.mpr ⟨⟨15, (lw_all_tbl q191)⟩, List.forall_mem_cons.mpr ⟨⟨11, (lw_all_tbl q298)⟩, List.forall_mem_cons.mpr ⟨⟨2, (lw_all_tbl q354)⟩, List.forall_mem_cons.mpr ⟨⟨3, (lw_all_tbl q372)⟩, List.forall_mem_cons.mpr ⟨⟨3, (lw_all_tbl q384)⟩, List.forall_mem_cons.mpr ⟨⟨3, (lw_all_tbl q416)⟩, List.forall_mem_cons.mpr ⟨⟨4, (lw_all_tbl q396)⟩, List.forall_mem_cons.mpr ⟨⟨1, (lw_all_tbl q423)⟩, List.forall_mem_cons.mpr ⟨⟨2, (lw_all_tbl q433)⟩, List.forall_mem_cons.mpr ⟨⟨53, (lw_all_tbl q2130)⟩, List.forall_mem_cons.mpr ⟨⟨5, (lw_all_tbl q796)⟩, List.forall_mem_cons.mpr ⟨⟨8, (lw_all_tbl q913)⟩, List.forall_mem_cons.mpr ⟨⟨5, (lw_all_tbl q1028)⟩, List.forall_mem_cons.mpr ⟨⟨2, (lw_all_tbl q1082)⟩, List.forall_mem_cons.mpr ⟨⟨1, (lw_all_tbl q1101)⟩, List.forall_mem_cons.mpr ⟨⟨1, (lw_all_tbl q1133)⟩, List.forall_mem_cons.mpr ⟨⟨1, (lw_all_tbl q1153)⟩, List.forall_mem_cons.mpr ⟨⟨3, (lw_all_tbl q1163)⟩, List.forall_mem_cons.mpr ⟨⟨3, (lw_all_tbl q1179)⟩, List.forall_mem_cons.mpr ⟨⟨3, (lw_all_tbl q1196)⟩, List.forall_mem_cons.mpr ⟨⟨3, (lw_all_tbl q272)⟩, List.forall_mem_cons.mpr ⟨⟨6, (lw_all_tbl q729)⟩, List.forall_mem_cons.mpr ⟨⟨6, (lw_all_tbl q1360)⟩, List.forall_mem_cons.mpr ⟨⟨6, (lw_all_tbl q1247)⟩, List.forall_mem_cons.mpr ⟨⟨6, (lw_all_tbl q1305)⟩, fun _ h => absurd h List.not_mem_nil⟩⟩⟩⟩⟩⟩⟩⟩⟩⟩⟩⟩⟩⟩⟩⟩⟩⟩⟩⟩⟩⟩⟩⟩⟩⟩
theorem st_D1 {s : State} {b : Nat} (hts : ∀ w ∈ lw_tbl, w.before #[Value.ref b] s = true) : ∃ f : Nat → ClassId × (Nat → Nat), ∀ ci r, gcl[ci]? = some r → u_Kn s r.1 r.2.1 r.2.2 (f ci).1 (f ci).2 := by
  have h : ∀ ci : Nat, ∃ q : ClassId × (Nat → Nat), ∀ r, gcl[ci]? = some r → u_Kn s r.1 r.2.1 r.2.2 q.1 q.2 := by
    intro ci
    cases hr : gcl[ci]? with
    | none => exact ⟨(0, fun _ => 0), fun r h => by cases h⟩
    | some r =>
      obtain ⟨n, hn⟩ := st_inst r (List.mem_of_getElem? hr)
      obtain ⟨cC, iS, h⟩ := u_known (T := r.2.1) (N := r.2.2) hts (fun w hw => lw_all_tbl ((gcl_ok ci r hr).1 w hw)) (hts _ hn)
      exact ⟨(cC, iS), fun r' e => by cases e; exact h⟩
  exact Classical.axiomOfChoice h
def gaTy : List FieldType := [.int, .long, .boolean, .byte, .object "java/lang/Object", .object "java/lang/String", .object "GlassLeaders$Leader", .array .int, .array .long]
def gaTb (x : Nat × (Nat ⊕ FieldType)) : Bool := match x.2 with
  | .inl _ => true
  | .inr ty => decide (ty ∈ gaTy)
theorem grkl_ty : ∀ x ∈ grkl, gaTb x = true := List.all_eq_true.mp (by decide +kernel)
theorem grk_ty {b : Nat} {ty : FieldType} (h : grk b = some (.inr ty)) : ty ∈ gaTy := of_decide_eq_true (glk_all (P := fun n v => gaTb (n, v) = true) grkl grkl_ty _ _ h)
theorem st_ty {s : State} {b : Nat} (hts : ∀ w ∈ lw_tbl, w.before #[Value.ref b] s = true) : ∀ ty ∈ gaTy, ∃ cA : ClassId, ArrOfT s cA ty ∧ va_RA s cA ty := by
  have hp : ∀ ty, gnref ty = true → (Jvm.Cond.arrayClass ty).before #[Value.ref b] s = true → ∃ cA : ClassId, ArrOfT s cA ty ∧ va_RA s cA ty := by
    intro ty hn h
    obtain ⟨c, k, comp, h1, h2, h3⟩ := Cond.arrayClass_spec h
    refine ⟨c, fun n z => ⟨(fun k h => by cases h), k, h2, comp, h3⟩, ?_⟩
    cases ty with
    | object n => cases hn
    | array t => cases hn
    | _ => exact h1
  have ho : ∀ C, (Jvm.Cond.arrayOver (.object C)).before #[Value.ref b] s = true → ∃ cA : ClassId, ArrOfT s cA (.object C) ∧ va_RA s cA (.object C) := by
    intro C h
    obtain ⟨comp, c, k, h1, -, h3, h4, h5⟩ := Cond.arrayOver_spec h
    exact ⟨c, fun n z => ⟨(fun k h => by cases h), k, h3, comp, h4⟩, k, comp, h3, h4, h1, h5⟩
  have ha : ∀ t, (Jvm.Cond.arrayOver (.array t)).before #[Value.ref b] s = true → ∃ cA : ClassId, ArrOfT s cA (.array t) ∧ va_RA s cA (.array t) := by
    intro t h
    obtain ⟨comp, c, k, h1, -, h3, h4, h5⟩ := gAA_spec (h : gAA t s)
    exact ⟨c, fun n z => ⟨(fun k h => by cases h), k, h3, comp, h4⟩, h5⟩
  exact List.forall_mem_cons.mpr ⟨hp _ rfl (hts _ (lw_all_tbl q270)), List.forall_mem_cons.mpr ⟨hp _ rfl (hts _ (lw_all_tbl q370)), List.forall_mem_cons.mpr ⟨hp _ rfl (hts _ (lw_all_tbl q269)), List.forall_mem_cons.mpr ⟨hp _ rfl (hts _ (lw_all_tbl q369)), List.forall_mem_cons.mpr ⟨ho _ (hts _ q665), List.forall_mem_cons.mpr ⟨ho _ (hts _ q805), List.forall_mem_cons.mpr ⟨ho _ (hts _ q414), List.forall_mem_cons.mpr ⟨ha _ (hts _ q197), List.forall_mem_cons.mpr ⟨ha _ (hts _ q445), fun _ h => absurd h List.not_mem_nil⟩⟩⟩⟩⟩⟩⟩⟩⟩
theorem st_D3 {s : State} {b : Nat} (hts : ∀ w ∈ lw_tbl, w.before #[Value.ref b] s = true) : ∃ f : Nat → ClassId, ∀ b ty, grk b = some (.inr ty) → ArrOfT s (f b) ty ∧ va_RA s (f b) ty := by
  have h : ∀ b : Nat, ∃ c : ClassId, ∀ ty, grk b = some (.inr ty) → ArrOfT s c ty ∧ va_RA s c ty := by
    intro b
    cases hr : grk b with
    | none => exact ⟨0, fun ty h => by cases h⟩
    | some q =>
      cases q with
      | inl ci => exact ⟨0, fun ty h => by cases h⟩
      | inr ty =>
        obtain ⟨c, hc⟩ := st_ty hts ty (grk_ty hr)
        exact ⟨c, fun ty' e => by cases e; exact hc⟩
  exact Classical.axiomOfChoice h
theorem gnw_tab {w : Jvm.Cond} (h : gnw w = true) : w.onTables = true := by
  cases w <;> first | rfl | cases h
theorem st_sel {A A' : Array Value} {s : State} {C : String} {y z : MethodName} (hy : y.cls ≠ "java/lang/invoke/MethodHandle" ∧ y.cls ≠ "java/lang/invoke/VarHandle") (hyz : y.cls = z.cls) (hs : (Jvm.Cond.selects C z z).before A s = true) (hpriv : (Jvm.Cond.privateMethod y).before A s = true) (hinst : (Jvm.Cond.instanceMethod y).before A s = true) : (Jvm.Cond.selects C y y).before A' s = true := by
  obtain ⟨c, r, m, hc, hr, hm, hsel, mk, hmk, hni⟩ := Cond.selects_spec hs
  obtain ⟨m2, methM, hnamed, hmethM, -, -⟩ := Cond.instanceMethod_spec hinst
  have hfound : s.methodFound? y.cls y.name y.desc = some m2 := State.methodFound?_of_named hnamed hy
  have hcls : m2.cls = m.cls := Option.some.inj ((findClass_of_methodNamed hnamed).symm.trans ((congrArg s.vm.findClass hyz).trans (findClass_of_methodNamed hm)))
  have hsel2 : selectMethod {} s.vm c m2 = .method m2 := selectMethod_private hmethM (Cond.privateMethod_at hpriv m2 methM hnamed hmethM)
  simp only [Cond.before, Cond.holds, Cond.value, hc, hfound, hnamed, hsel2, hcls, hmk]
  simp
  exact hni
theorem gFl_at {i : Nat} {w : Jvm.Cond} (h : gFl[i]? = some w) : w ∈ gFl := List.mem_of_getElem? h
theorem gncs_at : [292, 320, 249, 332, 305, 331].map (fun i => gFl[i]?) = (gncs).map (fun q => some (Jvm.Cond.not (Jvm.Cond.castable q.1 q.2))) := by decide +kernel
theorem gncs_ok : ∀ q ∈ gncs, Jvm.Cond.not (Jvm.Cond.castable q.1 q.2) ∈ gFl := by
  intro q h
  have h1 : some (Jvm.Cond.not (Jvm.Cond.castable q.1 q.2)) ∈ [292, 320, 249, 332, 305, 331].map (fun i => gFl[i]?) := by rw [gncs_at]; exact List.mem_map_of_mem (f := fun q => some (Jvm.Cond.not (Jvm.Cond.castable q.1 q.2))) h
  obtain ⟨i, -, hi⟩ := List.mem_map.mp h1
  exact gFl_at hi
theorem gdfw_at : [2, 3].map (fun i => gFl[i]?) = (gdfw).map (fun q => some (q)) := by decide +kernel
theorem gdfw_ok : ∀ q ∈ gdfw, q ∈ gFl := by
  intro q h
  have h1 : some (q) ∈ [2, 3].map (fun i => gFl[i]?) := by rw [gdfw_at]; exact List.mem_map_of_mem (f := fun q => some (q)) h
  obtain ⟨i, -, hi⟩ := List.mem_map.mp h1
  exact gFl_at hi
theorem gdfl_at : [818, 817].map (fun i => gFl[i]?) = (gdfl).map (fun q => some (Jvm.Cond.landsInDefault q ⟨"GlassLeaders$Spend", "firstOf", "(I)I"⟩ ⟨"GlassLeaders$Leader", "firstOf", "(I)I"⟩)) := by decide +kernel
theorem gdfl_ok : ∀ q ∈ gdfl, Jvm.Cond.landsInDefault q ⟨"GlassLeaders$Spend", "firstOf", "(I)I"⟩ ⟨"GlassLeaders$Leader", "firstOf", "(I)I"⟩ ∈ gFl := by
  intro q h
  have h1 : some (Jvm.Cond.landsInDefault q ⟨"GlassLeaders$Spend", "firstOf", "(I)I"⟩ ⟨"GlassLeaders$Leader", "firstOf", "(I)I"⟩) ∈ [818, 817].map (fun i => gFl[i]?) := by rw [gdfl_at]; exact List.mem_map_of_mem (f := fun q => some (Jvm.Cond.landsInDefault q ⟨"GlassLeaders$Spend", "firstOf", "(I)I"⟩ ⟨"GlassLeaders$Leader", "firstOf", "(I)I"⟩)) h
  obtain ⟨i, -, hi⟩ := List.mem_map.mp h1
  exact gFl_at hi
theorem st_gK {s : State} {b : Nat} (hts : ∀ w ∈ lw_tbl, w.before #[Value.ref b] s = true) (hf : ∀ w ∈ gFl, w.before #[Value.ref b] s = true) {D : GD} (d1 : ∀ ci r, gcl[ci]? = some r → u_Kn s r.1 r.2.1 r.2.2 (D.1 ci) (D.2.1 ci)) (d2 : ∀ b ty, grk b = some (.inr ty) → ArrOfT s (D.2.2 b) ty) (d3 : ∀ b ty, grk b = some (.inr ty) → 7 < b → va_RA s (D.2.2 b) ty) : gK D s := by
  refine ⟨d1, d2, d3, fun w hw hn => va_Nw.of (gnw_tab hn) (hts w hw), fun q hq => ?_, fun C hC => ?_, fun w hw => ?_, fun t ht => ?_, fun q hq => va_Nc.of (hf _ (gncs_ok q hq)), fun w hw => ?_, fun C hC => ?_⟩
  · simp only [gfws, List.mem_cons, List.not_mem_nil, or_false] at hq
    rcases hq with rfl | rfl | rfl | rfl | rfl | rfl | rfl
    · exact va_Fw.of (hts _ q1574) (hts _ q1573) (hts _ q1578) (hts _ q1577) (hts _ q1575)
    · exact va_Fw.of (hts _ q1574) (hts _ q1573) (hts _ q1578) (hts _ q1587) (hts _ q1585)
    · exact va_Fw.of (hts _ q1574) (hts _ q1573) (hts _ q1578) (hts _ q1581) (hts _ q1579)
    · exact va_Fw.of (hts _ q1574) (hts _ q1573) (hts _ q1578) (hts _ q1584) (hts _ q1582)
    · exact va_Fw.of (hts _ q1574) (hts _ q1573) (hts _ q1578) (hts _ q1590) (hts _ q1588)
    · exact va_Fw.of (hts _ q1574) (hts _ q1573) (hts _ q1614) (hts _ q1613) (hts _ q1611)
    · exact va_Fw.of (hts _ q1574) (hts _ q1573) (hts _ q1595) (hts _ q1593) (hts _ q1591)
  · simp only [gaoC, List.mem_cons, List.not_mem_nil, or_false] at hC
    rcases hC with rfl | rfl | rfl
    · exact va_AO.of (hts _ q414)
    · exact va_AO.of (hts _ q665)
    · exact va_AO.of (hts _ q805)
  · simp only [gxs, List.mem_cons, List.not_mem_nil, or_false] at hw
    rcases hw with rfl | rfl
    · exact st_sel (z := ⟨"GlassLeaders$Bytes", "isDigit", "()Z"⟩) ⟨by decide, by decide⟩ rfl (hts _ (lw_all_tbl q978)) (hts _ q867) (hts _ (lw_all_tbl q868))
    · exact st_sel (z := ⟨"GlassLeaders$Bytes", "isDigit", "()Z"⟩) ⟨by decide, by decide⟩ rfl (hts _ (lw_all_tbl q979)) (hts _ q867) (hts _ (lw_all_tbl q868))
  · simp only [gaoT, List.mem_cons, List.not_mem_nil, or_false] at ht
    rcases ht with rfl | rfl
    · exact (hts _ q197)
    · exact (hts _ q445)
  · have h1 := hf _ (gdfw_ok w hw)
    simp only [gdfw, List.mem_cons, List.not_mem_nil, or_false] at hw
    rcases hw with rfl | rfl <;> exact va_any rfl h1
  · exact (Cond.landsInDefault_setVm (args := #[Value.ref b]) (args' := #[]) (s := s) (vm' := s.vm) (Vm.Alike.refl _) rfl).trans (hf _ (gdfl_ok C hC))
/-! texts -/
def tmO (i : Nat) : String × Nat := ([("GlassLeaders$LandReader", 11), ("GlassLeaders$LandReader", 13), ("GlassLeaders$LandReader", 15), ("GlassLeaders$LandReader", 17), ("GlassLeaders$LandReader", 19), ("GlassLeaders$LandReader", 21), ("GlassLeaders$LandReader", 23), ("GlassLeaders$LandReader", 25), ("GlassLeaders$LandReader", 27), ("GlassLeaders$LandReader", 127), ("GlassLeaders$LandReader", 136), ("GlassLeaders$LawReader", 11), ("GlassLeaders$LawReader", 13), ("GlassLeaders$LawReader", 15), ("GlassLeaders$LawReader", 19), ("GlassLeaders$LawReader", 23), ("GlassLeaders$LawReader", 42), ("GlassLeaders$LawReader", 48), ("GlassLeaders$LawReader", 64), ("GlassLeaders$LawReader", 100), ("GlassLeaders$LawReader", 98), ("GlassLeaders$LawReader", 88)] : List (String × Nat)).getD i ("", 0)
def tmS (i : Nat) : Term := Jvm.Term.string (tmO i).1 (tmO i).2
def tmV (i : Nat) : Term := Jvm.Term.field (tmS i) "java/lang/String" "value" "[B"
def gTxW (i : Nat) : List Jvm.Cond := [Jvm.Cond.exactly (tmS i) "java/lang/String", Jvm.Cond.eq (Jvm.Term.field (tmS i) "java/lang/String" "coder" "B") (Jvm.Term.int 0), Jvm.Cond.arrayOf (tmV i) .byte, Jvm.Cond.eq (Jvm.Term.length (tmV i)) (Jvm.Term.int (Int32.ofNat (glen.getD i 0)))]
def gTxE (i : Nat) : List Jvm.Cond := (List.range (glen.getD i 0)).map (fun j => Jvm.Cond.eq (Jvm.Term.elem (tmV i) (Jvm.Term.int (Int32.ofNat j))) (Jvm.Term.int ((gbyt.getD i []).getD j 0)))
def gTxP (i : Nat) : Nat := ([387, 396, 403, 411, 421, 430, 439, 448, 456, 465, 472, 479, 487, 495, 513, 533, 548, 556, 562, 568, 575, 582] : List Nat).getD i 0
theorem gTx_at : ∀ i, i < 22 → (gFl.drop (gTxP i)).take (4 + glen.getD i 0) = gTxW i ++ gTxE i := by decide +kernel
theorem gTxW_ok (i : Nat) (hi : i < 22) (w : Jvm.Cond) (h : w ∈ gTxW i) : w ∈ gFl := List.mem_of_mem_drop (List.mem_of_mem_take (by rw [gTx_at i hi]; exact List.mem_append_left _ h))
theorem gTxE_ok (i : Nat) (hi : i < 22) (w : Jvm.Cond) (h : w ∈ gTxE i) : w ∈ gFl := List.mem_of_mem_drop (List.mem_of_mem_take (by rw [gTx_at i hi]; exact List.mem_append_right _ h))
def gTxD (i j : Nat) : Bool := (List.range 6).any (fun k => Nat.blt k (glen.getD i 0) && Nat.blt k (glen.getD j 0) && decide (¬ (gbyt.getD i []).getD k 0 = (gbyt.getD j []).getD k 0))
theorem gTxD_ok : (List.range 22).all (fun i => (List.range 22).all (fun j => Nat.beq i j || decide (¬ Int32.ofNat (glen.getD i 0) = Int32.ofNat (glen.getD j 0)) || gTxD i j)) = true := by decide +kernel
theorem gTx_ne (i : Nat) (hi : i < 22) (j : Nat) (hj : j < 22) (h1 : Int32.ofNat (glen.getD i 0) = Int32.ofNat (glen.getD j 0)) (h2 : ∀ k, k < 6 → k < glen.getD i 0 → k < glen.getD j 0 → (gbyt.getD i []).getD k 0 = (gbyt.getD j []).getD k 0) : i = j := by
  have h := List.all_eq_true.mp (List.all_eq_true.mp gTxD_ok i (List.mem_range.mpr hi)) j (List.mem_range.mpr hj)
  rcases (Bool.or_eq_true _ _).mp h with h | h
  · rcases (Bool.or_eq_true _ _).mp h with h | h
    · exact Nat.eq_of_beq_eq_true h
    · exact absurd h1 (of_decide_eq_true h)
  · obtain ⟨k, hk, h⟩ := List.any_eq_true.mp h
    obtain ⟨h3, h4⟩ := (Bool.and_eq_true _ _).mp h
    obtain ⟨h5, h6⟩ := (Bool.and_eq_true _ _).mp h3
    exact absurd (h2 k (List.mem_range.mp hk) (Nat.le_of_ble_eq_true h5) (Nat.le_of_ble_eq_true h6)) (of_decide_eq_true h4)
theorem gTx_len : ∀ i, i < 22 → glen.getD i 0 ≤ 6 := by decide +kernel
theorem st_str {s : State} {b : Nat} (hf : ∀ w ∈ gFl, w.before #[Value.ref b] s = true) : ∃ adK adV : Nat → Nat, vk_S gStr.length glen gbyt adK adV (fun q => s.heap.size ≤ q) s s.heap ∧ ∀ i, i < 22 → (tmS i).eval #[Value.ref b] s none [] s = some (.ref (adK i)) := by
  have hA : ∀ a : Nat, a < s.heap.size → ¬ s.heap.size ≤ a := fun a h => by omega
  have hw : ∀ i, i < 22 → ∀ w ∈ gTxW i, w.before #[Value.ref b] s = true := fun i hi w h => hf w (gTxW_ok i hi w h)
  have h0 : ∀ i : Nat, ∃ q : Nat × Nat, i < 22 → (tmS i).eval #[Value.ref b] s none [] s = some (.ref q.1) ∧ va_O "java/lang/String" q.1 (fun q => s.heap.size ≤ q) s s.heap ∧ va_OF "java/lang/String" "coder" "B" (.int 0) q.1 (fun q => s.heap.size ≤ q) s s.heap ∧ va_OF "java/lang/String" "value" "[B" (.ref q.2) q.1 (fun q => s.heap.size ≤ q) s s.heap ∧ va_T .byte q.2 (glen.getD i 0) (fun j => .int ((gbyt.getD i []).getD j 0)) (fun q => s.heap.size ≤ q) s s.heap := by
    intro i
    by_cases hi : i < 22
    · obtain ⟨a, c, cA, kA, q1, q2, q3, q4, q5, q6, -⟩ := Cond.exactly_spec (args := #[Value.ref b]) (first := s) (o := none) (s := s) (idx := []) (t := tmS i) (cls := "java/lang/String") (hw i hi _ List.mem_cons_self)
      obtain ⟨t, ht, hT⟩ := va_Tof (f := fun j => .int ((gbyt.getD i []).getD j 0)) (A := fun q => s.heap.size ≤ q) (by have := gTx_len i hi; omega) (hw i hi _ (List.mem_cons_of_mem _ (List.mem_cons_of_mem _ List.mem_cons_self))) (va_eqt (hw i hi _ (List.mem_cons_of_mem _ (List.mem_cons_of_mem _ (List.mem_cons_of_mem _ List.mem_cons_self))))) (fun j hj => va_eqt (hf _ (gTxE_ok i hi _ (List.mem_map.mpr ⟨j, List.mem_range.mpr hj, rfl⟩)))) hA
      exact ⟨(a, t), fun _ => ⟨q1, ⟨cA, q3, q5, by rw [q6]; exact q2, hA a (Array.getElem?_eq_some_iff.mp q3).1⟩, vk_OFof q1 (va_eqt (hw i hi _ (List.mem_cons_of_mem _ List.mem_cons_self))) hA, vk_OFof q1 ht hA, hT⟩⟩
    · exact ⟨(0, 0), fun h => absurd h hi⟩
  obtain ⟨ad, had⟩ := Classical.axiomOfChoice h0
  have e22 : gStr.length = 22 := gStr_22
  refine ⟨fun i => (ad i).1, fun i => (ad i).2, ⟨fun i hi => (had i (by omega)).2, fun i j hi hj e => ?_⟩, fun i hi => (had i hi).1⟩
  obtain ⟨-, -, -, ⟨cf, k, fi, f, cell, a1, a2, a3, a4, a5, a6⟩, ⟨vc, b1, b2, b3, b4, b5, b6, b7⟩⟩ := had i (by omega)
  obtain ⟨-, -, -, ⟨cf', k', fi', f', cell', c1, c2, c3, c4, c5, c6⟩, ⟨vd, d1, d2, d3, d4, d5, d6, d7⟩⟩ := had j (by omega)
  cases a1.symm.trans c1
  have e' : (ad i).1 = (ad j).1 := e
  rw [e'] at a3
  cases a3.symm.trans c3
  have ev : (ad i).2 = (ad j).2 := Value.ref.inj (Option.some.inj (a5.symm.trans c5))
  rw [ev] at b1
  cases b1.symm.trans d1
  exact gTx_ne i (by omega) j (by omega) (b5.symm.trans d5) (fun k _ h1 h2 => Value.int.inj (Option.some.inj ((b6 k h1).symm.trans (d6 k h2))))
def gktQ : List (Nat × Nat) := [(16401, 512), (16405, 532), (16409, 547), (12480, 627), (12482, 636), (12484, 645), (12486, 657), (12488, 667), (12490, 677), (12492, 687), (12494, 696), (12496, 706), (12458, 714), (12464, 723), (12593, 732), (12595, 739), (12597, 746), (12581, 754), (12550, 763), (12552, 772), (12554, 783), (12556, 794), (12558, 801), (12586, 809), (12591, 816)]
def gktE (x : Nat × GKt) : Bool := match x.2 with
  | .inr (.inr k) => decide (Jvm.Term.string (gown (x.1 / 1024)) (x.1 % 1024) = tmS k) || decide (gFl[(glk gktQ x.1).getD 0]? = some (Jvm.Cond.eq (tmS k) (Jvm.Term.string (gown (x.1 / 1024)) (x.1 % 1024))))
  | _ => true
theorem gktl_E : ∀ x ∈ gktl, gktE x = true := List.all_eq_true.mp (by decide +kernel)
theorem st_ev {A : Array Value} {s : State} {t1 t2 : Term} {a : Nat} (h : (Jvm.Cond.eq t1 t2).before A s = true) (h1 : t1.eval A s none [] s = some (.ref a)) : t2.eval A s none [] s = some (.ref a) := by
  cases h2 : t2.eval A s none [] s with
  | none => simp [Cond.before, Cond.holds, Cond.value, h1, h2] at h
  | some w =>
    simp only [Cond.before, Cond.holds, Cond.value, h1, h2] at h
    cases w <;> simp_all
theorem st_R {s : State} {b : Nat} (hts : ∀ w ∈ lw_tbl, w.before #[Value.ref b] s = true) (hf : ∀ w ∈ gFl, w.before #[Value.ref b] s = true) {adK : Nat → Nat} (hev : ∀ i, i < 22 → (tmS i).eval #[Value.ref b] s none [] s = some (.ref (adK i))) : ∀ n k, glk gktl n = some (.inr (.inr k)) → vk_R (gown (n / 1024)) (n % 1024) (gStr.getD k "") (adK k) s := by
  intro n k h
  have hk : k < 22 := by have := gkS h; rw [gStr_22] at this; exact this
  have h1 : gKtOk n (.inr (.inr k)) := glk_all (P := fun n v => gKtOk n v) gktl gktl_ok _ _ h
  have h2 := glk_all (P := fun n v => gktE (n, v) = true) gktl gktl_E _ _ h
  refine vk_R.of (hts _ h1.2) ?_
  rcases (Bool.or_eq_true _ _).mp h2 with q | q
  · rw [of_decide_eq_true q]; exact hev k hk
  · exact st_ev (hf _ (gFl_at (of_decide_eq_true q))) (hev k hk)
/-- the world of a start: the script, the texts, the empty array of lists -/
def sH0 (xs : Nat → Int32) (L : Nat) : Hp := (fun b _ k => bif Nat.beq b 1 then xs k else 0, fun _ _ _ => 0, (fun _ _ _ => none, fun b _ => bif Nat.beq b 1 then L else 0, fun b => bif Nat.beq b 1 then 1 else bif Nat.beq b 2 then 22 else bif Nat.beq b 3 then 1 else 0))
abbrev tmE : Term := Jvm.Term.static "java/util/ArrayList" "DEFAULTCAPACITY_EMPTY_ELEMENTDATA" "[Ljava/lang/Object;"
def gEmL : List Jvm.Cond := [Jvm.Cond.arrayOf tmE (.object "java/lang/Object"), Jvm.Cond.eq (Jvm.Term.length tmE) (Jvm.Term.int 0), Jvm.Cond.isRef (Jvm.Term.static "java/lang/Throwable" "UNASSIGNED_STACK" "[Ljava/lang/StackTraceElement;"), Jvm.Cond.isRef (Jvm.Term.static "java/lang/Throwable" "SUPPRESSED_SENTINEL" "Ljava/util/List;"), Jvm.Cond.eq (Jvm.Term.static "java/lang/String" "COMPACT_STRINGS" "Z") (Jvm.Term.int 1), Jvm.Cond.isRef (Jvm.Term.static "jdk/internal/util/Preconditions" "SIOOBE_FORMATTER" "Ljava/util/function/BiFunction;")]
theorem gEm_at : [8, 10, 11, 12, 13, 14].map (fun i => gFl[i]?) = gEmL.map some := by decide +kernel
theorem gEm_ok (w : Jvm.Cond) (h : w ∈ gEmL) : w ∈ gFl := by
  have h1 : some w ∈ [8, 10, 11, 12, 13, 14].map (fun i => gFl[i]?) := by rw [gEm_at]; exact List.mem_map_of_mem h
  obtain ⟨i, -, hi⟩ := List.mem_map.mp h1
  exact gFl_at hi
theorem st_C {xs : Nat → Int32} {L b i : Nat} (h : i < hC (sH0 xs L) b) : (b = 1 ∧ i = 0) ∨ b = 2 ∨ (b = 3 ∧ i = 0) := by
  have h' : i < (bif Nat.beq b 1 then 1 else bif Nat.beq b 2 then 22 else bif Nat.beq b 3 then 1 else 0) := h
  by_cases e1 : b = 1
  · subst e1; exact Or.inl ⟨rfl, by have : i < 1 := h'; omega⟩
  · by_cases e2 : b = 2
    · exact Or.inr (Or.inl e2)
    · by_cases e3 : b = 3
      · subst e3; exact Or.inr (Or.inr ⟨rfl, by have : i < 1 := h'; omega⟩)
      · rw [gbeqF e1, gbeqF e2, gbeqF e3] at h'
        exact absurd h' (Nat.not_lt_zero _)
set_option maxRecDepth 100000 in
theorem st_all {s : State} {b L : Nat} {xs : Nat → Int32} (hL : L ≤ 384) (hts : ∀ w ∈ lw_tbl, w.before #[Value.ref b] s = true) (hf : ∀ w ∈ gFl, w.before #[Value.ref b] s = true) (hX : va_X b L xs s s.heap) :
    ∃ (D : GD) (ad : Nat → Nat → Nat), gK D s ∧ gold s.heap.size ad s s.heap ∧ grep D s.heap.size ad (sH0 xs L) s.heap ∧ ad 1 0 = b := by
  have hA : ∀ a : Nat, a < s.heap.size → ¬ s.heap.size ≤ a := fun a h => by omega
  have hw := fun w h => hf w (gEm_ok w h)
  obtain ⟨f1, hf1⟩ := st_D1 hts
  obtain ⟨f3, hf3⟩ := st_D3 hts
  obtain ⟨adK, adV, hS, hev⟩ := st_str hf
  obtain ⟨scr, x1, x2, x3, x4, x5⟩ := hX
  obtain ⟨t3, cell3, y1, y2, y3⟩ := Term.length_spec (va_eqt (hw _ (List.mem_cons_of_mem _ List.mem_cons_self)))
  obtain ⟨z1, z2, z3, -⟩ := State.arrayAt?_spec y2
  obtain ⟨z4, -⟩ := Cond.arrayOf_spec (hw _ List.mem_cons_self) y1 z1
  have y4 : cell3.slots.size.toInt32 = 0 := (Value.int.inj y3).symm
  have hD3 : ∀ c, c = 1 ∨ c = 3 ∨ 7 < c ∨ True := fun _ => Or.inr (Or.inr (Or.inr trivial))
  refine ⟨(fun ci => (f1 ci).1, fun ci => (f1 ci).2, fun r => bif Nat.beq r 1 then scr.cls else bif Nat.beq r 3 then cell3.cls else f3 r), fun r i => bif Nat.beq r 1 then b else bif Nat.beq r 2 then adK i else t3, ?_, ?_, ?_, rfl⟩
  · refine st_gK hts hf hf1 (fun r ty h => ?_) (fun r ty h h7 => ?_)
    · by_cases e1 : r = 1
      · subst e1
        rw [show grk 1 = some (.inr .int) by decide +kernel] at h
        cases h
        exact fun n z => ⟨(fun k h => by cases h), x2.2⟩
      · by_cases e3 : r = 3
        · subst e3
          rw [show grk 3 = some (.inr (.object "java/lang/Object")) by decide +kernel] at h
          cases h
          exact fun n z => ⟨(fun k h => by cases h), z4.2⟩
        · show ArrOfT s (bif Nat.beq r 1 then scr.cls else bif Nat.beq r 3 then cell3.cls else f3 r) ty
          rw [gbeqF e1, gbeqF e3]
          exact (hf3 r ty h).1
    · show va_RA s (bif Nat.beq r 1 then scr.cls else bif Nat.beq r 3 then cell3.cls else f3 r) ty
      rw [gbeqF (show ¬ r = 1 by omega), gbeqF (show ¬ r = 3 by omega)]
      exact (hf3 r ty h).2
  · refine ⟨⟨adV, hS⟩, st_R hts hf hev, ?_, ?_, ?_, ?_, ?_⟩
    · exact vx_Zqof (hts _ q755) (hts _ (lw_all_tbl q149)) (hw _ (List.mem_cons_of_mem _ (List.mem_cons_of_mem _ List.mem_cons_self))) hA
    · exact vx_Zqof (hts _ q757) (hts _ (lw_all_tbl q149)) (hw _ (List.mem_cons_of_mem _ (List.mem_cons_of_mem _ (List.mem_cons_of_mem _ List.mem_cons_self)))) hA
    · exact va_Zof (hts _ q865) (hts _ (lw_all_tbl q155)) (va_eqt (hw _ (List.mem_cons_of_mem _ (List.mem_cons_of_mem _ (List.mem_cons_of_mem _ (List.mem_cons_of_mem _ List.mem_cons_self)))))) hA
    · exact va_Zref (hts _ q284) (hts _ (lw_all_tbl q138)) y1 hA
    · exact vx_Zqof (hts _ q885) (hts _ (lw_all_tbl q157)) (hw _ (List.mem_cons_of_mem _ (List.mem_cons_of_mem _ (List.mem_cons_of_mem _ (List.mem_cons_of_mem _ (List.mem_cons_of_mem _ List.mem_cons_self)))))) hA
  · refine ⟨fun r i h2 hi => ?_, fun r i b' i' h7 hi => ?_, fun r i h7 hi => ?_, fun r i k q _ _ h => (by cases h), fun r i => ?_, Nat.le_refl _, gStr_22.symm, rfl⟩
    · rcases st_C hi with ⟨rfl, rfl⟩ | e | ⟨rfl, rfl⟩
      · unfold gat
        rw [show grk 1 = some (.inr .int) by decide +kernel]
        exact ⟨scr, x1, rfl, x3, x2.1, Or.inl x4, x5⟩
      · exact absurd e h2
      · unfold gat
        rw [show grk 3 = some (.inr (.object "java/lang/Object")) by decide +kernel]
        exact ⟨cell3, z1, rfl, z2, z4.1, Or.inr ⟨rfl, y4⟩, fun k hk => absurd hk (Nat.not_lt_zero _)⟩
    · rcases st_C hi with ⟨rfl, rfl⟩ | e | ⟨rfl, rfl⟩ <;> omega
    · rcases st_C hi with ⟨rfl, rfl⟩ | e | ⟨rfl, rfl⟩ <;> omega
    · show (bif Nat.beq r 1 then L else 0) < 2 ^ 31
      cases Nat.beq r 1
      · exact (by decide : 0 < 2 ^ 31)
      · show L < 2 ^ 31
        omega
