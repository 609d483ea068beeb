/-! ===== ArrayList: reading ===== -/
theorem k_J19 (l : Launch) (d i n : Nat) (hin : i < n) (hn : n < 2 ^ 31) :
    vx_Met l yJ19_checkIndex (ws_ yJ19_checkIndex cJ19_checkIndex 2 (some .int)) (grm (d + 1) (0, 0)) (va_Pc [.int (nI i), .int (nI n)] (fun _ => True)) (fun _ st oc t => oc = .returned (some (.int (nI i))) ∧ t.heap = st.heap) (fun _ _ _ _ => False) 0 0 (fun _ => False) := by
  refine vx_ofW (cc := cJ19_checkIndex) (maxL := 2) (ret := some .int) (by decide +kernel) rfl ?_
  intro p e s m args below meth c s₁ Bd hml hxt hP
  obtain ⟨rfl, -⟩ := hP
  have hts := atoms_spec (ws := ws_ yJ19_checkIndex cJ19_checkIndex 2 (some .int)) Bd.pre
  have hts' : ∀ w ∈ lw_all, w.before _ s = true := fun w h => hts w (List.mem_cons_of_mem _ h)
  have hown : s.vm.findClass "java/util/Objects" = some m.cls := findClass_of_methodNamed Bd.named
  rw [lg_entry_eq]
  have hls := lv_entry [.int (nI i), .int (nI n)] (n := 2) (Nat.le_refl 2)
  have s0 := hls.2.2 (0, .int (nI i)) List.mem_cons_self
  have s1 := hls.2.2 (1, .int (nI n)) (List.mem_cons_of_mem _ List.mem_cons_self)
  have hroom : (headSpec (ws_ yJ19_checkIndex cJ19_checkIndex 2 (some .int)) (grm (d + 1) (0, 0))).room = grm (d + 1) (0, 0) := rfl
  rw [hroom]
  refine lv_iload_n Bd.exec Bd.bytes dJ19_checkIndex_0 rfl s0 ?_
  refine lv_iload_n Bd.exec Bd.bytes dJ19_checkIndex_1 rfl s1 ?_
  refine lv_null Bd.exec Bd.bytes dJ19_checkIndex_2 ?_
  refine gk_call (As := [.int (nI i), .int (nI n), .null]) (rest := []) (n := 3) (B := (0, 0)) Bd.exec Bd.bytes hown hts' (k_J9 l d i n .null (Or.inl rfl) hin hn) (gPc_bl _) (fun U _ _ => ⟨rfl, trivial⟩) (by decide) ⟨by decide, by decide, by decide +kernel⟩ q688 q689 q157 q690 rfl (hls.1.trans hml.symm) (by decide) (Nat.le_refl _) (Nat.le_refl _) dJ19_checkIndex_3 ?_
  exact vx_ret (W.iret Bd.exec Bd.bytes Bd.returns (fun t ht _ => ⟨rfl, ht⟩) (fun _ q => absurd q List.not_mem_nil) dJ19_checkIndex_6 Bd.notSynchronized)
section GLI
variable {m : GM} {d : Nat} {B : Nat × Nat} {Qr : List AV → Hp → Prop} {Qx : Rf → Hp → Prop} {u : Nat × Nat} {pc : Nat} {lo : Lo} {r : List AV} {h : Hp} {i n : Nat}
/-- Objects.checkIndex in a list's method -/
theorem gT_ci (hO : gmO m = "java/util/ArrayList") (hd : decode (gmC m) pc = .ok (.invokestatic 118, 3)) (hin : i < n) (hn : n < 2 ^ 31) (hr : Nat.ble (gsum r) 16 = true) (K : gT m (d + 2) B Qr Qx (pc + 3) lo (gI (nI i) :: r) h u) : gT m (d + 2) B Qr Qx pc lo (gI (nI n) :: gI (nI i) :: r) h u := by
  intro p l e s mi args below meth c D base ad0 h0 H locs ls ad cx ex e2 rp vs lk sl u1 u2
  have hts := gcx_hts cx
  refine gk_call (As := [.int (nI i), .int (nI n)]) (rest := r.map (gtr ad)) (n := 2) cx.1 cx.2.1 (by rw [← hO]; exact cx.2.2.2.2.2.1) hts (k_J19 l d i n hin hn) (gPc_bl _) (fun U _ _ => ⟨rfl, trivial⟩) (by decide) ⟨by decide, by decide, by decide +kernel⟩ q685 q686 q179 q687 rfl (lk.1.trans cx.2.2.2.1.symm) (by rw [gsum_cat]; exact Nat.le_of_ble_eq_true hr) u1 u2 hd ?_
  exact K p l e s mi args below meth c D base ad0 h0 H locs ls ad cx ex e2 rp vs lk (glc trivial (gl1 (gl1 sl))) u1 u2
end GLI
/-- the list q holds n things: f -/
def cLi (q n : Nat) (f : Nat → Option Rf) (I : Nat → Nat → Nat → Int32) (y : Dy) : Prop := I 10 q 2 = nI n ∧ n < 2 ^ 31 ∧ ((n = 0 ∧ gRX y 10 q 1 = some (3, 0)) ∨ ∃ e, gRX y 10 q 1 = some (11, e) ∧ n ≤ gNX y 11 e ∧ (∀ k, k < n → gRX y 11 e k = f k) ∧ gNX y 11 e = 10)
set_option maxRecDepth 100000 in
theorem o_size (d q n : Nat) (f : Nat → Option Rf) (I : Nat → Nat → Nat → Int32) (L : Nat → Nat → Nat → Int64) (y : Dy) (hl : cLi q n f I y) : gP mJ2_size (d + 1) [gR (some (10, q))] (gH I L y) (gI (nI n)) := by
  refine gEnter 400 [] kJ2_size rfl rfl ?_
  exact ⟨congrArg (fun z => [gI z]) hl.1, rfl⟩
set_option maxRecDepth 100000 in
theorem o_isEmpty (d q n : Nat) (f : Nat → Option Rf) (I : Nat → Nat → Nat → Int32) (L : Nat → Nat → Nat → Int64) (y : Dy) (hl : cLi q n f I y) : gP mJ2_isEmpty (d + 1) [gR (some (10, q))] (gH I L y) (gI (gb (decide (n = 0)))) := by
  have hn := hl.2.1
  refine gEnter 400 [] kJ2_isEmpty rfl rfl ?_
  refine bNe n 0 hl.1 rfl (fun c => ?_) (fun c => ?_)
  · exact ⟨Or.inl rfl, by rw [decide_eq_false c]; rfl, rfl⟩
  · exact ⟨Or.inr rfl, by rw [decide_eq_true c]; rfl, rfl⟩
set_option maxRecDepth 100000 in
theorem o_elementData (d q n i : Nat) (f : Nat → Option Rf) (I : Nat → Nat → Nat → Int32) (L : Nat → Nat → Nat → Int64) (y : Dy) (hl : cLi q n f I y) (hi : i < n) : gP mJ2_elementData (d + 1) [gR (some (10, q)), gI (nI i)] (gH I L y) (gR (f i)) := by
  obtain ⟨h1, h2, h3⟩ := hl
  rcases h3 with ⟨h3, -⟩ | ⟨e, h3, h4, h5, -⟩
  · omega
  have at5 : ∀ lo', glle [none, none] lo' → gT mJ2_elementData (d + 1) (0, 0) (fun v h' => v = [gR (f i)] ∧ h' = gH I L y) (fun _ _ => False) 5 lo' [gI (nI i), gR (gRX y 10 q 1)] (gH I L y) (0, 0) := by
    intro lo' hl'
    rw [h3]
    refine gT_lo _ hl' ?_
    refine gT_go 400 [] kJ2_elementData ?_
    refine Exists.intro i (And.intro rfl (And.intro (show i < gNX y 11 e by omega) ?_))
    exact ⟨congrArg (fun z => [gR z]) (h5 i hi), rfl⟩
  refine gEnter 400 [5] kJ2_elementData rfl rfl ?_
  exact at5 _ (by (repeat' apply And.intro) <;> first | rfl | trivial | exact congrArg Sum.inl (nI_1 _).symm | exact congrArg Sum.inl (nI_1 _).symm)
set_option maxRecDepth 100000 in
theorem o_get (d q n i : Nat) (f : Nat → Option Rf) (I : Nat → Nat → Nat → Int32) (L : Nat → Nat → Nat → Int64) (y : Dy) (hl : cLi q n f I y) (hi : i < n) : gP mJ2_get (d + 2) [gR (some (10, q)), gI (nI i)] (gH I L y) (gR (f i)) := by
  have at5 : ∀ lo', glle [some (gR (some (10, q))), some (gI (nI i))] lo' → gT mJ2_get (d + 2) (0, 0) (fun v h' => v = [gR (f i)] ∧ h' = gH I L y) (fun _ _ => False) 5 lo' [gI (I 10 q 2), gI (nI i)] (gH I L y) (0, 0) := by
    intro lo' hl'
    rw [hl.1]
    refine gT_lo _ hl' ?_
    refine gT_ci rfl dJ2_get_5 hi hl.2.1 rfl ?_
    refine gT_go 400 [] kJ2_get ?_
    refine gP_use (o_elementData d q n i f I L y hl hi) ?_
    exact ⟨rfl, rfl⟩
  refine gEnter 400 [5] kJ2_get rfl rfl ?_
  exact at5 _ (by (repeat' apply And.intro) <;> first | rfl | trivial | exact congrArg Sum.inl (nI_1 _).symm | exact congrArg Sum.inl (nI_1 _).symm)
/-- the rules in the component: the list's elements k are rules of kind and steps -/
def cRl (R : RL) (ht : Nat) (I : Nat → Nat → Nat → Int32) (y : Dy) : Prop := R.length ≤ 10 ∧ ∃ f : Nat → Option Rf, cLi y.2.1 R.length f I y ∧ ∀ k, k < R.length → ∃ j ra, f k = some (12, j) ∧ I 12 j 0 = gb (!rG R k) ∧ gRX y 12 j 1 = some ra ∧ cAs I y ht ra (rC R k)
