/-! ===== signs of a String constant ===== -/
section GKC
variable {p : Program} {l : Launch} {e : Env} {s : State} {mi : MethodId} {args : Array Value} {below : List Frame} {meth : Method} {c : Code} {H : Heap} {locs : List Loc} {cells slots : Nat} {Q : State → Prop} {pc : Nat} {ls : Array Slot} {As rest : List Value} {B : Nat × Nat} {d n idx L : Nat} {own : String} {y : MethodName} {b cc : ByteArray} {ret : Option FieldType} {v0 : Option Value} {Pc : Array Value → State → Prop}
/-- a call of a method that only answers -/
theorem gk_call (hx : p.tables.exec = Jvm.exec) (hb : c.code = cc) (hown : s.vm.findClass own = some mi.cls) (hts : ∀ w ∈ lw_all, w.before args s = true) (hM : vx_Met l y (ws_ y b L ret) (grm d (0, 0)) Pc (fun _ st oc t => oc = .returned v0 ∧ t.heap = st.heap) (fun _ _ _ _ => False) 0 0 (fun _ => False)) (hbl : FrameBlind Pc) (hPc : ∀ U : State, U.heap = H → s.WarmedH U.vm → Pc As.toArray U)
    (hL : L ≤ 14) (hy : y.cls ≠ "java/lang/invoke/MethodHandle" ∧ y.cls ≠ "java/lang/invoke/VarHandle" ∧ (parseMethodDescriptor y.desc).map (fun d => d.parameters.length) = some n) (h1 : Jvm.Cond.methodLink own idx y ∈ lw_all) (h2 : Jvm.Cond.static y ∈ lw_all) (h4 : Jvm.Cond.initialized y.cls ∈ lw_all) (h5 : Jvm.Cond.code y b L ret ∈ lw_all)
    (hn : As.length = n) (hls : ls.size = c.maxLocals) (hcat : (rest.map fun v => v.category).sum ≤ 16) (hc1 : cells ≤ B.1) (hc2 : slots ≤ B.2) (hd : decode cc pc = .ok (.invokestatic idx, 3))
    (kk : W p l e (grm (d + 1) B) s mi args below meth c H locs cells slots Q (F0 mi (pc + 3) ls (v0.toList ++ rest))) : W p l e (grm (d + 1) B) s mi args below meth c H locs cells slots Q (F0 mi pc ls (As.reverse ++ rest)) := by
  intro T hT X
  have hrun := vx_runS (cc := cc) (nL := c.maxLocals) (own := own) (Ts := lw_all) (g := F0 mi pc ls (As.reverse ++ rest)) (rest := rest) (l := l) (e := e) (R := grm (d + 1) B) (below := below) (meth := meth) (H := H) (locs := locs) (cells := cells) (slots := slots) ⟨hx, hb, rfl, hown, hts⟩ hM (va_cwS n hts (lw_S h1 h2 h4 h5) rfl rfl rfl hy (grm_room (k := 0) hL)) ⟨hbl, hPc⟩ rfl hn hls rfl (lv_room16 hcat) hd ⟨hc1, hc2⟩
  rcases hrun T hT X with ⟨v, st₀, t, T', L', q1, q2, q3, q4, q5, ⟨q6, q7⟩, q8⟩ | ⟨q, st₀, t, T', L', E, ce, q1, q2, q3, q4, q5, q6, q7⟩
  · cases q6
    have hL' : L' = [] := by
      cases L' with
      | nil => rfl
      | cons a r => exact (q3 a List.mem_cons_self).elim
    subst hL'
    rw [List.append_nil] at q2
    obtain ⟨t2, a1, b1⟩ := kk T' (by rw [q4, q7, q1]) q2
    exact ⟨t2, q8 t2 a1, b1⟩
  · exact q6.elim
end GKC
abbrev gkRef (z : Value) : Prop := z = .null ∨ ∃ a : Nat, z = .ref a
theorem k_J9 (l : Launch) (d i n : Nat) (z : Value) (hz : gkRef z) (hin : i < n) (hn : n < 2 ^ 31) :
    vx_Met l yJ9_checkIndex (ws_ yJ9_checkIndex cJ9_checkIndex 3 (some .int)) (grm d (0, 0)) (va_Pc [.int (nI i), .int (nI n), z] (fun _ => True)) (fun _ st oc t => oc = .returned (some (.int (nI i))) ∧ t.heap = st.heap) (fun _ _ _ _ => False) 0 0 (fun _ => False) := by
  refine vx_ofW (cc := cJ9_checkIndex) (maxL := 3) (ret := some .int) (by decide +kernel) rfl ?_
  intro p e s m args below meth c s₁ Bd hml hxt hP
  obtain ⟨rfl, -⟩ := hP
  rw [lg_entry_eq]
  have hls := lv_entry [.int (nI i), .int (nI n), z] (n := 3) (by rcases hz with rfl | ⟨a, rfl⟩ <;> exact Nat.le_refl 3)
  have s0 := hls.2.2 (0, .int (nI i)) List.mem_cons_self
  have s1 := hls.2.2 (1, .int (nI n)) (List.mem_cons_of_mem _ List.mem_cons_self)
  refine lv_iload_n Bd.exec Bd.bytes dJ9_checkIndex_0 rfl s0 ?_
  refine lv_if_lt Bd.exec Bd.bytes dJ9_checkIndex_1 (tgt := 9) rfl (fun q => absurd q (nI_pos (by omega))) (fun _ => ?_)
  refine lv_iload_n Bd.exec Bd.bytes dJ9_checkIndex_4 rfl s0 ?_
  refine lv_iload_n Bd.exec Bd.bytes dJ9_checkIndex_5 rfl s1 ?_
  refine lv_icmp_lt Bd.exec Bd.bytes dJ9_checkIndex_6 (tgt := 16) rfl (fun _ => ?_) (fun q => absurd ((nI_ltI (by omega) hn).mpr hin) q)
  refine lv_iload_n Bd.exec Bd.bytes dJ9_checkIndex_16 rfl s0 ?_
  exact vx_ret (W.iret Bd.exec Bd.bytes Bd.returns (fun t ht _ => ⟨rfl, ht⟩) (fun _ q => absurd q List.not_mem_nil) dJ9_checkIndex_17 Bd.notSynchronized)
theorem gPc_bl (as : List Value) : FrameBlind (va_Pc as (fun _ => True)) := fun a U g mk q => ⟨q.1, trivial⟩
theorem k_J7ci (l : Launch) (d i n : Nat) (A : Nat → Prop) (hin : i < n) (hn : n < 2 ^ 31) :
    vx_Met l yJ7_checkIndex (ws_ yJ7_checkIndex cJ7_checkIndex 2 none) (grm (d + 1) (0, 0)) (va_Pc [.int (nI i), .int (nI n)] (fun U => vx_Zq "jdk/internal/util/Preconditions" "SIOOBE_FORMATTER" "Ljava/util/function/BiFunction;" A U U.heap)) (fun _ st oc t => oc = .returned none ∧ t.heap = st.heap) (fun _ _ _ _ => False) 0 0 (fun _ => False) := by
  refine vx_ofW (cc := cJ7_checkIndex) (maxL := 2) (ret := none) (by decide +kernel) rfl ?_
  intro p e s m args below meth c s₁ Bd hml hxt hP
  obtain ⟨rfl, hZ⟩ := hP
  have hts := atoms_spec (ws := ws_ yJ7_checkIndex cJ7_checkIndex 2 none) Bd.pre
  have hts' : ∀ w ∈ lw_all, w.before _ s = true := fun w h => hts w (List.mem_cons_of_mem _ h)
  have hown : s.vm.findClass "java/lang/String" = some m.cls := findClass_of_methodNamed Bd.named
  rw [lg_entry_eq]
  have hls := lv_entry [.int (nI i), .int (nI n)] (n := 2) (Nat.le_refl 2)
  have s0 := hls.2.2 (0, .int (nI i)) List.mem_cons_self
  have s1 := hls.2.2 (1, .int (nI n)) (List.mem_cons_of_mem _ List.mem_cons_self)
  have hroom : (headSpec (ws_ yJ7_checkIndex cJ7_checkIndex 2 none) (grm (d + 1) (0, 0))).room = grm (d + 1) (0, 0) := rfl
  rw [hroom]
  have fin : ∀ ls : Array Slot, ls.size = 2 → ∀ z : Value, gkRef z → W p l e (grm (d + 1) (0, 0)) s m [Value.int (nI i), Value.int (nI n)].toArray below meth c s.heap [] 0 0 (vx_MQ below (fun _ st oc t => oc = .returned none ∧ t.heap = st.heap) (fun _ _ _ _ => False) [Value.int (nI i), Value.int (nI n)].toArray s 0 0 (fun _ => False)) (F0 m 5 ls [z, .int (nI n), .int (nI i)]) := by
    intro ls hsz z hz
    refine gk_call (As := [.int (nI i), .int (nI n), z]) (rest := []) (n := 3) (B := (0, 0)) Bd.exec Bd.bytes hown hts' (k_J9 l d i n z hz hin hn) (gPc_bl _) (fun U _ _ => ⟨rfl, trivial⟩) (by decide) ⟨by decide, by decide, by decide +kernel⟩ q886 q689 q157 q690 rfl (hsz.trans hml.symm) (by decide) (Nat.le_refl _) (Nat.le_refl _) dJ7_checkIndex_5 ?_
    refine lv_pop Bd.exec Bd.bytes dJ7_checkIndex_8 rfl ?_
    exact vx_ret (W.vret Bd.exec Bd.bytes Bd.returns (fun t ht _ => ⟨rfl, ht⟩) (fun _ q => absurd q List.not_mem_nil) dJ7_checkIndex_9 Bd.notSynchronized)
  refine lv_iload_n Bd.exec Bd.bytes dJ7_checkIndex_0 rfl s0 ?_
  refine lv_iload_n Bd.exec Bd.bytes dJ7_checkIndex_1 rfl s1 ?_
  rcases hZ.1 with hZ | ⟨t, hZ⟩
  · exact va_gets Bd.exec Bd.bytes hZ va_S.rf hown (hts' _ q884) (fun _ x => x) dJ7_checkIndex_2 (fin _ hls.1 _ (Or.inl rfl))
  · exact va_gets Bd.exec Bd.bytes hZ va_S.rf hown (hts' _ q884) (fun _ x => x) dJ7_checkIndex_2 (fin _ hls.1 _ (Or.inr ⟨t, rfl⟩))
theorem gPcV_bl (as : List Value) (C n d : String) (A : Nat → Prop) : FrameBlind (va_Pc as (fun U => vx_Zq C n d A U U.heap)) := fun a U g mk q => ⟨q.1, vx_Zq.moved (u := U) (U := U.calling g mk a) (State.WarmedH.refl U).alike q.2⟩
def gJ8P (t i n : Nat) (f : Nat → Int32) (A : Nat → Prop) : Array Value → State → Prop := (va_Pc [.ref t, .int (nI i)] (fun U => va_T .byte t n (fun j => .int (f j)) A U U.heap ∧ vx_Zq "jdk/internal/util/Preconditions" "SIOOBE_FORMATTER" "Ljava/util/function/BiFunction;" A U U.heap))
theorem gJ8P_bl (t i n : Nat) (f : Nat → Int32) (A : Nat → Prop) : FrameBlind (gJ8P t i n f A) := fun a U g mk q => ⟨q.1, va_T.moved (u := U) (U := U.calling g mk a) (State.WarmedH.refl U).alike q.2.1, vx_Zq.moved (u := U) (U := U.calling g mk a) (State.WarmedH.refl U).alike q.2.2⟩
theorem gJ8P_at {t i n : Nat} {f : Nat → Int32} {A : Nat → Prop} {s U : State} {H : Heap} (hT : va_T .byte t n (fun j => .int (f j)) A s H) (hZ : vx_Zq "jdk/internal/util/Preconditions" "SIOOBE_FORMATTER" "Ljava/util/function/BiFunction;" A s H) (hU : U.heap = H) (hW : s.WarmedH U.vm) : gJ8P t i n f A [Value.ref t, Value.int (nI i)].toArray U :=
  ⟨rfl, by rw [hU]; exact hT.moved hW.alike, by rw [hU]; exact vx_Zq.moved hW.alike hZ⟩
/-- the sign i of the bytes at t -/
theorem k_J8 (l : Launch) (d i n t k : Nat) (f : Nat → Int32) (A : Nat → Prop) (hin : i < n) (hn : n < 2 ^ 31) (hk : f i = nI k) (hf : k < 128) :
    vx_Met l yJ8_charAt (ws_ yJ8_charAt cJ8_charAt 2 (some .char)) (grm (d + 2) (0, 0)) (gJ8P t i n f A) (fun _ st oc t => oc = .returned (some (.int (nI k))) ∧ t.heap = st.heap) (fun _ _ _ _ => False) 0 0 (fun _ => False) := by
  refine vx_ofW (cc := cJ8_charAt) (maxL := 2) (ret := some .char) (by decide +kernel) rfl ?_
  intro p e s m args below meth c s₁ Bd hml hxt hP
  obtain ⟨rfl, hT, hZ⟩ := hP
  have hts := atoms_spec (ws := ws_ yJ8_charAt cJ8_charAt 2 (some .char)) Bd.pre
  have hts' : ∀ w ∈ lw_all, w.before _ s = true := fun w h => hts w (List.mem_cons_of_mem _ h)
  have hown : s.vm.findClass "java/lang/StringLatin1" = some m.cls := findClass_of_methodNamed Bd.named
  rw [lg_entry_eq]
  have hls := lv_entry [.ref t, .int (nI i)] (n := 2) (Nat.le_refl 2)
  have s0 := hls.2.2 (0, .ref t) List.mem_cons_self
  have s1 := hls.2.2 (1, .int (nI i)) (List.mem_cons_of_mem _ List.mem_cons_self)
  have hroom : (headSpec (ws_ yJ8_charAt cJ8_charAt 2 (some .char)) (grm (d + 2) (0, 0))).room = grm (d + 2) (0, 0) := rfl
  rw [hroom]
  have hcl : (nI i).toNatClampNeg = i := nI_clamp (by omega)
  have hfi : nI k &&& 255 = nI k := by
    have e := pk_andN (n := k) (by omega) (m := 255) 8 rfl
    rw [Nat.mod_eq_of_lt (show k < 2 ^ 8 by omega)] at e
    exact e
  have hfc : ((nI k).toUInt32 % 65536).toInt32 = nI k := by
    have : ∀ x, x < 128 → ((nI x).toUInt32 % 65536).toInt32 = nI x := by decide +kernel
    exact this _ hf
  have hfn : narrow .char (.int (nI k)) = .int (nI k) := by
    have : ∀ x, x < 128 → narrow .char (.int (nI x)) = .int (nI x) := by decide +kernel
    exact this _ hf
  refine lv_iload_n Bd.exec Bd.bytes dJ8_charAt_0 rfl s1 ?_
  refine lv_aload_n Bd.exec Bd.bytes dJ8_charAt_1 rfl s0 ?_
  refine va_tlen Bd.exec Bd.bytes hT va_S.rf rfl dJ8_charAt_2 ?_
  refine gk_call (As := [.int (nI i), .int (nI n)]) (rest := []) (n := 2) (B := (0, 0)) Bd.exec Bd.bytes hown hts' (k_J7ci l d i n A hin hn) (gPcV_bl _ _ _ _ _) (fun U hU hW => ⟨rfl, by show vx_Zq _ _ _ A U U.heap; rw [hU]; exact vx_Zq.moved hW.alike hZ⟩) (by decide) ⟨by decide, by decide, by decide +kernel⟩ q881 q882 q155 q883 rfl (hls.1.trans hml.symm) (by decide) (Nat.le_refl _) (Nat.le_refl _) dJ8_charAt_3 ?_
  refine lv_aload_n Bd.exec Bd.bytes dJ8_charAt_6 rfl s0 ?_
  refine lv_iload_n Bd.exec Bd.bytes dJ8_charAt_7 rfl s1 ?_
  refine va_tb Bd.exec Bd.bytes hT va_S.rf (gin hin hn) (v := .int (nI k)) (by show Value.int (f (nI i).toNatClampNeg) = _; rw [hcl, hk]) dJ8_charAt_8 ?_
  refine lv_sipush Bd.exec Bd.bytes dJ8_charAt_9 (v := 255) rfl ?_
  refine lv_iand Bd.exec Bd.bytes dJ8_charAt_12 ?_
  rw [hfi]
  refine lv_i2c Bd.exec Bd.bytes dJ8_charAt_13 hfc ?_
  exact vx_ret (W.zret Bd.exec Bd.bytes Bd.returns hfn (fun t ht _ => ⟨rfl, ht⟩) (fun _ q => absurd q List.not_mem_nil) dJ8_charAt_14 Bd.notSynchronized)
/-- the signs of the texts -/
def gch (k i : Nat) : Nat := ((gStr.getD k "").toList.getD i 'a').toNat
def gsl (k : Nat) : Nat := (gStr.getD k "").length
theorem gch_all : ∀ k, k < 22 → gsl k ≤ 6 ∧ glen.getD k 0 = gsl k ∧ ∀ i, i < 6 → i < gsl k → (gbyt.getD k []).getD i 0 = nI (gch k i) ∧ 97 ≤ gch k i ∧ gch k i ≤ 122 := by decide +kernel
theorem gStr_22 : gStr.length = 22 := by decide +kernel
section GCH
variable {m : GM} {d : Nat} {B : Nat × Nat} {Qr : List AV → Hp → Prop} {Qx : Rf → Hp → Prop} {u : Nat × Nat} {lo : Lo} {h : Hp}
set_option maxRecDepth 100000 in
theorem gT_chr {k i : Nat} (hk : k < 22) (hi : i < gsl k) (l0 : glo lo 0 = some (gR (some (2, k)))) (l1 : glo lo 1 = some (gI (nI i))) (K : gT mJ7_charAt (d + 4) B Qr Qx 15 lo [gI (nI (gch k i))] h u) : gT mJ7_charAt (d + 4) B Qr Qx 7 lo [] h u := by
  intro p l e s mi args below meth c D base ad0 h0 H locs ls ad cx ex e2 rp vs lk sl u1 u2
  obtain ⟨c1, c2, c3⟩ := gch_all k hk
  obtain ⟨c4, c5, c6⟩ := c3 i (by omega) hi
  obtain ⟨⟨adV, g, -⟩, -, -, -, -, -, gz⟩ := cx.2.2.2.2.2.2.2.2.2.2.1
  have hk' : k < gStr.length := by rw [gStr_22]; exact hk
  obtain ⟨g0, -, g1, g2⟩ := g k hk'
  rw [c2] at g2
  rw [← e2 2 k (Or.inl ⟨rfl, hk'⟩)] at g1
  have hts := gcx_hts cx
  refine lv_aload_n cx.1 cx.2.1 dJ7_charAt_7 rfl (lk.2.2.2 _ _ l0).1 ?_
  refine vk_getf cx.1 cx.2.1 g1 vs cx.2.2.2.2.2.1 (hts _ q2096) (fun _ x => x) dJ7_charAt_8 ?_
  refine lv_iload_n cx.1 cx.2.1 dJ7_charAt_11 rfl (lk.2.2.2 _ _ l1).1 ?_
  refine gk_call (As := [.ref (adV k), .int (nI i)]) (rest := []) (n := 2) cx.1 cx.2.1 cx.2.2.2.2.2.1 hts (k_J8 l (d + 1) i (gsl k) (adV k) (gch k i) (fun j => (gbyt.getD k []).getD j 0) (fun q => base ≤ q) hi (by omega) c4 (by omega))
    (gJ8P_bl _ _ _ _ _) (fun U hU hW => gJ8P_at (g2.kept vs.2.1) (gz.kept vs.2.1) hU hW) (by decide) ⟨by decide, by decide, by decide +kernel⟩ q878 q879 q156 q880 rfl (lk.1.trans cx.2.2.2.1.symm) (by decide) u1 u2 dJ7_charAt_12 ?_
  exact K p l e s mi args below meth c D base ad0 h0 H locs ls ad cx ex e2 rp vs lk (glc trivial sl) u1 u2
end GCH
set_option maxRecDepth 100000 in
theorem p_charAt (d k i : Nat) (hk : k < 22) (hi : i < gsl k) (H : Hp) : gP mJ7_charAt (d + 4) [gR (some (2, k)), gI (nI i)] H (gI (nI (gch k i))) := by
  have hc : gch k i < 128 := by
    obtain ⟨c1, c2, c3⟩ := gch_all k hk
    have := (c3 i (by omega) hi).2.2
    omega
  have hfn : narrow .char (.int (nI (gch k i))) = .int (nI (gch k i)) := by
    have : ∀ x, x < 128 → narrow .char (.int (nI x)) = .int (nI x) := by decide +kernel
    exact this _ hc
  refine gTM_of kJ7_charAt rfl rfl ?_
  refine gT_go 400 [7] kJ7_charAt ?_
  refine gP_use (p_isLatin1 (d + 2) k (by rw [gStr_22]; exact hk) H) ?_
  refine And.intro (fun q => absurd q (by decide)) (fun _ => ?_)
  refine gT_chr hk hi rfl rfl ?_
  exact gT_nret rfl hfn dJ7_charAt_15 ⟨rfl, rfl⟩
/-- a text as a word: five bits a letter -/
def wv (k : Nat) : Nat → Nat
  | 0 => 0
  | i + 1 => 2 ^ 5 * wv k i + (gch k i - 96)
def wd (k : Nat) : Nat := wv k (gsl k)
theorem wv_lt {k : Nat} (hk : k < 22) : ∀ i, i ≤ gsl k → wv k i < 32 ^ i := by
  obtain ⟨c1, c2, c3⟩ := gch_all k hk
  intro i
  induction i with
  | zero => intro _; exact (by decide : 0 < 32 ^ 0)
  | succ i ih =>
    intro h
    have h1 := ih (by omega)
    have h2 := c3 i (by omega) (by omega)
    rw [wv, Nat.pow_succ]
    omega
set_option maxRecDepth 100000 in
theorem p_of (d k : Nat) (hk : k < 22) (H : Hp) : gP mX12_of (d + 5) [gR (some (2, k))] H (gI (nI (wd k))) := by
  obtain ⟨c1, c2, c3⟩ := gch_all k hk
  have hk' : k < gStr.length := by rw [gStr_22]; exact hk
  have hlen : gP mJ7_length (d + 4) [gR (some (2, k))] H (gI (nI (gsl k))) := by rw [← c2]; exact p_length (d + 2) k hk' H
  refine gEnter 400 [4] kX12_of rfl rfl ?_
  refine gT_for (σ := Unit) (pc := 4) (lo := fun i _ => [some (gR (some (2, k))), some (gI (nI (wv k i))), some (gI (nI i))]) (hp := fun _ _ => H) (Inv := fun _ _ => True) (gsl k) ?_ ?_ 0 () (Nat.zero_le _) trivial (by (repeat' apply And.intro) <;> first | rfl | trivial | exact congrArg Sum.inl (nI_1 _).symm | exact congrArg Sum.inl (nI_1 _).symm)
  · intro _ _
    refine gT_go 400 [4] kX12_of ?_
    refine gP_use (hlen) ?_
    refine bGe (gsl k) (gsl k) rfl rfl (fun _ => ⟨rfl, rfl⟩) (fun q => absurd q (by omega))
  · intro i _ hi _ hnext
    obtain ⟨-, z1, z2⟩ := c3 i (by omega) hi
    have hw := wv_lt hk i (by omega)
    have h6 : 32 ^ i ≤ 32 ^ 5 := Nat.pow_le_pow_right (by decide) (by omega)
    refine gT_go 400 [4] kX12_of ?_
    refine gP_use (hlen) ?_
    refine bGe i (gsl k) rfl rfl (fun q => absurd q (by omega)) (fun _ => ?_)
    refine gP_use (p_charAt d k i hk hi H) ?_
    have ev : (nI (wv k i) <<< (nI 5 &&& 31)) ||| (nI (gch k i) - 96) = nI (wv k (i + 1)) := by
      rw [wv, pk_shlN _ 5 (gs_l 5 (by decide)) (by omega), Nat.two_pow_add_eq_or_of_lt (by omega : gch k i - 96 < 2 ^ 5), ← gIor, Nat.mul_comm]
      exact congrArg (fun z => nI (2 ^ 5 * wv k i) ||| z) (pk_sub (b := 96) (by omega))
    refine hnext () _ trivial ?_
    rw [← ev]
    exact (by (repeat' apply And.intro) <;> first | rfl | trivial | exact congrArg Sum.inl (nI_1 _).symm | exact congrArg Sum.inl (nI_1 _).symm)
