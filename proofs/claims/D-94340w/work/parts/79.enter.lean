/-! ===== the law's own code: its tuple, its entry, its end (printed by gen_law.py) ===== -/
def mLw (nm : String) (hh : List (Nat × Nat × Nat × Nat)) (I : List (Nat × Instr × Nat)) : GM := (⟨RX0, nm, "([I)Z"⟩, cL_law, 8, some .boolean, RX0, 0, false, gfl_X0, I, hh)
theorem kLw {nm : String} {hh : List (Nat × Nat × Nat × Nat)} {I : List (Nat × Instr × Nat)} (h : gDec cL_law I) : gMok (mLw nm hh I) := ⟨h, gfl_X0_ok, fun q => absurd (show false = true from q) Bool.false_ne_true, rfl, rfl, (by decide +kernel : plainName RX0 = true), (by decide : 8 ≤ 14)⟩
/-- another part of the law's code -/
theorem gT_lw {nm : String} {hh : List (Nat × Nat × Nat × Nat)} {I J : List (Nat × Instr × Nat)} {d : Nat} {B : Nat × Nat} {Qr : List AV → Hp → Prop} {Qx : Rf → Hp → Prop} {pc : Nat} {lo : Lo} {st : List AV} {h : Hp} {u : Nat × Nat} (hJ : gDec cL_law J) (K : gT (mLw nm hh J) d B Qr Qx pc lo st h u) : gT (mLw nm hh I) d B Qr Qx pc lo st h u := by
  intro p l e s mi args below meth c D base ad0 h0 H locs ls ad cx
  obtain ⟨c1, c2, c3, c4, c5, c6, c7, c8, c9, c10, c11, c12, c13, c14⟩ := cx
  exact K p l e s mi args below meth c D base ad0 h0 H locs ls ad ⟨c1, c2, c3, c4, c5, c6, c7, c8, c9, c10, c11, c12, kLw hJ, c14⟩
theorem hasRoom_le {s : State} {pl : Platform} {r r' : Room} (h : s.hasRoom pl r = true) (h1 : r'.frames ≤ r.frames) (h2 : r'.cells ≤ r.cells) (h3 : r'.slots ≤ r.slots) (h4 : r'.locals ≤ r.locals) : s.hasRoom pl r' = true := by
  simp only [State.hasRoom, Bool.and_eq_true, decide_eq_true_eq] at h ⊢
  obtain ⟨⟨⟨⟨q1, q2, q3, q4, q5, q6⟩, q7⟩, q8⟩, q9⟩ := h
  exact ⟨⟨⟨⟨by omega, by omega, by omega, by omega, by omega, q6⟩, by omega⟩, by omega⟩, q9⟩
theorem W_room {p : Program} {l : Launch} {e : Env} {R R' : Room} {s : State} {m : MethodId} {args : Array Value} {below : List Frame} {meth : Method} {c : Code} {H : Heap} {locs : List Loc} {cells slots : Nat} {Q : State → Prop} {g : JFrame} (h1 : R'.frames ≤ R.frames) (h2 : R'.cells ≤ R.cells) (h3 : R'.slots ≤ R.slots) (h4 : R'.locals ≤ R.locals) (k : W p l e R' s m args below meth c H locs cells slots Q g) : W p l e R s m args below meth c H locs cells slots Q g := by
  intro T hT X
  exact k T hT ⟨X.admits, X.cas, X.clock, X.frames, hasRoom_le X.room h1 h2 h3 h4, X.hears, X.method, X.code, X.here, X.tail, X.warmed, X.limits, X.bytes, X.same⟩
theorem sameButNew_forget {s t : State} {L : List Loc} {k n : Nat} (h : s.sameButNew t L k n) (hL : ∀ q ∈ L, s.heap.size ≤ q.base) : s.sameButNew t [] k n := by
  obtain ⟨h1, h2, h3, h4, h5, h6⟩ := h
  refine ⟨h1, h2, h3, h4, h5, fun a c ha => ?_⟩
  obtain ⟨c', q1, q2, q3, q4⟩ := h6 a c ha
  refine ⟨c', q1, q2, q3, fun i _ => q4 i (fun z => ?_)⟩
  have h7 : s.heap.size ≤ a := hL _ z
  exact absurd (Array.getElem?_eq_some_iff.mp ha).1 (Nat.not_lt.mpr h7)
def iLw_0 : List (Nat × Instr × Nat) := [(0, .new 8, 3), (3, .dup, 1), (4, .invokespecial 153, 3), (7, .astore_n 1, 1), (8, .new 154, 3), (11, .dup, 1), (12, .invokespecial 156, 3), (15, .astore_n 2, 1), (16, .iconst 1, 1), (17, .newarray .long, 2), (19, .astore_n 3, 1), (20, .iconst 0, 1), (21, .istore 4, 2), (23, .iload 4, 2), (25, .aload_n 0, 1), (26, .arraylength, 1), (27, .bipush 6, 2), (29, .isub, 1), (30, .if_icmp .gt 2993, 3), (33, .aload_n 0, 1), (34, .iload 4, 2), (36, .iaload, 1), (37, .bipush 63, 2)]
theorem kdLw_0 : gDec cL_law iLw_0 := gd_c dL_law_0 (gd_c dL_law_3 (gd_c dL_law_4 (gd_c dL_law_7 (gd_c dL_law_8 (gd_c dL_law_11 (gd_c dL_law_12 (gd_c dL_law_15 (gd_c dL_law_16 (gd_c dL_law_17 (gd_c dL_law_19 (gd_c dL_law_20 (gd_c dL_law_21 (gd_c dL_law_23 (gd_c dL_law_25 (gd_c dL_law_26 (gd_c dL_law_27 (gd_c dL_law_29 (gd_c dL_law_30 (gd_c dL_law_33 (gd_c dL_law_34 (gd_c dL_law_36 (gd_c dL_law_37 (gd_n)))))))))))))))))))))))
/-- the law's entry: it is enough to walk it in the base's own form -/
theorem st_enter {p : Program} {e : Env} {s : State} {m : MethodId} {below : List Frame} {meth : Method} {c : Code} (l : Launch) (hflags : l.flags = flags0) {b L : Nat} {xs : Nat → Int32} (hL : L ≤ 384) (C0 : lw_At p s m meth c b L xs)
    (K : ∀ nm hh, gT (mLw nm hh iLw_0) 1876 (1200384, 5486250) (fun v _ => v = [gI 1]) (fun _ _ => False) 0 (gent 8 [gR (some (1, 0))]) [] (sH0 xs L) (0, 0)) :
    W p l e room_1 s m #[Value.ref b] below meth c s.heap [] 0 0 (lw_Z below #[Value.ref b] s) (entryFrame m ([Value.ref b] : List Value).toArray 8) := by
  obtain ⟨a1, a2, a3, a4, a5, a6, a7, a8, a9, a10⟩ := C0
  have hf : ∀ w ∈ gFl, w.before #[Value.ref b] s = true := flat_of_before _ a10
  obtain ⟨D, ad, k1, k2, k3, e1⟩ := st_all hL a6 hf a7
  have hst : l.stackTraces = false := by unfold Launch.stackTraces; rw [hflags]; decide
  refine W_room (R' := grm 1876 (1200384, 5486250)) (Nat.le_of_ble_eq_true rfl) (Nat.le_refl _) (Nat.le_refl _) (Nat.le_of_ble_eq_true rfl) ?_
  rw [lg_entry_eq]
  have hls := lv_entry [Value.ref b] (n := 8) (Nat.le_of_ble_eq_true rfl)
  have hlv : glv (sH0 xs L) (gR (some (1, 0))) := Nat.zero_lt_one
  have ev : ([gR (some (1, 0))] : List AV).map (gtr ad) = [Value.ref b] := congrArg (fun z => [Value.ref z]) e1
  have k := K meth.name (c.exceptionTable.toList.map (fun x => (x.startPc, x.endPc, x.handlerPc, x.catchType))) p l e s m #[Value.ref b] below meth c D s.heap.size ad (sH0 xs L) s.heap [] ((lg_sl [Value.ref b] ++ List.replicate (8 - (lg_sl [Value.ref b]).length) Slot.unset).toArray) ad
    ⟨a1, a2, a3, a4, a9, a5, rfl, hst, fun w hw => a6 w (lw_all_tbl hw), k1, k2, Nat.le_refl _, kLw kdLw_0, rfl⟩
    (gext_rf _ ad) (fun _ _ _ => rfl) k3 va_S.rf ⟨hls.1, hls.2.1, gent_len _ _ (Nat.le_of_ble_eq_true rfl), fun i v hi => ?_⟩ (fun _ q => absurd q List.not_mem_nil) (Nat.zero_le _) (Nat.zero_le _)
  · intro T hT X
    obtain ⟨t, q1, o, q2, q3, q4⟩ := k T hT X
    refine ⟨t, q1, o, q2, q3, ?_⟩
    rcases q4 with ⟨⟨v, h', ad', w1, w2, w3, -⟩, Lc, ⟨w4, w5, w6⟩, w7⟩ | ⟨q0, w1, E, ce, Lc, ⟨q, h', ad', ci, r, -, w2, -⟩, -⟩
    · subst w3
      exact ⟨w1, w4, w5, sameButNew_forget w6 w7⟩
    · exact w2.elim
  · obtain ⟨q1, q2⟩ := gent_args ad [gR (some (1, 0))] 8 0 i v hi
    rw [Nat.zero_add, ev] at q1
    refine ⟨hls.2.2 _ q1, ?_⟩
    cases List.mem_singleton.mp q2
    exact hlv
