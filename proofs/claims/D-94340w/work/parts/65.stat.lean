/-! ===== words of statics; the fields of a String constant ===== -/
section GST
variable {m : GM} {d : Nat} {B : Nat × Nat} {Qr : List AV → Hp → Prop} {Qx : Rf → Hp → Prop} {u : Nat × Nat} {pc : Nat} {lo : Lo} {r : List AV} {h : Hp} {index k : Nat}
/-- getstatic String.COMPACT_STRINGS -/
theorem gT_gsC (hd : decode (gmC m) pc = .ok (.getstatic index, 3)) (hw : Cond.fieldLink (gmO m) index "java/lang/String" "COMPACT_STRINGS" "Z" ∈ lw_all) (H : gT m d B Qr Qx (pc + 3) lo (gI 1 :: r) h u) : gT m d B Qr Qx pc lo r h u := by
  intro p l e s mi args below meth c D base ad0 h0 Hh locs ls ad cx ex e2 rp vs lk sl u1 u2
  have g := cx.2.2.2.2.2.2.2.2.2.2.1.2.2.2.2.1
  exact va_gets cx.1 cx.2.1 g vs cx.2.2.2.2.2.1 (cx.2.2.2.2.2.2.2.2.1 _ hw) (fun _ x => x) hd (H p l e s mi args below meth c D base ad0 h0 Hh locs ls ad cx ex e2 rp vs lk (glc trivial sl) u1 u2)
/-- getstatic ArrayList.DEFAULTCAPACITY_EMPTY_ELEMENTDATA -/
theorem gT_gsE (hd : decode (gmC m) pc = .ok (.getstatic index, 3)) (hw : Cond.fieldLink (gmO m) index "java/util/ArrayList" "DEFAULTCAPACITY_EMPTY_ELEMENTDATA" "[Ljava/lang/Object;" ∈ lw_all) (H : gT m d B Qr Qx (pc + 3) lo (gR (some (3, 0)) :: r) h u) : gT m d B Qr Qx pc lo r h u := by
  intro p l e s mi args below meth c D base ad0 h0 Hh locs ls ad cx ex e2 rp vs lk sl u1 u2
  have g := cx.2.2.2.2.2.2.2.2.2.2.1.2.2.2.2.2.1
  have ea : ad 3 0 = ad0 3 0 := e2 3 0 (Or.inr ⟨rfl, rfl⟩)
  have hv : glv h (gR (some (3, 0))) := gfx_C rp (Or.inr ⟨rfl, rfl⟩)
  rw [← ea] at g
  exact va_gets cx.1 cx.2.1 g vs cx.2.2.2.2.2.1 (cx.2.2.2.2.2.2.2.2.1 _ hw) (fun _ x => x) hd (H p l e s mi args below meth c D base ad0 h0 Hh locs ls ad cx ex e2 rp vs lk (glc hv sl) u1 u2)
/-- a constant's coder -/
theorem gT_gfC (hk : k < gStr.length) (hd : decode (gmC m) pc = .ok (.getfield index, 3)) (hw : Cond.fieldLink (gmO m) index "java/lang/String" "coder" "B" ∈ lw_all) (H : gT m d B Qr Qx (pc + 3) lo (gI 0 :: r) h u) : gT m d B Qr Qx pc lo (gR (some (2, k)) :: r) h u := by
  intro p l e s mi args below meth c D base ad0 h0 Hh locs ls ad cx ex e2 rp vs lk sl u1 u2
  obtain ⟨adV, g, -⟩ := cx.2.2.2.2.2.2.2.2.2.2.1.1
  have g1 := (g k hk).2.1
  rw [← e2 2 k (Or.inl ⟨rfl, hk⟩)] at g1
  exact vk_getf cx.1 cx.2.1 g1 vs cx.2.2.2.2.2.1 (cx.2.2.2.2.2.2.2.2.1 _ hw) (fun _ x => x) hd (H p l e s mi args below meth c D base ad0 h0 Hh locs ls ad cx ex e2 rp vs lk (glc trivial (gl1 sl)) u1 u2)
/-- how many bytes a constant has -/
theorem gT_gfV (hk : k < gStr.length) (hd : decode (gmC m) pc = .ok (.getfield index, 3)) (hw : Cond.fieldLink (gmO m) index "java/lang/String" "value" "[B" ∈ lw_all) (hd2 : decode (gmC m) (pc + 3) = .ok (.arraylength, 1)) (H : gT m d B Qr Qx (pc + 4) lo (gI (nI (glen.getD k 0)) :: r) h u) : gT m d B Qr Qx pc lo (gR (some (2, k)) :: r) h u := by
  intro p l e s mi args below meth c D base ad0 h0 Hh locs ls ad cx ex e2 rp vs lk sl u1 u2
  obtain ⟨adV, g, -⟩ := cx.2.2.2.2.2.2.2.2.2.2.1.1
  obtain ⟨-, -, g1, g2⟩ := g k hk
  rw [← e2 2 k (Or.inl ⟨rfl, hk⟩)] at g1
  exact vk_getf cx.1 cx.2.1 g1 vs cx.2.2.2.2.2.1 (cx.2.2.2.2.2.2.2.2.1 _ hw) (fun _ x => x) hd
    (va_tlen cx.1 cx.2.1 g2 vs (v := nI (glen.getD k 0)) rfl hd2 (H p l e s mi args below meth c D base ad0 h0 Hh locs ls ad cx ex e2 rp vs lk (glc trivial (gl1 sl)) u1 u2))
/-- ireturn of a narrow kind -/
theorem gT_nret {x : Int32} {ty : FieldType} (e1 : gmR m = some ty) (hn : narrow ty (.int x) = .int x) (hd : decode (gmC m) pc = .ok (.ireturn, 1)) (hq : Qr [gI x] h) : gT m d B Qr Qx pc lo [gI x] h u := by
  intro p l e s mi args below meth c D base ad0 h0 Hh locs ls ad cx ex e2 rp vs lk sl u1 u2
  exact vx_ret (W.widen (k := B.1) (n := B.2) u1 u2 (W.zret cx.1 cx.2.1 (cx.2.2.1.trans e1) hn (fun t ht hW => ⟨[gI x], h, ad, rfl, Nat.le_refl 1, hq, by rw [ht]; exact rp, ex, fun y hy => by rw [List.mem_singleton.mp hy]; trivial, vs.F ht⟩) vs.2.2 hd cx.2.2.2.2.1))
end GST
set_option maxRecDepth 100000 in
theorem p_coder (d k : Nat) (hk : k < gStr.length) (H : Hp) : gP mJ7_coder (d + 1) [gR (some (2, k))] H (gI 0) := by
  refine gTM_of kJ7_coder rfl rfl ?_
  refine gT_gsC dJ7_coder_0 q864 ?_
  refine gT_go 400 [7, 14] kJ7_coder ?_
  refine And.intro (fun q => absurd q (by decide)) (fun _ => ?_)
  refine gT_gfC hk dJ7_coder_7 q2097 ?_
  refine gT_go 400 [14] kJ7_coder ?_
  exact gT_nret rfl rfl dJ7_coder_14 ⟨rfl, rfl⟩
set_option maxRecDepth 100000 in
theorem p_isLatin1 (d k : Nat) (hk : k < gStr.length) (H : Hp) : gP mJ7_isLatin1 (d + 1) [gR (some (2, k))] H (gI 1) := by
  refine gTM_of kJ7_isLatin1 rfl rfl ?_
  refine gT_gsC dJ7_isLatin1_0 q864 ?_
  refine gT_go 400 [7] kJ7_isLatin1 ?_
  refine And.intro (fun q => absurd q (by decide)) (fun _ => ?_)
  refine gT_gfC hk dJ7_isLatin1_7 q2097 ?_
  refine gT_go 400 [] kJ7_isLatin1 ?_
  refine And.intro (fun q => absurd rfl q) (fun _ => ?_)
  exact ⟨Or.inr rfl, rfl, rfl⟩
set_option maxRecDepth 100000 in
theorem p_length (d k : Nat) (hk : k < gStr.length) (H : Hp) : gP mJ7_length (d + 2) [gR (some (2, k))] H (gI (nI (glen.getD k 0))) := by
  refine gTM_of kJ7_length rfl rfl ?_
  refine gT_go 400 [1] kJ7_length ?_
  refine gT_gfV hk dJ7_length_1 q2096 dJ7_length_4 ?_
  refine gT_go 400 [] kJ7_length ?_
  refine gP_use (p_coder d k hk H) ?_
  exact ⟨congrArg (fun z => [gI z]) (by rw [show (0 : Int32) &&& 31 = 0 from rfl]; exact Int32.shiftRight_zero), rfl⟩
