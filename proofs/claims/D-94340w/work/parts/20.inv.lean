/-! ===== soundness: what a call brings back; a throw; blocks ===== -/
theorem gkS {n k : Nat} (h : glk gktl n = some (.inr (.inr k))) : k < gStr.length := by
  have h3 := glk_all (P := gKtOk) gktl gktl_ok _ _ h
  exact h3.1
theorem gsum_cat (ad : Nat → Nat → Nat) : ∀ (r : List AV), ((r.map (gtr ad)).map fun v => v.category).sum = gsum r := by
  intro r
  induction r with
  | nil => rfl
  | cons v r ih =>
    show (gtr ad v).category + ((r.map (gtr ad)).map fun v => v.category).sum = gcat v + gsum r
    rw [ih, gtr_cat]
theorem gmap_ext {h h' : Hp} {ad ad' : Nat → Nat → Nat} (e : gext h ad h' ad') : ∀ (r : List AV), (∀ v ∈ r, glv h v) → r.map (gtr ad') = r.map (gtr ad) := by
  intro r
  induction r with
  | nil => intro _; rfl
  | cons v r ih =>
    intro hl
    show gtr ad' v :: r.map (gtr ad') = gtr ad v :: r.map (gtr ad)
    rw [ih (gl1 hl), gtr_ext e (gl0 hl)]
theorem glok_ext {h h' : Hp} {ad ad' : Nat → Nat → Nat} (e : gext h ad h' ad') {n : Nat} {lo : Lo} {ls : Array Slot} (k : glok ad h n lo ls) : glok ad' h' n lo ls :=
  ⟨k.1, k.2.1, k.2.2.1, fun i v hv => ⟨by rw [gtr_ext e (k.2.2.2 i v hv).2]; exact (k.2.2.2 i v hv).1, glv_ext e (k.2.2.2 i v hv).2⟩⟩
theorem gret_st (ad : Nat → Nat → Nat) {v : List AV} (hv : v.length ≤ 1) (r : List AV) : (v.head?.map (gtr ad)).toList ++ r.map (gtr ad) = (v ++ r).map (gtr ad) := by
  match v, hv with
  | [], _ => rfl
  | [x], _ => rfl
  | _ :: _ :: _, hv => exact absurd hv (by simp)
theorem va_S_tr {A : Nat → Prop} {H0 H H1 : Heap} {locs L : List Loc} (h : va_S A H0 H locs) (hz : H.size ≤ H1.size) (hk : ∀ q : Nat, q < H.size → ¬ A q → H1[q]? = H[q]?) (hL : ∀ q ∈ L, A q.base) : va_S A H0 H1 (locs ++ L) :=
  ⟨Nat.le_trans h.1 hz, fun q q1 q2 => (hk q (Nat.lt_of_lt_of_le q1 h.1) q2).trans (h.2.1 q q1 q2), fun q hq => (List.mem_append.mp hq).elim (h.2.2 q) (hL q)⟩
/-- a call, with what it may bring back -/
theorem gcall_go {m m' : GM} {d : Nat} {B k u : Nat × Nat} {Qr Qr' : List AV → Hp → Prop} {Qx Qx' : Rf → Hp → Prop} {pc ln : Nat} {lo : Lo} {av r : List AV} {h : Hp} {o n : Nat} {ins : Instr} {C : Option String} {full : List AV} {st : List AV}
    (hst : match C with
      | none => full = av ∧ st = av.reverse ++ r
      | some C => ∃ q : Rf, full = gR (some q) :: av ∧ st = av.reverse ++ gR (some q) :: r ∧ ((∃ (ci : Nat) (rr : vw_C), grk q.1 = some (.inl ci) ∧ q.1 ≠ 2 ∧ gcl[ci]? = some rr ∧ rr.1 = C) ∨ (q.1 = 2 ∧ q.2 < gStr.length ∧ C = "java/lang/String")))
    (ho : gmo m = o) (hCa : gCall o ins ln C m' n) (hM : gTM m' d k full h Qr' Qx') (hd : decode (gmC m) pc = .ok (ins, ln)) (hn : av.length = n) (hr : gsum r ≤ 16) (hu1 : u.1 + k.1 ≤ B.1) (hu2 : u.2 + k.2 ≤ B.2)
    (kk : ∀ v h', Qr' v h' → gT m (d + 1) B Qr Qx (pc + ln) lo (v ++ r) h' (u.1 + k.1, u.2 + k.2))
    (kx : ∀ q h', Qx' q h' → gTX m (d + 1) B Qr Qx pc lo q h' (u.1 + k.1, u.2 + k.2)) : gT m (d + 1) B Qr Qx pc lo st h u := by
  intro p l e s mi args below meth c D base ad0 h0 H locs ls ad cx ex e2 rp vs lk sl u1 u2
  have hfull : ∀ v ∈ full, glv h v := by
    cases C with
    | none =>
      obtain ⟨rfl, rfl⟩ := hst
      exact fun v hv => sl v (List.mem_append_left _ (List.mem_reverse.mpr hv))
    | some C =>
      obtain ⟨q, rfl, rfl, -⟩ := hst
      intro v hv
      rcases List.mem_cons.mp hv with rfl | hv
      · exact sl _ (List.mem_append_right _ List.mem_cons_self)
      · exact sl v (List.mem_append_left _ (List.mem_reverse.mpr hv))
  have hrl : ∀ v ∈ r, glv h v := by
    cases C with
    | none =>
      obtain ⟨rfl, rfl⟩ := hst
      exact fun v hv => sl v (List.mem_append_right _ hv)
    | some C =>
      obtain ⟨q, rfl, rfl, -⟩ := hst
      exact fun v hv => sl v (List.mem_append_right _ (List.mem_cons_of_mem _ hv))
  have hgold : gold base ad s s.heap := gold_ad cx.2.2.2.2.2.2.2.2.2.2.1 e2 (fun n k h => gkS h)
  have hrun := hCa (k := k) (below := below) (H := H) (locs := locs) (cells := u.1) (slots := u.2) (Pc := gPc D base ad full h) (Qc := gQc D base ad h Qr') (XC := gXC D base ad h Qx') (free := fun q => base ≤ q) (As := av.map (gtr ad)) (full := full.map (gtr ad)) (st := st.map (gtr ad)) (rest := r.map (gtr ad)) (pc := pc) (ls := ls) (e := e)
    ho cx (hM l cx.2.2.2.2.2.2.2.1 D base ad hfull) (gPc_blind D base ad full h)
    (fun U hU hW => ⟨rfl, by rw [hU]; exact rp, gK_warm hW cx.2.2.2.2.2.2.2.2.2.1, gold_warm hW hgold (fun a h1 h2 => by rw [hU]; exact vs.2.1 a h1 h2)⟩)
    (by
      cases C with
      | none =>
        obtain ⟨rfl, rfl⟩ := hst
        exact ⟨rfl, by rw [List.map_append, List.map_reverse]⟩
      | some C =>
        obtain ⟨q, rfl, rfl, hq⟩ := hst
        refine ⟨ad q.1 q.2, rfl, by rw [List.map_append, List.map_reverse]; rfl, ?_⟩
        have hl : q.2 < hC h q.1 := (sl _ (List.mem_append_right _ List.mem_cons_self) : glv h (gR (some q)))
        rcases hq with ⟨ci, rr, q1, q2, q3, rfl⟩ | ⟨q1, q2, rfl⟩
        · obtain ⟨rr', cell, g1, g2, g3, g4, -⟩ := ggatO rp q2 hl q1
          exact ⟨cell, g2, by rw [g4]; rfl, by rw [g3]; exact (gclassAt cx.2.2.2.2.2.2.2.2.2.1 q3).1⟩
        · obtain ⟨⟨adV, hS⟩, -⟩ := hgold
          rw [q1]
          exact vk_recv hS q2 vs)
    (by rw [List.length_map]; exact hn) (by rw [lk.1]; exact cx.2.2.2.1.symm) (by rw [gsum_cat]; exact hr) hu1 hu2 hd
  intro T hT XS
  rcases hrun T hT XS with ⟨v, st₀, t, T', L, q1, q2, q3, q4, q5, ⟨v', h', ad', w1, w2, w3, w4, w5, w6, w7⟩, q7⟩ | ⟨q, st₀, t, T', L, E, ce, q1, q2, q3, q4, q5, ⟨q', h', ad', ci, rr, w0, w1, w2, w3, w4, w45, w5, w6, w7, w8⟩, q7, q8, q9, q10⟩
  · cases w1
    have hz : H.size ≤ T'.heap.size := by rw [q4, ← q1]; exact w7.1
    have hk2 : ∀ q : Nat, q < H.size → ¬ base ≤ q → T'.heap[q]? = H[q]? := fun q a b => by rw [q4, ← q1]; exact w7.2 q (by rw [q1]; exact a) b
    have h1 := kk v' h' w3 p l e s mi args below meth c D base ad0 h0 T'.heap (locs ++ L) ls ad' cx (gext_tr ex w5) (fun b i hb => (w5 b i (gfx_C rp hb)).2.trans (e2 b i hb)) (by rw [q4]; exact w4) (va_S_tr vs hz hk2 q3) (glok_ext w5 lk)
      (fun y hy => (List.mem_append.mp hy).elim (w6 y) (fun z => glv_ext w5 (hrl y z))) hu1 hu2
    rw [← gret_st ad' w2, gmap_ext w5 r hrl] at h1
    obtain ⟨t2, a1, b1⟩ := h1 T' rfl q2
    exact ⟨t2, q7 t2 a1, b1⟩
  · have hz : H.size ≤ T'.heap.size := by rw [q4, ← q1]; exact w8.1
    have hk2 : ∀ q : Nat, q < H.size → ¬ base ≤ q → T'.heap[q]? = H[q]? := fun q a b => by rw [q4, ← q1]; exact w8.2 q (by rw [q1]; exact a) b
    have h1 := kx q' h' w1 p l e s mi args below meth c D base ad0 h0 T'.heap (locs ++ L) ls ad' (r.map (gtr ad)) cx (gext_tr ex w3) (fun b i hb => (w3 b i (gfx_C rp hb)).2.trans (e2 b i hb)) (by rw [q4]; exact w2) (va_S_tr vs hz hk2 q3) (glok_ext w3 lk) w4 w45 ⟨ci, w5⟩ hu1 hu2
    obtain ⟨t2, a1, b1⟩ := h1 T' rfl q2
    rw [w0] at q10
    exact ⟨t2, q10.trans a1, b1⟩
theorem gtk_spec : ∀ (n : Nat) (acc st av r : List AV), gtk n acc st = some (av, r) → av.reverse ++ r = acc.reverse ++ st ∧ av.length = acc.length + n := by
  intro n
  induction n with
  | zero =>
    intro acc st av r h
    cases h
    exact ⟨rfl, rfl⟩
  | succ n ih =>
    intro acc st av r h
    cases st with
    | nil => cases h
    | cons v st =>
      obtain ⟨h1, h2⟩ := ih (v :: acc) st av r h
      refine ⟨h1.trans (by simp), h2.trans (by simp; omega)⟩
theorem gtk_0 {n : Nat} {st av r : List AV} (h : gtk n [] st = some (av, r)) : st = av.reverse ++ r ∧ av.length = n := by
  obtain ⟨h1, h2⟩ := gtk_spec n [] st av r h
  exact ⟨h1.symm, h2.trans (by simp)⟩
theorem glk_mem {α : Type} : ∀ (l : List (Nat × α)) (n : Nat) (v : α), glk l n = some v → (n, v) ∈ l := by
  intro l
  induction l with
  | nil => intro n v h; cases h
  | cons a r ih =>
    intro n v h
    obtain ⟨k, x⟩ := a
    unfold glk at h
    by_cases e : Nat.beq k n = true
    · rw [e] at h
      cases h
      rw [Nat.eq_of_beq_eq_true e]
      exact List.mem_cons_self
    · have e2 : Nat.beq k n = false := by cases hq : Nat.beq k n; rfl; exact absurd hq e
      rw [e2] at h
      exact List.mem_cons_of_mem _ (ih n v h)
theorem gbif {b : Bool} {A : Prop} (h : bif b then A else False) : b = true ∧ A := by
  cases b with
  | true => exact ⟨rfl, h⟩
  | false => exact h.elim
theorem gad0 {n : Nat} : n + 0 = n := rfl
theorem gob_ok {o idx : Nat} {v : Unit} (h : gob o idx = some v) : Cond.methodLink (gown o) idx Lib.objectInit ∈ lw_all := by
  unfold gob at h
  cases e : Nat.ble idx 1023 with
  | true =>
    rw [e] at h
    have h1 : idx < 1024 := Nat.lt_succ_of_le (Nat.le_of_ble_eq_true e)
    have h3 := glk_all (P := fun n _ => Cond.methodLink (gown (n / 1024)) (n % 1024) Lib.objectInit ∈ lw_all) gobl gobl_ok _ _ h
    rw [(gdm h1).1, (gdm h1).2] at h3
    exact h3
  | false => rw [e] at h; cases h
theorem gmt_ok {o idx k : Nat} (h : gmt o idx = some k) : (k = 0 → Cond.methodLink (gown o) idx Lib.Math.max.name ∈ lw_all) ∧ (k = 1 → Cond.methodLink (gown o) idx Lib.Math.min.name ∈ lw_all) ∧ (k = 2 → Cond.methodLink (gown o) idx Lib.MathLoose.min_long.x ∈ lw_all) := by
  unfold gmt at h
  cases e : Nat.ble idx 1023 with
  | true =>
    rw [e] at h
    have h1 : idx < 1024 := Nat.lt_succ_of_le (Nat.le_of_ble_eq_true e)
    have h3 := glk_all (P := gMtOk) gmtl gmtl_ok _ _ h
    unfold gMtOk at h3
    rw [(gdm h1).1, (gdm h1).2] at h3
    refine ⟨fun q => ?_, fun q => ?_, fun q => ?_⟩ <;> (subst q; exact h3)
  | false => rw [e] at h; cases h
def gciOk (x : Nat × (Nat ⊕ FieldType)) : Bool := match x.2 with | .inl ci => (Nat.ble ci 25 && !(Nat.beq x.1 2)) || (Nat.beq x.1 2 && Nat.beq ci 62) | _ => true
theorem grkl_ci : ∀ x ∈ grkl, gciOk x = true := List.all_eq_true.mp (by decide +kernel)
theorem gcl_some {ci : Nat} (h : ci ≤ 25) : ∃ rr, gcl[ci]? = some rr := by
  have : ci < gcl.length := by
    have h2 : gcl.length = 26 := by decide +kernel
    omega
  exact ⟨_, List.getElem?_eq_getElem this⟩
theorem gcn_of {ci : Nat} {rr : vw_C} (h : gcl[ci]? = some rr) : rr.1 = gcn ci := by
  unfold gcn
  rw [h]
theorem grcv {D : GD} {base : Nat} {ad : Nat → Nat → Nat} {h : Hp} {H : Heap} (rp : grep D base ad h H) {q : Rf} {ci : Nat} (hk : grk q.1 = some (.inl ci)) (hl : q.2 < hC h q.1) : (∃ (ci' : Nat) (rr : vw_C), grk q.1 = some (.inl ci') ∧ q.1 ≠ 2 ∧ gcl[ci']? = some rr ∧ rr.1 = gcn ci) ∨ (q.1 = 2 ∧ q.2 < gStr.length ∧ gcn ci = "java/lang/String") := by
  have h1 := glk_all (P := fun n v => gciOk (n, v) = true) grkl grkl_ci _ _ hk
  simp only [gciOk, Bool.or_eq_true, Bool.and_eq_true, Bool.not_eq_true'] at h1
  rcases h1 with ⟨a, b⟩ | ⟨a, b⟩
  · obtain ⟨rr, hr⟩ := gcl_some (Nat.le_of_ble_eq_true a)
    refine Or.inl ⟨ci, rr, hk, fun z => ?_, hr, gcn_of hr⟩
    rw [z] at b
    cases b
  · have e1 := Nat.eq_of_beq_eq_true a
    have e2 := Nat.eq_of_beq_eq_true b
    subst e2
    exact Or.inr ⟨e1, by rw [e1, rp.2.2.2.2.2.2.1] at hl; exact hl, by decide +kernel⟩
section GS4
variable {m : GM} {d : Nat} {B : Nat × Nat} {Qr : List AV → Hp → Prop} {Qx : Rf → Hp → Prop} {pc : Nat} {u : Nat × Nat} {J : Nat → Lo → List AV → Hp → Prop} {F : Lo → List AV → Hp → Prop} {R : List AV → Hp → Prop} {X : Lo → Rf → Hp → Prop} {C : GM → List AV → Hp → (List AV → Hp → Prop) → (Rf → Hp → Prop) → Prop} {lo : Lo} {st : List AV} {h : Hp}
/-- the receiver's facts are had where the heap is known -/
theorem gT_rep (H : (∀ (D : GD) (base : Nat) (ad : Nat → Nat → Nat) (H : Heap), grep D base ad h H → (∀ v ∈ st, glv h v) → u.1 ≤ B.1 → u.2 ≤ B.2 → gT m d B Qr Qx pc lo st h u)) : gT m d B Qr Qx pc lo st h u := by
  intro p l e s mi args below meth c D base ad0 h0 H_ locs ls ad cx ex e2 rp vs lk sl u1 u2
  exact H D base ad H_ rp sl u1 u2 p l e s mi args below meth c D base ad0 h0 H_ locs ls ad cx ex e2 rp vs lk sl u1 u2
theorem gs_invokestatic {k : Nat} (hd : decode (gmC m) pc = .ok (.invokestatic k, 3)) (HY : gHyp m d B Qr Qx pc 3 u J F R X C) (hg : gx (gmo m) (gmN m) (gmF m) (gmR m) pc (.invokestatic k) lo st h J F R X C) : gT m (d + 1) B Qr Qx pc lo st h u := by
  simp only [gx] at hg
  split at hg
  · next e0 =>
    split at hg
    · next y x r =>
      obtain ⟨hb, hg⟩ := gbif hg
      intro p l e s mi args below meth c D base ad0 h0 H locs ls ad cx ex e2 rp vs lk sl u1 u2
      refine va_mmax cx.1 cx.2.1 (by rw [lk.1]; exact cx.2.2.2.1) (gcx_own cx) (gcx_hts cx _ ((gmt_ok e0).1 rfl)) (gcx_hts cx _ gmt_st0) (gcx_hts cx _ gmt_ini) (gcx_hts cx _ gmt_co0) (Nat.le_add_left 1 d) ?_ u1 u2 hd ?_
      · rw [gsum_cat]; have := Nat.le_of_ble_eq_true hb; show gsum r + 13 ≤ 48 * (d + 1) + 14000; omega
      · exact (HY.2.1 _ _ _ hg p l e s mi args below meth c D base ad0 h0 H locs ls ad cx ex e2 rp vs lk (glc trivial (gl1 (gl1 sl))) u1 u2)
    · exact hg.elim
  · next e0 =>
    split at hg
    · next y x r =>
      obtain ⟨hb, hg⟩ := gbif hg
      intro p l e s mi args below meth c D base ad0 h0 H locs ls ad cx ex e2 rp vs lk sl u1 u2
      refine va_mmin cx.1 cx.2.1 (by rw [lk.1]; exact cx.2.2.2.1) (gcx_own cx) (gcx_hts cx _ ((gmt_ok e0).2.1 rfl)) (gcx_hts cx _ gmt_st1) (gcx_hts cx _ gmt_ini) (gcx_hts cx _ gmt_co1) (Nat.le_add_left 1 d) ?_ u1 u2 hd ?_
      · rw [gsum_cat]; have := Nat.le_of_ble_eq_true hb; show gsum r + 13 ≤ 48 * (d + 1) + 14000; omega
      · exact (HY.2.1 _ _ _ hg p l e s mi args below meth c D base ad0 h0 H locs ls ad cx ex e2 rp vs lk (glc trivial (gl1 (gl1 sl))) u1 u2)
    · exact hg.elim
  · next e0 =>
    split at hg
    · next y x r =>
      obtain ⟨hb, hg⟩ := gbif hg
      intro p l e s mi args below meth c D base ad0 h0 H locs ls ad cx ex e2 rp vs lk sl u1 u2
      refine va_mmin_long cx.1 cx.2.1 (by rw [lk.1]; exact cx.2.2.2.1) (gcx_own cx) (gcx_hts cx _ ((gmt_ok e0).2.2 rfl)) (gcx_hts cx _ gmt_st2) (gcx_hts cx _ gmt_ini) (gcx_hts cx _ gmt_co2) (Nat.le_add_left 1 d) ?_ u1 u2 hd ?_
      · rw [gsum_cat]; have := Nat.le_of_ble_eq_true hb; show gsum r + 15 ≤ 48 * (d + 1) + 14000; omega
      · exact (HY.2.1 _ _ _ hg p l e s mi args below meth c D base ad0 h0 H locs ls ad cx ex e2 rp vs lk (glc trivial (gl1 (gl1 sl))) u1 u2)
    · exact hg.elim
  · exact hg.elim
  · next e0 =>
    split at hg
    · next n al l e1 =>
      split at hg
      · next av r e2 =>
        split at hg
        · next m' e3 =>
          obtain ⟨hb, hg⟩ := gbif hg
          obtain ⟨hst, hav⟩ := gtk_0 e2
          refine gT_rep fun D base ad H rp sl u1 u2 => ?_
          have hC1 : gCall (gmo m) (.invokestatic k) 3 none m' n := gcs_ok e1 _ (glk_mem _ _ _ e3)
          exact gcall_go (C := none) (k := (0, 0)) (Qr' := fun v h' => F lo (v ++ r) h') (Qx' := fun q h' => X lo q h') (⟨rfl, hst⟩) rfl (@hC1) (HY.2.2.2.2 _ _ _ _ _ hg) hd hav (Nat.le_of_ble_eq_true hb) u1 u2 (fun v h' q => HY.2.1 _ _ _ q) (fun q h' z => HY.2.2.2.1 _ _ _ z)
        · exact hg.elim
      · exact hg.elim
    · exact hg.elim
theorem gs_invokevirtual {k : Nat} (hd : decode (gmC m) pc = .ok (.invokevirtual k, 3)) (HY : gHyp m d B Qr Qx pc 3 u J F R X C) (hg : gx (gmo m) (gmN m) (gmF m) (gmR m) pc (.invokevirtual k) lo st h J F R X C) : gT m (d + 1) B Qr Qx pc lo st h u := by
  simp only [gx] at hg
  split at hg
  · next n al l e1 =>
    split at hg
    · next av b j r e2 =>
      split at hg
      · next ci e4 =>
        split at hg
        · next m' e3 =>
          obtain ⟨hb, hg⟩ := gbif hg
          obtain ⟨hst, hav⟩ := gtk_0 e2
          have hC1 : gCall (gmo m) (.invokevirtual k) 3 (some (gcn ci)) m' n := gcv_ok e1 _ (glk_mem _ _ _ e3)
          refine gT_rep fun D base ad H rp sl u1 u2 => ?_
          have hl : j < hC h b := (sl _ (by rw [hst]; exact List.mem_append_right _ List.mem_cons_self) : glv h (gR (some (b, j))))
          exact gcall_go (C := some (gcn ci)) (k := (0, 0)) (Qr' := fun v h' => F lo (v ++ r) h') (Qx' := fun q h' => X lo q h') (⟨(b, j), rfl, hst, grcv rp (q := (b, j)) e4 hl⟩) rfl (@hC1) (HY.2.2.2.2 _ _ _ _ _ hg) hd hav (Nat.le_of_ble_eq_true hb) u1 u2 (fun v h' q => HY.2.1 _ _ _ q) (fun q h' z => HY.2.2.2.1 _ _ _ z)
        · exact hg.elim
      · exact hg.elim
    · exact hg.elim
  · exact hg.elim
theorem gs_invokeinterface {k cnt : Nat} (hd : decode (gmC m) pc = .ok (.invokeinterface k cnt, 5)) (HY : gHyp m d B Qr Qx pc 5 u J F R X C) (hg : gx (gmo m) (gmN m) (gmF m) (gmR m) pc (.invokeinterface k cnt) lo st h J F R X C) : gT m (d + 1) B Qr Qx pc lo st h u := by
  simp only [gx] at hg
  split at hg
  · next n al l e1 =>
    split at hg
    · next av b j r e2 =>
      split at hg
      · next ci e4 =>
        split at hg
        · next m' e3 =>
          obtain ⟨hb, hg⟩ := gbif hg
          obtain ⟨hst, hav⟩ := gtk_0 e2
          have hC1 : gCall (gmo m) (.invokeinterface k cnt) 5 (some (gcn ci)) m' n := gcf_ok e1 _ (glk_mem _ _ _ e3) cnt
          refine gT_rep fun D base ad H rp sl u1 u2 => ?_
          have hl : j < hC h b := (sl _ (by rw [hst]; exact List.mem_append_right _ List.mem_cons_self) : glv h (gR (some (b, j))))
          exact gcall_go (C := some (gcn ci)) (k := (0, 0)) (Qr' := fun v h' => F lo (v ++ r) h') (Qx' := fun q h' => X lo q h') (⟨(b, j), rfl, hst, grcv rp (q := (b, j)) e4 hl⟩) rfl (@hC1) (HY.2.2.2.2 _ _ _ _ _ hg) hd hav (Nat.le_of_ble_eq_true hb) u1 u2 (fun v h' q => HY.2.1 _ _ _ q) (fun q h' z => HY.2.2.2.1 _ _ _ z)
        · exact hg.elim
      · exact hg.elim
    · exact hg.elim
  · exact hg.elim
theorem gs_invokespecial {k : Nat} (hd : decode (gmC m) pc = .ok (.invokespecial k, 3)) (HY : gHyp m d B Qr Qx pc 3 u J F R X C) (hg : gx (gmo m) (gmN m) (gmF m) (gmR m) pc (.invokespecial k) lo st h J F R X C) : gT m (d + 1) B Qr Qx pc lo st h u := by
  simp only [gx] at hg
  split at hg
  · next v e0 =>
    split at hg
    · next q r =>
      obtain ⟨hb, hg⟩ := gbif hg
      intro p l e s mi args below meth c D base ad0 h0 H locs ls ad cx ex e2 rp vs lk sl u1 u2
      have hts := gcx_hts cx
      refine W.objInit cx.1 cx.2.1 (gcx_own cx) (hts _ (gob_ok e0)) (hts _ gobi_i) (hts _ gobi_c) rfl (by rw [lk.1]; exact cx.2.2.2.1.symm) rfl hd (Nat.le_add_left 1 d) ?_ ?_
      · rw [gsum_cat]; have := Nat.le_of_ble_eq_true hb
        show 2 * 0 + gsum r + 12 ≤ 48 * (d + 1) + 14000
        omega
      · exact (HY.2.1 _ _ _ hg p l e s mi args below meth c D base ad0 h0 H locs ls ad cx ex e2 rp vs lk (gl1 sl) u1 u2)
    · exact hg.elim
  · next e0 =>
    split at hg
    · next n al l e1 =>
      split at hg
      · next av q r e2 =>
        split at hg
        · next ci e4 =>
          split at hg
          · next m' e3 =>
            obtain ⟨hb, hg⟩ := gbif hg
            rw [Bool.and_eq_true] at hb
            obtain ⟨hb, hb2⟩ := hb
            obtain ⟨hst, hav⟩ := gtk_0 e2
            refine gT_rep fun D base ad H rp sl u1 u2 => ?_
            have hl : q.2 < hC h q.1 := (sl _ (by rw [hst]; exact List.mem_append_right _ List.mem_cons_self) : glv h (gR (some q)))
            rcases grcv rp e4 hl with ⟨ci2, rr, z1, z2, z3, z4⟩ | ⟨z1, z2, z3⟩
            · have hC1 : gCall (gmo m) (.invokespecial k) 3 (some rr.1) m' n := gcp_ok e1 _ (glk_mem _ _ _ e3) ci2 rr z3
              exact gcall_go (C := some rr.1) (k := (0, 0)) (Qr' := fun v h' => F lo (v ++ r) h') (Qx' := fun q h' => X lo q h') (⟨q, rfl, hst, Or.inl ⟨ci2, rr, z1, z2, z3, rfl⟩⟩) rfl (@hC1) (HY.2.2.2.2 _ _ _ _ _ hg) hd hav (Nat.le_of_ble_eq_true hb) u1 u2 (fun v h' q => HY.2.1 _ _ _ q) (fun q h' z => HY.2.2.2.1 _ _ _ z)
            · rw [z1, show grk 2 = some (.inl 62) by decide +kernel] at e4
              cases e4
              cases hb2
          · exact hg.elim
        · exact hg.elim
      · exact hg.elim
    · exact hg.elim
theorem gnoH {c : Code} {hh : List (Nat × Nat × Nat × Nat)} (h0 : hh = []) (h : c.exceptionTable.toList.map (fun x => (x.startPc, x.endPc, x.handlerPc, x.catchType)) = hh) : ∀ x ∈ c.exceptionTable.toList, False := by
  rw [h0] at h
  intro x hx
  rw [List.map_eq_nil_iff.mp h] at hx
  cases hx
theorem gTX_out {q : Rf} (h0 : gmH m = []) (hq : Qx q h) : gTX m d B Qr Qx pc lo q h u := by
  intro p l e s mi args below meth c D base ad0 h0' H locs ls ad rest cx ex e2 rp vs lk hl h7 hk u1 u2
  obtain ⟨ci, hk⟩ := hk
  rcases grcv rp hk hl with ⟨ci2, rr, z1, z2, z3, z4⟩ | ⟨z1, -⟩
  · obtain ⟨rr', cell, g1, g2, g3, g4, -⟩ := ggatO rp z2 hl z1
    exact vx_out (E := rr.1) (fun x hx => (gnoH h0 cx.2.2.2.2.2.2.2.2.2.2.2.2.2 x hx).elim) cx.2.2.2.2.1 g2 g4 (by rw [g3]; exact (gclassAt cx.2.2.2.2.2.2.2.2.2.1 z3).1)
      (fun t ht _ => ⟨q, h, ad, ci2, rr, rfl, hq, by rw [ht]; exact rp, ex, hl, h7, z1, z3, rfl, vs.F ht⟩) vs.2.2 u1 u2
  · rw [z1] at h7; exact absurd h7 (by decide)
theorem gs_athrow (hd : decode (gmC m) pc = .ok (.athrow, 1)) (HY : gHyp m d B Qr Qx pc 1 u J F R X C) (hg : gx (gmo m) (gmN m) (gmF m) (gmR m) pc (.athrow) lo st h J F R X C) : gT m (d + 1) B Qr Qx pc lo st h u := by
  simp only [gx] at hg
  split at hg
  · next q r =>
    split at hg
    · next ci e1 =>
      obtain ⟨h8, hg⟩ := gble hg
      intro p l e s mi args below meth c D base ad0 h0 H locs ls ad cx ex e2 rp vs lk sl u1 u2
      exact vx_athrow cx.1 cx.2.1 hd (HY.2.2.2.1 _ _ _ hg p l e s mi args below meth c D base ad0 h0 H locs ls ad _ cx ex e2 rp vs lk (gl0 sl : glv h (gR (some q))) h8 ⟨ci, e1⟩ u1 u2)
    · exact hg.elim
  · exact hg.elim
end GS4
