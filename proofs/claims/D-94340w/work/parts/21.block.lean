/-! ===== soundness: any instruction, a block, a method ===== -/
section GB
variable {m : GM} {d : Nat} {B : Nat × Nat} {Qr : List AV → Hp → Prop} {Qx : Rf → Hp → Prop} {pc : Nat} {u : Nat × Nat} {J : Nat → Lo → List AV → Hp → Prop} {F : Lo → List AV → Hp → Prop} {R : List AV → Hp → Prop} {X : Lo → Rf → Hp → Prop} {C : GM → List AV → Hp → (List AV → Hp → Prop) → (Rf → Hp → Prop) → Prop} {lo : Lo} {st : List AV} {h : Hp}
theorem gx_ok {i : Instr} (hd : decode (gmC m) pc = .ok (i, gln i)) (HY : gHyp m d B Qr Qx pc (gln i) u J F R X C) (hg : gx (gmo m) (gmN m) (gmF m) (gmR m) pc i lo st h J F R X C) : gT m (d + 1) B Qr Qx pc lo st h u := by
  cases i with
  | iconst n => exact gs_iconst hd HY hg
  | bipush n => exact gs_bipush hd HY hg
  | sipush n => exact gs_sipush hd HY hg
  | lconst n => exact gs_lconst hd HY hg
  | ldc n => exact gs_ldc hd HY hg
  | ldc_w n => exact gs_ldc_w hd HY hg
  | ldc2_w n => exact gs_ldc2_w hd HY hg
  | aconst_null => exact gs_aconst_null hd HY hg
  | iload_n n => exact gs_iload_n hd HY hg
  | iload n => exact gs_iload hd HY hg
  | lload_n n => exact gs_lload_n hd HY hg
  | lload n => exact gs_lload hd HY hg
  | aload_n n => exact gs_aload_n hd HY hg
  | aload n => exact gs_aload hd HY hg
  | istore_n n => exact gs_istore_n hd HY hg
  | istore n => exact gs_istore hd HY hg
  | lstore_n n => exact gs_lstore_n hd HY hg
  | lstore n => exact gs_lstore hd HY hg
  | astore_n n => exact gs_astore_n hd HY hg
  | astore n => exact gs_astore hd HY hg
  | iinc a b => exact gs_iinc hd HY hg
  | iadd => exact gs_iadd hd HY hg
  | isub => exact gs_isub hd HY hg
  | imul => exact gs_imul hd HY hg
  | iand => exact gs_iand hd HY hg
  | ior => exact gs_ior hd HY hg
  | ixor => exact gs_ixor hd HY hg
  | ishl => exact gs_ishl hd HY hg
  | ishr => exact gs_ishr hd HY hg
  | iushr => exact gs_iushr hd HY hg
  | idiv => exact gs_idiv hd HY hg
  | irem => exact gs_irem hd HY hg
  | ineg => exact gs_ineg hd HY hg
  | ladd => exact gs_ladd hd HY hg
  | lsub => exact gs_lsub hd HY hg
  | lmul => exact gs_lmul hd HY hg
  | lneg => exact gs_lneg hd HY hg
  | lcmp => exact gs_lcmp hd HY hg
  | i2l => exact gs_i2l hd HY hg
  | i2b => exact gs_i2b hd HY hg
  | i2c => exact gs_i2c hd HY hg
  | dup => exact gs_dup hd HY hg
  | pop => exact gs_pop hd HY hg
  | dup2 => exact gs_dup2 hd HY hg
  | dup_x1 => exact gs_dup_x1 hd HY hg
  | goto o => exact gs_goto hd HY hg
  | ifCond c o =>
    cases c with
    | eq => exact gs_if_eq hd HY hg
    | ne => exact gs_if_ne hd HY hg
    | lt => exact gs_if_lt hd HY hg
    | ge => exact gs_if_ge hd HY hg
    | gt => exact gs_if_gt hd HY hg
    | le => exact gs_if_le hd HY hg
  | if_icmp c o =>
    cases c with
    | eq => exact gs_icmp_eq hd HY hg
    | ne => exact gs_icmp_ne hd HY hg
    | lt => exact gs_icmp_lt hd HY hg
    | ge => exact gs_icmp_ge hd HY hg
    | gt => exact gs_icmp_gt hd HY hg
    | le => exact gs_icmp_le hd HY hg
  | getfield k => exact gs_getfield hd HY hg
  | putfield k => exact gs_putfield hd HY hg
  | iaload => exact gs_iaload hd HY hg
  | baload => exact gs_baload hd HY hg
  | laload => exact gs_laload hd HY hg
  | aaload => exact gs_aaload hd HY hg
  | iastore => exact gs_iastore hd HY hg
  | bastore => exact gs_bastore hd HY hg
  | lastore => exact gs_lastore hd HY hg
  | arraylength => exact gs_arraylength hd HY hg
  | ireturn => exact gs_ireturn hd HY hg
  | lreturn => exact gs_lreturn hd HY hg
  | areturn => exact gs_areturn hd HY hg
  | return_ => exact gs_return_ hd HY hg
  | athrow => exact gs_athrow hd HY hg
  | invokestatic k => exact gs_invokestatic hd HY hg
  | invokespecial k => exact gs_invokespecial hd HY hg
  | invokevirtual k => exact gs_invokevirtual hd HY hg
  | invokeinterface k n => exact gs_invokeinterface hd HY hg
  | _ => exact False.elim hg
theorem gsuf_spec : ∀ (all : List (Nat × Instr × Nat)) (t : Nat) (x : Nat × Instr × Nat) (r : List (Nat × Instr × Nat)), gsuf t all = x :: r → x.1 = t ∧ ∀ y ∈ x :: r, y ∈ all := by
  intro all
  induction all with
  | nil => intro t x r h; cases h
  | cons a l ih =>
    intro t x r h
    unfold gsuf at h
    cases e : Nat.beq a.1 t with
    | true =>
      rw [e] at h
      cases h
      exact ⟨Nat.eq_of_beq_eq_true e, fun y hy => hy⟩
    | false =>
      rw [e] at h
      obtain ⟨h1, h2⟩ := ih t x r h
      exact ⟨h1, fun y hy => List.mem_cons_of_mem _ (h2 y hy)⟩
/-- the block of a method from l on -/
abbrev gwm (m : GM) (d : Nat) (B : Nat × Nat) (Qr : List AV → Hp → Prop) (Qx : Rf → Hp → Prop) (u : Nat × Nat) (stops : List Nat) (n : Nat) (first : Bool) (l : List (Nat × Instr × Nat)) (lo : Lo) (st : List AV) (h : Hp) : Prop :=
  gw (gmo m) (gmN m) (gmF m) (gmR m) (gmI m) stops Qr (fun pc lo q h => gTX m (d + 1) B Qr Qx pc lo q h u) (fun m' av h Qr' Qx' => gTM m' d (0, 0) av h Qr' Qx') (fun pc lo st h => gT m (d + 1) B Qr Qx pc lo st h u) n first l lo st h
theorem gw_ok (hm : gMok m) (stops : List Nat) : ∀ (n : Nat) (first : Bool) (l : List (Nat × Instr × Nat)) (lo : Lo) (st : List AV) (h : Hp), (∀ x ∈ l, x ∈ gmI m) → gwm m d B Qr Qx u stops n first l lo st h → ∃ x r, l = x :: r ∧ gT m (d + 1) B Qr Qx x.1 lo st h u := by
  intro n
  induction n with
  | zero =>
    intro first l lo st h hl hg
    cases l with
    | nil => exact hg.elim
    | cons x r => exact ⟨x, r, rfl, hg⟩
  | succ n ih =>
    intro first l lo st h hl hg
    cases l with
    | nil => exact hg.elim
    | cons x r =>
      obtain ⟨pc, i, len⟩ := x
      refine ⟨_, r, rfl, ?_⟩
      unfold gwm gw at hg
      dsimp only at hg
      cases e : (gstop (gmo m) i || (bif first then false else gmem pc stops)) with
      | true => rw [e] at hg; exact hg
      | false =>
        rw [e] at hg
        cases e2 : Nat.beq len (gln i) with
        | false => rw [e2] at hg; exact hg.elim
        | true =>
          rw [e2] at hg
          have hd := hm.1 _ (hl _ List.mem_cons_self)
          have e3 := Nat.eq_of_beq_eq_true e2
          subst e3
          simp only [cond_true, cond_false] at hg
          refine gx_ok (m := m) (pc := pc) hd ⟨fun t lo' st' h' q => ?_, fun lo' st' h' q => ?_, fun v h' q => q, fun lo' q h' z => z, fun m' av h' Qr' Qx' q => q⟩ hg
          · cases es : gsuf t (gmI m) with
            | nil =>
              rw [es] at q
              obtain ⟨x2, r2, z, -⟩ := ih false [] lo' st' h' (fun x hx => absurd hx List.not_mem_nil) q
              cases z
            | cons x2 r2 =>
              obtain ⟨s1, s2⟩ := gsuf_spec _ _ _ _ es
              rw [es] at q
              obtain ⟨x3, r3, z, w⟩ := ih false (x2 :: r2) lo' st' h' s2 q
              cases z
              rw [← s1]
              exact w
          · cases e4 : Nat.beq (ghd r) (pc + gln i) with
            | false => rw [e4] at q; exact q.elim
            | true =>
              rw [e4] at q
              obtain ⟨x3, r3, z, w⟩ := ih false r lo' st' h' (fun x hx => hl x (List.mem_cons_of_mem _ hx)) q
              subst z
              rw [← Nat.eq_of_beq_eq_true e4]
              exact w
/-- a block from a pc on, up to the places in 'stops' -/
theorem gT_go (n : Nat) (stops : List Nat) (hm : gMok m) (hg : gwm m d B Qr Qx u stops n true (gsuf pc (gmI m)) lo st h) : gT m (d + 1) B Qr Qx pc lo st h u := by
  cases es : gsuf pc (gmI m) with
  | nil =>
    rw [es] at hg
    obtain ⟨x, r, z, -⟩ := gw_ok hm stops n true [] lo st h (fun x hx => absurd hx List.not_mem_nil) hg
    cases z
  | cons x r =>
    obtain ⟨s1, s2⟩ := gsuf_spec _ _ _ _ es
    rw [es] at hg
    obtain ⟨x3, r3, z, w⟩ := gw_ok hm stops n true (x :: r) lo st h s2 hg
    cases z
    rw [← s1]
    exact w
end GB
theorem gent_len : ∀ (n : Nat) (av : List AV), gsum av ≤ n → (gent n av).length = n := by
  intro n av
  induction av generalizing n with
  | nil => intro _; simp [gent]
  | cons v r ih =>
    intro h
    rcases v with x | x | x
    · have h1 : 1 + gsum r ≤ n := h
      simp only [gent, List.length_cons]
      rw [ih (n - 1) (by omega)]
      omega
    · have h1 : 2 + gsum r ≤ n := h
      simp only [gent, List.length_cons]
      rw [ih (n - 2) (by omega)]
      omega
    · have h1 : 1 + gsum r ≤ n := h
      simp only [gent, List.length_cons]
      rw [ih (n - 1) (by omega)]
      omega
theorem glo_none : ∀ (n i : Nat), glo (List.replicate n none) i = none := by
  intro n
  induction n with
  | zero => intro i; rfl
  | succ n ih =>
    intro i
    cases i with
    | zero => rfl
    | succ i => exact ih i
theorem gent_args (ad : Nat → Nat → Nat) : ∀ (av : List AV) (n k i : Nat) (v : AV), glo (gent n av) i = some v → (k + i, gtr ad v) ∈ lv_args k (av.map (gtr ad)) ∧ v ∈ av := by
  intro av
  induction av with
  | nil =>
    intro n k i v h
    simp only [gent] at h
    rw [glo_none] at h
    cases h
  | cons a r ih =>
    intro n k i v h
    have one : ∀ (m : Nat), gcat a = 1 → glo (some a :: gent m r) i = some v → (k + i, gtr ad v) ∈ lv_args k ((a :: r).map (gtr ad)) ∧ v ∈ a :: r := by
      intro m hc h
      show (k + i, gtr ad v) ∈ (k, gtr ad a) :: lv_args (if (gtr ad a).category = 2 then k + 2 else k + 1) (r.map (gtr ad)) ∧ v ∈ a :: r
      rw [gtr_cat, hc, if_neg (by decide)]
      cases i with
      | zero =>
        have e : a = v := Option.some.inj h
        subst e
        exact ⟨List.mem_cons_self, List.mem_cons_self⟩
      | succ i =>
        obtain ⟨h1, h2⟩ := ih m (k + 1) i v h
        rw [show k + 1 + i = k + (i + 1) by omega] at h1
        exact ⟨List.mem_cons_of_mem _ h1, List.mem_cons_of_mem _ h2⟩
    rcases a with x | x | x
    · exact one (n - 1) rfl h
    · show (k + i, gtr ad v) ∈ (k, gtr ad (gL x)) :: lv_args (if (gtr ad (gL x)).category = 2 then k + 2 else k + 1) (r.map (gtr ad)) ∧ v ∈ gL x :: r
      rw [show (gtr ad (gL x)).category = 2 from rfl, if_pos rfl]
      cases i with
      | zero =>
        have e : gL x = v := Option.some.inj h
        subst e
        exact ⟨List.mem_cons_self, List.mem_cons_self⟩
      | succ i =>
        cases i with
        | zero => cases h
        | succ i =>
          obtain ⟨h1, h2⟩ := ih (n - 2) (k + 2) i v h
          rw [show k + 2 + i = k + (i + 1 + 1) by omega] at h1
          exact ⟨List.mem_cons_of_mem _ h1, List.mem_cons_of_mem _ h2⟩
    · exact one (n - 1) rfl h
theorem glg_len (ad : Nat → Nat → Nat) : ∀ (av : List AV), (lg_sl (av.map (gtr ad))).length = gsum av := by
  intro av
  induction av with
  | nil => rfl
  | cons a r ih =>
    show (lg_sl (gtr ad a :: r.map (gtr ad))).length = gcat a + gsum r
    unfold lg_sl
    rw [List.flatMap_cons, List.length_append]
    unfold lg_sl at ih
    rw [ih, gtr_cat]
    rcases a with x | x | x <;> rfl
/-- a method's contract, out of its body -/
theorem gTM_of {m : GM} {d : Nat} {B : Nat × Nat} {av : List AV} {h : Hp} {Qr : List AV → Hp → Prop} {Qx : Rf → Hp → Prop} (hm : gMok m) (h0 : gmH m = []) (hs : Nat.ble (gsum av) (gmL m) = true)
    (H : gT m d B Qr Qx 0 (gent (gmL m) av) [] h (0, 0)) : gTM m d B av h Qr Qx := by
  intro l hl D base ad hv
  refine vx_ofW (cc := gmC m) (maxL := gmL m) (ret := gmR m) hm.2.2.2.2.2.1 (gws_nil h0) ?_
  intro p e s mi args below meth c s₁ Bd hml hxt hP
  obtain ⟨rfl, hrep, hK, hold⟩ := hP
  have hts := atoms_spec (ws := gws m) Bd.pre
  rw [gws_nil h0] at hts
  rw [lg_entry_eq]
  have hls := lv_entry (av.map (gtr ad)) (n := gmL m) (by rw [glg_len]; exact Nat.le_of_ble_eq_true hs)
  have hroom : (headSpec (gws m) (grm d B)).room = grm d B := rfl
  rw [hroom]
  refine H p l e s mi _ below meth c D base ad h s.heap [] _ ad ⟨Bd.exec, Bd.bytes, Bd.returns, hml, Bd.notSynchronized, ?_, (name_of_methodNamed Bd.named Bd.method).1, hl, fun w hw => hts w (List.mem_cons_of_mem _ hw), hK, hold, hrep.2.2.2.2.2.1, hm, by
      rw [h0]
      cases e : c.exceptionTable.toList with
      | nil => rfl
      | cons a l => exact (hxt a (by rw [e]; exact List.mem_cons_self)).elim⟩
    (gext_rf h ad) (fun _ _ _ => rfl) hrep va_S.rf ⟨hls.1, hls.2.1, gent_len _ _ (Nat.le_of_ble_eq_true hs), fun i v hi => ?_⟩ (fun _ q => absurd q List.not_mem_nil) (Nat.zero_le _) (Nat.zero_le _)
  · rw [show gmO m = m.1.cls from hm.2.2.2.1.symm]
    exact findClass_of_methodNamed Bd.named
  · obtain ⟨q1, q2⟩ := gent_args ad av (gmL m) 0 i v hi
    rw [Nat.zero_add] at q1
    exact ⟨hls.2.2 _ q1, hv v q2⟩
