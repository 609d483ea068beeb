/-! ===== soundness, instructions without heap ===== -/
def gHyp (m : GM) (d : Nat) (B : Nat × Nat) (Qr : List AV → Hp → Prop) (Qx : Rf → Hp → Prop) (pc len : Nat) (u : Nat × Nat) (J : Nat → Lo → List AV → Hp → Prop) (F : Lo → List AV → Hp → Prop) (R : List AV → Hp → Prop) (X : Lo → Rf → Hp → Prop)
    (C : GM → List AV → Hp → (List AV → Hp → Prop) → (Rf → Hp → Prop) → Prop) : Prop :=
  (∀ t lo st h, J t lo st h → gT m (d + 1) B Qr Qx t lo st h u) ∧ (∀ lo st h, F lo st h → gT m (d + 1) B Qr Qx (pc + len) lo st h u) ∧ (∀ v h, R v h → Qr v h) ∧ (∀ lo q h, X lo q h → gTX m (d + 1) B Qr Qx pc lo q h u) ∧
  (∀ m' av h Qr' Qx', C m' av h Qr' Qx' → gTM m' d (0, 0) av h Qr' Qx')
theorem gl1 {α : Type} {P : α → Prop} {a : α} {r : List α} (h : ∀ v ∈ a :: r, P v) : ∀ v ∈ r, P v := fun v hv => h v (List.mem_cons_of_mem _ hv)
theorem gl0 {α : Type} {P : α → Prop} {a : α} {r : List α} (h : ∀ v ∈ a :: r, P v) : P a := h a List.mem_cons_self
theorem glc {α : Type} {P : α → Prop} {a : α} {r : List α} (h0 : P a) (h : ∀ v ∈ r, P v) : ∀ v ∈ a :: r, P v := fun v hv => (List.mem_cons.mp hv).elim (fun e => e ▸ h0) (h v)
theorem gtg_ok {pc t : Nat} {off : Int} (h : gtg pc off = some t) : (pc : Int) + off = (t : Int) := by
  unfold gtg at h
  split at h
  · next t' e => cases h; exact e
  · cases h
theorem gic_ok (n : Int) : Int32.ofInt n = gic n := by
  unfold gic
  split <;> rfl
theorem gbc_ok (n : Int) : (Int8.ofInt n).toInt32 = gbc n := by
  unfold gbc
  split <;> rfl
theorem gsc_ok (n : Int) : (Int16.ofInt n).toInt32 = gsc n := by
  unfold gsc
  split <;> rfl
theorem glc2_ok (n : Fin 2) : Int64.ofNat (n : Nat) = gllc n := by
  match n with
  | 0 => rfl
  | 1 => rfl
section GS
variable {m : GM} {d : Nat} {B : Nat × Nat} {Qr : List AV → Hp → Prop} {Qx : Rf → Hp → Prop} {pc : Nat} {u : Nat × Nat} {J : Nat → Lo → List AV → Hp → Prop} {F : Lo → List AV → Hp → Prop} {R : List AV → Hp → Prop} {X : Lo → Rf → Hp → Prop} {C : GM → List AV → Hp → (List AV → Hp → Prop) → (Rf → Hp → Prop) → Prop} {lo : Lo} {st : List AV} {h : Hp}
theorem gs_iconst {n : Int} (hd : decode (gmC m) pc = .ok (.iconst n, 1)) (HY : gHyp m d B Qr Qx pc 1 u J F R X C) (hg : gx (gmo m) (gmN m) (gmF m) (gmR m) pc (.iconst n) lo st h J F R X C) : gT m (d + 1) B Qr Qx pc lo st h u := by
  simp only [gx] at hg
  intro p l e s mi args below meth c D base ad0 h0 H locs ls ad cx ex e2 rp vs lk sl u1 u2
  exact lv_iconst cx.1 cx.2.1 hd (gic_ok _) (HY.2.1 _ _ _ hg p l e s mi args below meth c D base ad0 h0 H locs ls ad cx ex e2 rp vs lk (glc trivial sl) u1 u2)
theorem gs_bipush {n : Int} (hd : decode (gmC m) pc = .ok (.bipush n, 2)) (HY : gHyp m d B Qr Qx pc 2 u J F R X C) (hg : gx (gmo m) (gmN m) (gmF m) (gmR m) pc (.bipush n) lo st h J F R X C) : gT m (d + 1) B Qr Qx pc lo st h u := by
  simp only [gx] at hg
  intro p l e s mi args below meth c D base ad0 h0 H locs ls ad cx ex e2 rp vs lk sl u1 u2
  exact lv_bipush cx.1 cx.2.1 hd (gbc_ok _) (HY.2.1 _ _ _ hg p l e s mi args below meth c D base ad0 h0 H locs ls ad cx ex e2 rp vs lk (glc trivial sl) u1 u2)
theorem gs_sipush {n : Int} (hd : decode (gmC m) pc = .ok (.sipush n, 3)) (HY : gHyp m d B Qr Qx pc 3 u J F R X C) (hg : gx (gmo m) (gmN m) (gmF m) (gmR m) pc (.sipush n) lo st h J F R X C) : gT m (d + 1) B Qr Qx pc lo st h u := by
  simp only [gx] at hg
  intro p l e s mi args below meth c D base ad0 h0 H locs ls ad cx ex e2 rp vs lk sl u1 u2
  exact lv_sipush cx.1 cx.2.1 hd (gsc_ok _) (HY.2.1 _ _ _ hg p l e s mi args below meth c D base ad0 h0 H locs ls ad cx ex e2 rp vs lk (glc trivial sl) u1 u2)
theorem gs_lconst {n : Fin 2} (hd : decode (gmC m) pc = .ok (.lconst n, 1)) (HY : gHyp m d B Qr Qx pc 1 u J F R X C) (hg : gx (gmo m) (gmN m) (gmF m) (gmR m) pc (.lconst n) lo st h J F R X C) : gT m (d + 1) B Qr Qx pc lo st h u := by
  simp only [gx] at hg
  intro p l e s mi args below meth c D base ad0 h0 H locs ls ad cx ex e2 rp vs lk sl u1 u2
  exact lv_lconst cx.1 cx.2.1 hd (glc2_ok _) (HY.2.1 _ _ _ hg p l e s mi args below meth c D base ad0 h0 H locs ls ad cx ex e2 rp vs lk (glc trivial sl) u1 u2)
theorem gs_aconst_null (hd : decode (gmC m) pc = .ok (.aconst_null, 1)) (HY : gHyp m d B Qr Qx pc 1 u J F R X C) (hg : gx (gmo m) (gmN m) (gmF m) (gmR m) pc (.aconst_null) lo st h J F R X C) : gT m (d + 1) B Qr Qx pc lo st h u := by
  simp only [gx] at hg
  intro p l e s mi args below meth c D base ad0 h0 H locs ls ad cx ex e2 rp vs lk sl u1 u2
  exact lv_null cx.1 cx.2.1 hd (HY.2.1 _ _ _ hg p l e s mi args below meth c D base ad0 h0 H locs ls ad cx ex e2 rp vs lk (glc trivial sl) u1 u2)
theorem gs_iload_n {k : Fin 4} (hd : decode (gmC m) pc = .ok (.iload_n k, 1)) (HY : gHyp m d B Qr Qx pc 1 u J F R X C) (hg : gx (gmo m) (gmN m) (gmF m) (gmR m) pc (.iload_n k) lo st h J F R X C) : gT m (d + 1) B Qr Qx pc lo st h u := by
  simp only [gx] at hg
  split at hg
  · next x e1 =>
    intro p l e s mi args below meth c D base ad0 h0 H locs ls ad cx ex e2 rp vs lk sl u1 u2
    exact lv_iload_n cx.1 cx.2.1 hd rfl (lk.2.2.2 _ _ e1).1 (HY.2.1 _ _ _ hg p l e s mi args below meth c D base ad0 h0 H locs ls ad cx ex e2 rp vs lk (glc trivial sl) u1 u2)
  · exact hg.elim
theorem gs_iload {k : Nat} (hd : decode (gmC m) pc = .ok (.iload k, 2)) (HY : gHyp m d B Qr Qx pc 2 u J F R X C) (hg : gx (gmo m) (gmN m) (gmF m) (gmR m) pc (.iload k) lo st h J F R X C) : gT m (d + 1) B Qr Qx pc lo st h u := by
  simp only [gx] at hg
  split at hg
  · next x e1 =>
    intro p l e s mi args below meth c D base ad0 h0 H locs ls ad cx ex e2 rp vs lk sl u1 u2
    exact lv_iload cx.1 cx.2.1 hd (lk.2.2.2 _ _ e1).1 (HY.2.1 _ _ _ hg p l e s mi args below meth c D base ad0 h0 H locs ls ad cx ex e2 rp vs lk (glc trivial sl) u1 u2)
  · exact hg.elim
theorem gs_lload_n {k : Fin 4} (hd : decode (gmC m) pc = .ok (.lload_n k, 1)) (HY : gHyp m d B Qr Qx pc 1 u J F R X C) (hg : gx (gmo m) (gmN m) (gmF m) (gmR m) pc (.lload_n k) lo st h J F R X C) : gT m (d + 1) B Qr Qx pc lo st h u := by
  simp only [gx] at hg
  split at hg
  · next x e1 =>
    intro p l e s mi args below meth c D base ad0 h0 H locs ls ad cx ex e2 rp vs lk sl u1 u2
    exact lv_lload_n cx.1 cx.2.1 hd rfl (lk.2.2.2 _ _ e1).1 (HY.2.1 _ _ _ hg p l e s mi args below meth c D base ad0 h0 H locs ls ad cx ex e2 rp vs lk (glc trivial sl) u1 u2)
  · exact hg.elim
theorem gs_lload {k : Nat} (hd : decode (gmC m) pc = .ok (.lload k, 2)) (HY : gHyp m d B Qr Qx pc 2 u J F R X C) (hg : gx (gmo m) (gmN m) (gmF m) (gmR m) pc (.lload k) lo st h J F R X C) : gT m (d + 1) B Qr Qx pc lo st h u := by
  simp only [gx] at hg
  split at hg
  · next x e1 =>
    intro p l e s mi args below meth c D base ad0 h0 H locs ls ad cx ex e2 rp vs lk sl u1 u2
    exact lv_lload cx.1 cx.2.1 hd (lk.2.2.2 _ _ e1).1 (HY.2.1 _ _ _ hg p l e s mi args below meth c D base ad0 h0 H locs ls ad cx ex e2 rp vs lk (glc trivial sl) u1 u2)
  · exact hg.elim
theorem gs_aload_n {k : Fin 4} (hd : decode (gmC m) pc = .ok (.aload_n k, 1)) (HY : gHyp m d B Qr Qx pc 1 u J F R X C) (hg : gx (gmo m) (gmN m) (gmF m) (gmR m) pc (.aload_n k) lo st h J F R X C) : gT m (d + 1) B Qr Qx pc lo st h u := by
  simp only [gx] at hg
  split at hg
  · next x e1 =>
    intro p l e s mi args below meth c D base ad0 h0 H locs ls ad cx ex e2 rp vs lk sl u1 u2
    rcases x with _ | x
    · exact lv_aload_nN cx.1 cx.2.1 hd rfl (lk.2.2.2 _ _ e1).1 (HY.2.1 _ _ _ hg p l e s mi args below meth c D base ad0 h0 H locs ls ad cx ex e2 rp vs lk (glc trivial sl) u1 u2)
    · exact lv_aload_n cx.1 cx.2.1 hd rfl (lk.2.2.2 _ _ e1).1 (HY.2.1 _ _ _ hg p l e s mi args below meth c D base ad0 h0 H locs ls ad cx ex e2 rp vs lk (glc (lk.2.2.2 _ _ e1).2 sl) u1 u2)
  · exact hg.elim
theorem gs_aload {k : Nat} (hd : decode (gmC m) pc = .ok (.aload k, 2)) (HY : gHyp m d B Qr Qx pc 2 u J F R X C) (hg : gx (gmo m) (gmN m) (gmF m) (gmR m) pc (.aload k) lo st h J F R X C) : gT m (d + 1) B Qr Qx pc lo st h u := by
  simp only [gx] at hg
  split at hg
  · next x e1 =>
    intro p l e s mi args below meth c D base ad0 h0 H locs ls ad cx ex e2 rp vs lk sl u1 u2
    rcases x with _ | x
    · exact lv_aloadN cx.1 cx.2.1 hd (lk.2.2.2 _ _ e1).1 (HY.2.1 _ _ _ hg p l e s mi args below meth c D base ad0 h0 H locs ls ad cx ex e2 rp vs lk (glc trivial sl) u1 u2)
    · exact lv_aload cx.1 cx.2.1 hd (lk.2.2.2 _ _ e1).1 (HY.2.1 _ _ _ hg p l e s mi args below meth c D base ad0 h0 H locs ls ad cx ex e2 rp vs lk (glc (lk.2.2.2 _ _ e1).2 sl) u1 u2)
  · exact hg.elim
theorem gs_iadd (hd : decode (gmC m) pc = .ok (.iadd, 1)) (HY : gHyp m d B Qr Qx pc 1 u J F R X C) (hg : gx (gmo m) (gmN m) (gmF m) (gmR m) pc (.iadd) lo st h J F R X C) : gT m (d + 1) B Qr Qx pc lo st h u := by
  simp only [gx] at hg
  split at hg
  · next y x r =>
    intro p l e s mi args below meth c D base ad0 h0 H locs ls ad cx ex e2 rp vs lk sl u1 u2
    exact lv_iadd cx.1 cx.2.1 hd (HY.2.1 _ _ _ hg p l e s mi args below meth c D base ad0 h0 H locs ls ad cx ex e2 rp vs lk (glc trivial (gl1 (gl1 sl))) u1 u2)
  · exact hg.elim
theorem gs_isub (hd : decode (gmC m) pc = .ok (.isub, 1)) (HY : gHyp m d B Qr Qx pc 1 u J F R X C) (hg : gx (gmo m) (gmN m) (gmF m) (gmR m) pc (.isub) lo st h J F R X C) : gT m (d + 1) B Qr Qx pc lo st h u := by
  simp only [gx] at hg
  split at hg
  · next y x r =>
    intro p l e s mi args below meth c D base ad0 h0 H locs ls ad cx ex e2 rp vs lk sl u1 u2
    exact lv_isub cx.1 cx.2.1 hd (HY.2.1 _ _ _ hg p l e s mi args below meth c D base ad0 h0 H locs ls ad cx ex e2 rp vs lk (glc trivial (gl1 (gl1 sl))) u1 u2)
  · exact hg.elim
theorem gs_imul (hd : decode (gmC m) pc = .ok (.imul, 1)) (HY : gHyp m d B Qr Qx pc 1 u J F R X C) (hg : gx (gmo m) (gmN m) (gmF m) (gmR m) pc (.imul) lo st h J F R X C) : gT m (d + 1) B Qr Qx pc lo st h u := by
  simp only [gx] at hg
  split at hg
  · next y x r =>
    intro p l e s mi args below meth c D base ad0 h0 H locs ls ad cx ex e2 rp vs lk sl u1 u2
    exact lv_imul cx.1 cx.2.1 hd (HY.2.1 _ _ _ hg p l e s mi args below meth c D base ad0 h0 H locs ls ad cx ex e2 rp vs lk (glc trivial (gl1 (gl1 sl))) u1 u2)
  · exact hg.elim
theorem gs_iand (hd : decode (gmC m) pc = .ok (.iand, 1)) (HY : gHyp m d B Qr Qx pc 1 u J F R X C) (hg : gx (gmo m) (gmN m) (gmF m) (gmR m) pc (.iand) lo st h J F R X C) : gT m (d + 1) B Qr Qx pc lo st h u := by
  simp only [gx] at hg
  split at hg
  · next y x r =>
    intro p l e s mi args below meth c D base ad0 h0 H locs ls ad cx ex e2 rp vs lk sl u1 u2
    exact lv_iand cx.1 cx.2.1 hd (HY.2.1 _ _ _ hg p l e s mi args below meth c D base ad0 h0 H locs ls ad cx ex e2 rp vs lk (glc trivial (gl1 (gl1 sl))) u1 u2)
  · exact hg.elim
theorem gs_ior (hd : decode (gmC m) pc = .ok (.ior, 1)) (HY : gHyp m d B Qr Qx pc 1 u J F R X C) (hg : gx (gmo m) (gmN m) (gmF m) (gmR m) pc (.ior) lo st h J F R X C) : gT m (d + 1) B Qr Qx pc lo st h u := by
  simp only [gx] at hg
  split at hg
  · next y x r =>
    intro p l e s mi args below meth c D base ad0 h0 H locs ls ad cx ex e2 rp vs lk sl u1 u2
    exact lv_ior cx.1 cx.2.1 hd (HY.2.1 _ _ _ hg p l e s mi args below meth c D base ad0 h0 H locs ls ad cx ex e2 rp vs lk (glc trivial (gl1 (gl1 sl))) u1 u2)
  · exact hg.elim
theorem gs_ixor (hd : decode (gmC m) pc = .ok (.ixor, 1)) (HY : gHyp m d B Qr Qx pc 1 u J F R X C) (hg : gx (gmo m) (gmN m) (gmF m) (gmR m) pc (.ixor) lo st h J F R X C) : gT m (d + 1) B Qr Qx pc lo st h u := by
  simp only [gx] at hg
  split at hg
  · next y x r =>
    intro p l e s mi args below meth c D base ad0 h0 H locs ls ad cx ex e2 rp vs lk sl u1 u2
    exact lv_ixor cx.1 cx.2.1 hd (HY.2.1 _ _ _ hg p l e s mi args below meth c D base ad0 h0 H locs ls ad cx ex e2 rp vs lk (glc trivial (gl1 (gl1 sl))) u1 u2)
  · exact hg.elim
theorem gs_ishl (hd : decode (gmC m) pc = .ok (.ishl, 1)) (HY : gHyp m d B Qr Qx pc 1 u J F R X C) (hg : gx (gmo m) (gmN m) (gmF m) (gmR m) pc (.ishl) lo st h J F R X C) : gT m (d + 1) B Qr Qx pc lo st h u := by
  simp only [gx] at hg
  split at hg
  · next y x r =>
    intro p l e s mi args below meth c D base ad0 h0 H locs ls ad cx ex e2 rp vs lk sl u1 u2
    exact lv_ishl cx.1 cx.2.1 hd (HY.2.1 _ _ _ hg p l e s mi args below meth c D base ad0 h0 H locs ls ad cx ex e2 rp vs lk (glc trivial (gl1 (gl1 sl))) u1 u2)
  · exact hg.elim
theorem gs_ishr (hd : decode (gmC m) pc = .ok (.ishr, 1)) (HY : gHyp m d B Qr Qx pc 1 u J F R X C) (hg : gx (gmo m) (gmN m) (gmF m) (gmR m) pc (.ishr) lo st h J F R X C) : gT m (d + 1) B Qr Qx pc lo st h u := by
  simp only [gx] at hg
  split at hg
  · next y x r =>
    intro p l e s mi args below meth c D base ad0 h0 H locs ls ad cx ex e2 rp vs lk sl u1 u2
    exact lv_ishr cx.1 cx.2.1 hd (HY.2.1 _ _ _ hg p l e s mi args below meth c D base ad0 h0 H locs ls ad cx ex e2 rp vs lk (glc trivial (gl1 (gl1 sl))) u1 u2)
  · exact hg.elim
theorem gs_iushr (hd : decode (gmC m) pc = .ok (.iushr, 1)) (HY : gHyp m d B Qr Qx pc 1 u J F R X C) (hg : gx (gmo m) (gmN m) (gmF m) (gmR m) pc (.iushr) lo st h J F R X C) : gT m (d + 1) B Qr Qx pc lo st h u := by
  simp only [gx] at hg
  split at hg
  · next y x r =>
    intro p l e s mi args below meth c D base ad0 h0 H locs ls ad cx ex e2 rp vs lk sl u1 u2
    exact lv_iushr cx.1 cx.2.1 hd rfl (HY.2.1 _ _ _ hg p l e s mi args below meth c D base ad0 h0 H locs ls ad cx ex e2 rp vs lk (glc trivial (gl1 (gl1 sl))) u1 u2)
  · exact hg.elim
theorem gs_idiv (hd : decode (gmC m) pc = .ok (.idiv, 1)) (HY : gHyp m d B Qr Qx pc 1 u J F R X C) (hg : gx (gmo m) (gmN m) (gmF m) (gmR m) pc (.idiv) lo st h J F R X C) : gT m (d + 1) B Qr Qx pc lo st h u := by
  simp only [gx] at hg
  split at hg
  · next y x r =>
    intro p l e s mi args below meth c D base ad0 h0 H locs ls ad cx ex e2 rp vs lk sl u1 u2
    exact lv_idiv cx.1 cx.2.1 hd hg.1 (HY.2.1 _ _ _ hg.2 p l e s mi args below meth c D base ad0 h0 H locs ls ad cx ex e2 rp vs lk (glc trivial (gl1 (gl1 sl))) u1 u2)
  · exact hg.elim
theorem gs_irem (hd : decode (gmC m) pc = .ok (.irem, 1)) (HY : gHyp m d B Qr Qx pc 1 u J F R X C) (hg : gx (gmo m) (gmN m) (gmF m) (gmR m) pc (.irem) lo st h J F R X C) : gT m (d + 1) B Qr Qx pc lo st h u := by
  simp only [gx] at hg
  split at hg
  · next y x r =>
    intro p l e s mi args below meth c D base ad0 h0 H locs ls ad cx ex e2 rp vs lk sl u1 u2
    exact lv_irem cx.1 cx.2.1 hd hg.1 (HY.2.1 _ _ _ hg.2 p l e s mi args below meth c D base ad0 h0 H locs ls ad cx ex e2 rp vs lk (glc trivial (gl1 (gl1 sl))) u1 u2)
  · exact hg.elim
theorem gs_ladd (hd : decode (gmC m) pc = .ok (.ladd, 1)) (HY : gHyp m d B Qr Qx pc 1 u J F R X C) (hg : gx (gmo m) (gmN m) (gmF m) (gmR m) pc (.ladd) lo st h J F R X C) : gT m (d + 1) B Qr Qx pc lo st h u := by
  simp only [gx] at hg
  split at hg
  · next y x r =>
    intro p l e s mi args below meth c D base ad0 h0 H locs ls ad cx ex e2 rp vs lk sl u1 u2
    exact lv_ladd cx.1 cx.2.1 hd (HY.2.1 _ _ _ hg p l e s mi args below meth c D base ad0 h0 H locs ls ad cx ex e2 rp vs lk (glc trivial (gl1 (gl1 sl))) u1 u2)
  · exact hg.elim
theorem gs_lsub (hd : decode (gmC m) pc = .ok (.lsub, 1)) (HY : gHyp m d B Qr Qx pc 1 u J F R X C) (hg : gx (gmo m) (gmN m) (gmF m) (gmR m) pc (.lsub) lo st h J F R X C) : gT m (d + 1) B Qr Qx pc lo st h u := by
  simp only [gx] at hg
  split at hg
  · next y x r =>
    intro p l e s mi args below meth c D base ad0 h0 H locs ls ad cx ex e2 rp vs lk sl u1 u2
    exact lv_lsub cx.1 cx.2.1 hd (HY.2.1 _ _ _ hg p l e s mi args below meth c D base ad0 h0 H locs ls ad cx ex e2 rp vs lk (glc trivial (gl1 (gl1 sl))) u1 u2)
  · exact hg.elim
theorem gs_lmul (hd : decode (gmC m) pc = .ok (.lmul, 1)) (HY : gHyp m d B Qr Qx pc 1 u J F R X C) (hg : gx (gmo m) (gmN m) (gmF m) (gmR m) pc (.lmul) lo st h J F R X C) : gT m (d + 1) B Qr Qx pc lo st h u := by
  simp only [gx] at hg
  split at hg
  · next y x r =>
    intro p l e s mi args below meth c D base ad0 h0 H locs ls ad cx ex e2 rp vs lk sl u1 u2
    exact lv_lmul cx.1 cx.2.1 hd (HY.2.1 _ _ _ hg p l e s mi args below meth c D base ad0 h0 H locs ls ad cx ex e2 rp vs lk (glc trivial (gl1 (gl1 sl))) u1 u2)
  · exact hg.elim
theorem gs_lcmp (hd : decode (gmC m) pc = .ok (.lcmp, 1)) (HY : gHyp m d B Qr Qx pc 1 u J F R X C) (hg : gx (gmo m) (gmN m) (gmF m) (gmR m) pc (.lcmp) lo st h J F R X C) : gT m (d + 1) B Qr Qx pc lo st h u := by
  simp only [gx] at hg
  split at hg
  · next y x r =>
    intro p l e s mi args below meth c D base ad0 h0 H locs ls ad cx ex e2 rp vs lk sl u1 u2
    exact W.lcmp cx.1 cx.2.1 hd (HY.2.1 _ _ _ hg p l e s mi args below meth c D base ad0 h0 H locs ls ad cx ex e2 rp vs lk (glc trivial (gl1 (gl1 sl))) u1 u2)
  · exact hg.elim
theorem gs_ineg (hd : decode (gmC m) pc = .ok (.ineg, 1)) (HY : gHyp m d B Qr Qx pc 1 u J F R X C) (hg : gx (gmo m) (gmN m) (gmF m) (gmR m) pc (.ineg) lo st h J F R X C) : gT m (d + 1) B Qr Qx pc lo st h u := by
  simp only [gx] at hg
  split at hg
  · next x r =>
    intro p l e s mi args below meth c D base ad0 h0 H locs ls ad cx ex e2 rp vs lk sl u1 u2
    exact lv_ineg cx.1 cx.2.1 hd (HY.2.1 _ _ _ hg p l e s mi args below meth c D base ad0 h0 H locs ls ad cx ex e2 rp vs lk (glc trivial (gl1 sl)) u1 u2)
  · exact hg.elim
theorem gs_lneg (hd : decode (gmC m) pc = .ok (.lneg, 1)) (HY : gHyp m d B Qr Qx pc 1 u J F R X C) (hg : gx (gmo m) (gmN m) (gmF m) (gmR m) pc (.lneg) lo st h J F R X C) : gT m (d + 1) B Qr Qx pc lo st h u := by
  simp only [gx] at hg
  split at hg
  · next x r =>
    intro p l e s mi args below meth c D base ad0 h0 H locs ls ad cx ex e2 rp vs lk sl u1 u2
    exact lv_lneg cx.1 cx.2.1 hd (HY.2.1 _ _ _ hg p l e s mi args below meth c D base ad0 h0 H locs ls ad cx ex e2 rp vs lk (glc trivial (gl1 sl)) u1 u2)
  · exact hg.elim
theorem gs_i2l (hd : decode (gmC m) pc = .ok (.i2l, 1)) (HY : gHyp m d B Qr Qx pc 1 u J F R X C) (hg : gx (gmo m) (gmN m) (gmF m) (gmR m) pc (.i2l) lo st h J F R X C) : gT m (d + 1) B Qr Qx pc lo st h u := by
  simp only [gx] at hg
  split at hg
  · next x r =>
    intro p l e s mi args below meth c D base ad0 h0 H locs ls ad cx ex e2 rp vs lk sl u1 u2
    exact lv_i2l cx.1 cx.2.1 hd rfl (HY.2.1 _ _ _ hg p l e s mi args below meth c D base ad0 h0 H locs ls ad cx ex e2 rp vs lk (glc trivial (gl1 sl)) u1 u2)
  · exact hg.elim
theorem gs_i2b (hd : decode (gmC m) pc = .ok (.i2b, 1)) (HY : gHyp m d B Qr Qx pc 1 u J F R X C) (hg : gx (gmo m) (gmN m) (gmF m) (gmR m) pc (.i2b) lo st h J F R X C) : gT m (d + 1) B Qr Qx pc lo st h u := by
  simp only [gx] at hg
  split at hg
  · next x r =>
    intro p l e s mi args below meth c D base ad0 h0 H locs ls ad cx ex e2 rp vs lk sl u1 u2
    exact lv_i2b cx.1 cx.2.1 hd rfl (HY.2.1 _ _ _ hg p l e s mi args below meth c D base ad0 h0 H locs ls ad cx ex e2 rp vs lk (glc trivial (gl1 sl)) u1 u2)
  · exact hg.elim
theorem gs_i2c (hd : decode (gmC m) pc = .ok (.i2c, 1)) (HY : gHyp m d B Qr Qx pc 1 u J F R X C) (hg : gx (gmo m) (gmN m) (gmF m) (gmR m) pc (.i2c) lo st h J F R X C) : gT m (d + 1) B Qr Qx pc lo st h u := by
  simp only [gx] at hg
  split at hg
  · next x r =>
    intro p l e s mi args below meth c D base ad0 h0 H locs ls ad cx ex e2 rp vs lk sl u1 u2
    exact lv_i2c cx.1 cx.2.1 hd rfl (HY.2.1 _ _ _ hg p l e s mi args below meth c D base ad0 h0 H locs ls ad cx ex e2 rp vs lk (glc trivial (gl1 sl)) u1 u2)
  · exact hg.elim
theorem gs_dup (hd : decode (gmC m) pc = .ok (.dup, 1)) (HY : gHyp m d B Qr Qx pc 1 u J F R X C) (hg : gx (gmo m) (gmN m) (gmF m) (gmR m) pc (.dup) lo st h J F R X C) : gT m (d + 1) B Qr Qx pc lo st h u := by
  simp only [gx] at hg
  split at hg
  · next x r =>
    intro p l e s mi args below meth c D base ad0 h0 H locs ls ad cx ex e2 rp vs lk sl u1 u2
    exact lv_dup cx.1 cx.2.1 hd rfl (HY.2.1 _ _ _ hg p l e s mi args below meth c D base ad0 h0 H locs ls ad cx ex e2 rp vs lk (glc trivial sl) u1 u2)
  · next x r =>
    intro p l e s mi args below meth c D base ad0 h0 H locs ls ad cx ex e2 rp vs lk sl u1 u2
    exact lv_dup cx.1 cx.2.1 hd (gtr_cat ad (gR x)) (HY.2.1 _ _ _ hg p l e s mi args below meth c D base ad0 h0 H locs ls ad cx ex e2 rp vs lk (glc (gl0 sl) sl) u1 u2)
  · exact hg.elim
theorem gs_pop (hd : decode (gmC m) pc = .ok (.pop, 1)) (HY : gHyp m d B Qr Qx pc 1 u J F R X C) (hg : gx (gmo m) (gmN m) (gmF m) (gmR m) pc (.pop) lo st h J F R X C) : gT m (d + 1) B Qr Qx pc lo st h u := by
  simp only [gx] at hg
  split at hg
  · next x r =>
    intro p l e s mi args below meth c D base ad0 h0 H locs ls ad cx ex e2 rp vs lk sl u1 u2
    exact lv_pop cx.1 cx.2.1 hd rfl (HY.2.1 _ _ _ hg p l e s mi args below meth c D base ad0 h0 H locs ls ad cx ex e2 rp vs lk (gl1 sl) u1 u2)
  · next x r =>
    intro p l e s mi args below meth c D base ad0 h0 H locs ls ad cx ex e2 rp vs lk sl u1 u2
    exact lv_pop cx.1 cx.2.1 hd (gtr_cat ad (gR x)) (HY.2.1 _ _ _ hg p l e s mi args below meth c D base ad0 h0 H locs ls ad cx ex e2 rp vs lk (gl1 sl) u1 u2)
  · exact hg.elim
theorem gs_dup2 (hd : decode (gmC m) pc = .ok (.dup2, 1)) (HY : gHyp m d B Qr Qx pc 1 u J F R X C) (hg : gx (gmo m) (gmN m) (gmF m) (gmR m) pc (.dup2) lo st h J F R X C) : gT m (d + 1) B Qr Qx pc lo st h u := by
  simp only [gx] at hg
  split at hg
  · next y x r =>
    intro p l e s mi args below meth c D base ad0 h0 H locs ls ad cx ex e2 rp vs lk sl u1 u2
    exact lv_dup2_11 cx.1 cx.2.1 hd rfl rfl (HY.2.1 _ _ _ hg p l e s mi args below meth c D base ad0 h0 H locs ls ad cx ex e2 rp vs lk (glc trivial (glc trivial sl)) u1 u2)
  · next y x r =>
    intro p l e s mi args below meth c D base ad0 h0 H locs ls ad cx ex e2 rp vs lk sl u1 u2
    exact lv_dup2_11 cx.1 cx.2.1 hd rfl (gtr_cat ad (gR x)) (HY.2.1 _ _ _ hg p l e s mi args below meth c D base ad0 h0 H locs ls ad cx ex e2 rp vs lk (glc trivial (glc (gl0 (gl1 sl)) sl)) u1 u2)
  · exact hg.elim
theorem gs_dup_x1 (hd : decode (gmC m) pc = .ok (.dup_x1, 1)) (HY : gHyp m d B Qr Qx pc 1 u J F R X C) (hg : gx (gmo m) (gmN m) (gmF m) (gmR m) pc (.dup_x1) lo st h J F R X C) : gT m (d + 1) B Qr Qx pc lo st h u := by
  simp only [gx] at hg
  split at hg
  · next y x r =>
    intro p l e s mi args below meth c D base ad0 h0 H locs ls ad cx ex e2 rp vs lk sl u1 u2
    exact lv_dup_x1 cx.1 cx.2.1 hd rfl (gtr_cat ad (gR x)) (HY.2.1 _ _ _ hg p l e s mi args below meth c D base ad0 h0 H locs ls ad cx ex e2 rp vs lk (glc trivial (glc (gl0 (gl1 sl)) (glc trivial (gl1 (gl1 sl))))) u1 u2)
  · next y x r =>
    intro p l e s mi args below meth c D base ad0 h0 H locs ls ad cx ex e2 rp vs lk sl u1 u2
    exact lv_dup_x1 cx.1 cx.2.1 hd rfl rfl (HY.2.1 _ _ _ hg p l e s mi args below meth c D base ad0 h0 H locs ls ad cx ex e2 rp vs lk (glc trivial (glc trivial (glc trivial (gl1 (gl1 sl))))) u1 u2)
  · exact hg.elim
theorem gs_goto {off : Int} (hd : decode (gmC m) pc = .ok (.goto off, 3)) (HY : gHyp m d B Qr Qx pc 3 u J F R X C) (hg : gx (gmo m) (gmN m) (gmF m) (gmR m) pc (.goto off) lo st h J F R X C) : gT m (d + 1) B Qr Qx pc lo st h u := by
  simp only [gx] at hg
  split at hg
  · next t e1 =>
    intro p l e s mi args below meth c D base ad0 h0 H locs ls ad cx ex e2 rp vs lk sl u1 u2
    exact lv_goto cx.1 cx.2.1 hd (gtg_ok e1) (HY.1 _ _ _ _ hg p l e s mi args below meth c D base ad0 h0 H locs ls ad cx ex e2 rp vs lk sl u1 u2)
  · exact hg.elim
theorem gs_if_eq {off : Int} (hd : decode (gmC m) pc = .ok (.ifCond .eq off, 3)) (HY : gHyp m d B Qr Qx pc 3 u J F R X C) (hg : gx (gmo m) (gmN m) (gmF m) (gmR m) pc (.ifCond .eq off) lo st h J F R X C) : gT m (d + 1) B Qr Qx pc lo st h u := by
  simp only [gx] at hg
  split at hg
  · next x r =>
    split at hg
    · next t e1 =>
      intro p l e s mi args below meth c D base ad0 h0 H locs ls ad cx ex e2 rp vs lk sl u1 u2
      exact lv_if_eq cx.1 cx.2.1 hd (gtg_ok e1) (fun q => (HY.1 _ _ _ _ (hg.1 q) p l e s mi args below meth c D base ad0 h0 H locs ls ad cx ex e2 rp vs lk (gl1 sl) u1 u2)) (fun q => (HY.2.1 _ _ _ (hg.2 q) p l e s mi args below meth c D base ad0 h0 H locs ls ad cx ex e2 rp vs lk (gl1 sl) u1 u2))
    · exact hg.elim
  · exact hg.elim
theorem gs_icmp_eq {off : Int} (hd : decode (gmC m) pc = .ok (.if_icmp .eq off, 3)) (HY : gHyp m d B Qr Qx pc 3 u J F R X C) (hg : gx (gmo m) (gmN m) (gmF m) (gmR m) pc (.if_icmp .eq off) lo st h J F R X C) : gT m (d + 1) B Qr Qx pc lo st h u := by
  simp only [gx] at hg
  split at hg
  · next y x r =>
    split at hg
    · next t e1 =>
      intro p l e s mi args below meth c D base ad0 h0 H locs ls ad cx ex e2 rp vs lk sl u1 u2
      exact lv_icmp_eq cx.1 cx.2.1 hd (gtg_ok e1) (fun q => (HY.1 _ _ _ _ (hg.1 q) p l e s mi args below meth c D base ad0 h0 H locs ls ad cx ex e2 rp vs lk (gl1 (gl1 sl)) u1 u2)) (fun q => (HY.2.1 _ _ _ (hg.2 q) p l e s mi args below meth c D base ad0 h0 H locs ls ad cx ex e2 rp vs lk (gl1 (gl1 sl)) u1 u2))
    · exact hg.elim
  · exact hg.elim
theorem gs_if_ne {off : Int} (hd : decode (gmC m) pc = .ok (.ifCond .ne off, 3)) (HY : gHyp m d B Qr Qx pc 3 u J F R X C) (hg : gx (gmo m) (gmN m) (gmF m) (gmR m) pc (.ifCond .ne off) lo st h J F R X C) : gT m (d + 1) B Qr Qx pc lo st h u := by
  simp only [gx] at hg
  split at hg
  · next x r =>
    split at hg
    · next t e1 =>
      intro p l e s mi args below meth c D base ad0 h0 H locs ls ad cx ex e2 rp vs lk sl u1 u2
      exact lv_if_ne cx.1 cx.2.1 hd (gtg_ok e1) (fun q => (HY.1 _ _ _ _ (hg.1 q) p l e s mi args below meth c D base ad0 h0 H locs ls ad cx ex e2 rp vs lk (gl1 sl) u1 u2)) (fun q => (HY.2.1 _ _ _ (hg.2 q) p l e s mi args below meth c D base ad0 h0 H locs ls ad cx ex e2 rp vs lk (gl1 sl) u1 u2))
    · exact hg.elim
  · exact hg.elim
theorem gs_icmp_ne {off : Int} (hd : decode (gmC m) pc = .ok (.if_icmp .ne off, 3)) (HY : gHyp m d B Qr Qx pc 3 u J F R X C) (hg : gx (gmo m) (gmN m) (gmF m) (gmR m) pc (.if_icmp .ne off) lo st h J F R X C) : gT m (d + 1) B Qr Qx pc lo st h u := by
  simp only [gx] at hg
  split at hg
  · next y x r =>
    split at hg
    · next t e1 =>
      intro p l e s mi args below meth c D base ad0 h0 H locs ls ad cx ex e2 rp vs lk sl u1 u2
      exact lv_icmp_ne cx.1 cx.2.1 hd (gtg_ok e1) (fun q => (HY.1 _ _ _ _ (hg.1 q) p l e s mi args below meth c D base ad0 h0 H locs ls ad cx ex e2 rp vs lk (gl1 (gl1 sl)) u1 u2)) (fun q => (HY.2.1 _ _ _ (hg.2 q) p l e s mi args below meth c D base ad0 h0 H locs ls ad cx ex e2 rp vs lk (gl1 (gl1 sl)) u1 u2))
    · exact hg.elim
  · exact hg.elim
theorem gs_if_lt {off : Int} (hd : decode (gmC m) pc = .ok (.ifCond .lt off, 3)) (HY : gHyp m d B Qr Qx pc 3 u J F R X C) (hg : gx (gmo m) (gmN m) (gmF m) (gmR m) pc (.ifCond .lt off) lo st h J F R X C) : gT m (d + 1) B Qr Qx pc lo st h u := by
  simp only [gx] at hg
  split at hg
  · next x r =>
    split at hg
    · next t e1 =>
      intro p l e s mi args below meth c D base ad0 h0 H locs ls ad cx ex e2 rp vs lk sl u1 u2
      exact lv_if_lt cx.1 cx.2.1 hd (gtg_ok e1) (fun q => (HY.1 _ _ _ _ (hg.1 q) p l e s mi args below meth c D base ad0 h0 H locs ls ad cx ex e2 rp vs lk (gl1 sl) u1 u2)) (fun q => (HY.2.1 _ _ _ (hg.2 q) p l e s mi args below meth c D base ad0 h0 H locs ls ad cx ex e2 rp vs lk (gl1 sl) u1 u2))
    · exact hg.elim
  · exact hg.elim
theorem gs_icmp_lt {off : Int} (hd : decode (gmC m) pc = .ok (.if_icmp .lt off, 3)) (HY : gHyp m d B Qr Qx pc 3 u J F R X C) (hg : gx (gmo m) (gmN m) (gmF m) (gmR m) pc (.if_icmp .lt off) lo st h J F R X C) : gT m (d + 1) B Qr Qx pc lo st h u := by
  simp only [gx] at hg
  split at hg
  · next y x r =>
    split at hg
    · next t e1 =>
      intro p l e s mi args below meth c D base ad0 h0 H locs ls ad cx ex e2 rp vs lk sl u1 u2
      exact lv_icmp_lt cx.1 cx.2.1 hd (gtg_ok e1) (fun q => (HY.1 _ _ _ _ (hg.1 q) p l e s mi args below meth c D base ad0 h0 H locs ls ad cx ex e2 rp vs lk (gl1 (gl1 sl)) u1 u2)) (fun q => (HY.2.1 _ _ _ (hg.2 q) p l e s mi args below meth c D base ad0 h0 H locs ls ad cx ex e2 rp vs lk (gl1 (gl1 sl)) u1 u2))
    · exact hg.elim
  · exact hg.elim
theorem gs_if_ge {off : Int} (hd : decode (gmC m) pc = .ok (.ifCond .ge off, 3)) (HY : gHyp m d B Qr Qx pc 3 u J F R X C) (hg : gx (gmo m) (gmN m) (gmF m) (gmR m) pc (.ifCond .ge off) lo st h J F R X C) : gT m (d + 1) B Qr Qx pc lo st h u := by
  simp only [gx] at hg
  split at hg
  · next x r =>
    split at hg
    · next t e1 =>
      intro p l e s mi args below meth c D base ad0 h0 H locs ls ad cx ex e2 rp vs lk sl u1 u2
      exact lv_if_ge cx.1 cx.2.1 hd (gtg_ok e1) (fun q => (HY.1 _ _ _ _ (hg.1 q) p l e s mi args below meth c D base ad0 h0 H locs ls ad cx ex e2 rp vs lk (gl1 sl) u1 u2)) (fun q => (HY.2.1 _ _ _ (hg.2 q) p l e s mi args below meth c D base ad0 h0 H locs ls ad cx ex e2 rp vs lk (gl1 sl) u1 u2))
    · exact hg.elim
  · exact hg.elim
theorem gs_icmp_ge {off : Int} (hd : decode (gmC m) pc = .ok (.if_icmp .ge off, 3)) (HY : gHyp m d B Qr Qx pc 3 u J F R X C) (hg : gx (gmo m) (gmN m) (gmF m) (gmR m) pc (.if_icmp .ge off) lo st h J F R X C) : gT m (d + 1) B Qr Qx pc lo st h u := by
  simp only [gx] at hg
  split at hg
  · next y x r =>
    split at hg
    · next t e1 =>
      intro p l e s mi args below meth c D base ad0 h0 H locs ls ad cx ex e2 rp vs lk sl u1 u2
      exact lv_icmp_ge cx.1 cx.2.1 hd (gtg_ok e1) (fun q => (HY.1 _ _ _ _ (hg.1 q) p l e s mi args below meth c D base ad0 h0 H locs ls ad cx ex e2 rp vs lk (gl1 (gl1 sl)) u1 u2)) (fun q => (HY.2.1 _ _ _ (hg.2 q) p l e s mi args below meth c D base ad0 h0 H locs ls ad cx ex e2 rp vs lk (gl1 (gl1 sl)) u1 u2))
    · exact hg.elim
  · exact hg.elim
theorem gs_if_gt {off : Int} (hd : decode (gmC m) pc = .ok (.ifCond .gt off, 3)) (HY : gHyp m d B Qr Qx pc 3 u J F R X C) (hg : gx (gmo m) (gmN m) (gmF m) (gmR m) pc (.ifCond .gt off) lo st h J F R X C) : gT m (d + 1) B Qr Qx pc lo st h u := by
  simp only [gx] at hg
  split at hg
  · next x r =>
    split at hg
    · next t e1 =>
      intro p l e s mi args below meth c D base ad0 h0 H locs ls ad cx ex e2 rp vs lk sl u1 u2
      exact lv_if_gt cx.1 cx.2.1 hd (gtg_ok e1) (fun q => (HY.1 _ _ _ _ (hg.1 q) p l e s mi args below meth c D base ad0 h0 H locs ls ad cx ex e2 rp vs lk (gl1 sl) u1 u2)) (fun q => (HY.2.1 _ _ _ (hg.2 q) p l e s mi args below meth c D base ad0 h0 H locs ls ad cx ex e2 rp vs lk (gl1 sl) u1 u2))
    · exact hg.elim
  · exact hg.elim
theorem gs_icmp_gt {off : Int} (hd : decode (gmC m) pc = .ok (.if_icmp .gt off, 3)) (HY : gHyp m d B Qr Qx pc 3 u J F R X C) (hg : gx (gmo m) (gmN m) (gmF m) (gmR m) pc (.if_icmp .gt off) lo st h J F R X C) : gT m (d + 1) B Qr Qx pc lo st h u := by
  simp only [gx] at hg
  split at hg
  · next y x r =>
    split at hg
    · next t e1 =>
      intro p l e s mi args below meth c D base ad0 h0 H locs ls ad cx ex e2 rp vs lk sl u1 u2
      exact lv_icmp_gt cx.1 cx.2.1 hd (gtg_ok e1) (fun q => (HY.1 _ _ _ _ (hg.1 q) p l e s mi args below meth c D base ad0 h0 H locs ls ad cx ex e2 rp vs lk (gl1 (gl1 sl)) u1 u2)) (fun q => (HY.2.1 _ _ _ (hg.2 q) p l e s mi args below meth c D base ad0 h0 H locs ls ad cx ex e2 rp vs lk (gl1 (gl1 sl)) u1 u2))
    · exact hg.elim
  · exact hg.elim
theorem gs_if_le {off : Int} (hd : decode (gmC m) pc = .ok (.ifCond .le off, 3)) (HY : gHyp m d B Qr Qx pc 3 u J F R X C) (hg : gx (gmo m) (gmN m) (gmF m) (gmR m) pc (.ifCond .le off) lo st h J F R X C) : gT m (d + 1) B Qr Qx pc lo st h u := by
  simp only [gx] at hg
  split at hg
  · next x r =>
    split at hg
    · next t e1 =>
      intro p l e s mi args below meth c D base ad0 h0 H locs ls ad cx ex e2 rp vs lk sl u1 u2
      exact lv_if_le cx.1 cx.2.1 hd (gtg_ok e1) (fun q => (HY.1 _ _ _ _ (hg.1 q) p l e s mi args below meth c D base ad0 h0 H locs ls ad cx ex e2 rp vs lk (gl1 sl) u1 u2)) (fun q => (HY.2.1 _ _ _ (hg.2 q) p l e s mi args below meth c D base ad0 h0 H locs ls ad cx ex e2 rp vs lk (gl1 sl) u1 u2))
    · exact hg.elim
  · exact hg.elim
theorem gs_icmp_le {off : Int} (hd : decode (gmC m) pc = .ok (.if_icmp .le off, 3)) (HY : gHyp m d B Qr Qx pc 3 u J F R X C) (hg : gx (gmo m) (gmN m) (gmF m) (gmR m) pc (.if_icmp .le off) lo st h J F R X C) : gT m (d + 1) B Qr Qx pc lo st h u := by
  simp only [gx] at hg
  split at hg
  · next y x r =>
    split at hg
    · next t e1 =>
      intro p l e s mi args below meth c D base ad0 h0 H locs ls ad cx ex e2 rp vs lk sl u1 u2
      exact lv_icmp_le cx.1 cx.2.1 hd (gtg_ok e1) (fun q => (HY.1 _ _ _ _ (hg.1 q) p l e s mi args below meth c D base ad0 h0 H locs ls ad cx ex e2 rp vs lk (gl1 (gl1 sl)) u1 u2)) (fun q => (HY.2.1 _ _ _ (hg.2 q) p l e s mi args below meth c D base ad0 h0 H locs ls ad cx ex e2 rp vs lk (gl1 (gl1 sl)) u1 u2))
    · exact hg.elim
  · exact hg.elim
end GS
