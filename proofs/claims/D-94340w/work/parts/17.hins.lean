/-! ===== soundness: field and array instructions ===== -/
theorem gbif1 {b : Bool} {A : Prop} (h : bif b then A else False) : b = true ∧ A := by
  cases b with
  | true => exact ⟨rfl, h⟩
  | false => exact h.elim
theorem gslot_self {cell : Cell} {i : Nat} {v0 v : Value} (h : cell.slots[i]? = some v0) : (cell.setSlot i v).slots[i]? = some v := by
  have := (Array.getElem?_eq_some_iff.mp h).1
  simp [Cell.setSlot, this]
theorem gput_atO {D : GD} {ad : Nat → Nat → Nat} {h h' : Hp} {ci b i k : Nat} {H1 : Heap} {rr : vw_C} {cell : Cell} {v : Value} (hk : grk b = some (.inl ci)) (g1 : gcl[ci]? = some rr) (e : H1[ad b i]? = some (cell.setSlot (D.2.1 ci k) v)) (g3 : cell.cls = D.1 ci) (g4 : cell.vm = .none)
    (g5 : ∀ j, j < rr.2.2 → ∃ v, cell.slots[D.2.1 ci j]? = some v ∧ gfv ad h ci b i j v) (gm : gmon cell) (ap : ∀ x y, x < rr.2.2 → y < rr.2.2 → x ≠ y → D.2.1 ci x ≠ D.2.1 ci y) (hkl : k < rr.2.2) (nw : gwk ci = false)
    (ho : ∀ j, j ≠ k → gval ad h' (gty ci j) b i j = gval ad h (gty ci j) b i j) (hv : v = gval ad h' (gty ci k) b i k) : gat D ad h' b i H1 := by
  unfold gat
  rw [hk]
  refine ⟨rr, _, g1, e, g3, g4, fun j hj => ?_, gm⟩
  by_cases q : j = k
  · subst q
    obtain ⟨v0, v1, -⟩ := g5 j hj
    exact ⟨v, gslot_self v1, fun _ _ => hv, fun w => absurd (nw.symm.trans w) (by decide)⟩
  · obtain ⟨v0, v1, v2⟩ := g5 j hj
    exact ⟨v0, (slot_ne cell v (ap k j hkl hj (fun z => q z.symm))).trans v1, fun w z => (v2.1 w z).trans (ho j q).symm, fun w => absurd (nw.symm.trans w) (by decide)⟩
theorem gput_atW {D : GD} {ad : Nat → Nat → Nat} {h : Hp} {ci b i k : Nat} {H1 : Heap} {rr : vw_C} {cell : Cell} {r0 : Option Rf} (hk : grk b = some (.inl ci)) (g1 : gcl[ci]? = some rr) (e : H1[ad b i]? = some (cell.setSlot (D.2.1 ci k) (gtr ad (gR r0)))) (g3 : cell.cls = D.1 ci) (g4 : cell.vm = .none)
    (g5 : ∀ j, j < rr.2.2 → ∃ v, cell.slots[D.2.1 ci j]? = some v ∧ gfv ad h ci b i j v) (gm : gmon cell) (hkl : k < rr.2.2) (nw : gwk ci = true)
    (ho : ∀ j, hR h b i j = none ∨ hR h b i j = r0) : gat D ad (sR h b i k r0) b i H1 := by
  unfold gat
  rw [hk]
  refine ⟨rr, _, g1, e, g3, g4, fun j hj => ?_, gm⟩
  have hall : ∀ r, hR (sR h b i k r0) b i j = some r → r0 = some r := by
    intro r hr
    by_cases q : j = k
    · subst q
      have : hR (sR h b i j r0) b i j = r0 := u3_eq
      rw [← this]; exact hr
    · have : hR (sR h b i k r0) b i j = hR h b i j := u3_ne (fun z => q z.2.2)
      rw [this] at hr
      rcases ho j with z | z
      · rw [z] at hr; cases hr
      · rw [← z]; exact hr
  obtain ⟨v0, v1, v2⟩ := g5 j hj
  by_cases q : D.2.1 ci k = D.2.1 ci j
  · refine ⟨gtr ad (gR r0), ?_, fun w => absurd (nw.symm.trans w) (by decide), fun w r hr => by rw [hall r hr]; rfl⟩
    rw [← q]
    exact gslot_self (by rw [q]; exact v1)
  · refine ⟨v0, (slot_ne cell _ q).trans v1, fun w => absurd (nw.symm.trans w) (by decide), fun w r hr => v2.2 w r ?_⟩
    by_cases z : j = k
    · exact absurd (by rw [z]) q
    · have : hR (sR h b i k r0) b i j = hR h b i j := u3_ne (fun z2 => z z2.2.2)
      rw [← this]; exact hr
theorem gcl_R {h : Hp} {b i k : Nat} {v : Option Rf} (c : ∀ b i k r, i < hC h b → gvk h b i k → hR h b i k = some r → r.2 < hC h r.1) (hv : glv h (gR v)) : ∀ b' i' k' r, i' < hC (sR h b i k v) b' → gvk (sR h b i k v) b' i' k' → hR (sR h b i k v) b' i' k' = some r → r.2 < hC (sR h b i k v) r.1 := by
  intro b' i' k' r hi hk hr
  by_cases q : b' = b ∧ i' = i ∧ k' = k
  · obtain ⟨rfl, rfl, rfl⟩ := q
    have : hR (sR h b' i' k' v) b' i' k' = v := u3_eq
    rw [this] at hr
    subst hr
    exact hv
  · have : hR (sR h b i k v) b' i' k' = hR h b' i' k' := u3_ne q
    rw [this] at hr
    exact c b' i' k' r hi hk hr
theorem gap_of {m : GM} {RM : Room} {p : Program} {l : Launch} {s : State} {mi : MethodId} {args : Array Value} {meth : Method} {c : Code} {D : GD} {base : Nat} {ad0 : Nat → Nat → Nat} (cx : gcx m RM p l s mi args meth c D base ad0) {ci : Nat} {rr : vw_C} (g1 : gcl[ci]? = some rr) (nw : gwk ci = false) : ∀ x y, x < rr.2.2 → y < rr.2.2 → x ≠ y → D.2.1 ci x ≠ D.2.1 ci y := by
  obtain ⟨C, T, N⟩ := rr
  obtain ⟨k1, k2, k3⟩ := gcl_ok ci _ g1
  exact va_apart (D := (D.1, D.2.1)) (cl := gcl) (tys := []) (s := s) (args := args) (own := gmO m) (Ts := lw_all) (gcx_hts cx) k1 (gty ci) k2 (k3 nw) (gK_va cx.2.2.2.2.2.2.2.2.2.1) g1
theorem gput_atA {D : GD} {ad : Nat → Nat → Nat} {h h' : Hp} {b i n : Nat} {ty : FieldType} {H1 : Heap} {cell : Cell} {v : Value} (hk : grk b = some (.inr ty)) (e : H1[ad b i]? = some (cell.setSlot n v)) (g3 : cell.cls = D.2.2 b) (g4 : cell.vm ≠ .unknown) (g4' : ∀ q, cell.vm ≠ .statics q)
    (g6 : gsz cell.slots.size (hN h b i)) (g7 : ∀ k, k < hN h b i → cell.slots[k]? = some (gval ad h ty b i k)) (hN' : hN h' = hN h) (hn : n < hN h b i)
    (ho : ∀ j, j ≠ n → gval ad h' ty b i j = gval ad h ty b i j) (hv : v = gval ad h' ty b i n) : gat D ad h' b i H1 := by
  unfold gat
  rw [hk]
  have hN1 : hN h' b i = hN h b i := by rw [hN']
  refine ⟨_, e, g3, g4, g4', ?_, fun j hj => ?_⟩
  · rw [hN1, show (cell.setSlot n v).slots.size = cell.slots.size by simp [Cell.setSlot]]; exact g6
  · rw [hN1] at hj
    by_cases q : j = n
    · subst q
      rw [← hv]
      exact gslot_self (g7 j hj)
    · rw [ho j q]
      exact (slot_ne cell v (fun z => q z.symm)).trans (g7 j hj)
theorem gin {n N : Nat} (h : n < N) (h2 : N < 2 ^ 31) : ¬ (nI n < 0 ∨ N ≤ (nI n).toNatClampNeg) := vp_in_nI h h2
theorem gsz_p {z N n : Nat} (g : gsz z N) (h : n < N) : z = N := by
  rcases g with g | g
  · exact g
  · omega
theorem gsz_i {z N : Nat} (g : gsz z N) : z.toInt32 = nI N := by
  rcases g with rfl | ⟨rfl, g⟩
  · rfl
  · exact g
section GS3
variable {m : GM} {d : Nat} {B : Nat × Nat} {Qr : List AV → Hp → Prop} {Qx : Rf → Hp → Prop} {pc : Nat} {u : Nat × Nat} {J : Nat → Lo → List AV → Hp → Prop} {F : Lo → List AV → Hp → Prop} {R : List AV → Hp → Prop} {X : Lo → Rf → Hp → Prop} {C : GM → List AV → Hp → (List AV → Hp → Prop) → (Rf → Hp → Prop) → Prop} {lo : Lo} {st : List AV} {h : Hp}
theorem gs_getfield {k : Nat} (hd : decode (gmC m) pc = .ok (.getfield k, 3)) (HY : gHyp m d B Qr Qx pc 3 u J F R X C) (hg : gx (gmo m) (gmN m) (gmF m) (gmR m) pc (.getfield k) lo st h J F R X C) : gT m (d + 1) B Qr Qx pc lo st h u := by
  simp only [gx] at hg
  split at hg
  · next b j r =>
    split at hg
    · next ci e1 =>
      split at hg
      · next q ty wq e2q =>
        intro p l e s mi args below meth c D base ad0 h0 H locs ls ad cx ex e2 rp vs lk sl u1 u2
        have f := gfk_ok cx.2.2.2.2.2.2.2.2.2.2.2.2.1.2.1 (grk_64 e1) e2q
        have hl : j < hC h b := (gl0 sl : glv h (gR (some (b, j))))
        obtain ⟨rr, cell, g1, g2, g3, g4, g5, gm⟩ := ggatO rp (gn2 f e1) hl e1
        have f' := f
        obtain ⟨C9, T9, N9, f1, f2, f3, -⟩ := f'
        cases g1.symm.trans f1
        obtain ⟨v, v1, v2⟩ := g5 q f2
        refine graw_get cx f g2 g4 v1 hd ?_
        obtain ⟨hkn, hg⟩ := gbif1 hg
        unfold ggetf at hg
        split at hg
        · next ew =>
          split at hg
          · next q0 eq0 =>
            have hv := v2.2 ew q0 eq0
            subst hv
            exact (HY.2.1 _ _ _ hg p l e s mi args below meth c D base ad0 h0 H locs ls ad cx ex e2 rp vs lk (glc (rp.2.2.2.1 _ _ _ _ hl (gvk_o e1) eq0) (gl1 sl)) u1 u2)
          · exact hg.elim
        · next ew =>
          have hv := v2.1 ew hkn
          have f3' : gty ci q = ty := f3
          rw [f3'] at hv
          subst hv
          split at hg
          · exact (HY.2.1 _ _ _ hg p l e s mi args below meth c D base ad0 h0 H locs ls ad cx ex e2 rp vs lk (glc trivial (gl1 sl)) u1 u2)
          · exact (HY.2.1 _ _ _ hg p l e s mi args below meth c D base ad0 h0 H locs ls ad cx ex e2 rp vs lk (glc trivial (gl1 sl)) u1 u2)
          · exact (HY.2.1 _ _ _ hg p l e s mi args below meth c D base ad0 h0 H locs ls ad cx ex e2 rp vs lk (glc trivial (gl1 sl)) u1 u2)
          · exact (HY.2.1 _ _ _ hg p l e s mi args below meth c D base ad0 h0 H locs ls ad cx ex e2 rp vs lk (glc (by cases er : hR h b j q with | none => trivial | some z => exact rp.2.2.2.1 _ _ _ _ hl (gvk_o e1) er) (gl1 sl)) u1 u2)
          · exact (HY.2.1 _ _ _ hg p l e s mi args below meth c D base ad0 h0 H locs ls ad cx ex e2 rp vs lk (glc (by cases er : hR h b j q with | none => trivial | some z => exact rp.2.2.2.1 _ _ _ _ hl (gvk_o e1) er) (gl1 sl)) u1 u2)
          · exact hg.elim
      · exact hg.elim
    · exact hg.elim
  · exact hg.elim
theorem gs_putraw {k b j q ci : Nat} {ty : FieldType} {wq : Nat} {r : List AV} {v : AV} (hd : decode (gmC m) pc = .ok (.putfield k, 3)) (HY : gHyp m d B Qr Qx pc 3 u J F R X C) (e1 : grk b = some (.inl ci)) (e2q : gfk (gmF m) k ci = some (q, ty, wq)) (hw : wq = 0 ∨ (wq = 1 ∧ gmN m = true)) (h8 : 7 < b)
    (hg : gputf h (gwk ci) ty b j q v (fun h' => F lo r h')) : gT m (d + 1) B Qr Qx pc lo (v :: gR (some (b, j)) :: r) h u := by
  intro p l e s mi args below meth c D base ad0 h0 H locs ls ad cx ex e2 rp vs lk sl u1 u2
  have f := gfk_ok cx.2.2.2.2.2.2.2.2.2.2.2.2.1.2.1 (grk_64 e1) e2q
  have hl : j < hC h b := (gl0 (gl1 sl) : glv h (gR (some (b, j))))
  obtain ⟨rr, cell, g1, g2, g3, g4, g5, gm⟩ := ggatO rp (gn2 f e1) hl e1
  have f' := f
  obtain ⟨C9, T9, N9, f1, f2, f3, -⟩ := f'
  cases g1.symm.trans f1
  obtain ⟨v0, v1, v2⟩ := g5 q f2
  have f3' : gty ci q = ty := f3
  unfold gputf at hg
  split at hg
  · next x =>
    split at hg
    · exact hg.elim
    · next ew =>
      have nf : narrow ty (.int x) = .int x ∧ fits ty (.int x) = true ∧ F lo r (sI h b j q x) ∧ gval ad (sI h b j q x) ty b j q = .int x := by
        split at hg
        · exact ⟨rfl, rfl, hg, congrArg Value.int u3_eq⟩
        · refine ⟨?_, ?_, hg.2, congrArg Value.int u3_eq⟩ <;> rcases hg.1 with rfl | rfl <;> decide
        · exact hg.elim
      refine graw_put cx f hw g2 g3 g4 v1 nf.1 nf.2.1 hd (fun H1 k9 e9 z1 o1 => ?_)
      have hat : gat D ad (sI h b j q x) b j H1 := gput_atO e1 g1 e9 g3 g4 g5 gm (gap_of cx g1 ew) f2 ew (fun j2 hj2 => by
        have : hI (sI h b j q x) b j j2 = hI h b j j2 := u3_ne (fun z => hj2 z.2.2)
        unfold gval; split <;> first | rfl | rw [this]) (by rw [f3']; exact nf.2.2.2.symm)
      exact (HY.2.1 _ _ _ nf.2.2.1 p l e s mi args below meth c D base ad0 h0 H1 _ ls ad cx ex e2 (grep_put rp h8 hl (gsame_I h b j q x) rp.2.2.2.1 z1 o1 hat) (vs.put z1 o1 (rp.2.2.1 _ _ h8 hl)) lk (gl1 (gl1 sl)) u1 u2)
  · next x =>
    split at hg
    · exact hg.elim
    · next ew =>
      split at hg
      · refine graw_put cx f hw g2 g3 g4 v1 rfl rfl hd (fun H1 k9 e9 z1 o1 => ?_)
        have hat : gat D ad (sL h b j q x) b j H1 := gput_atO e1 g1 e9 g3 g4 g5 gm (gap_of cx g1 ew) f2 ew (fun j2 hj2 => by
          have : hL (sL h b j q x) b j j2 = hL h b j j2 := u3_ne (fun z => hj2 z.2.2)
          unfold gval; split <;> first | rfl | rw [this]) (by rw [f3']; exact (congrArg Value.long u3_eq).symm)
        exact (HY.2.1 _ _ _ hg p l e s mi args below meth c D base ad0 h0 H1 _ ls ad cx ex e2 (grep_put rp h8 hl (gsame_L h b j q x) rp.2.2.2.1 z1 o1 hat) (vs.put z1 o1 (rp.2.2.1 _ _ h8 hl)) lk (gl1 (gl1 sl)) u1 u2)
      · exact hg.elim
  · next x =>
    have hx : glv h (gR x) := gl0 sl
    have nrm : ∀ (t : FieldType), (∃ n, t = .object n) ∨ (∃ n, t = .array n) → narrow t (gtr ad (gR x)) = gtr ad (gR x) ∧ fits t (gtr ad (gR x)) = true := by
      intro t ht
      rcases ht with ⟨n, rfl⟩ | ⟨n, rfl⟩ <;> rcases x with _ | x <;> exact ⟨rfl, rfl⟩
    have fin : ((∃ n, ty = .object n) ∨ (∃ n, ty = .array n)) → gwk ci = false → F lo r (sR h b j q x) → W p l e (grm (d + 1) B) s mi args below meth c H locs u.1 u.2 (vx_MQ below (gQc D base ad0 h0 Qr) (gXC D base ad0 h0 Qx) args s B.1 B.2 (fun q => base ≤ q)) (F0 mi pc ls (gtr ad (gR x) :: .ref (ad b j) :: r.map (gtr ad))) := by
      intro ht ew hg
      refine graw_put cx f hw g2 g3 g4 v1 (nrm ty ht).1 (nrm ty ht).2 hd (fun H1 k9 e9 z1 o1 => ?_)
      have hat : gat D ad (sR h b j q x) b j H1 := gput_atO e1 g1 e9 g3 g4 g5 gm (gap_of cx g1 ew) f2 ew (fun j2 hj2 => by
        have : hR (sR h b j q x) b j j2 = hR h b j j2 := u3_ne (fun z => hj2 z.2.2)
        unfold gval; split <;> first | rfl | rw [this]) (by
          have : hR (sR h b j q x) b j q = x := u3_eq
          rw [f3']; rcases ht with ⟨n, rfl⟩ | ⟨n, rfl⟩ <;> (unfold gval; rw [this]))
      exact (HY.2.1 _ _ _ hg p l e s mi args below meth c D base ad0 h0 H1 _ ls ad cx ex e2 (grep_put rp h8 hl (gsame_R h b j q x) (gcl_R rp.2.2.2.1 hx) z1 o1 hat) (vs.put z1 o1 (rp.2.2.1 _ _ h8 hl)) lk (gl1 (gl1 sl)) u1 u2)
    split at hg
    · split at hg
      · next ew =>
        refine graw_put cx f hw g2 g3 g4 v1 (nrm _ (Or.inl ⟨_, rfl⟩)).1 (nrm _ (Or.inl ⟨_, rfl⟩)).2 hd (fun H1 k9 e9 z1 o1 => ?_)
        have hat : gat D ad (sR h b j q x) b j H1 := gput_atW e1 g1 e9 g3 g4 g5 gm f2 ew hg.1
        exact (HY.2.1 _ _ _ hg.2 p l e s mi args below meth c D base ad0 h0 H1 _ ls ad cx ex e2 (grep_put rp h8 hl (gsame_R h b j q x) (gcl_R rp.2.2.2.1 hx) z1 o1 hat) (vs.put z1 o1 (rp.2.2.1 _ _ h8 hl)) lk (gl1 (gl1 sl)) u1 u2)
      · next ew => exact fin (Or.inl ⟨_, rfl⟩) ew hg
    · split at hg
      · exact hg.elim
      · next ew => exact fin (Or.inr ⟨_, rfl⟩) ew hg
    · exact hg.elim
theorem gble {b : Nat} {A : Prop} (h : bif Nat.ble 8 b then A else False) : 7 < b ∧ A := by
  cases e : Nat.ble 8 b with
  | true => rw [e] at h; exact ⟨Nat.le_of_ble_eq_true e, h⟩
  | false => rw [e] at h; exact h.elim
theorem gble2 {b : Nat} {n : Bool} {A : Prop} (h : bif Nat.ble 8 b && n then A else False) : 7 < b ∧ n = true ∧ A := by
  cases e : Nat.ble 8 b with
  | true =>
    rw [e] at h
    cases n with
    | true => exact ⟨Nat.le_of_ble_eq_true e, rfl, h⟩
    | false => exact h.elim
  | false => rw [e] at h; exact h.elim
theorem gs_putfield {k : Nat} (hd : decode (gmC m) pc = .ok (.putfield k, 3)) (HY : gHyp m d B Qr Qx pc 3 u J F R X C) (hg : gx (gmo m) (gmN m) (gmF m) (gmR m) pc (.putfield k) lo st h J F R X C) : gT m (d + 1) B Qr Qx pc lo st h u := by
  simp only [gx] at hg
  split at hg
  · next v b j r =>
    split at hg
    · next ci e1 =>
      split at hg
      · next q ty e2q =>
        obtain ⟨h8, hg⟩ := gble hg
        exact gs_putraw hd HY e1 e2q (Or.inl rfl) h8 hg
      · next q ty e2q =>
        obtain ⟨h8, hn, hg⟩ := gble2 hg
        exact gs_putraw hd HY e1 e2q (Or.inr ⟨rfl, hn⟩) h8 hg
      · exact hg.elim
    · exact hg.elim
  · exact hg.elim
theorem gs_iaload (hd : decode (gmC m) pc = .ok (.iaload, 1)) (HY : gHyp m d B Qr Qx pc 1 u J F R X C) (hg : gx (gmo m) (gmN m) (gmF m) (gmR m) pc (.iaload) lo st h J F R X C) : gT m (d + 1) B Qr Qx pc lo st h u := by
  simp only [gx] at hg
  split at hg
  · next x b j r =>
    split at hg
    · next e1 =>
      obtain ⟨n, rfl, hn, hg⟩ := hg
      intro p l e s mi args below meth c D base ad0 h0 H locs ls ad cx ex e2 rp vs lk sl u1 u2
      have hl : j < hC h b := (gl0 (gl1 sl) : glv h (gR (some (b, j))))
      obtain ⟨cell, g2, g3, g4, g5, g6, g7⟩ := ggatA rp hl e1
      have hcl := nI_clamp (Nat.lt_trans hn (rp.2.2.2.2.1 b j))
      refine W.iald cx.1 cx.2.1 g2 (garr (cx.2.2.2.2.2.2.2.2.2.1.2.1 b _ e1) g3 g5)  g4 (by rw [gsz_p g6 hn]; exact gin hn (rp.2.2.2.2.1 b j)) (v := gtr ad (gI (hI h b j n))) (by rw [hcl]; exact g7 n hn) rfl rfl hd ?_
      exact (HY.2.1 _ _ _ hg p l e s mi args below meth c D base ad0 h0 H locs ls ad cx ex e2 rp vs lk (glc trivial (gl1 (gl1 sl))) u1 u2)
    · exact hg.elim
  · exact hg.elim
theorem gs_baload (hd : decode (gmC m) pc = .ok (.baload, 1)) (HY : gHyp m d B Qr Qx pc 1 u J F R X C) (hg : gx (gmo m) (gmN m) (gmF m) (gmR m) pc (.baload) lo st h J F R X C) : gT m (d + 1) B Qr Qx pc lo st h u := by
  simp only [gx] at hg
  split at hg
  · next x b j r =>
    split at hg
    · next e1 =>
      obtain ⟨n, rfl, hn, hg⟩ := hg
      intro p l e s mi args below meth c D base ad0 h0 H locs ls ad cx ex e2 rp vs lk sl u1 u2
      have hl : j < hC h b := (gl0 (gl1 sl) : glv h (gR (some (b, j))))
      obtain ⟨cell, g2, g3, g4, g5, g6, g7⟩ := ggatA rp hl e1
      have hcl := nI_clamp (Nat.lt_trans hn (rp.2.2.2.2.1 b j))
      refine W.bald cx.1 cx.2.1 g2 (garr (cx.2.2.2.2.2.2.2.2.2.1.2.1 b _ e1) g3 g5)  g4 (by rw [gsz_p g6 hn]; exact gin hn (rp.2.2.2.2.1 b j)) (v := gtr ad (gI (hI h b j n))) (by rw [hcl]; exact g7 n hn) rfl rfl hd ?_
      exact (HY.2.1 _ _ _ hg p l e s mi args below meth c D base ad0 h0 H locs ls ad cx ex e2 rp vs lk (glc trivial (gl1 (gl1 sl))) u1 u2)
    · next e1 =>
      obtain ⟨n, rfl, hn, hg⟩ := hg
      intro p l e s mi args below meth c D base ad0 h0 H locs ls ad cx ex e2 rp vs lk sl u1 u2
      have hl : j < hC h b := (gl0 (gl1 sl) : glv h (gR (some (b, j))))
      obtain ⟨cell, g2, g3, g4, g5, g6, g7⟩ := ggatA rp hl e1
      have hcl := nI_clamp (Nat.lt_trans hn (rp.2.2.2.2.1 b j))
      refine W.zald cx.1 cx.2.1 g2 (garr (cx.2.2.2.2.2.2.2.2.2.1.2.1 b _ e1) g3 g5)  g4 (by rw [gsz_p g6 hn]; exact gin hn (rp.2.2.2.2.1 b j)) (v := gtr ad (gI (hI h b j n))) (by rw [hcl]; exact g7 n hn) rfl rfl hd ?_
      exact (HY.2.1 _ _ _ hg p l e s mi args below meth c D base ad0 h0 H locs ls ad cx ex e2 rp vs lk (glc trivial (gl1 (gl1 sl))) u1 u2)
    · exact hg.elim
  · exact hg.elim
theorem gs_laload (hd : decode (gmC m) pc = .ok (.laload, 1)) (HY : gHyp m d B Qr Qx pc 1 u J F R X C) (hg : gx (gmo m) (gmN m) (gmF m) (gmR m) pc (.laload) lo st h J F R X C) : gT m (d + 1) B Qr Qx pc lo st h u := by
  simp only [gx] at hg
  split at hg
  · next x b j r =>
    split at hg
    · next e1 =>
      obtain ⟨n, rfl, hn, hg⟩ := hg
      intro p l e s mi args below meth c D base ad0 h0 H locs ls ad cx ex e2 rp vs lk sl u1 u2
      have hl : j < hC h b := (gl0 (gl1 sl) : glv h (gR (some (b, j))))
      obtain ⟨cell, g2, g3, g4, g5, g6, g7⟩ := ggatA rp hl e1
      have hcl := nI_clamp (Nat.lt_trans hn (rp.2.2.2.2.1 b j))
      refine W.lald cx.1 cx.2.1 g2 (garr (cx.2.2.2.2.2.2.2.2.2.1.2.1 b _ e1) g3 g5)  g4 (by rw [gsz_p g6 hn]; exact gin hn (rp.2.2.2.2.1 b j)) (v := gtr ad (gL (hL h b j n))) (by rw [hcl]; exact g7 n hn) rfl rfl hd ?_
      exact (HY.2.1 _ _ _ hg p l e s mi args below meth c D base ad0 h0 H locs ls ad cx ex e2 rp vs lk (glc trivial (gl1 (gl1 sl))) u1 u2)
    · exact hg.elim
  · exact hg.elim
theorem gs_aaload (hd : decode (gmC m) pc = .ok (.aaload, 1)) (HY : gHyp m d B Qr Qx pc 1 u J F R X C) (hg : gx (gmo m) (gmN m) (gmF m) (gmR m) pc (.aaload) lo st h J F R X C) : gT m (d + 1) B Qr Qx pc lo st h u := by
  simp only [gx] at hg
  split at hg
  · next x b j r =>
    split at hg
    · next en e1 =>
      obtain ⟨n, rfl, hn, hg⟩ := hg
      intro p l e s mi args below meth c D base ad0 h0 H locs ls ad cx ex e2 rp vs lk sl u1 u2
      have hl : j < hC h b := (gl0 (gl1 sl) : glv h (gR (some (b, j))))
      obtain ⟨cell, g2, g3, g4, g5, g6, g7⟩ := ggatA rp hl e1
      have hcl := nI_clamp (Nat.lt_trans hn (rp.2.2.2.2.1 b j))
      refine W.aald cx.1 cx.2.1 g2 (garr (cx.2.2.2.2.2.2.2.2.2.1.2.1 b _ e1) g3 g5) rfl g4 (by rw [gsz_p g6 hn]; exact gin hn (rp.2.2.2.2.1 b j)) (v := gtr ad (gR (hR h b j n))) (by rw [hcl]; exact g7 n hn) rfl rfl hd ?_
      exact (HY.2.1 _ _ _ hg p l e s mi args below meth c D base ad0 h0 H locs ls ad cx ex e2 rp vs lk (glc (by cases er : hR h b j n with | none => trivial | some z => exact rp.2.2.2.1 _ _ _ _ hl (gvk_a e1 hn) er) (gl1 (gl1 sl))) u1 u2)
    · next en e1 =>
      obtain ⟨n, rfl, hn, hg⟩ := hg
      intro p l e s mi args below meth c D base ad0 h0 H locs ls ad cx ex e2 rp vs lk sl u1 u2
      have hl : j < hC h b := (gl0 (gl1 sl) : glv h (gR (some (b, j))))
      obtain ⟨cell, g2, g3, g4, g5, g6, g7⟩ := ggatA rp hl e1
      have hcl := nI_clamp (Nat.lt_trans hn (rp.2.2.2.2.1 b j))
      refine W.aald cx.1 cx.2.1 g2 (garr (cx.2.2.2.2.2.2.2.2.2.1.2.1 b _ e1) g3 g5) rfl g4 (by rw [gsz_p g6 hn]; exact gin hn (rp.2.2.2.2.1 b j)) (v := gtr ad (gR (hR h b j n))) (by rw [hcl]; exact g7 n hn) rfl rfl hd ?_
      exact (HY.2.1 _ _ _ hg p l e s mi args below meth c D base ad0 h0 H locs ls ad cx ex e2 rp vs lk (glc (by cases er : hR h b j n with | none => trivial | some z => exact rp.2.2.2.1 _ _ _ _ hl (gvk_a e1 hn) er) (gl1 (gl1 sl))) u1 u2)
    · exact hg.elim
  · exact hg.elim
theorem gs_iastore (hd : decode (gmC m) pc = .ok (.iastore, 1)) (HY : gHyp m d B Qr Qx pc 1 u J F R X C) (hg : gx (gmo m) (gmN m) (gmF m) (gmR m) pc (.iastore) lo st h J F R X C) : gT m (d + 1) B Qr Qx pc lo st h u := by
  simp only [gx] at hg
  split at hg
  · next v x b j r =>
    split at hg
    · next e1 =>
      obtain ⟨h8, hg⟩ := gble hg
      obtain ⟨n, rfl, hn, hg⟩ := hg
      intro p l e s mi args below meth c D base ad0 h0 H locs ls ad cx ex e2 rp vs lk sl u1 u2
      have hl : j < hC h b := (gl0 (gl1 (gl1 sl)) : glv h (gR (some (b, j))))
      obtain ⟨cell, g2, g3, g4, g5, g6, g7⟩ := ggatA rp hl e1
      have hcl := nI_clamp (Nat.lt_trans hn (rp.2.2.2.2.1 b j))
      refine W.iast cx.1 cx.2.1 g2 (garr (cx.2.2.2.2.2.2.2.2.2.1.2.1 b _ e1) g3 g5) g4 (by rw [gsz_p g6 hn]; exact gin hn (rp.2.2.2.2.1 b j)) rfl rfl hd (fun H1 e9 z1 o1 => ?_)
      rw [hcl] at e9
      have hat : gat D ad (sI h b j n v) b j H1 := gput_atA e1 e9 g3 g4 g5 g6 g7 rfl hn (fun j2 hj2 => by
        have : hI (sI h b j n v) b j j2 = hI h b j j2 := u3_ne (fun z => hj2 z.2.2)
        unfold gval; rw [this]) ((congrArg Value.int u3_eq).symm)
      exact (HY.2.1 _ _ _ hg p l e s mi args below meth c D base ad0 h0 H1 _ ls ad cx ex e2 (grep_put rp h8 hl (gsame_I h b j n _) rp.2.2.2.1 z1 o1 hat) (vs.put z1 o1 (rp.2.2.1 _ _ h8 hl)) lk (gl1 (gl1 (gl1 sl))) u1 u2)
    · exact hg.elim
  · exact hg.elim
theorem gs_bastore (hd : decode (gmC m) pc = .ok (.bastore, 1)) (HY : gHyp m d B Qr Qx pc 1 u J F R X C) (hg : gx (gmo m) (gmN m) (gmF m) (gmR m) pc (.bastore) lo st h J F R X C) : gT m (d + 1) B Qr Qx pc lo st h u := by
  simp only [gx] at hg
  split at hg
  · next v x b j r =>
    split at hg
    · next e1 =>
      obtain ⟨h8, hg⟩ := gble hg
      obtain ⟨n, rfl, hn, hg⟩ := hg
      intro p l e s mi args below meth c D base ad0 h0 H locs ls ad cx ex e2 rp vs lk sl u1 u2
      have hl : j < hC h b := (gl0 (gl1 (gl1 sl)) : glv h (gR (some (b, j))))
      obtain ⟨cell, g2, g3, g4, g5, g6, g7⟩ := ggatA rp hl e1
      have hcl := nI_clamp (Nat.lt_trans hn (rp.2.2.2.2.1 b j))
      refine W.bast cx.1 cx.2.1 g2 (garr (cx.2.2.2.2.2.2.2.2.2.1.2.1 b _ e1) g3 g5) g4 (by rw [gsz_p g6 hn]; exact gin hn (rp.2.2.2.2.1 b j)) rfl rfl hd (fun H1 e9 z1 o1 => ?_)
      rw [hcl] at e9
      have hat : gat D ad (sI h b j n v.toInt8.toInt32) b j H1 := gput_atA e1 e9 g3 g4 g5 g6 g7 rfl hn (fun j2 hj2 => by
        have : hI (sI h b j n v.toInt8.toInt32) b j j2 = hI h b j j2 := u3_ne (fun z => hj2 z.2.2)
        unfold gval; rw [this]) ((narrow_byte v).trans (congrArg Value.int u3_eq).symm)
      exact (HY.2.1 _ _ _ hg p l e s mi args below meth c D base ad0 h0 H1 _ ls ad cx ex e2 (grep_put rp h8 hl (gsame_I h b j n _) rp.2.2.2.1 z1 o1 hat) (vs.put z1 o1 (rp.2.2.1 _ _ h8 hl)) lk (gl1 (gl1 (gl1 sl))) u1 u2)
    · next e1 =>
      obtain ⟨h8, hg⟩ := gble hg
      obtain ⟨hbo, hg⟩ := hg
      obtain ⟨n, rfl, hn, hg⟩ := hg
      intro p l e s mi args below meth c D base ad0 h0 H locs ls ad cx ex e2 rp vs lk sl u1 u2
      have hl : j < hC h b := (gl0 (gl1 (gl1 sl)) : glv h (gR (some (b, j))))
      obtain ⟨cell, g2, g3, g4, g5, g6, g7⟩ := ggatA rp hl e1
      have hcl := nI_clamp (Nat.lt_trans hn (rp.2.2.2.2.1 b j))
      refine W.zast cx.1 cx.2.1 g2 (garr (cx.2.2.2.2.2.2.2.2.2.1.2.1 b _ e1) g3 g5) g4 (by rw [gsz_p g6 hn]; exact gin hn (rp.2.2.2.2.1 b j)) rfl rfl hd (fun H1 e9 z1 o1 => ?_)
      rw [hcl] at e9
      have hat : gat D ad (sI h b j n v) b j H1 := gput_atA e1 e9 g3 g4 g5 g6 g7 rfl hn (fun j2 hj2 => by
        have : hI (sI h b j n v) b j j2 = hI h b j j2 := u3_ne (fun z => hj2 z.2.2)
        unfold gval; rw [this]) ((show narrow .boolean (.int v) = .int v by rcases hbo with rfl | rfl <;> decide).trans (congrArg Value.int u3_eq).symm)
      exact (HY.2.1 _ _ _ hg p l e s mi args below meth c D base ad0 h0 H1 _ ls ad cx ex e2 (grep_put rp h8 hl (gsame_I h b j n _) rp.2.2.2.1 z1 o1 hat) (vs.put z1 o1 (rp.2.2.1 _ _ h8 hl)) lk (gl1 (gl1 (gl1 sl))) u1 u2)
    · exact hg.elim
  · exact hg.elim
theorem gs_lastore (hd : decode (gmC m) pc = .ok (.lastore, 1)) (HY : gHyp m d B Qr Qx pc 1 u J F R X C) (hg : gx (gmo m) (gmN m) (gmF m) (gmR m) pc (.lastore) lo st h J F R X C) : gT m (d + 1) B Qr Qx pc lo st h u := by
  simp only [gx] at hg
  split at hg
  · next v x b j r =>
    split at hg
    · next e1 =>
      obtain ⟨h8, hg⟩ := gble hg
      obtain ⟨n, rfl, hn, hg⟩ := hg
      intro p l e s mi args below meth c D base ad0 h0 H locs ls ad cx ex e2 rp vs lk sl u1 u2
      have hl : j < hC h b := (gl0 (gl1 (gl1 sl)) : glv h (gR (some (b, j))))
      obtain ⟨cell, g2, g3, g4, g5, g6, g7⟩ := ggatA rp hl e1
      have hcl := nI_clamp (Nat.lt_trans hn (rp.2.2.2.2.1 b j))
      refine W.last cx.1 cx.2.1 g2 (garr (cx.2.2.2.2.2.2.2.2.2.1.2.1 b _ e1) g3 g5) g4 (by rw [gsz_p g6 hn]; exact gin hn (rp.2.2.2.2.1 b j)) rfl rfl hd (fun H1 e9 z1 o1 => ?_)
      rw [hcl] at e9
      have hat : gat D ad (sL h b j n v) b j H1 := gput_atA e1 e9 g3 g4 g5 g6 g7 rfl hn (fun j2 hj2 => by
        have : hL (sL h b j n v) b j j2 = hL h b j j2 := u3_ne (fun z => hj2 z.2.2)
        unfold gval; rw [this]) ((congrArg Value.long u3_eq).symm)
      exact (HY.2.1 _ _ _ hg p l e s mi args below meth c D base ad0 h0 H1 _ ls ad cx ex e2 (grep_put rp h8 hl (gsame_L h b j n _) rp.2.2.2.1 z1 o1 hat) (vs.put z1 o1 (rp.2.2.1 _ _ h8 hl)) lk (gl1 (gl1 (gl1 sl))) u1 u2)
    · exact hg.elim
  · exact hg.elim
theorem gs_arraylength (hd : decode (gmC m) pc = .ok (.arraylength, 1)) (HY : gHyp m d B Qr Qx pc 1 u J F R X C) (hg : gx (gmo m) (gmN m) (gmF m) (gmR m) pc (.arraylength) lo st h J F R X C) : gT m (d + 1) B Qr Qx pc lo st h u := by
  simp only [gx] at hg
  split at hg
  · next b j r =>
    split at hg
    · next ty e1 =>
      intro p l e s mi args below meth c D base ad0 h0 H locs ls ad cx ex e2 rp vs lk sl u1 u2
      have hl : j < hC h b := (gl0 sl : glv h (gR (some (b, j))))
      obtain ⟨cell, g2, g3, g4, g5, g6, g7⟩ := ggatA rp hl e1
      refine W.alen cx.1 cx.2.1 g2 (garr (cx.2.2.2.2.2.2.2.2.2.1.2.1 b _ e1) g3 g5) (n := nI (hN h b j)) (gsz_i g6) rfl rfl hd ?_
      exact (HY.2.1 _ _ _ hg p l e s mi args below meth c D base ad0 h0 H locs ls ad cx ex e2 rp vs lk (glc trivial (gl1 sl)) u1 u2)
    · exact hg.elim
  · exact hg.elim
end GS3
