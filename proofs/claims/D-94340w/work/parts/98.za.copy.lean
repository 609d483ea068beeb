/-! ===== System.arraycopy ===== -/
/-- n ints of one array, from sp on, lie in another from dp on -/
def gCp (h : Hp) (b j b2 j2 sp dp n : Nat) : Hp := (fun b' i' k => if b' = b2 ∧ i' = j2 ∧ dp ≤ k ∧ k < dp + n then hI h b j (sp + (k - dp)) else hI h b' i' k, h.2)
/-- the same of references -/
def gCpR (h : Hp) (b j b2 j2 sp dp n : Nat) : Hp := (h.1, h.2.1, (fun b' i' k => if b' = b2 ∧ i' = j2 ∧ dp ≤ k ∧ k < dp + n then hR h b j (sp + (k - dp)) else hR h b' i' k), h.2.2.2)
theorem gcp_at {cs cd : Cell} {o p n : Nat} (ho : o < 2 ^ 31) (hp : p < 2 ^ 31) (hn : n < 2 ^ 31) (hin : p + n ≤ cd.slots.size) (j : Nat) :
    (copied cs cd (nI o) (nI p) (nI n)).slots[j]? = if p ≤ j ∧ j < p + n then some (cs.slots.getD (o + (j - p)) .null) else cd.slots[j]? := by
  show (cd.storeRun (nI p).toNatClampNeg (cs.stretch (nI o).toNatClampNeg (nI n).toNatClampNeg)).slots[j]? = _
  have len : ∀ a m, (cs.stretch a m).length = m := fun a m => by simp [Cell.stretch]
  rw [nI_clamp ho, nI_clamp hp, nI_clamp hn, Cell.storeRun_get _ _ _ _ (by rw [len]; exact hin), len]
  by_cases h : p ≤ j ∧ j < p + n
  · rw [if_pos h, if_pos h]; show (cs.stretch o n)[j - p]? = _; simp [Cell.stretch, show j - p < n from by omega]
  · rw [if_neg h, if_neg h]
theorem gcp_facts (cs cd : Cell) (a b n : Int32) : (copied cs cd a b n).cls = cd.cls ∧ (copied cs cd a b n).vm = cd.vm ∧ (copied cs cd a b n).slots.size = cd.slots.size := ⟨(Cell.storeRun_facts _ _ _).1, (Cell.storeRun_facts _ _ _).2.1, (Cell.storeRun_facts _ _ _).2.2.1⟩
theorem gsz_le {z N m : Nat} (h : gsz z N) (hm : m ≤ N) : m ≤ z := by
  rcases h with h | h
  · omega
  · omega
section GCPY
variable {m : GM} {d : Nat} {B : Nat × Nat} {Qr : List AV → Hp → Prop} {Qx : Rf → Hp → Prop} {u : Nat × Nat} {pc : Nat} {lo : Lo} {r : List AV} {h : Hp} {index : Nat}
theorem gT_acp {b j b2 j2 sp dp n : Nat} (hb2 : 7 < b2) (hk : grk b = some (.inr .int)) (hk2 : grk b2 = some (.inr .int)) (h4 : sp + n ≤ hN h b j) (h5 : dp + n ≤ hN h b2 j2) (hlk : Jvm.Cond.methodLink (gmO m) index arraycopyName ∈ lw_all)
    (hr : Nat.ble (gsum r) 16 = true) (hd : decode (gmC m) pc = .ok (.invokestatic index, 3)) (K : gT m (d + 1) B Qr Qx (pc + 3) lo r (gCp h b j b2 j2 sp dp n) u) : gT m (d + 1) B Qr Qx pc lo (gI (nI n) :: gI (nI dp) :: gR (some (b2, j2)) :: gI (nI sp) :: gR (some (b, j)) :: r) h u := by
  intro p l e s mi args below meth c D base ad0 h0 H locs ls ad cx ex e2 rp vs lk sl u1 u2
  have hts := gcx_hts cx
  have hgk := cx.2.2.2.2.2.2.2.2.2.1
  have hl : j < hC h b := (sl _ (by simp) : glv h (gR (some (b, j))))
  have hl2 : j2 < hC h b2 := (sl _ (by simp) : glv h (gR (some (b2, j2))))
  have L1 := rp.2.2.2.2.1 b j
  have L2 := rp.2.2.2.2.1 b2 j2
  obtain ⟨cs, s2, s3, s4, s5, s6, s7⟩ := ggatA rp hl hk
  obtain ⟨cd, t2, t3, t4, t5, t6, t7⟩ := ggatA rp hl2 hk2
  obtain ⟨-, ks, hks, sc, hsk⟩ := (hgk.2.1 b _ hk) 0 (fun _ => .null)
  obtain ⟨-, kd, hkd, dc, hdk⟩ := (hgk.2.1 b2 _ hk2) 0 (fun _ => .null)
  have i1 : (nI sp).toInt = (sp : Int) := nI_toInt (by omega)
  have i2 : (nI dp).toInt = (dp : Int) := nI_toInt (by omega)
  have i3 : (nI n).toInt = (n : Int) := nI_toInt (by omega)
  have c1 : (nI sp).toNatClampNeg = sp := nI_clamp (by omega)
  have c2 : (nI dp).toNatClampNeg = dp := nI_clamp (by omega)
  have c3 : (nI n).toNatClampNeg = n := nI_clamp (by omega)
  intro T hT0 X
  subst hT0
  have hss := gsz_le s6 h4
  have hds := gsz_le t6 h5
  obtain ⟨vm', X', step⟩ := X.arraycopy cx.1 cx.2.2.2.2.2.1 (hts _ hlk) (hts _ q598) (hts _ q597) (hts _ q174) (src := ad b j) (dst := ad b2 j2) (cs := cs) (cd := cd) (srcPos := nI sp) (destPos := nI dp) (n := nI n) s2 t2 s5 t5 s4 t4 (by rw [s3]; exact hks) (by rw [t3]; exact hkd) hsk hdk rfl (nI_pos (by omega)) (nI_pos (by omega)) (nI_pos (by omega)) (by rw [i1, i3]; omega) (by rw [i2, i3]; omega)
    (fun vm₁ _ i hi => by
      rw [c3] at hi
      have e9 : cs.slots.getD (sp + i) .null = .int (hI h b j (sp + i)) := by
        rw [Array.getD_eq_getD_getElem?, s7 (sp + i) (by omega)] <;> rfl
      rw [c1, e9]
      exact ⟨rfl, trivial⟩)
    (g := F0 mi pc ls ((gI (nI n) :: gI (nI dp) :: gR (some (b2, j2)) :: gI (nI sp) :: gR (some (b, j)) :: r).map (gtr ad))) rfl (by rw [lk.1]; exact cx.2.2.2.1.symm) (rest := r.map (gtr ad)) rfl (by rw [cx.2.1]; exact hd) (by show 1 ≤ d + 1; omega) (by
      have q := Nat.le_of_ble_eq_true hr
      rw [gsum_cat]
      show 2 * 0 + gsum r + (7 + 11) ≤ 48 * (d + 1) + 14000
      omega)
  have hf := gcp_facts cs cd (nI sp) (nI dp) (nI n)
  have hz : ad b2 j2 < T.heap.size := (Array.getElem?_eq_some_iff.mp t2).1
  have e1 : ((T.setVm vm').setCell (ad b2 j2) (copied cs cd (nI sp) (nI dp) (nI n))).heap[ad b2 j2]? = some (copied cs cd (nI sp) (nI dp) (nI n)) := State.heap_setCell_self (c := cd) t2
  have rp1 : grep D base ad (gCp h b j b2 j2 sp dp n) ((T.setVm vm').setCell (ad b2 j2) (copied cs cd (nI sp) (nI dp) (nI n))).heap := by
    refine grep_put rp hb2 hl2 ⟨fun b' i' k hn => ⟨if_neg (fun q => hn ⟨q.1, q.2.1⟩), rfl, rfl⟩, rfl, rfl⟩ (fun b' i' k' r' q1 q2 q3 => rp.2.2.2.1 b' i' k' r' q1 q2 q3) (size_setCell _ _ _) (fun q hq => State.heap_setCell_other (Ne.symm hq)) ?_
    unfold gat
    rw [hk2]
    refine ⟨_, e1, hf.1.trans t3, by rw [hf.2.1]; exact t4, fun q => by rw [hf.2.1]; exact t5 q, by rw [hf.2.2]; exact t6, fun k hkk => ?_⟩
    rw [gcp_at (by omega) (by omega) (by omega) hds]
    show _ = some (Value.int (if b2 = b2 ∧ j2 = j2 ∧ dp ≤ k ∧ k < dp + n then hI h b j (sp + (k - dp)) else hI h b2 j2 k))
    by_cases c : dp ≤ k ∧ k < dp + n
    · rw [if_pos c, if_pos ⟨rfl, rfl, c⟩, Array.getD_eq_getD_getElem?, s7 _ (by omega)] <;> rfl
    · rw [if_neg c, if_neg (fun q => c q.2.2)]; exact t7 k hkk
  have K1 := K p l e s mi args below meth c D base ad0 h0 _ (locs ++ (cs.stretch (nI sp).toNatClampNeg (nI n).toNatClampNeg).zipIdx.map fun q => ⟨ad b2 j2, (nI dp).toNatClampNeg + q.2⟩) ls ad cx ex e2 rp1 ⟨by rw [size_setCell]; exact vs.1, fun q g1 g2 => by
      rw [State.heap_setCell_other (fun z => g2 (by rw [← z]; exact rp.2.2.1 b2 j2 hb2 hl2))]
      exact vs.2.1 q g1 g2, fun q hq => by
      rcases List.mem_append.mp hq with z | z
      · exact vs.2.2 q z
      · obtain ⟨w, -, hw⟩ := List.mem_map.mp z
        rw [← hw]
        exact rp.2.2.1 b2 j2 hb2 hl2⟩ lk (gl1 (gl1 (gl1 (gl1 (gl1 sl))))) u1 u2
  obtain ⟨t, a1, b1⟩ := K1 _ rfl X'
  exact ⟨t, step t a1, b1⟩
end GCPY
/-- the first n of an array of the region b, in another's place -/
def cpA (I : Nat → Nat → Nat → Int32) (b i j n : Nat) : Nat → Nat → Nat → Int32 := fun b' i' k => if b' = b ∧ i' = j ∧ k < n then I b i k else I b' i' k
theorem cpA_ne1 {I : Nat → Nat → Nat → Int32} {b i j n b' : Nat} (h : b' ≠ b) : cpA I b i j n b' = I b' := funext fun i' => funext fun k => if_neg (fun q => h q.1)
theorem cpA_ne2 {I : Nat → Nat → Nat → Int32} {b i j n b' i' k : Nat} (h : i' ≠ j) : cpA I b i j n b' i' k = I b' i' k := if_neg (fun q => h q.2.1)
theorem cpA_eq {I : Nat → Nat → Nat → Int32} {b i j n k : Nat} (h : k < n) : cpA I b i j n b j k = I b i k := if_pos ⟨rfl, rfl, h⟩
theorem gCp_gH {I : Nat → Nat → Nat → Int32} {L : Nat → Nat → Nat → Int64} {y : Dy} {b i j n : Nat} : gCp (gH I L y) b i b j 0 0 n = gH (cpA I b i j n) L y := by
  refine Prod.ext (funext fun b' => funext fun i' => funext fun k => ?_) rfl
  show (if b' = b ∧ i' = j ∧ 0 ≤ k ∧ k < 0 + n then I b i (0 + (k - 0)) else I b' i' k) = if b' = b ∧ i' = j ∧ k < n then I b i k else I b' i' k
  rw [Nat.zero_add, Nat.zero_add, Nat.sub_zero]
  by_cases c : b' = b ∧ i' = j ∧ k < n
  · rw [if_pos c, if_pos ⟨c.1, c.2.1, Nat.zero_le _, c.2.2⟩]
  · rw [if_neg c, if_neg (fun q => c ⟨q.1, q.2.1, q.2.2.2⟩)]
section GCPH
variable {m : GM} {d : Nat} {B : Nat × Nat} {Qr : List AV → Hp → Prop} {Qx : Rf → Hp → Prop} {u : Nat × Nat} {pc : Nat} {lo : Lo} {r : List AV} {index : Nat} {I : Nat → Nat → Nat → Int32} {L : Nat → Nat → Nat → Int64} {y : Dy}
theorem gT_acpH (b i j n : Nat) {x z w : Int32} (hb : 7 < b) (hk : grk b = some (.inr .int)) (hN : ∀ q, gNX y b q = n) (hlk : Jvm.Cond.methodLink (gmO m) index arraycopyName ∈ lw_all) (hx : x = nI n) (hz : z = nI 0) (hw : w = nI 0)
    (hr : Nat.ble (gsum r) 16 = true) (hd : decode (gmC m) pc = .ok (.invokestatic index, 3)) (K : gT m (d + 1) B Qr Qx (pc + 3) lo r (gH (cpA I b i j n) L y) u) : gT m (d + 1) B Qr Qx pc lo (gI x :: gI z :: gR (some (b, j)) :: gI w :: gR (some (b, i)) :: r) (gH I L y) u := by
  subst hx; subst hz; subst hw
  refine gT_acp (sp := 0) (dp := 0) (n := n) hb hk hk (by show 0 + n ≤ gNX y b i; rw [hN]; omega) (by show 0 + n ≤ gNX y b j; rw [hN]; omega) hlk hr hd ?_
  rw [gCp_gH]
  exact K
end GCPH
/-- what over copies -/
def cOv (i j : Nat) (I I' : Nat → Nat → Nat → Int32) : Prop :=
  (∀ b, (b < 20 ∨ 28 ≤ b) → I' b = I b) ∧ (∀ b q k, q ≠ j → I' b q k = I b q k) ∧ (∀ k, k < 5 → I' 21 j k = I 21 i k) ∧ (∀ b k, 22 ≤ b → b ≤ 24 → k < 24 → I' b j k = I b i k) ∧ (∀ b k, 25 ≤ b → b ≤ 27 → k < 25 → I' b j k = I b i k) ∧ ∀ k, 7 ≤ k → k ≤ 10 → I' 20 j k = I 20 i k
theorem cOv.st {i j : Nat} {I I' : Nat → Nat → Nat → Int32} {s : Nat → Int32} (c : cOv i j I I') (H : cSt i s I) : cSt j s I' := by
  obtain ⟨-, -, c1, c2, c3, c4⟩ := c
  obtain ⟨h1, h2, h3, h4, h5, h6, h7, h8⟩ := H
  refine ⟨fun k hk => (c1 k hk).trans (h1 k hk), fun k hk => (c2 22 k (by decide) (by decide) hk).trans (h2 k hk), fun k hk => (c2 23 k (by decide) (by decide) hk).trans (h3 k hk), (c4 7 (by decide) (by decide)).trans h4, (c4 8 (by decide) (by decide)).trans h5, fun n k e hn hk => (c2 24 k (by decide) (by decide) (by omega)).trans (h6 n k e hn hk), fun e => ⟨(c4 9 (by decide) (by decide)).trans (h7 e).1, (c4 10 (by decide) (by decide)).trans (h7 e).2⟩, fun e => ⟨(c4 9 (by decide) (by decide)).trans (h8 e).1, (c4 10 (by decide) (by decide)).trans (h8 e).2.1, fun g h a b c => ?_⟩⟩
  obtain ⟨q1, q2, q3⟩ := (h8 e).2.2 g h a b c
  exact ⟨(c3 25 h (by decide) (by decide) (by omega)).trans q1, (c3 26 h (by decide) (by decide) (by omega)).trans q2, (c3 27 h (by decide) (by decide) (by omega)).trans q3⟩
set_option maxRecDepth 100000 in
theorem o_over (d i j : Nat) (hij : i ≠ j) (I : Nat → Nat → Nat → Int32) (L : Nat → Nat → Nat → Int64) (y : Dy) :
    gTM mX3_over (d + 2) (0, 0) [gR (some (20, j)), gR (some (20, i))] (gH I L y) (fun v h' => v = [gR (some (20, j))] ∧ ∃ I', h' = gH I' L y ∧ cOv i j I I') (fun _ _ => False) := by
  refine gEnter 400 [11] kX3_over rfl rfl ?_
  refine gT_acpH 21 i j 5 (by decide) rfl (fun _ => rfl) q596 rfl rfl rfl rfl dX3_over_11 ?_
  obtain ⟨I1, h1⟩ : ∃ I1, I1 = cpA I 21 i j 5 := ⟨_, rfl⟩
  rw [← h1]
  refine gT_go 400 [26] kX3_over ?_
  refine gT_acpH 22 i j 24 (by decide) rfl (fun _ => rfl) q596 rfl rfl rfl rfl dX3_over_26 ?_
  obtain ⟨I2, h2⟩ : ∃ I2, I2 = cpA I1 22 i j 24 := ⟨_, rfl⟩
  rw [← h2]
  refine gT_go 400 [41] kX3_over ?_
  refine gT_acpH 23 i j 24 (by decide) rfl (fun _ => rfl) q596 rfl rfl rfl rfl dX3_over_41 ?_
  obtain ⟨I3, h3⟩ : ∃ I3, I3 = cpA I2 23 i j 24 := ⟨_, rfl⟩
  rw [← h3]
  refine gT_go 400 [56] kX3_over ?_
  refine gT_acpH 24 i j 24 (by decide) rfl (fun _ => rfl) q596 rfl rfl rfl rfl dX3_over_56 ?_
  obtain ⟨I4, h4⟩ : ∃ I4, I4 = cpA I3 24 i j 24 := ⟨_, rfl⟩
  rw [← h4]
  refine gT_go 400 [71] kX3_over ?_
  refine gT_acpH 25 i j 25 (by decide) rfl (fun _ => rfl) q596 rfl rfl rfl rfl dX3_over_71 ?_
  obtain ⟨I5, h5⟩ : ∃ I5, I5 = cpA I4 25 i j 25 := ⟨_, rfl⟩
  rw [← h5]
  refine gT_go 400 [86] kX3_over ?_
  refine gT_acpH 26 i j 25 (by decide) rfl (fun _ => rfl) q596 rfl rfl rfl rfl dX3_over_86 ?_
  obtain ⟨I6, h6⟩ : ∃ I6, I6 = cpA I5 26 i j 25 := ⟨_, rfl⟩
  rw [← h6]
  refine gT_go 400 [101] kX3_over ?_
  refine gT_acpH 27 i j 25 (by decide) rfl (fun _ => rfl) q596 rfl rfl rfl rfl dX3_over_101 ?_
  obtain ⟨I7, h7⟩ : ∃ I7, I7 = cpA I6 27 i j 25 := ⟨_, rfl⟩
  rw [← h7]
  refine gT_go 400 [] kX3_over ?_
  have e : ∀ b, (b < 21 ∨ 28 ≤ b) → I7 b = I b := fun b hb => by rw [h7, cpA_ne1 (by omega), h6, cpA_ne1 (by omega), h5, cpA_ne1 (by omega), h4, cpA_ne1 (by omega), h3, cpA_ne1 (by omega), h2, cpA_ne1 (by omega), h1, cpA_ne1 (by omega)]
  have f : ∀ b q k, q ≠ j → I7 b q k = I b q k := fun b q k hq => by rw [h7, cpA_ne2 hq, h6, cpA_ne2 hq, h5, cpA_ne2 hq, h4, cpA_ne2 hq, h3, cpA_ne2 hq, h2, cpA_ne2 hq, h1, cpA_ne2 hq]
  have g1 : ∀ k, k < 5 → I7 21 j k = I 21 i k := fun k hk => by rw [h7, cpA_ne1 (by decide), h6, cpA_ne1 (by decide), h5, cpA_ne1 (by decide), h4, cpA_ne1 (by decide), h3, cpA_ne1 (by decide), h2, cpA_ne1 (by decide), h1, cpA_eq hk]
  have g2 : ∀ k, k < 24 → I7 22 j k = I 22 i k := fun k hk => by rw [h7, cpA_ne1 (by decide), h6, cpA_ne1 (by decide), h5, cpA_ne1 (by decide), h4, cpA_ne1 (by decide), h3, cpA_ne1 (by decide), h2, cpA_eq hk, h1, cpA_ne1 (by decide)]
  have g3 : ∀ k, k < 24 → I7 23 j k = I 23 i k := fun k hk => by rw [h7, cpA_ne1 (by decide), h6, cpA_ne1 (by decide), h5, cpA_ne1 (by decide), h4, cpA_ne1 (by decide), h3, cpA_eq hk, h2, cpA_ne1 (by decide), h1, cpA_ne1 (by decide)]
  have g4 : ∀ k, k < 24 → I7 24 j k = I 24 i k := fun k hk => by rw [h7, cpA_ne1 (by decide), h6, cpA_ne1 (by decide), h5, cpA_ne1 (by decide), h4, cpA_eq hk, h3, cpA_ne1 (by decide), h2, cpA_ne1 (by decide), h1, cpA_ne1 (by decide)]
  have g5 : ∀ k, k < 25 → I7 25 j k = I 25 i k := fun k hk => by rw [h7, cpA_ne1 (by decide), h6, cpA_ne1 (by decide), h5, cpA_eq hk, h4, cpA_ne1 (by decide), h3, cpA_ne1 (by decide), h2, cpA_ne1 (by decide), h1, cpA_ne1 (by decide)]
  have g6 : ∀ k, k < 25 → I7 26 j k = I 26 i k := fun k hk => by rw [h7, cpA_ne1 (by decide), h6, cpA_eq hk, h5, cpA_ne1 (by decide), h4, cpA_ne1 (by decide), h3, cpA_ne1 (by decide), h2, cpA_ne1 (by decide), h1, cpA_ne1 (by decide)]
  have g7 : ∀ k, k < 25 → I7 27 j k = I 27 i k := fun k hk => by rw [h7, cpA_eq hk, h6, cpA_ne1 (by decide), h5, cpA_ne1 (by decide), h4, cpA_ne1 (by decide), h3, cpA_ne1 (by decide), h2, cpA_ne1 (by decide), h1, cpA_ne1 (by decide)]
  obtain ⟨J, hJ⟩ : ∃ J, J = u3 (u3 (u3 (u3 I7 20 j 7 (I7 20 i 7)) 20 j 8 (I7 20 i 8)) 20 j 9 (I7 20 i 9)) 20 j 10 (I7 20 i 10) := ⟨_, rfl⟩
  have ji : ∀ q b k v w p, q ≠ j → u3 I7 20 j p w b q k = v → I7 b q k = v := fun q b k v w p hq z => (u3_ne (fun c => hq c.2.1)).symm.trans z
  have hh : gH (u3 (u3 (u3 (u3 I7 20 j 7 (I7 20 i 7)) 20 j 8 (u3 I7 20 j 7 (I7 20 i 7) 20 i 8)) 20 j 9 (u3 (u3 I7 20 j 7 (I7 20 i 7)) 20 j 8 (u3 I7 20 j 7 (I7 20 i 7) 20 i 8) 20 i 9)) 20 j 10 (u3 (u3 (u3 I7 20 j 7 (I7 20 i 7)) 20 j 8 (u3 I7 20 j 7 (I7 20 i 7) 20 i 8)) 20 j 9 (u3 (u3 I7 20 j 7 (I7 20 i 7)) 20 j 8 (u3 I7 20 j 7 (I7 20 i 7) 20 i 8) 20 i 9) 20 i 10)) L y = gH J L y := by
    have n2 : ∀ {F : Nat → Nat → Nat → Int32} {p k : Nat} {v : Int32}, u3 F 20 j p v 20 i k = F 20 i k := u3_ne (fun c => hij c.2.1)
    rw [hJ]
    simp only [n2]
  refine ⟨rfl, J, hh, ?_⟩
  have jb : ∀ b, b ≠ 20 → J b = I7 b := fun b hb => by rw [hJ, u3_ne1 hb, u3_ne1 hb, u3_ne1 hb, u3_ne1 hb]
  refine ⟨fun b hb => (jb b (by omega)).trans (e b (by omega)), fun b q k hq => ?_, fun k hk => by rw [jb 21 (by decide)]; exact g1 k hk, fun b k b1 b2 hk => ?_, fun b k b1 b2 hk => ?_, fun k k1 k2 => ?_⟩
  · rw [hJ]
    have n3 : ∀ {F : Nat → Nat → Nat → Int32} {p : Nat} {v : Int32}, u3 F 20 j p v b q k = F b q k := u3_ne (fun c => hq c.2.1)
    rw [n3, n3, n3, n3]
    exact f b q k hq
  · rw [jb b (by omega)]
    rcases (show b = 22 ∨ b = 23 ∨ b = 24 by omega) with rfl | rfl | rfl
    · exact g2 k hk
    · exact g3 k hk
    · exact g4 k hk
  · rw [jb b (by omega)]
    rcases (show b = 25 ∨ b = 26 ∨ b = 27 by omega) with rfl | rfl | rfl
    · exact g5 k hk
    · exact g6 k hk
    · exact g7 k hk
  · rw [hJ, ← f 20 i k hij]
    rcases (show k = 7 ∨ k = 8 ∨ k = 9 ∨ k = 10 by omega) with rfl | rfl | rfl | rfl
    · exact (u3_ne3 (by decide)).trans ((u3_ne3 (by decide)).trans ((u3_ne3 (by decide)).trans u3_eq))
    · exact (u3_ne3 (by decide)).trans ((u3_ne3 (by decide)).trans u3_eq)
    · exact (u3_ne3 (by decide)).trans u3_eq
    · exact u3_eq
