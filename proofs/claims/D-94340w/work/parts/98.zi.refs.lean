/-! ===== System.arraycopy of references, within one list's array ===== -/
section GCPR
variable {m : GM} {d : Nat} {B : Nat × Nat} {Qr : List AV → Hp → Prop} {Qx : Rf → Hp → Prop} {u : Nat × Nat} {pc : Nat} {lo : Lo} {r : List AV} {h : Hp} {index : Nat}
theorem gT_acpR {j sp dp n vb ci : Nat} {rr : vw_C} (hvb : vb ≠ 2) (hvk : grk vb = some (.inl ci)) (hg1 : gcl[ci]? = some rr) (hca : Jvm.Cond.castable rr.1 "java/lang/Object" ∈ lw_tbl) (hel : ∀ i, i < n → ∃ k, hR h 11 j (sp + i) = some (vb, k)) (h4 : sp + n ≤ hN h 11 j) (h5 : dp + n ≤ hN h 11 j) (hlk : Jvm.Cond.methodLink (gmO m) index arraycopyName ∈ lw_all)
    (hr : Nat.ble (gsum r) 16 = true) (hd : decode (gmC m) pc = .ok (.invokestatic index, 3)) (K : gT m (d + 1) B Qr Qx (pc + 3) lo r (gCpR h 11 j 11 j sp dp n) u) : gT m (d + 1) B Qr Qx pc lo (gI (nI n) :: gI (nI dp) :: gR (some (11, j)) :: gI (nI sp) :: gR (some (11, j)) :: r) h u := by
  intro p l e s mi args below meth c D base ad0 h0 H locs ls ad cx ex e2 rp vs lk sl u1 u2
  have hk : grk 11 = some (.inr (.object "java/lang/Object")) := rfl
  have hts := gcx_hts cx
  have hgk := cx.2.2.2.2.2.2.2.2.2.1
  have hl : j < hC h 11 := (sl _ (by simp) : glv h (gR (some (11, j))))
  have L1 := rp.2.2.2.2.1 11 j
  obtain ⟨cs, s2, s3, s4, s5, s6, s7⟩ := ggatA rp hl hk
  obtain ⟨-, ks, hks, sc, hsk⟩ := (hgk.2.1 11 _ hk) 0 (fun _ => .null)
  have i1 : (nI sp).toInt = (sp : Int) := nI_toInt (by omega)
  have i2 : (nI dp).toInt = (dp : Int) := nI_toInt (by omega)
  have i3 : (nI n).toInt = (n : Int) := nI_toInt (by omega)
  have c1 : (nI sp).toNatClampNeg = sp := nI_clamp (by omega)
  have c2 : (nI dp).toNatClampNeg = dp := nI_clamp (by omega)
  have c3 : (nI n).toNatClampNeg = n := nI_clamp (by omega)
  intro T hT0 X
  subst hT0
  have hss := gsz_le s6 h4
  have hds := gsz_le s6 h5
  obtain ⟨vm', X', step⟩ := X.arraycopy cx.1 cx.2.2.2.2.2.1 (hts _ hlk) (hts _ q598) (hts _ q597) (hts _ q174) (src := ad 11 j) (dst := ad 11 j) (cs := cs) (cd := cs) (srcPos := nI sp) (destPos := nI dp) (n := nI n) s2 s2 s5 s5 s4 s4 (by rw [s3]; exact hks) (by rw [s3]; exact hks) hsk hsk rfl (nI_pos (by omega)) (nI_pos (by omega)) (nI_pos (by omega)) (by rw [i1, i3]; omega) (by rw [i2, i3]; omega)
    (fun vm₁ hal i hi => by
      rw [c3] at hi
      obtain ⟨k, hk9⟩ := hel i hi
      have e9 : cs.slots.getD (sp + i) .null = .ref (ad vb k) := by
        rw [Array.getD_eq_getD_getElem?, s7 (sp + i) (by omega)]
        show gtr ad (gR (hR h 11 j (sp + i))) = _
        rw [hk9] <;> rfl
      rw [c1, e9]
      have hvl : k < hC h vb := rp.2.2.2.1 11 j (sp + i) (vb, k) hl (gvk_a hk (by omega)) hk9
      obtain ⟨rr', cell, g1, g2, g3, g4, -⟩ := ggatO rp hvb hvl hvk
      have hcl := (gclassAt hgk hg1).1
      obtain ⟨c0, t0, f1, f2, f3⟩ := Jvm.Cond.castable_spec (va_Nw.use (A := #[]) rfl (hgk.2.2.2.1 _ hca rfl))
      cases f1.symm.trans hcl
      obtain ⟨kA, comp, r1, r2, r3, -⟩ := hgk.2.2.1 11 _ hk (by decide)
      cases hks.symm.trans r1
      cases hsk.symm.trans r2
      cases f2.symm.trans r3
      obtain ⟨kC, hkC, -⟩ := Vm.findClass_spec hcl
      obtain ⟨kE, hkE, -⟩ := Vm.findClass_spec r3
      obtain ⟨kC', hkC', -⟩ := hal.2.2 _ _ hkC
      obtain ⟨kE', hkE', -⟩ := hal.2.2 _ _ hkE
      refine ⟨rfl, cell, g2, (fun q h => by rw [g4] at h; cases h), ⟨kC', by rw [g3]; exact hkC'⟩, ⟨kE', hkE'⟩, ?_⟩
      show vm₁.assignable _ _ = true
      rw [hal.assignable, g3]
      exact f3)
    (g := F0 mi pc ls ((gI (nI n) :: gI (nI dp) :: gR (some (11, j)) :: gI (nI sp) :: gR (some (11, j)) :: r).map (gtr ad))) rfl (by rw [lk.1]; exact cx.2.2.2.1.symm) (rest := r.map (gtr ad)) rfl (by rw [cx.2.1]; exact hd) (by show 1 ≤ d + 1; omega) (by
      have q := Nat.le_of_ble_eq_true hr
      rw [gsum_cat]
      show 2 * 0 + gsum r + (7 + 11) ≤ 48 * (d + 1) + 14000
      omega)
  have hf := gcp_facts cs cs (nI sp) (nI dp) (nI n)
  have e1 : ((T.setVm vm').setCell (ad 11 j) (copied cs cs (nI sp) (nI dp) (nI n))).heap[ad 11 j]? = some (copied cs cs (nI sp) (nI dp) (nI n)) := State.heap_setCell_self (c := cs) s2
  have rp1 : grep D base ad (gCpR h 11 j 11 j sp dp n) ((T.setVm vm').setCell (ad 11 j) (copied cs cs (nI sp) (nI dp) (nI n))).heap := by
    refine grep_put rp (by decide) hl ⟨fun b' i' k hn => ⟨rfl, rfl, if_neg (fun q => hn ⟨q.1, q.2.1⟩)⟩, rfl, rfl⟩ (fun b' i' k r' q1 q2 q3 => ?_) (size_setCell _ _ _) (fun q hq => State.heap_setCell_other (Ne.symm hq)) ?_
    · have q3' : (if b' = 11 ∧ i' = j ∧ dp ≤ k ∧ k < dp + n then hR h 11 j (sp + (k - dp)) else hR h b' i' k) = some r' := q3
      by_cases w : b' = 11 ∧ i' = j ∧ dp ≤ k ∧ k < dp + n
      · rw [if_pos w] at q3'
        exact rp.2.2.2.1 11 j (sp + (k - dp)) r' hl (gvk_a hk (by omega)) q3'
      · rw [if_neg w] at q3'
        exact rp.2.2.2.1 b' i' k r' q1 q2 q3'
    · unfold gat
      rw [hk]
      refine ⟨_, e1, hf.1.trans s3, by rw [hf.2.1]; exact s4, fun q => by rw [hf.2.1]; exact s5 q, by rw [hf.2.2]; exact s6, fun k hkk => ?_⟩
      rw [gcp_at (by omega) (by omega) (by omega) hds]
      show _ = some (gtr ad (gR (if 11 = 11 ∧ j = j ∧ dp ≤ k ∧ k < dp + n then hR h 11 j (sp + (k - dp)) else hR h 11 j k)))
      by_cases w : dp ≤ k ∧ k < dp + n
      · rw [if_pos w, if_pos ⟨rfl, rfl, w⟩, Array.getD_eq_getD_getElem?, s7 _ (by omega)] <;> rfl
      · rw [if_neg w, if_neg (fun q => w q.2.2)]; exact s7 k hkk
  have K1 := K p l e s mi args below meth c D base ad0 h0 _ (locs ++ (cs.stretch (nI sp).toNatClampNeg (nI n).toNatClampNeg).zipIdx.map fun q => ⟨ad 11 j, (nI dp).toNatClampNeg + q.2⟩) ls ad cx ex e2 rp1 ⟨by rw [size_setCell]; exact vs.1, fun q g1 g2 => by
      rw [State.heap_setCell_other (fun z => g2 (by rw [← z]; exact rp.2.2.1 11 j (by decide) hl))]
      exact vs.2.1 q g1 g2, fun q hq => by
      rcases List.mem_append.mp hq with z | z
      · exact vs.2.2 q z
      · obtain ⟨w, -, hw⟩ := List.mem_map.mp z
        rw [← hw]
        exact rp.2.2.1 11 j (by decide) hl⟩ lk (gl1 (gl1 (gl1 (gl1 (gl1 sl))))) u1 u2
  obtain ⟨t, a1, b1⟩ := K1 _ rfl X'
  exact ⟨t, step t a1, b1⟩
end GCPR
