/-! ===== soundness: fields and arrays ===== -/
theorem garr {s : State} {cA : ClassId} {ty : FieldType} {cell : Cell} (h : ArrOfT s cA ty) (hc : cell.cls = cA) (hv : ∀ q, cell.vm ≠ .statics q) : s.isArrayOf cell ty := by
  obtain ⟨_, k, h2, comp, h3⟩ := h 0 (fun _ => .null)
  exact ⟨hv, k, by rw [hc]; exact h2, comp, h3⟩
def gsame (h h' : Hp) (b i : Nat) : Prop := (∀ b' i' k, ¬ (b' = b ∧ i' = i) → hI h' b' i' k = hI h b' i' k ∧ hL h' b' i' k = hL h b' i' k ∧ hR h' b' i' k = hR h b' i' k) ∧ hN h' = hN h ∧ hC h' = hC h
theorem gval_same {h h' : Hp} {b i b' i' : Nat} (sm : gsame h h' b i) (hn : ¬ (b' = b ∧ i' = i)) (ad : Nat → Nat → Nat) (ty : FieldType) (k : Nat) : gval ad h' ty b' i' k = gval ad h ty b' i' k := by
  obtain ⟨e1, e2, e3⟩ := sm.1 b' i' k hn
  cases ty <;> simp only [gval, e1, e2, e3]
theorem gat_same {D : GD} {ad : Nat → Nat → Nat} {h h' : Hp} {b i b' i' : Nat} {H H1 : Heap} (sm : gsame h h' b i) (hn : ¬ (b' = b ∧ i' = i)) (hq : H1[ad b' i']? = H[ad b' i']?) (g : gat D ad h b' i' H) : gat D ad h' b' i' H1 := by
  unfold gat at g ⊢
  split at g
  · next ci e =>
    obtain ⟨r, cell, g1, g2, g3, g4, g5, gm⟩ := g
    refine ⟨r, cell, g1, hq.trans g2, g3, g4, fun k hk => ?_, gm⟩
    obtain ⟨v, v1, v2, v3⟩ := g5 k hk
    refine ⟨v, v1, fun w z => (v2 w z).trans (gval_same sm hn ad _ k).symm, fun w r hr => v3 w r ?_⟩
    rw [← (sm.1 b' i' k hn).2.2]
    exact hr
  · next ty e =>
    obtain ⟨cell, g2, g3, g4, g5, g6, g7⟩ := g
    have hN1 : hN h' b' i' = hN h b' i' := by rw [sm.2.1]
    exact ⟨cell, hq.trans g2, g3, g4, g5, by rw [hN1]; exact g6, fun k hk => by rw [gval_same sm hn]; exact g7 k (by rw [← hN1]; exact hk)⟩
  · exact g
theorem gat_lt {D : GD} {ad : Nat → Nat → Nat} {h : Hp} {b i : Nat} {H : Heap} (g : gat D ad h b i H) : ad b i < H.size := by
  unfold gat at g
  split at g
  · obtain ⟨r, cell, g1, g2, -⟩ := g
    exact (Array.getElem?_eq_some_iff.mp g2).1
  · obtain ⟨cell, g2, -⟩ := g
    exact (Array.getElem?_eq_some_iff.mp g2).1
  · exact g.elim
theorem grep_put {D : GD} {base : Nat} {ad : Nat → Nat → Nat} {h h' : Hp} {b i : Nat} {H H1 : Heap} (rp : grep D base ad h H) (hb : 7 < b) (hi : i < hC h b) (sm : gsame h h' b i) (hcl : ∀ b i k r, i < hC h' b → gvk h' b i k → hR h' b i k = some r → r.2 < hC h' r.1)
    (hz : H1.size = H.size) (ho : ∀ q : Nat, q ≠ ad b i → H1[q]? = H[q]?) (hat : gat D ad h' b i H1) : grep D base ad h' H1 := by
  obtain ⟨r1, r2, r3, r4, r5, r6, r7⟩ := rp
  have hC1 : hC h' = hC h := sm.2.2
  refine ⟨fun b' i' hn hl => ?_, fun b' i' b2 i2 q1 q2 q3 q4 q5 => r2 b' i' b2 i2 q1 (by rw [← hC1]; exact q2) q3 (by rw [← hC1]; exact q4) q5, fun b' i' q1 q2 => r3 b' i' q1 (by rw [← hC1]; exact q2), hcl, fun b' i' => by rw [sm.2.1]; exact r5 b' i', by rw [hz]; exact r6, by rw [hC1]; exact r7⟩
  by_cases e : b' = b ∧ i' = i
  · obtain ⟨rfl, rfl⟩ := e
    exact hat
  · rw [hC1] at hl
    refine gat_same sm e (ho _ (fun q => e ?_)) (r1 b' i' hn hl)
    obtain ⟨q1, q2⟩ := r2 b i b' i' hb hi hn hl q.symm
    exact ⟨q1.symm, q2.symm⟩
theorem u3_ne {α : Type} {f : Nat → Nat → Nat → α} {b i k b' i' k' : Nat} {v : α} (hn : ¬ (b' = b ∧ i' = i ∧ k' = k)) : u3 f b i k v b' i' k' = f b' i' k' := by
  unfold u3
  cases e : (Nat.beq b' b && (Nat.beq i' i && Nat.beq k' k)) with
  | false => rfl
  | true =>
    simp only [Bool.and_eq_true] at e
    exact absurd ⟨Nat.eq_of_beq_eq_true e.1, Nat.eq_of_beq_eq_true e.2.1, Nat.eq_of_beq_eq_true e.2.2⟩ hn
theorem u3_eq {α : Type} {f : Nat → Nat → Nat → α} {b i k : Nat} {v : α} : u3 f b i k v b i k = v := by
  unfold u3
  simp [Nat.beq_refl]
theorem gsame_I (h : Hp) (b i k : Nat) (v : Int32) : gsame h (sI h b i k v) b i := ⟨fun b' i' k' hn => ⟨u3_ne (fun q => hn ⟨q.1, q.2.1⟩), rfl, rfl⟩, rfl, rfl⟩
theorem gsame_L (h : Hp) (b i k : Nat) (v : Int64) : gsame h (sL h b i k v) b i := ⟨fun b' i' k' hn => ⟨rfl, u3_ne (fun q => hn ⟨q.1, q.2.1⟩), rfl⟩, rfl, rfl⟩
theorem gsame_R (h : Hp) (b i k : Nat) (v : Option Rf) : gsame h (sR h b i k v) b i := ⟨fun b' i' k' hn => ⟨rfl, rfl, u3_ne (fun q => hn ⟨q.1, q.2.1⟩)⟩, rfl, rfl⟩
theorem gn2 {own : String} {idx ci b : Nat} {r : GFd} (f : gFok own idx ci r) (hk : grk b = some (.inl ci)) : b ≠ 2 := by
  intro e
  subst e
  obtain ⟨C, T, N, h1, -⟩ := f
  have h2 : ci = 62 := by
    have h3 : grk 2 = some (.inl 62) := by decide +kernel
    rw [h3] at hk
    cases hk
    rfl
  subst h2
  cases h1
theorem ggatO {D : GD} {base : Nat} {ad : Nat → Nat → Nat} {h : Hp} {b i ci : Nat} {H : Heap} (rp : grep D base ad h H) (hb : b ≠ 2) (hi : i < hC h b) (hk : grk b = some (.inl ci)) : gatO D ad h ci b i H := by
  have g := rp.1 b i hb hi
  unfold gat at g
  rw [hk] at g
  exact g
theorem ggatA {D : GD} {base : Nat} {ad : Nat → Nat → Nat} {h : Hp} {b i : Nat} {ty : FieldType} {H : Heap} (rp : grep D base ad h H) (hi : i < hC h b) (hk : grk b = some (.inr ty)) : gatA D ad h ty b i H := by
  have hb : b ≠ 2 := by
    intro e
    subst e
    have h3 : grk 2 = some (.inl 62) := by decide +kernel
    rw [h3] at hk
    cases hk
  have g := rp.1 b i hb hi
  unfold gat at g
  rw [hk] at g
  exact g
theorem gK_va {D : GD} {s : State} (k : gK D s) : va_K (D.1, D.2.1) gcl [] s := ⟨k.1, fun _ _ h => by simp at h⟩
section GSW
variable {m : GM} {RM : Room} {p : Program} {l : Launch} {e : Env} {s : State} {mi : MethodId} {args : Array Value} {below : List Frame} {meth : Method} {c : Code} {D : GD} {base : Nat} {ad0 ad : Nat → Nat → Nat} {h : Hp} {H : Heap} {locs : List Loc} {cells slots : Nat} {Q : State → Prop} {pc : Nat} {ls : Array Slot} {rest : List Value}
theorem graw_get {R : Room} (cx : gcx m RM p l s mi args meth c D base ad0) {idx ci : Nat} {r : GFd} (f : gFok (gmO m) idx ci r) {a : Nat} {cell : Cell} (hcell : H[a]? = some cell) (hvm : cell.vm = .none) {v : Value} (hv : cell.slots[D.2.1 ci r.1]? = some v)
    (hd : decode (gmC m) pc = .ok (.getfield idx, 3)) (kk : W p l e R s mi args below meth c H locs cells slots Q (F0 mi (pc + 3) ls (v :: rest))) : W p l e R s mi args below meth c H locs cells slots Q (F0 mi pc ls (.ref a :: rest)) := by
  obtain ⟨hx, hb, -, -, -, hown, -, -, hts, hK, -⟩ := cx
  obtain ⟨C, T, N, h1, h2, h3, h4, h5, h6⟩ := f
  obtain ⟨hS, hfc, kC, hkC, hkind⟩ := hK.1 ci _ h1
  obtain ⟨cf, kf, fi, fd, hi, hsl⟩ := hS r.1 h2
  have hst := (u_facts hfc hkC (u_lays hts (gcl_ok ci _ h1).1 h2) hi).1
  have hkn : cell.vm ≠ .unknown := by rw [hvm]; exact fun q => by cases q
  rcases h6 with h6 | ⟨host, h6⟩
  · exact W.getf hx hb hown (hts _ h6) hi hst hcell hkn (v := v) (by rw [hsl]; exact hv) rfl rfl hd kk
  · exact va_Wgetf hx hb hown (va_Nw.use rfl (hK.2.2.2.1 _ h6 rfl)) hi hst hcell hkn (v := v) (by rw [hsl]; exact hv) rfl rfl hd kk
theorem graw_put {R : Room} (cx : gcx m RM p l s mi args meth c D base ad0) {idx ci : Nat} {r : GFd} (f : gFok (gmO m) idx ci r) (hw : r.2.2 = 0 ∨ (r.2.2 = 1 ∧ gmN m = true)) {a : Nat} {cell : Cell} (hcell : H[a]? = some cell) (hcls : cell.cls = D.1 ci) (hvm : cell.vm = .none) {v v0 : Value} (hv : cell.slots[D.2.1 ci r.1]? = some v0)
    (hn : narrow r.2.1 v = v) (hf : fits r.2.1 v = true)
    (hd : decode (gmC m) pc = .ok (.putfield idx, 3)) (kk : ∀ (H1 : Heap) (k9 : Nat), H1[a]? = some (cell.setSlot (D.2.1 ci r.1) v) → H1.size = H.size → (∀ q : Nat, q ≠ a → H1[q]? = H[q]?) → W p l e R s mi args below meth c H1 (locs ++ [⟨a, k9⟩]) cells slots Q (F0 mi (pc + 3) ls rest)) : W p l e R s mi args below meth c H locs cells slots Q (F0 mi pc ls (v :: .ref a :: rest)) := by
  obtain ⟨hx, hb, -, -, -, hown, hmn, -, hts, hK, -, -, hmk, -⟩ := cx
  obtain ⟨C, T, N, h1, h2, h3, h4, h5, h6⟩ := f
  obtain ⟨hS, hfc, kC, hkC, hkind⟩ := hK.1 ci _ h1
  obtain ⟨cf, kf, fi, fd, hi, hsl⟩ := hS r.1 h2
  have hst := (u_facts hfc hkC (u_lays hts (gcl_ok ci _ h1).1 h2) hi).1
  have hty := (gcl_ok ci _ h1).2.1 r.1 h2
  rw [h3] at hty
  have hlay := hts _ ((gcl_ok ci _ h1).1 _ (u_in_lay h2))
  unfold u_lay at hlay
  rcases hw with hw | ⟨hw, hin⟩
  · have hfin := h4 hw
    rw [if_neg (by rw [hfin]; decide)] at hlay
    have h7 := u_store hfc hkC hkind hlay hi hty hn hf
    rcases h6 with h6 | ⟨host, h6⟩
    · refine W.putK hx hb (f := fd) ⟨hown, hts _ h6, ⟨_, _, _, hi⟩, hst⟩ (by rw [hcls]; exact h7) hcell hvm (by rw [hsl]; exact k2_hasslot hv) rfl rfl hd fun H' e1 e2 e3 => ?_
      rw [hsl] at e1 ⊢
      exact kk H' _ e1 e2 e3
    · refine va_WputK hx hb (f := fd) hown (va_Nw.use rfl (hK.2.2.2.1 _ h6 rfl)) hi hst (by rw [hcls]; exact h7) hcell hvm (by rw [hsl]; exact k2_hasslot hv) rfl rfl hd fun H' e1 e2 e3 => ?_
      rw [hsl] at e1 ⊢
      exact kk H' _ e1 e2 e3
  · obtain ⟨hfin, hdecl⟩ := h5 hw
    rw [if_pos hfin] at hlay
    have hcf : mi.cls = cf := by
      obtain ⟨_, _, c', _, _, _, -, -, hf', -, -, -, hown2, -⟩ := Cond.laysFinal_spec hlay
      have e1 : c' = cf := by have := hi.symm.trans hf'; simp at this; exact this.1.symm
      rw [hdecl] at hown2
      rw [← e1]; exact Option.some.inj (hown.symm.trans hown2)
    have h7 := u_fits hfc hkC hkind (Or.inr hlay) hi hty hn hf
    have hnm : meth.name = "<init>" := hmn.trans (hmk.2.2.1 hin)
    rcases h6 with h6 | ⟨host, h6⟩
    · refine W.putFinK hx hb hown (hts _ h6) hi hst hcf hnm (by rw [hcls]; exact h7) hcell hvm (by rw [hsl]; exact k2_hasslot hv) rfl rfl hd fun H' e1 e2 e3 => ?_
      rw [hsl] at e1 ⊢
      exact kk H' _ e1 e2 e3
    · have ha : a < H.size := (Array.getElem?_eq_some_iff.mp hcell).1
      refine va_Wputf hx hb hown (va_Nw.use rfl (hK.2.2.2.1 _ h6 rfl)) hi hst (Or.inr ⟨hcf, hnm⟩) hcell (by rw [hvm]; exact fun h => by cases h) (by rw [hsl]; exact k2_hasslot hv) h7.1 (by rw [hvm, hcls]; exact h7.2) rfl rfl hd ?_
      rw [hsl]
      refine kk _ _ ?_ ?_ ?_
      · simp [Array.getElem?_setIfInBounds, ha]
      · simp
      · intro q hq
        simp [Array.getElem?_setIfInBounds, Ne.symm hq]
end GSW
