/-! ===== soundness: locals, constants, ends ===== -/
theorem glset_spec : ∀ (lo : Lo) (i : Nat) (v : AV) (lo' : Lo), glset lo i v = some lo' → lo'.length = lo.length ∧ i < lo.length ∧ ∀ j w, glo lo' j = some w → (j = i ∧ w = v) ∨ (j ≠ i ∧ glo lo j = some w ∧ ¬ (j + 1 = i ∧ gcat w = 2)) := by
  intro lo
  induction lo with
  | nil => intro i v lo' h; cases h
  | cons x r ih =>
    intro i v lo' h
    cases i with
    | zero =>
      cases h
      refine ⟨rfl, Nat.zero_lt_succ _, fun j w hj => ?_⟩
      cases j with
      | zero => exact Or.inl ⟨rfl, (Option.some.inj hj).symm⟩
      | succ j => exact Or.inr ⟨Nat.succ_ne_zero _, hj, fun q => by omega⟩
    | succ n =>
      unfold glset at h
      split at h
      · next r' e =>
        cases h
        obtain ⟨h1, h2, h3⟩ := ih n v r' e
        refine ⟨congrArg Nat.succ h1, Nat.succ_lt_succ h2, fun j w hj => ?_⟩
        cases j with
        | zero =>
          refine Or.inr ⟨fun q => by omega, ?_, ?_⟩
          · show x = some w
            have hj2 : (bif (Nat.beq n 0 && gis2 x) then none else x) = some w := hj
            cases hb : (Nat.beq n 0 && gis2 x) with
            | true => rw [hb] at hj2; cases hj2
            | false => rw [hb] at hj2; exact hj2
          · rintro ⟨q1, q2⟩
            have hn : n = 0 := by omega
            subst hn
            have hj2 : (bif (Nat.beq 0 0 && gis2 x) then none else x) = some w := hj
            cases x with
            | none => cases hj2
            | some y =>
              rcases y with y | y | y
              · have e3 : some (Sum.inl y : AV) = some w := hj2
                cases e3; cases q2
              · have e3 : (none : Option AV) = some w := hj2
                cases e3
              · have e3 : some (Sum.inr (Sum.inr y) : AV) = some w := hj2
                cases e3; cases q2
        | succ j =>
          rcases h3 j w hj with ⟨a, b⟩ | ⟨a, b, c⟩
          · exact Or.inl ⟨congrArg Nat.succ a, b⟩
          · exact Or.inr ⟨fun q => a (Nat.succ.inj q), b, fun q => c ⟨by omega, q.2⟩⟩
      · cases h
theorem glnone_spec : ∀ (lo : Lo) (i : Nat) (lo' : Lo), glnone lo i = some lo' → lo'.length = lo.length ∧ i < lo.length ∧ ∀ j w, glo lo' j = some w → j ≠ i ∧ glo lo j = some w := by
  intro lo
  induction lo with
  | nil => intro i lo' h; cases h
  | cons x r ih =>
    intro i lo' h
    cases i with
    | zero =>
      cases h
      refine ⟨rfl, Nat.zero_lt_succ _, fun j w hj => ?_⟩
      cases j with
      | zero => cases hj
      | succ j => exact ⟨Nat.succ_ne_zero _, hj⟩
    | succ n =>
      unfold glnone at h
      split at h
      · next r' e =>
        cases h
        obtain ⟨h1, h2, h3⟩ := ih n r' e
        refine ⟨congrArg Nat.succ h1, Nat.succ_lt_succ h2, fun j w hj => ?_⟩
        cases j with
        | zero => exact ⟨fun q => by omega, hj⟩
        | succ j => exact ⟨fun q => (h3 j w hj).1 (Nat.succ.inj q), (h3 j w hj).2⟩
      · cases h
def gls (ad : Nat → Nat → Nat) : Nat → Lo → List (Nat × Value)
  | _, [] => []
  | i, none :: r => gls ad (i + 1) r
  | i, some v :: r => (i, gtr ad v) :: gls ad (i + 1) r
theorem gls_in (ad : Nat → Nat → Nat) : ∀ (lo : Lo) (i j : Nat) (v : AV), glo lo j = some v → (i + j, gtr ad v) ∈ gls ad i lo := by
  intro lo
  induction lo with
  | nil => intro i j v h; cases h
  | cons x r ih =>
    intro i j v h
    cases j with
    | zero =>
      have hx : x = some v := h
      subst hx
      exact List.mem_cons_self
    | succ j =>
      have h1 := ih (i + 1) j v h
      rw [show i + 1 + j = i + (j + 1) by omega] at h1
      cases x with
      | none => exact h1
      | some y => exact List.mem_cons_of_mem _ h1
theorem gls_of (ad : Nat → Nat → Nat) : ∀ (lo : Lo) (i : Nat) (q : Nat × Value), q ∈ gls ad i lo → ∃ j v, glo lo j = some v ∧ q = (i + j, gtr ad v) := by
  intro lo
  induction lo with
  | nil => intro i q h; cases h
  | cons x r ih =>
    intro i q h
    cases x with
    | none =>
      obtain ⟨j, v, h1, h2⟩ := ih (i + 1) q h
      exact ⟨j + 1, v, h1, by rw [h2, show i + 1 + j = i + (j + 1) by omega]⟩
    | some y =>
      rcases List.mem_cons.mp h with h | h
      · exact ⟨0, y, rfl, h⟩
      · obtain ⟨j, v, h1, h2⟩ := ih (i + 1) q h
        exact ⟨j + 1, v, h1, by rw [h2, show i + 1 + j = i + (j + 1) by omega]⟩
theorem glok_has {ad : Nat → Nat → Nat} {h : Hp} {n : Nat} {lo : Lo} {ls : Array Slot} (k : glok ad h n lo ls) : lv_has ls n (gls ad 0 lo) := by
  refine ⟨k.1, k.2.1, fun q hq => ?_⟩
  obtain ⟨j, v, h1, rfl⟩ := gls_of ad lo 0 q hq
  rw [Nat.zero_add]
  exact (k.2.2.2 j v h1).1
theorem glok_st1 {ad : Nat → Nat → Nat} {h : Hp} {n i : Nat} {lo lo' : Lo} {ls ls' : Array Slot} {v : AV} (pre : List (Nat × Value)) (k : glok ad h n lo ls) (e : glset lo i v = some lo') (hv : glv h v)
    (hh : lv_has ls' n ((i, gtr ad v) :: (pre ++ gls ad 0 lo).filter (fun q => !(q.1 == i) && !(q.1 + 1 == i && q.2.category == 2)))) : glok ad h n lo' ls' := by
  obtain ⟨h1, h2, h3⟩ := glset_spec _ _ _ _ e
  refine ⟨hh.1, hh.2.1, h1.trans k.2.2.1, fun j w hj => ?_⟩
  rcases h3 j w hj with ⟨rfl, rfl⟩ | ⟨a, b, c⟩
  · exact ⟨hh.2.2 _ List.mem_cons_self, hv⟩
  · refine ⟨hh.2.2 (j, gtr ad w) (List.mem_cons_of_mem _ (List.mem_filter.mpr ⟨List.mem_append_right _ (by have := gls_in ad lo 0 j w b; rwa [Nat.zero_add] at this), ?_⟩)), (k.2.2.2 j w b).2⟩
    simp only [gtr_cat, Bool.and_eq_true, Bool.not_eq_true', beq_eq_false_iff_ne, ne_eq, Bool.and_eq_false_iff]
    refine ⟨a, ?_⟩
    by_cases q : j + 1 = i
    · exact Or.inr (fun z => c ⟨q, z⟩)
    · exact Or.inl q
theorem glok_st2 {ad : Nat → Nat → Nat} {h : Hp} {n i : Nat} {lo lo' lo'' : Lo} {ls ls' : Array Slot} {v : AV} (k : glok ad h n lo ls) (e : glset lo i v = some lo') (e2 : glnone lo' (i + 1) = some lo'') (hv : glv h v)
    (hh : lv_has ls' n ((i, gtr ad v) :: (gls ad 0 lo).filter (fun q => !(q.1 == i) && (!(q.1 == i + 1) && !(q.1 + 1 == i && q.2.category == 2))))) : glok ad h n lo'' ls' := by
  obtain ⟨h1, h2, h3⟩ := glset_spec _ _ _ _ e
  obtain ⟨g1, g2, g3⟩ := glnone_spec _ _ _ e2
  refine ⟨hh.1, hh.2.1, g1.trans (h1.trans k.2.2.1), fun j w hj => ?_⟩
  obtain ⟨hj1, hj2⟩ := g3 j w hj
  rcases h3 j w hj2 with ⟨rfl, rfl⟩ | ⟨a, b, c⟩
  · exact ⟨hh.2.2 _ List.mem_cons_self, hv⟩
  · refine ⟨hh.2.2 (j, gtr ad w) (List.mem_cons_of_mem _ (List.mem_filter.mpr ⟨by have := gls_in ad lo 0 j w b; rwa [Nat.zero_add] at this, ?_⟩)), (k.2.2.2 j w b).2⟩
    simp only [gtr_cat, Bool.and_eq_true, Bool.not_eq_true', beq_eq_false_iff_ne, ne_eq, Bool.and_eq_false_iff]
    refine ⟨a, hj1, ?_⟩
    by_cases q : j + 1 = i
    · exact Or.inr (fun z => c ⟨q, z⟩)
    · exact Or.inl q
theorem glset_lt {lo lo' : Lo} {i : Nat} {v : AV} (e : glset lo i v = some lo') : i < lo.length := (glset_spec _ _ _ _ e).2.1
theorem gkt_ok {o idx : Nat} {v : GKt} (h : gkt o idx = some v) : idx < 1024 ∧ glk gktl (o * 1024 + idx) = some v := by
  unfold gkt at h
  cases e : Nat.ble idx 1023 with
  | true => rw [e] at h; exact ⟨Nat.lt_succ_of_le (Nat.le_of_ble_eq_true e), h⟩
  | false => rw [e] at h; cases h
theorem gdm {o idx : Nat} (h : idx < 1024) : (o * 1024 + idx) / 1024 = o ∧ (o * 1024 + idx) % 1024 = idx := by omega
theorem gkt_i {o idx : Nat} {v : Int32} (h : gkt o idx = some (.inl v)) : Cond.constant (gown o) idx v ∈ lw_all := by
  obtain ⟨h1, h2⟩ := gkt_ok h
  have h3 := glk_all (P := gKtOk) gktl gktl_ok _ _ h2
  unfold gKtOk at h3
  rw [(gdm h1).1, (gdm h1).2] at h3
  exact h3
theorem gkt_l {o idx : Nat} {v : Int64} (h : gkt o idx = some (.inr (.inl v))) : Cond.constantLong (gown o) idx v ∈ lw_all := by
  obtain ⟨h1, h2⟩ := gkt_ok h
  have h3 := glk_all (P := gKtOk) gktl gktl_ok _ _ h2
  unfold gKtOk at h3
  rw [(gdm h1).1, (gdm h1).2] at h3
  exact h3
theorem gkt_s {o idx k : Nat} (h : gkt o idx = some (.inr (.inr k))) : k < gStr.length ∧ ∀ {base : Nat} {ad : Nat → Nat → Nat} {s : State} {H : Heap}, gold base ad s H → vk_R (gown o) idx (gStr.getD k "") (ad 2 k) s := by
  obtain ⟨h1, h2⟩ := gkt_ok h
  have h3 := glk_all (P := gKtOk) gktl gktl_ok _ _ h2
  unfold gKtOk at h3
  refine ⟨h3.1, fun g => ?_⟩
  have := g.2.1 _ _ h2
  rwa [(gdm h1).1, (gdm h1).2] at this
theorem va_ldcSW {p : Program} {l : Launch} {e : Env} {R : Room} {s : State} {m : MethodId} {args : Array Value} {below : List Frame} {meth : Method} {c : Code} {H : Heap} {locs : List Loc} {cells slots : Nat} {Q : State → Prop} {cc : ByteArray} {pc : Nat} {ls : Array Slot} {rest : List Value}
    (hexec : p.tables.exec = Jvm.exec) (hb : c.code = cc) {own tx : String} {index q : Nat} (hown : s.vm.findClass own = some m.cls) (hZ : vk_R own index tx q s) (hdg : decode cc pc = .ok (.ldc_w index, 3))
    (k : W p l e R s m args below meth c H locs cells slots Q (F0 m (pc + 3) ls (.ref q :: rest))) : W p l e R s m args below meth c H locs cells slots Q (F0 m pc ls rest) := by
  intro T hT X
  obtain ⟨t, a1, b1⟩ := k T hT X
  exact ⟨t, X.ldcStringW hexec hown (text := tx) (a := q) hZ.1 hZ.2 (g := F0 m pc ls rest) rfl (by rw [hb]; exact hdg) t a1, b1⟩
theorem gcx_own {m : GM} {R : Room} {p : Program} {l : Launch} {s : State} {mi : MethodId} {args : Array Value} {meth : Method} {c : Code} {D : GD} {base : Nat} {ad : Nat → Nat → Nat} (cx : gcx m R p l s mi args meth c D base ad) : s.vm.findClass (gown (gmo m)) = some mi.cls := by
  obtain ⟨-, -, -, -, -, h, -, -, -, -, -, -, hm, -⟩ := cx
  rw [← hm.2.2.2.2.1]
  exact h
theorem gcx_hts {m : GM} {R : Room} {p : Program} {l : Launch} {s : State} {mi : MethodId} {args : Array Value} {meth : Method} {c : Code} {D : GD} {base : Nat} {ad : Nat → Nat → Nat} (cx : gcx m R p l s mi args meth c D base ad) : ∀ w ∈ lw_all, w.before args s = true := cx.2.2.2.2.2.2.2.2.1
section GS2
variable {m : GM} {d : Nat} {B : Nat × Nat} {Qr : List AV → Hp → Prop} {Qx : Rf → Hp → Prop} {pc : Nat} {u : Nat × Nat} {J : Nat → Lo → List AV → Hp → Prop} {F : Lo → List AV → Hp → Prop} {R : List AV → Hp → Prop} {X : Lo → Rf → Hp → Prop} {C : GM → List AV → Hp → (List AV → Hp → Prop) → (Rf → Hp → Prop) → Prop} {lo : Lo} {st : List AV} {h : Hp}
theorem gs_istore_n {k : Fin 4} (hd : decode (gmC m) pc = .ok (.istore_n k, 1)) (HY : gHyp m d B Qr Qx pc 1 u J F R X C) (hg : gx (gmo m) (gmN m) (gmF m) (gmR m) pc (.istore_n k) lo st h J F R X C) : gT m (d + 1) B Qr Qx pc lo st h u := by
  simp only [gx] at hg
  split at hg
  · next x r =>
    split at hg
    · next lo1 e1 =>
      intro p l e s mi args below meth c D base ad0 h0 H locs ls ad cx ex e2 rp vs lk sl u1 u2
      exact lv_istore_n (lv' := _) cx.1 cx.2.1 hd rfl (glok_has lk) (lk.2.2.1 ▸ glset_lt e1) rfl (fun ls1 hl => (HY.2.1 _ _ _ hg p l e s mi args below meth c D base ad0 h0 H locs ls1 ad cx ex e2 rp vs (glok_st1 [] lk e1 trivial hl) (gl1 sl) u1 u2))
    · exact hg.elim
  · exact hg.elim
theorem gs_istore {k : Nat} (hd : decode (gmC m) pc = .ok (.istore k, 2)) (HY : gHyp m d B Qr Qx pc 2 u J F R X C) (hg : gx (gmo m) (gmN m) (gmF m) (gmR m) pc (.istore k) lo st h J F R X C) : gT m (d + 1) B Qr Qx pc lo st h u := by
  simp only [gx] at hg
  split at hg
  · next x r =>
    split at hg
    · next lo1 e1 =>
      intro p l e s mi args below meth c D base ad0 h0 H locs ls ad cx ex e2 rp vs lk sl u1 u2
      exact lv_istore (lv' := _) cx.1 cx.2.1 hd (glok_has lk) (lk.2.2.1 ▸ glset_lt e1) rfl (fun ls1 hl => (HY.2.1 _ _ _ hg p l e s mi args below meth c D base ad0 h0 H locs ls1 ad cx ex e2 rp vs (glok_st1 [] lk e1 trivial hl) (gl1 sl) u1 u2))
    · exact hg.elim
  · exact hg.elim
theorem gs_lstore_n {k : Fin 4} (hd : decode (gmC m) pc = .ok (.lstore_n k, 1)) (HY : gHyp m d B Qr Qx pc 1 u J F R X C) (hg : gx (gmo m) (gmN m) (gmF m) (gmR m) pc (.lstore_n k) lo st h J F R X C) : gT m (d + 1) B Qr Qx pc lo st h u := by
  simp only [gx] at hg
  split at hg
  · next x r =>
    split at hg
    · next lo1 e1 =>
      split at hg
      · next lo2 e2q =>
        intro p l e s mi args below meth c D base ad0 h0 H locs ls ad cx ex e2 rp vs lk sl u1 u2
        have hlt := (glnone_spec _ _ _ e2q).2.1
        rw [(glset_spec _ _ _ _ e1).1, lk.2.2.1] at hlt
        exact lv_lstore_n (lv' := _) cx.1 cx.2.1 hd rfl (glok_has lk) hlt rfl (fun ls1 hl => (HY.2.1 _ _ _ hg p l e s mi args below meth c D base ad0 h0 H locs ls1 ad cx ex e2 rp vs (glok_st2 lk e1 e2q trivial hl) (gl1 sl) u1 u2))
      · exact hg.elim
    · exact hg.elim
  · exact hg.elim
theorem gs_lstore {k : Nat} (hd : decode (gmC m) pc = .ok (.lstore k, 2)) (HY : gHyp m d B Qr Qx pc 2 u J F R X C) (hg : gx (gmo m) (gmN m) (gmF m) (gmR m) pc (.lstore k) lo st h J F R X C) : gT m (d + 1) B Qr Qx pc lo st h u := by
  simp only [gx] at hg
  split at hg
  · next x r =>
    split at hg
    · next lo1 e1 =>
      split at hg
      · next lo2 e2q =>
        intro p l e s mi args below meth c D base ad0 h0 H locs ls ad cx ex e2 rp vs lk sl u1 u2
        have hlt := (glnone_spec _ _ _ e2q).2.1
        rw [(glset_spec _ _ _ _ e1).1, lk.2.2.1] at hlt
        exact lv_lstore (lv' := _) cx.1 cx.2.1 hd (glok_has lk) hlt rfl (fun ls1 hl => (HY.2.1 _ _ _ hg p l e s mi args below meth c D base ad0 h0 H locs ls1 ad cx ex e2 rp vs (glok_st2 lk e1 e2q trivial hl) (gl1 sl) u1 u2))
      · exact hg.elim
    · exact hg.elim
  · exact hg.elim
theorem gs_astore_n {k : Fin 4} (hd : decode (gmC m) pc = .ok (.astore_n k, 1)) (HY : gHyp m d B Qr Qx pc 1 u J F R X C) (hg : gx (gmo m) (gmN m) (gmF m) (gmR m) pc (.astore_n k) lo st h J F R X C) : gT m (d + 1) B Qr Qx pc lo st h u := by
  simp only [gx] at hg
  split at hg
  · next x r =>
    split at hg
    · next lo1 e1 =>
      intro p l e s mi args below meth c D base ad0 h0 H locs ls ad cx ex e2 rp vs lk sl u1 u2
      rcases x with _ | x
      · exact lv_astore_nN (lv' := _) cx.1 cx.2.1 hd rfl (glok_has lk) (lk.2.2.1 ▸ glset_lt e1) rfl (fun ls1 hl => (HY.2.1 _ _ _ hg p l e s mi args below meth c D base ad0 h0 H locs ls1 ad cx ex e2 rp vs (glok_st1 [] lk e1 trivial hl) (gl1 sl) u1 u2))
      · exact lv_astore_n (lv' := _) cx.1 cx.2.1 hd rfl (glok_has lk) (lk.2.2.1 ▸ glset_lt e1) rfl (fun ls1 hl => (HY.2.1 _ _ _ hg p l e s mi args below meth c D base ad0 h0 H locs ls1 ad cx ex e2 rp vs (glok_st1 [] lk e1 (gl0 sl) hl) (gl1 sl) u1 u2))
    · exact hg.elim
  · exact hg.elim
theorem gs_astore {k : Nat} (hd : decode (gmC m) pc = .ok (.astore k, 2)) (HY : gHyp m d B Qr Qx pc 2 u J F R X C) (hg : gx (gmo m) (gmN m) (gmF m) (gmR m) pc (.astore k) lo st h J F R X C) : gT m (d + 1) B Qr Qx pc lo st h u := by
  simp only [gx] at hg
  split at hg
  · next x r =>
    split at hg
    · next lo1 e1 =>
      intro p l e s mi args below meth c D base ad0 h0 H locs ls ad cx ex e2 rp vs lk sl u1 u2
      rcases x with _ | x
      · exact lv_astoreN (lv' := _) cx.1 cx.2.1 hd (glok_has lk) (lk.2.2.1 ▸ glset_lt e1) rfl (fun ls1 hl => (HY.2.1 _ _ _ hg p l e s mi args below meth c D base ad0 h0 H locs ls1 ad cx ex e2 rp vs (glok_st1 [] lk e1 trivial hl) (gl1 sl) u1 u2))
      · exact lv_astore (lv' := _) cx.1 cx.2.1 hd (glok_has lk) (lk.2.2.1 ▸ glset_lt e1) rfl (fun ls1 hl => (HY.2.1 _ _ _ hg p l e s mi args below meth c D base ad0 h0 H locs ls1 ad cx ex e2 rp vs (glok_st1 [] lk e1 (gl0 sl) hl) (gl1 sl) u1 u2))
    · exact hg.elim
  · exact hg.elim
theorem gs_iinc {k : Nat} {n : Int} (hd : decode (gmC m) pc = .ok (.iinc k n, 3)) (HY : gHyp m d B Qr Qx pc 3 u J F R X C) (hg : gx (gmo m) (gmN m) (gmF m) (gmR m) pc (.iinc k n) lo st h J F R X C) : gT m (d + 1) B Qr Qx pc lo st h u := by
  simp only [gx] at hg
  split at hg
  · next x e0 =>
    split at hg
    · next lo1 e1 =>
      intro p l e s mi args below meth c D base ad0 h0 H locs ls ad cx ex e2 rp vs lk sl u1 u2
      have hh := glok_has lk
      have hh2 : lv_has ls (gmL m) ([(k, Value.int x)] ++ gls ad 0 lo) := ⟨hh.1, hh.2.1, fun q hq => (List.mem_cons.mp hq).elim (fun z => by rw [z]; exact (lk.2.2.2 _ _ e0).1) (fun z => hh.2.2 q z)⟩
      exact lv_iinc (lv' := _) cx.1 cx.2.1 hd hh2 (k := 0) rfl (by rw [gic_ok]) (lk.2.2.1 ▸ glset_lt e1) rfl (fun ls1 hl => (HY.2.1 _ _ _ hg p l e s mi args below meth c D base ad0 h0 H locs ls1 ad cx ex e2 rp vs (glok_st1 _ lk e1 trivial hl) sl u1 u2))
    · exact hg.elim
  · exact hg.elim
theorem gs_ldc {k : Nat} (hd : decode (gmC m) pc = .ok (.ldc k, 2)) (HY : gHyp m d B Qr Qx pc 2 u J F R X C) (hg : gx (gmo m) (gmN m) (gmF m) (gmR m) pc (.ldc k) lo st h J F R X C) : gT m (d + 1) B Qr Qx pc lo st h u := by
  simp only [gx] at hg
  split at hg
  · next v e1 =>
    intro p l e s mi args below meth c D base ad0 h0 H locs ls ad cx ex e2 rp vs lk sl u1 u2
    exact lv_ldc cx.1 cx.2.1 (gcx_own cx) (gcx_hts cx _ (gkt_i e1)) hd (HY.2.1 _ _ _ hg p l e s mi args below meth c D base ad0 h0 H locs ls ad cx ex e2 rp vs lk (glc trivial sl) u1 u2)
  · next n e1 =>
    intro p l e s mi args below meth c D base ad0 h0 H locs ls ad cx ex e2 rp vs lk sl u1 u2
    have hk := gkt_s e1
    have hR := hk.2 cx.2.2.2.2.2.2.2.2.2.2.1
    rw [← e2 2 n (Or.inl ⟨rfl, hk.1⟩)] at hR
    exact va_ldcS cx.1 cx.2.1 (gcx_own cx) hR hd (HY.2.1 _ _ _ hg p l e s mi args below meth c D base ad0 h0 H locs ls ad cx ex e2 rp vs lk (glc (show n < hC h 2 by rw [rp.2.2.2.2.2.2.1]; exact hk.1) sl) u1 u2)
  · exact hg.elim
theorem gs_ldc_w {k : Nat} (hd : decode (gmC m) pc = .ok (.ldc_w k, 3)) (HY : gHyp m d B Qr Qx pc 3 u J F R X C) (hg : gx (gmo m) (gmN m) (gmF m) (gmR m) pc (.ldc_w k) lo st h J F R X C) : gT m (d + 1) B Qr Qx pc lo st h u := by
  simp only [gx] at hg
  split at hg
  · next v e1 =>
    intro p l e s mi args below meth c D base ad0 h0 H locs ls ad cx ex e2 rp vs lk sl u1 u2
    exact lv_ldcw cx.1 cx.2.1 (gcx_own cx) (gcx_hts cx _ (gkt_i e1)) hd (HY.2.1 _ _ _ hg p l e s mi args below meth c D base ad0 h0 H locs ls ad cx ex e2 rp vs lk (glc trivial sl) u1 u2)
  · next n e1 =>
    intro p l e s mi args below meth c D base ad0 h0 H locs ls ad cx ex e2 rp vs lk sl u1 u2
    have hk := gkt_s e1
    have hR := hk.2 cx.2.2.2.2.2.2.2.2.2.2.1
    rw [← e2 2 n (Or.inl ⟨rfl, hk.1⟩)] at hR
    exact va_ldcSW cx.1 cx.2.1 (gcx_own cx) hR hd (HY.2.1 _ _ _ hg p l e s mi args below meth c D base ad0 h0 H locs ls ad cx ex e2 rp vs lk (glc (show n < hC h 2 by rw [rp.2.2.2.2.2.2.1]; exact hk.1) sl) u1 u2)
  · exact hg.elim
theorem gs_ldc2_w {k : Nat} (hd : decode (gmC m) pc = .ok (.ldc2_w k, 3)) (HY : gHyp m d B Qr Qx pc 3 u J F R X C) (hg : gx (gmo m) (gmN m) (gmF m) (gmR m) pc (.ldc2_w k) lo st h J F R X C) : gT m (d + 1) B Qr Qx pc lo st h u := by
  simp only [gx] at hg
  split at hg
  · next v e1 =>
    intro p l e s mi args below meth c D base ad0 h0 H locs ls ad cx ex e2 rp vs lk sl u1 u2
    exact lv_ldc2 cx.1 cx.2.1 (gcx_own cx) (gcx_hts cx _ (gkt_l e1)) hd (HY.2.1 _ _ _ hg p l e s mi args below meth c D base ad0 h0 H locs ls ad cx ex e2 rp vs lk (glc trivial sl) u1 u2)
  · exact hg.elim
theorem gs_ireturn (hd : decode (gmC m) pc = .ok (.ireturn, 1)) (HY : gHyp m d B Qr Qx pc 1 u J F R X C) (hg : gx (gmo m) (gmN m) (gmF m) (gmR m) pc (.ireturn) lo st h J F R X C) : gT m (d + 1) B Qr Qx pc lo st h u := by
  simp only [gx] at hg
  split at hg
  · next x =>
    split at hg
    · next e1 =>
      intro p l e s mi args below meth c D base ad0 h0 H locs ls ad cx ex e2 rp vs lk sl u1 u2
      exact vx_ret (W.widen (k := B.1) (n := B.2) u1 u2 (W.iret cx.1 cx.2.1 (cx.2.2.1.trans e1) (fun t ht hW => ⟨[gI x], h, ad, rfl, Nat.le_refl 1, HY.2.2.1 _ _ hg, by rw [ht]; exact rp, ex, fun y hy => by rw [List.mem_singleton.mp hy]; trivial, vs.F ht⟩) vs.2.2 hd cx.2.2.2.2.1))
    · next e1 =>
      intro p l e s mi args below meth c D base ad0 h0 H locs ls ad cx ex e2 rp vs lk sl u1 u2
      have hn : narrow .boolean (.int x) = .int x := by rcases hg.1 with rfl | rfl <;> decide
      exact vx_ret (W.widen (k := B.1) (n := B.2) u1 u2 (W.zret cx.1 cx.2.1 (cx.2.2.1.trans e1) hn (fun t ht hW => ⟨[gI x], h, ad, rfl, Nat.le_refl 1, HY.2.2.1 _ _ hg.2, by rw [ht]; exact rp, ex, fun y hy => by rw [List.mem_singleton.mp hy]; trivial, vs.F ht⟩) vs.2.2 hd cx.2.2.2.2.1))
    · exact hg.elim
  · exact hg.elim
theorem gs_lreturn (hd : decode (gmC m) pc = .ok (.lreturn, 1)) (HY : gHyp m d B Qr Qx pc 1 u J F R X C) (hg : gx (gmo m) (gmN m) (gmF m) (gmR m) pc (.lreturn) lo st h J F R X C) : gT m (d + 1) B Qr Qx pc lo st h u := by
  simp only [gx] at hg
  split at hg
  · next x =>
    split at hg
    · next e1 =>
      intro p l e s mi args below meth c D base ad0 h0 H locs ls ad cx ex e2 rp vs lk sl u1 u2
      exact vx_ret (W.widen (k := B.1) (n := B.2) u1 u2 (W.lret cx.1 cx.2.1 (cx.2.2.1.trans e1) (fun t ht hW => ⟨[gL x], h, ad, rfl, Nat.le_refl 1, HY.2.2.1 _ _ hg, by rw [ht]; exact rp, ex, fun y hy => by rw [List.mem_singleton.mp hy]; trivial, vs.F ht⟩) vs.2.2 hd cx.2.2.2.2.1))
    · exact hg.elim
  · exact hg.elim
theorem gs_areturn (hd : decode (gmC m) pc = .ok (.areturn, 1)) (HY : gHyp m d B Qr Qx pc 1 u J F R X C) (hg : gx (gmo m) (gmN m) (gmF m) (gmR m) pc (.areturn) lo st h J F R X C) : gT m (d + 1) B Qr Qx pc lo st h u := by
  simp only [gx] at hg
  split at hg
  · next x =>
    split at hg
    · next e1 =>
      intro p l e s mi args below meth c D base ad0 h0 H locs ls ad cx ex e2 rp vs lk sl u1 u2
      exact vx_ret (W.widen (k := B.1) (n := B.2) u1 u2 (W.aret (v := gtr ad (gR x)) cx.1 cx.2.1 (cx.2.2.1.trans e1) (Or.inl ⟨_, rfl⟩) (by rcases x with _ | r; exact Or.inl rfl; exact Or.inr ⟨_, rfl⟩) (fun t ht hW => ⟨[gR x], h, ad, rfl, Nat.le_refl 1, HY.2.2.1 _ _ hg, by rw [ht]; exact rp, ex, fun y hy => by rw [List.mem_singleton.mp hy]; exact gl0 sl, vs.F ht⟩) vs.2.2 hd cx.2.2.2.2.1))
    · next e1 =>
      intro p l e s mi args below meth c D base ad0 h0 H locs ls ad cx ex e2 rp vs lk sl u1 u2
      exact vx_ret (W.widen (k := B.1) (n := B.2) u1 u2 (W.aret (v := gtr ad (gR x)) cx.1 cx.2.1 (cx.2.2.1.trans e1) (Or.inr ⟨_, rfl⟩) (by rcases x with _ | r; exact Or.inl rfl; exact Or.inr ⟨_, rfl⟩) (fun t ht hW => ⟨[gR x], h, ad, rfl, Nat.le_refl 1, HY.2.2.1 _ _ hg, by rw [ht]; exact rp, ex, fun y hy => by rw [List.mem_singleton.mp hy]; exact gl0 sl, vs.F ht⟩) vs.2.2 hd cx.2.2.2.2.1))
    · exact hg.elim
  · exact hg.elim
theorem gs_return_ (hd : decode (gmC m) pc = .ok (.return_, 1)) (HY : gHyp m d B Qr Qx pc 1 u J F R X C) (hg : gx (gmo m) (gmN m) (gmF m) (gmR m) pc (.return_) lo st h J F R X C) : gT m (d + 1) B Qr Qx pc lo st h u := by
  simp only [gx] at hg
  split at hg
  · split at hg
    · next e1 =>
      intro p l e s mi args below meth c D base ad0 h0 H locs ls ad cx ex e2 rp vs lk sl u1 u2
      exact vx_ret (W.widen (k := B.1) (n := B.2) u1 u2 (W.vret cx.1 cx.2.1 (cx.2.2.1.trans e1) (fun t ht hW => ⟨[], h, ad, rfl, Nat.zero_le _, HY.2.2.1 _ _ hg, by rw [ht]; exact rp, ex, fun y hy => absurd hy List.not_mem_nil, vs.F ht⟩) vs.2.2 hd cx.2.2.2.2.1))
    · exact hg.elim
  · exact hg.elim
end GS2
