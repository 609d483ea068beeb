/-! ===== new cells ===== -/
/-- one more cell of a region, with n places, all at their beginning -/
def gNw (h : Hp) (b n : Nat) : Hp :=
  (fun b' i k => bif Nat.beq b' b && Nat.beq i (hC h b) then 0 else hI h b' i k,
   fun b' i k => bif Nat.beq b' b && Nat.beq i (hC h b) then 0 else hL h b' i k,
   fun b' i k => bif Nat.beq b' b && Nat.beq i (hC h b) then none else hR h b' i k,
   fun b' i => bif Nat.beq b' b && Nat.beq i (hC h b) then n else hN h b' i,
   fun b' => bif Nat.beq b' b then hC h b + 1 else hC h b')
def gAd (ad : Nat → Nat → Nat) (h : Hp) (b a : Nat) : Nat → Nat → Nat := fun b' i => bif Nat.beq b' b && Nat.beq i (hC h b) then a else ad b' i
theorem gqf {b' b i c : Nat} (e : ¬ (b' = b ∧ i = c)) : (Nat.beq b' b && Nat.beq i c) = false := by
  cases q : (Nat.beq b' b && Nat.beq i c) with
  | false => rfl
  | true =>
    rw [Bool.and_eq_true] at q
    exact absurd ⟨Nat.eq_of_beq_eq_true q.1, Nat.eq_of_beq_eq_true q.2⟩ e
theorem gqt (b c : Nat) : (Nat.beq b b && Nat.beq c c) = true := by rw [Nat.beq_refl, Nat.beq_refl]; rfl
section GNW
variable {h : Hp} {b n b' i k : Nat}
theorem gNw_I (e : ¬ (b' = b ∧ i = hC h b)) : hI (gNw h b n) b' i k = hI h b' i k := by
  show (bif _ then _ else _) = _
  rw [gqf e]; rfl
theorem gNw_L (e : ¬ (b' = b ∧ i = hC h b)) : hL (gNw h b n) b' i k = hL h b' i k := by
  show (bif _ then _ else _) = _
  rw [gqf e]; rfl
theorem gNw_R (e : ¬ (b' = b ∧ i = hC h b)) : hR (gNw h b n) b' i k = hR h b' i k := by
  show (bif _ then _ else _) = _
  rw [gqf e]; rfl
theorem gNw_N (e : ¬ (b' = b ∧ i = hC h b)) : hN (gNw h b n) b' i = hN h b' i := by
  show (bif _ then _ else _) = _
  rw [gqf e]; rfl
theorem gNw_I0 : hI (gNw h b n) b (hC h b) k = 0 := by
  show (bif _ then _ else _) = _
  rw [gqt]; rfl
theorem gNw_L0 : hL (gNw h b n) b (hC h b) k = 0 := by
  show (bif _ then _ else _) = _
  rw [gqt]; rfl
theorem gNw_R0 : hR (gNw h b n) b (hC h b) k = none := by
  show (bif _ then _ else _) = _
  rw [gqt]; rfl
theorem gNw_N0 : hN (gNw h b n) b (hC h b) = n := by
  show (bif _ then _ else _) = _
  rw [gqt]; rfl
theorem gNw_C0 : hC (gNw h b n) b = hC h b + 1 := by
  show (bif _ then _ else _) = _
  rw [Nat.beq_refl]; rfl
theorem gNw_C (e : b' ≠ b) : hC (gNw h b n) b' = hC h b' := by
  show (bif _ then _ else _) = _
  rw [show Nat.beq b' b = false from by cases q : Nat.beq b' b; rfl; exact absurd (Nat.eq_of_beq_eq_true q) e]; rfl
theorem gNw_le : hC h b' ≤ hC (gNw h b n) b' := by
  by_cases e : b' = b
  · subst e; rw [gNw_C0]; omega
  · rw [gNw_C e]; exact Nat.le_refl _
theorem gAd_o {ad : Nat → Nat → Nat} {a : Nat} (e : ¬ (b' = b ∧ i = hC h b)) : gAd ad h b a b' i = ad b' i := by
  show (bif _ then _ else _) = _
  rw [gqf e]; rfl
theorem gAd_n {ad : Nat → Nat → Nat} {a : Nat} : gAd ad h b a b (hC h b) = a := by
  show (bif _ then _ else _) = _
  rw [gqt]; rfl
theorem gAd_l {ad : Nat → Nat → Nat} {a : Nat} (e : i < hC h b') : gAd ad h b a b' i = ad b' i := gAd_o (fun q => by obtain ⟨rfl, rfl⟩ := q; exact absurd e (Nat.lt_irrefl _))
end GNW
theorem gext_new (h : Hp) (ad : Nat → Nat → Nat) (b n a : Nat) : gext h ad (gNw h b n) (gAd ad h b a) := fun b' i q => ⟨Nat.lt_of_lt_of_le q gNw_le, gAd_l q⟩
theorem gat_new {D : GD} {ad : Nat → Nat → Nat} {h : Hp} {b n b' i a : Nat} {H H1 : Heap} (c4 : ∀ b i k r, i < hC h b → gvk h b i k → hR h b i k = some r → r.2 < hC h r.1) (hi : i < hC h b') (hq : H1[ad b' i]? = H[ad b' i]?) (g : gat D ad h b' i H) : gat D (gAd ad h b a) (gNw h b n) b' i H1 := by
  have e : ¬ (b' = b ∧ i = hC h b) := fun q => by obtain ⟨rfl, rfl⟩ := q; exact absurd hi (Nat.lt_irrefl _)
  have ev : ∀ ty k, gvk h b' i k → gval (gAd ad h b a) (gNw h b n) ty b' i k = gval ad h ty b' i k := by
    intro ty k hk
    have rr : gtr (gAd ad h b a) (gR (hR (gNw h b n) b' i k)) = gtr ad (gR (hR h b' i k)) := by
      rw [gNw_R e]
      cases hr : hR h b' i k with
      | none => rfl
      | some r => exact congrArg Value.ref (gAd_l (c4 _ _ _ _ hi hk hr))
    cases ty with
    | long => exact congrArg Value.long (gNw_L e)
    | object n => exact rr
    | array t => exact rr
    | _ => exact congrArg Value.int (gNw_I e)
  have ea : H1[gAd ad h b a b' i]? = H[ad b' i]? := by rw [gAd_l hi]; exact hq
  unfold gat at g ⊢
  split at g
  · next ci ek =>
    obtain ⟨r, cell, g1, g2, g3, g4, g5, gm⟩ := g
    refine ⟨r, cell, g1, ea.trans g2, g3, g4, fun k hk => ?_, gm⟩
    obtain ⟨v, v1, v2, v3⟩ := g5 k hk
    refine ⟨v, v1, fun w z => (v2 w z).trans (ev _ k (gvk_o ek)).symm, fun w r hr => ?_⟩
    rw [gNw_R e] at hr
    rw [gAd_l (c4 _ _ _ _ hi (gvk_o ek) hr)]
    exact v3 w r hr
  · next ty ek =>
    obtain ⟨cell, g2, g3, g4, g5, g6, g7⟩ := g
    exact ⟨cell, ea.trans g2, g3, g4, g5, by rw [gNw_N e]; exact g6, fun k hk => by rw [gNw_N e] at hk; rw [ev _ k (gvk_a ek hk)]; exact g7 k hk⟩
  · exact g
theorem grep_new {D : GD} {base : Nat} {ad : Nat → Nat → Nat} {h : Hp} {b n : Nat} {H H1 : Heap} (a : Nat) (ha : H.size ≤ a) (rp : grep D base ad h H) (hb : 7 < b) (hn : n < 2 ^ 31) (z1 : H.size ≤ H1.size) (o1 : ∀ q : Nat, q < H.size → H1[q]? = H[q]?)
    (hat : gat D (gAd ad h b a) (gNw h b n) b (hC h b) H1) : grep D base (gAd ad h b a) (gNw h b n) H1 := by
  obtain ⟨r1, r2, r3, r4, r5, r6, r7⟩ := rp
  have old : ∀ b' i, i < hC (gNw h b n) b' → ¬ (b' = b ∧ i = hC h b) → i < hC h b' := by
    intro b' i q e
    by_cases eb : b' = b
    · subst eb
      rw [gNw_C0] at q
      have : i ≠ hC h b' := fun z => e ⟨rfl, z⟩
      omega
    · rw [gNw_C eb] at q; exact q
  have lt : ∀ b' i, b' ≠ 2 → i < hC h b' → ad b' i < H.size := fun b' i q1 q2 => gat_lt (r1 b' i q1 q2)
  refine ⟨fun b' i q1 q2 => ?_, fun b' i b2 i2 q1 q2 q3 q4 q5 => ?_, fun b' i q1 q2 => ?_, fun b' i k r q1 q2 q3 => ?_, fun b' i => ?_, by omega, by rw [gNw_C (by omega), gNw_C (by omega)]; exact r7⟩
  · by_cases e : b' = b ∧ i = hC h b
    · obtain ⟨rfl, rfl⟩ := e; exact hat
    · have q := old b' i q2 e
      exact gat_new r4 q (o1 _ (lt b' i q1 q)) (r1 b' i q1 q)
  · by_cases e : b' = b ∧ i = hC h b
    · by_cases e2 : b2 = b ∧ i2 = hC h b
      · exact ⟨e.1.trans e2.1.symm, e.2.trans e2.2.symm⟩
      · obtain ⟨rfl, rfl⟩ := e
        have q := old b2 i2 q4 e2
        rw [gAd_n, gAd_l q] at q5
        have := lt b2 i2 q3 q
        omega
    · have q := old b' i q2 e
      by_cases e2 : b2 = b ∧ i2 = hC h b
      · obtain ⟨rfl, rfl⟩ := e2
        rw [gAd_n, gAd_l q] at q5
        have := lt b' i (by omega) q
        omega
      · have q' := old b2 i2 q4 e2
        rw [gAd_l q, gAd_l q'] at q5
        exact r2 b' i b2 i2 q1 q q3 q' q5
  · by_cases e : b' = b ∧ i = hC h b
    · obtain ⟨rfl, rfl⟩ := e; rw [gAd_n]; omega
    · have q := old b' i q2 e
      rw [gAd_l q]; exact r3 b' i q1 q
  · by_cases e : b' = b ∧ i = hC h b
    · obtain ⟨rfl, rfl⟩ := e; rw [gNw_R0] at q3; cases q3
    · have q := old b' i q1 e
      rw [gNw_R e] at q3
      have q2' : gvk h b' i k := by
        unfold gvk at q2 ⊢
        split at q2
        · next ek => rw [gNw_N e] at q2; exact q2
        · trivial
      exact Nat.lt_of_lt_of_le (r4 b' i k r q q2' q3) gNw_le
  · by_cases e : b' = b ∧ i = hC h b
    · obtain ⟨rfl, rfl⟩ := e; rw [gNw_N0]; exact hn
    · rw [gNw_N e]; exact r5 b' i
theorem gfx_lt {h : Hp} {D : GD} {base : Nat} {ad : Nat → Nat → Nat} {H : Heap} (rp : grep D base ad h H) {b a : Nat} : ∀ b' i, gfx b' i → gAd ad h b a b' i = ad b' i := fun _ _ q => gAd_l (gfx_C rp q)
def gplain : FieldType → Bool
  | .float => false
  | .double => false
  | _ => true
theorem gdef_val {ad : Nat → Nat → Nat} {h : Hp} {b n k : Nat} {ty : FieldType} (hp : gplain ty = true) : defaultValue ty = gval ad (gNw h b n) ty b (hC h b) k := by
  have rr : gtr ad (gR (hR (gNw h b n) b (hC h b) k)) = Value.null := by rw [gNw_R0]; rfl
  cases ty with
  | long => exact congrArg Value.long gNw_L0.symm
  | object n => exact rr.symm
  | array t => exact rr.symm
  | float => cases hp
  | double => cases hp
  | _ => exact congrArg Value.int gNw_I0.symm
section GMK
variable {m : GM} {d : Nat} {B : Nat × Nat} {Qr : List AV → Hp → Prop} {Qx : Rf → Hp → Prop} {u : Nat × Nat} {pc : Nat} {lo : Lo} {r : List AV} {h : Hp} {index b : Nat}
theorem va_S_new {A0 : Nat → Prop} {H0 H H1 : Heap} {locs : List Loc} (vs : va_S A0 H0 H locs) (z1 : H.size ≤ H1.size) (o1 : ∀ q : Nat, q < H.size → H1[q]? = H[q]?) : va_S A0 H0 H1 locs :=
  ⟨Nat.le_trans vs.1 z1, fun x h1 h2 => (o1 x (Nat.lt_of_lt_of_le h1 vs.1)).trans (vs.2.1 x h1 h2), vs.2.2⟩
/-- what goes on behind a new cell -/
theorem gT_made {pc' k n : Nat} {p : Program} {l : Launch} {e : Env} {s : State} {mi : MethodId} {args : Array Value} {below : List Frame} {meth : Method} {c : Code} {D : GD} {base : Nat} {ad0 : Nat → Nat → Nat} {h0 : Hp} {H H1 : Heap} {locs : List Loc} {ls : Array Slot} {ad : Nat → Nat → Nat}
    (cx : gcx m (grm d B) p l s mi args meth c D base ad0) (ex : gext h0 ad0 h ad) (e2 : ∀ b i, gfx b i → ad b i = ad0 b i) (rp : grep D base ad h H) (vs : va_S (fun q => base ≤ q) s.heap H locs) (lk : glok ad h (gmL m) lo ls) (sl : ∀ v ∈ r, glv h v) (u1 : u.1 + 1 ≤ B.1) (u2 : u.2 + k ≤ B.2)
    (hb : 7 < b) (hn : n < 2 ^ 31) (z1 : H1.size = H.size + 1) (o1 : ∀ q : Nat, q < H.size → H1[q]? = H[q]?) (hat : gat D (gAd ad h b H.size) (gNw h b n) b (hC h b) H1)
    (K : gT m d B Qr Qx pc' lo (gR (some (b, hC h b)) :: r) (gNw h b n) (u.1 + 1, u.2 + k)) :
    W p l e (grm d B) s mi args below meth c H1 locs (u.1 + 1) (u.2 + k) (vx_MQ below (gQc D base ad0 h0 Qr) (gXC D base ad0 h0 Qx) args s B.1 B.2 (fun q => base ≤ q)) (F0 mi pc' ls (.ref H.size :: r.map (gtr ad))) := by
  have ge := gext_new h ad b n H.size
  have hv : glv (gNw h b n) (gR (some (b, hC h b))) := by show hC h b < hC (gNw h b n) b; rw [gNw_C0]; omega
  have K1 := K p l e s mi args below meth c D base ad0 h0 H1 locs ls (gAd ad h b H.size) cx (gext_tr ex ge) (fun b' i q => (gfx_lt rp b' i q).trans (e2 b' i q)) (grep_new H.size (Nat.le_refl _) rp hb hn (by omega) o1 hat) (va_S_new vs (by omega) o1) (glok_ext ge lk) (glc hv (fun v q => glv_ext ge (sl v q))) u1 u2
  have ek : (gR (some (b, hC h b)) :: r).map (gtr (gAd ad h b H.size)) = .ref H.size :: r.map (gtr ad) := by
    show gtr _ _ :: r.map (gtr (gAd ad h b H.size)) = _
    rw [gmap_ext ge r sl]
    exact congrArg (fun z => Value.ref z :: r.map (gtr ad)) gAd_n
  rw [ek] at K1
  exact K1
/-- new -/
theorem gT_new (b : Nat) {ci : Nat} {C : String} {T : u_T} {N : Nat} (hb : 7 < b) (hk : grk b = some (.inl ci)) (h1 : gcl[ci]? = some (C, T, N)) (hp : ∀ k, k < N → gplain (gty ci k) = true) (hd : decode (gmC m) pc = .ok (.new index, 3)) (hcl : Cond.classLink (gmO m) index C ∈ lw_all) (hin : Cond.instantiable C N ∈ lw_all) (hini : Cond.initialized C ∈ lw_all)
    (hu1 : u.1 + 1 ≤ B.1) (hu2 : u.2 + N ≤ B.2) (K : gT m d B Qr Qx (pc + 3) lo (gR (some (b, hC h b)) :: r) (gNw h b 0) (u.1 + 1, u.2 + N)) : gT m d B Qr Qx pc lo r h u := by
  intro p l e s mi args below meth c D base ad0 h0 H locs ls ad cx ex e2 rp vs lk sl u1 u2
  have hts := gcx_hts cx
  have hKn := cx.2.2.2.2.2.2.2.2.2.1.1 ci _ h1
  refine W.newcK cx.1 cx.2.1 cx.2.2.2.2.2.1 (hts _ hcl) (hts _ hin) (hts _ hini) rfl hd hu1 hu2 hKn.2.1 rfl (fun H1 kC hkC e1 z1 o1 => ?_)
  have hok := gcl_ok ci _ h1
  obtain ⟨cell, c1, c2, c3, c4⟩ := u_born (gty ci) hts hok.1 hKn hkC e1 hok.2.1
  have ec : cell = blank (D.1 ci) kC := Option.some.inj (c1.symm.trans e1)
  refine gT_made cx ex e2 rp vs lk sl hu1 hu2 hb (by decide) z1 o1 ?_ K
  unfold gat
  rw [hk]
  refine ⟨_, cell, h1, by rw [gAd_n]; exact c1, c2, c3, fun k hk => ⟨_, c4 k hk, fun _ _ => gdef_val (hp k hk), fun _ r hr => by rw [gNw_R0] at hr; cases hr⟩, by rw [ec]; rfl⟩
theorem gfindO {s : State} {n : String} {a c : ClassId} (h1 : s.vm.findClass n = some a) (h2 : s.vm.findClass n = some c) : a = c := Option.some.inj (h1.symm.trans h2)
def gnref : FieldType → Bool
  | .object _ => false
  | .array _ => false
  | _ => true
theorem gRA_n {s : State} {cA : ClassId} {ty : FieldType} (hr : gnref ty = true) (h : va_RA s cA ty) : s.vm.findClass ("[" ++ ty.toString) = some cA := by
  cases ty with
  | object n => cases hr
  | array t => cases hr
  | _ => exact h
theorem gcb (ty : FieldType) : componentBytes ty ≤ 8 := by cases ty <;> exact Nat.le_of_ble_eq_true rfl
theorem garr_at {D : GD} {ad : Nat → Nat → Nat} {h : Hp} {b n a : Nat} {ty : FieldType} {H1 : Heap} (hk : grk b = some (.inr ty)) (hp : gplain ty = true) (e1 : H1[a]? = some (arrV (D.2.2 b) n (fun _ => defaultValue ty))) : gat D (gAd ad h b a) (gNw h b n) b (hC h b) H1 := by
  unfold gat
  rw [hk]
  refine ⟨arrV (D.2.2 b) n (fun _ => defaultValue ty), by rw [gAd_n]; exact e1, rfl, (fun q => by cases q), (fun q z => by cases z), Or.inl (by rw [arrV_size, gNw_N0]), fun k hk => ?_⟩
  rw [gNw_N0] at hk
  rw [arrV_read _ _ hk]
  exact congrArg some (gdef_val hp)
/-- newarray -/
theorem gT_newA (b n : Nat) {ty : FieldType} {atype : ArrayType} {x : Int32} (hb : 7 < b) (hk : grk b = some (.inr ty)) (hty : newarray.typeOf atype = ty) (hp : gplain ty = true) (hr : gnref ty = true) (hx : x = nI n) (hn : n ≤ 65536) (hw : Cond.arrayClass ty ∈ lw_all) (hd : decode (gmC m) pc = .ok (.newarray atype, 2))
    (hu1 : u.1 + 1 ≤ B.1) (hu2 : u.2 + n ≤ B.2) (K : gT m d B Qr Qx (pc + 2) lo (gR (some (b, hC h b)) :: r) (gNw h b n) (u.1 + 1, u.2 + n)) : gT m d B Qr Qx pc lo (gI x :: r) h u := by
  intro p l e s mi args below meth c D base ad0 h0 H locs ls ad cx ex e2 rp vs lk sl u1 u2
  subst hty
  subst hx
  refine va_newaK cx.1 cx.2.1 (gcx_hts cx _ hw) rfl hd rfl (nI_pos (by omega)) (nI_clamp (by omega)) (Nat.le_trans (Nat.mul_le_mul hn (gcb _)) (by decide)) hu1 hu2 rfl (fun H1 cA e1 z1 o1 _ hnm => ?_)
  have ec : cA = D.2.2 b := gfindO hnm (gRA_n hr (cx.2.2.2.2.2.2.2.2.2.1.2.2.1 b _ hk hb))
  subst ec
  exact gT_made cx ex e2 rp vs lk (gl1 sl) hu1 hu2 hb (by omega) z1 o1 (garr_at hk hp e1) K
/-- anewarray -/
theorem gT_newO (b n : Nat) {C : String} {x : Int32} (hb : 7 < b) (hk : grk b = some (.inr (.object C))) (hx : x = nI n) (hn : n ≤ 65536) (hw : Cond.classLink (gmO m) index C ∈ lw_all) (hCo : C ∈ gaoC) (hd : decode (gmC m) pc = .ok (.anewarray index, 3))
    (hu1 : u.1 + 1 ≤ B.1) (hu2 : u.2 + n ≤ B.2) (K : gT m d B Qr Qx (pc + 3) lo (gR (some (b, hC h b)) :: r) (gNw h b n) (u.1 + 1, u.2 + n)) : gT m d B Qr Qx pc lo (gI x :: r) h u := by
  intro p l e s mi args below meth c D base ad0 h0 H locs ls ad cx ex e2 rp vs lk sl u1 u2
  subst hx
  have hcl : (nI n).toNatClampNeg = n := nI_clamp (by omega)
  have hgk := cx.2.2.2.2.2.2.2.2.2.1
  refine W.anew cx.1 cx.2.1 cx.2.2.2.2.2.1 (gcx_hts cx _ hw) (va_AO.use (hgk.2.2.2.2.2.1 C hCo)) rfl hd rfl (nI_pos (by omega)) (by rw [hcl]; omega) hu1 (by rw [hcl]; exact hu2) (fun cA kA comp f1 f2 f3 f4 => ?_)
  obtain ⟨kA', comp', k1, k2, k3, k4⟩ := (hgk.2.2.1 b _ hk hb : va_RA s (D.2.2 b) (.object C))
  have ec : cA = D.2.2 b := gfindO f1 k4
  subst ec
  rw [hcl]
  exact gT_made (n := n) cx ex e2 rp vs lk (gl1 sl) hu1 hu2 hb (by omega) (Array.size_push _) (fun q hq => by rw [Array.getElem?_push, if_neg (Nat.ne_of_lt hq)]) (garr_at hk rfl (by rw [Array.getElem?_push_size, ← arrV_new] <;> rfl)) K
end GMK
/-! ===== stores into arrays of references, casts ===== -/
section GST9
variable {m : GM} {d : Nat} {B : Nat × Nat} {Qr : List AV → Hp → Prop} {Qx : Rf → Hp → Prop} {u : Nat × Nat} {pc : Nat} {lo : Lo} {r : List AV} {h : Hp} {index b j n : Nat} {x : Int32}
theorem grat_R {D : GD} {ad : Nat → Nat → Nat} {h : Hp} {b j n : Nat} {C : String} {H1 : Heap} {cell : Cell} {o : Option Rf} (hk : grk b = some (.inr (.object C))) (e9 : H1[ad b j]? = some (cell.setSlot n (gtr ad (gR o)))) (g3 : cell.cls = D.2.2 b) (g4 : cell.vm ≠ .unknown) (g5 : ∀ q, cell.vm ≠ .statics q)
    (g6 : gsz cell.slots.size (hN h b j)) (g7 : ∀ k, k < hN h b j → cell.slots[k]? = some (gval ad h (.object C) b j k)) (hn : n < hN h b j) : gat D ad (sR h b j n o) b j H1 :=
  gput_atA hk e9 g3 g4 g5 g6 g7 rfl hn (fun j2 hj2 => by
    have : hR (sR h b j n o) b j j2 = hR h b j j2 := u3_ne (fun z => hj2 z.2.2)
    show gtr ad (gR (hR (sR h b j n o) b j j2)) = _
    rw [this]; rfl) (by
    have : hR (sR h b j n o) b j n = o := u3_eq
    show _ = gtr ad (gR (hR (sR h b j n o) b j n))
    rw [this])
/-- aastore of null -/
theorem gT_ast0 {C : String} (hb : 7 < b) (hk : grk b = some (.inr (.object C))) (hx : x = nI n) (hn : n < hN h b j) (hd : decode (gmC m) pc = .ok (.aastore, 1)) (K : gT m d B Qr Qx (pc + 1) lo r (sR h b j n none) u) : gT m d B Qr Qx pc lo (gR none :: gI x :: gR (some (b, j)) :: r) h u := by
  intro p l e s mi args below meth c D base ad0 h0 H locs ls ad cx ex e2 rp vs lk sl u1 u2
  subst hx
  have hl : j < hC h b := (gl0 (gl1 (gl1 sl)) : glv h (gR (some (b, j))))
  obtain ⟨cell, g2, g3, g4, g5, g6, g7⟩ := ggatA rp hl hk
  have hcl := nI_clamp (Nat.lt_trans hn (rp.2.2.2.2.1 b j))
  refine va_WaastN cx.1 cx.2.1 g2 (garr (cx.2.2.2.2.2.2.2.2.2.1.2.1 b _ hk) g3 g5) g4 (by rw [gsz_p g6 hn]; exact gin hn (rp.2.2.2.2.1 b j)) rfl rfl hd (fun H1 e9 z1 o1 => ?_)
  rw [hcl] at e9
  exact (K p l e s mi args below meth c D base ad0 h0 H1 _ ls ad cx ex e2 (grep_put rp hb hl (gsame_R h b j n none) (gcl_R rp.2.2.2.1 trivial) z1 o1 (grat_R hk e9 g3 g4 g5 g6 g7 hn)) (vs.put z1 o1 (rp.2.2.1 _ _ hb hl)) lk (gl1 (gl1 (gl1 sl))) u1 u2)
/-- the class of a value, and that it may be stored -/
theorem gT_astR {C : String} {v : Rf} (hb : 7 < b) (hk : grk b = some (.inr (.object C))) (hx : x = nI n) (hn : n < hN h b j) (hd : decode (gmC m) pc = .ok (.aastore, 1))
    (hv : ∀ {RM : Room} {p : Program} {l : Launch} {s : State} {mi : MethodId} {args : Array Value} {meth : Method} {c : Code} {D : GD} {base : Nat} {ad0 ad : Nat → Nat → Nat} {H : Heap} {locs : List Loc}, gcx m RM p l s mi args meth c D base ad0 → (∀ b i, gfx b i → ad b i = ad0 b i) → grep D base ad h H → va_S (fun q => base ≤ q) s.heap H locs → v.2 < hC h v.1 → ∃ (cv : Cell) (C1 : String), H[ad v.1 v.2]? = some cv ∧ cv.vm.isStatics = false ∧ s.vm.findClass C1 = some cv.cls ∧ ∀ comp, s.vm.findClass C = some comp → s.vm.assignable cv.cls comp = true)
    (K : gT m d B Qr Qx (pc + 1) lo r (sR h b j n (some v)) u) : gT m d B Qr Qx pc lo (gR (some v) :: gI x :: gR (some (b, j)) :: r) h u := by
  intro p l e s mi args below meth c D base ad0 h0 H locs ls ad cx ex e2 rp vs lk sl u1 u2
  subst hx
  have hl : j < hC h b := (gl0 (gl1 (gl1 sl)) : glv h (gR (some (b, j))))
  have hvl : v.2 < hC h v.1 := (gl0 sl : glv h (gR (some v)))
  obtain ⟨cell, g2, g3, g4, g5, g6, g7⟩ := ggatA rp hl hk
  have hcl := nI_clamp (Nat.lt_trans hn (rp.2.2.2.2.1 b j))
  obtain ⟨cv, C1, v1, v2, v3, v4⟩ := hv cx e2 rp vs hvl
  obtain ⟨kA, comp, k1, k2, k3, k4⟩ := (cx.2.2.2.2.2.2.2.2.2.1.2.2.1 b _ hk hb : va_RA s (D.2.2 b) (.object C))
  obtain ⟨kc, hkc, -⟩ := Vm.findClass_spec k3
  obtain ⟨kv, hkv, -⟩ := Vm.findClass_spec v3
  have f3 := v4 comp k3
  refine W.aast cx.1 cx.2.1 g2 g5 g4 (by rw [g3]; exact k1) k2 rfl hkc ⟨nI_pos (Nat.lt_trans hn (rp.2.2.2.2.1 b j)), by rw [hcl, gsz_p g6 hn]; exact hn⟩ v1 (fun q z => by rw [z] at v2; cases v2) hkv f3 rfl rfl hd (fun H1 e9 z1 o1 => ?_)
  rw [hcl] at e9
  exact (K p l e s mi args below meth c D base ad0 h0 H1 _ ls ad cx ex e2 (grep_put rp hb hl (gsame_R h b j n (some v)) (gcl_R rp.2.2.2.1 hvl) z1 o1 (grat_R (o := some v) hk e9 g3 g4 g5 g6 g7 hn)) (vs.put z1 o1 (rp.2.2.1 _ _ hb hl)) lk (gl1 (gl1 (gl1 sl))) u1 u2)
/-- aastore of an object -/
theorem gT_ast {C : String} {v : Rf} {ci : Nat} {rr : vw_C} (hb : 7 < b) (hk : grk b = some (.inr (.object C))) (hx : x = nI n) (hn : n < hN h b j) (hv2 : v.1 ≠ 2) (hvk : grk v.1 = some (.inl ci)) (h1 : gcl[ci]? = some rr) (hc : Jvm.Cond.castable rr.1 C ∈ lw_tbl) (hd : decode (gmC m) pc = .ok (.aastore, 1))
    (K : gT m d B Qr Qx (pc + 1) lo r (sR h b j n (some v)) u) : gT m d B Qr Qx pc lo (gR (some v) :: gI x :: gR (some (b, j)) :: r) h u := by
  refine gT_astR hb hk hx hn hd (fun cx e2 rp vs hvl => ?_) K
  obtain ⟨rr', cell, g1, g2, g3, g4, -⟩ := ggatO rp hv2 hvl hvk
  have hcl := (gclassAt cx.2.2.2.2.2.2.2.2.2.1 h1).1
  obtain ⟨c0, t0, f1, f2, f3⟩ := Cond.castable_spec (va_Nw.use (A := #[]) rfl (cx.2.2.2.2.2.2.2.2.2.1.2.2.2.1 _ hc rfl))
  refine ⟨cell, rr.1, g2, by rw [g4]; rfl, by rw [g3]; exact hcl, fun comp hq => ?_⟩
  cases hq.symm.trans f2
  cases hcl.symm.trans f1
  rw [g3]; exact f3
/-- aastore of a text -/
theorem gT_astT {k : Nat} (hb : 7 < b) (hk : grk b = some (.inr (.object "java/lang/String"))) (hx : x = nI n) (hn : n < hN h b j) (hkl : k < gStr.length) (hd : decode (gmC m) pc = .ok (.aastore, 1))
    (K : gT m d B Qr Qx (pc + 1) lo r (sR h b j n (some (2, k))) u) : gT m d B Qr Qx pc lo (gR (some (2, k)) :: gI x :: gR (some (b, j)) :: r) h u := by
  refine gT_astR hb hk hx hn hd (fun cx e2 rp vs hvl => ?_) K
  have g := cx.2.2.2.2.2.2.2.2.2.2.1.1
  obtain ⟨adV, hS⟩ := g
  obtain ⟨cv, v1, v2, v3⟩ := vk_recv hS hkl vs
  rw [← e2 2 k (Or.inl ⟨rfl, hkl⟩)] at v1
  refine ⟨cv, _, v1, v2, v3, fun comp hq => ?_⟩
  obtain ⟨c1, k1, f1, f2, f3, -⟩ := Cond.instantiable_spec (gcx_hts cx _ q1291)
  cases hq.symm.trans v3
  cases hq.symm.trans f1
  exact va_assign ⟨f1, k1, f2, f3⟩
/-- checkcast to the class of the object -/
theorem gT_cast {v : Rf} {ci : Nat} {rr : vw_C} (hv2 : v.1 ≠ 2) (hvk : grk v.1 = some (.inl ci)) (h1 : gcl[ci]? = some rr) (hw : Cond.classLink (gmO m) index rr.1 ∈ lw_all) (hd : decode (gmC m) pc = .ok (.checkcast index, 3)) (K : gT m d B Qr Qx (pc + 3) lo (gR (some v) :: r) h u) : gT m d B Qr Qx pc lo (gR (some v) :: r) h u := by
  intro p l e s mi args below meth c D base ad0 h0 H locs ls ad cx ex e2 rp vs lk sl u1 u2
  have hvl : v.2 < hC h v.1 := (gl0 sl : glv h (gR (some v)))
  obtain ⟨rr', cell, g1, g2, g3, g4, -⟩ := ggatO rp hv2 hvl hvk
  have hca := gclassAt cx.2.2.2.2.2.2.2.2.2.1 h1
  exact va_castS cx.1 cx.2.1 cx.2.2.2.2.2.1 (gcx_hts cx _ hw) hca ⟨cell, g2, by rw [g4]; rfl, by rw [g3]; exact hca.1⟩ hd (K p l e s mi args below meth c D base ad0 h0 H locs ls ad cx ex e2 rp vs lk sl u1 u2)
/-- if_acmpeq, the same region's cell or not -/
theorem gT_acmp {v w : Rf} {off : Int} {tgt : Nat} (hd : decode (gmC m) pc = .ok (.if_acmp .eq off, 3)) (ht : (pc : Int) + off = (tgt : Int)) (K1 : v = w → gT m d B Qr Qx tgt lo r h u) (hne : v ≠ w → ∀ {D : GD} {base : Nat} {ad : Nat → Nat → Nat} {H : Heap}, grep D base ad h H → v.2 < hC h v.1 → w.2 < hC h w.1 → ad v.1 v.2 ≠ ad w.1 w.2) (K2 : v ≠ w → gT m d B Qr Qx (pc + 3) lo r h u) :
    gT m d B Qr Qx pc lo (gR (some w) :: gR (some v) :: r) h u := by
  intro p l e s mi args below meth c D base ad0 h0 H locs ls ad cx ex e2 rp vs lk sl u1 u2
  have hw : w.2 < hC h w.1 := (gl0 sl : glv h (gR (some w)))
  have hv : v.2 < hC h v.1 := (gl0 (gl1 sl) : glv h (gR (some v)))
  refine lv_acmp_eq (rx := some (ad v.1 v.2)) (ry := some (ad w.1 w.2)) cx.1 cx.2.1 hd ht (fun q => ?_) (fun q => ?_)
  · by_cases e : v = w
    · exact (K1 e p l _ s mi args below meth c D base ad0 h0 H locs ls ad cx ex e2 rp vs lk (gl1 (gl1 sl)) u1 u2)
    · exact absurd (Option.some.inj q) (hne e rp hv hw)
  · by_cases e : v = w
    · subst e; exact absurd rfl q
    · exact (K2 e p l _ s mi args below meth c D base ad0 h0 H locs ls ad cx ex e2 rp vs lk (gl1 (gl1 sl)) u1 u2)
end GST9
/-! ===== two heaps that agree on what is there ===== -/
def gEqv (h h' : Hp) : Prop := (∀ b i k, i < hC h b → gvk h b i k → hI h' b i k = hI h b i k ∧ hL h' b i k = hL h b i k ∧ hR h' b i k = hR h b i k) ∧ (∀ b i, i < hC h b → hN h' b i = hN h b i) ∧ hC h' = hC h ∧ ∀ b i, hN h' b i < 2 ^ 31
theorem gEqv_k {h h' : Hp} (e : gEqv h h') {b i k : Nat} (hi : i < hC h b) (hk : gvk h' b i k) : gvk h b i k := by
  unfold gvk at hk ⊢
  split at hk
  · rw [e.2.1 b i hi] at hk; exact hk
  · trivial
theorem grep_eqv {D : GD} {base : Nat} {ad : Nat → Nat → Nat} {h h' : Hp} {H : Heap} (e : gEqv h h') (rp : grep D base ad h H) : grep D base ad h' H := by
  obtain ⟨r1, r2, r3, r4, r5, r6, r7⟩ := rp
  have eC := e.2.2.1
  refine ⟨fun b i q1 q2 => ?_, fun b i b2 i2 q1 q2 q3 q4 q5 => r2 b i b2 i2 q1 (by rw [← eC]; exact q2) q3 (by rw [← eC]; exact q4) q5, fun b i q1 q2 => r3 b i q1 (by rw [← eC]; exact q2), fun b i k r q1 q2 q3 => ?_, e.2.2.2, r6, by rw [eC]; exact r7⟩
  · rw [eC] at q2
    have ev : ∀ ty k, gvk h b i k → gval ad h' ty b i k = gval ad h ty b i k := by
      intro ty k hk
      obtain ⟨e1, e2, e3⟩ := e.1 b i k q2 hk
      cases ty <;> simp only [gval, e1, e2, e3]
    have g := r1 b i q1 q2
    unfold gat at g ⊢
    split at g
    · next ci ek =>
      obtain ⟨r, cell, g1, g2, g3, g4, g5, gm⟩ := g
      refine ⟨r, cell, g1, g2, g3, g4, fun k hk => ?_, gm⟩
      obtain ⟨v, v1, v2, v3⟩ := g5 k hk
      refine ⟨v, v1, fun w z => (v2 w z).trans (ev _ k (gvk_o ek)).symm, fun w r hr => v3 w r ?_⟩
      rw [← (e.1 b i k q2 (gvk_o ek)).2.2]; exact hr
    · next ty ek =>
      obtain ⟨cell, g2, g3, g4, g5, g6, g7⟩ := g
      have hN1 := e.2.1 b i q2
      exact ⟨cell, g2, g3, g4, g5, by rw [hN1]; exact g6, fun k hk => by rw [hN1] at hk; rw [ev _ k (gvk_a ek hk)]; exact g7 k hk⟩
    · exact g
  · rw [eC] at q1 ⊢
    have hk := gEqv_k e q1 q2
    rw [(e.1 b i k q1 hk).2.2] at q3
    exact r4 b i k r q1 hk q3
theorem glv_eqv {h h' : Hp} (e : gEqv h h') {v : AV} (q : glv h v) : glv h' v := by
  rcases v with x | x | _ | r
  · trivial
  · trivial
  · trivial
  · show r.2 < hC h' r.1
    rw [e.2.2.1]; exact q
theorem gT_eqv {m : GM} {d : Nat} {B : Nat × Nat} {Qr : List AV → Hp → Prop} {Qx : Rf → Hp → Prop} {u : Nat × Nat} {pc : Nat} {lo : Lo} {st : List AV} {h : Hp} (h' : Hp) (e : gEqv h h') (K : gT m d B Qr Qx pc lo st h' u) : gT m d B Qr Qx pc lo st h u := by
  intro p l e' s mi args below meth c D base ad0 h0 H locs ls ad cx ex e2 rp vs lk sl u1 u2
  exact K p l e' s mi args below meth c D base ad0 h0 H locs ls ad cx (fun b i q => ⟨by rw [e.2.2.1]; exact (ex b i q).1, (ex b i q).2⟩) e2 (grep_eqv e rp) vs ⟨lk.1, lk.2.1, lk.2.2.1, fun i v q => ⟨(lk.2.2.2 i v q).1, glv_eqv e (lk.2.2.2 i v q).2⟩⟩ (fun v q => glv_eqv e (sl v q)) u1 u2
