/-! ===== arrays of arrays ===== -/
def gMu (h : Hp) (b b2 n k : Nat) : Nat → Hp
  | 0 => gNw h b n
  | j + 1 => sR (gNw (gMu h b b2 n k j) b2 k) b (hC h b) j (some (b2, hC h b2 + j))
def gMa (ad : Nat → Nat → Nat) (h : Hp) (b b2 n k a : Nat) : Nat → Nat → Nat → Nat
  | 0 => gAd ad h b a
  | j + 1 => gAd (gMa ad h b b2 n k a j) (gMu h b b2 n k j) b2 (a + 1 + j)
theorem gMu_C {h : Hp} {b b2 n k : Nat} (hne : b ≠ b2) : ∀ j, hC (gMu h b b2 n k j) b2 = hC h b2 + j ∧ hC (gMu h b b2 n k j) b = hC h b + 1 := by
  intro j
  induction j with
  | zero => exact ⟨gNw_C (fun e => hne e.symm), gNw_C0⟩
  | succ j ih =>
    constructor
    · show hC (gNw (gMu h b b2 n k j) b2 k) b2 = _
      rw [gNw_C0, ih.1]; omega
    · show hC (gNw (gMu h b b2 n k j) b2 k) b = _
      rw [gNw_C hne, ih.2]
theorem gMu_N {h : Hp} {b b2 n k : Nat} (hne : b ≠ b2) : ∀ j, hN (gMu h b b2 n k j) b (hC h b) = n := by
  intro j
  induction j with
  | zero => exact gNw_N0
  | succ j ih =>
    show hN (gNw (gMu h b b2 n k j) b2 k) b (hC h b) = _
    rw [gNw_N (fun q => hne q.1)]
    exact ih
theorem gMu_rep {D : GD} {base : Nat} {ad : Nat → Nat → Nat} {h : Hp} {b b2 n k : Nat} {ty : FieldType} {T : State} (hb : 7 < b) (hb2 : 7 < b2) (hne : b ≠ b2) (hk : grk b = some (.inr (.array ty))) (hk2 : grk b2 = some (.inr ty)) (hp : gplain ty = true) (hn : n < 2 ^ 31) (hkn : k < 2 ^ 31) (rp : grep D base ad h T.heap) :
    ∀ j, j ≤ n → grep D base (gMa ad h b b2 n k T.heap.size j) (gMu h b b2 n k j) (Jvm.Free.Multi.fill T (D.2.2 b) (D.2.2 b2) n k (defaultValue ty) j).heap ∧ gext h ad (gMu h b b2 n k j) (gMa ad h b b2 n k T.heap.size j) ∧ (∀ b' i, gfx b' i → gMa ad h b b2 n k T.heap.size j b' i = ad b' i) ∧ gMa ad h b b2 n k T.heap.size j b (hC h b) = T.heap.size := by
  intro j
  induction j with
  | zero =>
    intro _
    have f1 := (Jvm.Free.Multi.fill_facts T (D.2.2 b) (D.2.2 b2) n k (defaultValue ty) 0)
    refine ⟨grep_new T.heap.size (Nat.le_refl _) rp hb hn (by rw [f1.1]; omega) (fun q hq => Jvm.Free.Multi.fill_old T _ _ _ _ _ hq 0) ?_, gext_new h ad b n T.heap.size, fun b' i q => gfx_lt rp b' i q, gAd_n⟩
    unfold gat
    rw [hk]
    refine ⟨Jvm.Free.Multi.outerC (D.2.2 b) n T.heap.size 0, by rw [gAd_n]; exact f1.2.1, rfl, (fun q => by cases q), (fun q z => by cases z), by rw [gNw_N0]; exact Or.inl (Jvm.Free.Multi.outerC_facts (D.2.2 b) n T.heap.size 0).2.2, fun q hq => ?_⟩
    rw [gNw_N0] at hq
    rw [← gdef_val (ty := .array ty) rfl]
    show (Array.replicate n Value.null)[q]? = some Value.null
    rw [Array.getElem?_replicate, if_pos hq]
  | succ j ih =>
    intro hj
    obtain ⟨rj, xj, yj, aj⟩ := ih (by omega)
    obtain ⟨f1, f2, -, -⟩ := Jvm.Free.Multi.fill_facts T (D.2.2 b) (D.2.2 b2) n k (defaultValue ty) j
    obtain ⟨cj2, cj⟩ := gMu_C (h := h) (n := n) (k := k) hne j
    generalize hX : Jvm.Free.Multi.fill T (D.2.2 b) (D.2.2 b2) n k (defaultValue ty) j = X at rj f1 f2
    generalize hI : gMu h b b2 n k j = hj' at rj xj cj2 cj
    generalize hA : gMa ad h b b2 n k T.heap.size j = adj at rj xj yj aj
    have z1 : (X.pushCell (Jvm.Free.Multi.innerC (D.2.2 b2) k (defaultValue ty))).heap.size = X.heap.size + 1 := by simp
    have o1 : ∀ q : Nat, q < X.heap.size → (X.pushCell (Jvm.Free.Multi.innerC (D.2.2 b2) k (defaultValue ty))).heap[q]? = X.heap[q]? := fun q hq => State.heap_pushCell_of_lt _ _ hq
    have e1 : (X.pushCell (Jvm.Free.Multi.innerC (D.2.2 b2) k (defaultValue ty))).heap[X.heap.size]? = some (arrV (D.2.2 b2) k (fun _ => defaultValue ty)) := by
      rw [State.heap_pushCell_size, ← arrV_new] <;> rfl
    have r1 := grep_new (n := k) X.heap.size (Nat.le_refl _) rj hb2 hkn (by rw [z1]; omega) o1 (garr_at hk2 hp e1)
    have hi : hC h b < hC (gNw hj' b2 k) b := by rw [gNw_C hne, cj]; omega
    have ea : gAd adj hj' b2 X.heap.size b (hC h b) = T.heap.size := by rw [gAd_l (by rw [cj]; omega)]; exact aj
    obtain ⟨cell, g2, g3, g4, g5, g6, g7⟩ := ggatA r1 hi hk
    have hlt : T.heap.size < X.heap.size := by rw [f1]; omega
    rw [ea, o1 _ hlt, f2] at g2
    cases g2
    have hnn : hN (gNw hj' b2 k) b (hC h b) = n := by
      rw [gNw_N (fun q => hne q.1), ← hI]
      exact gMu_N hne j
    have en : gAd adj hj' b2 X.heap.size b2 (hC h b2 + j) = X.heap.size := by
      rw [← cj2]; exact gAd_n
    have e9 : ((X.pushCell (Jvm.Free.Multi.innerC (D.2.2 b2) k (defaultValue ty))).setCell T.heap.size (Jvm.Free.Multi.outerC (D.2.2 b) n T.heap.size (j + 1))).heap[T.heap.size]? = some (Jvm.Free.Multi.outerC (D.2.2 b) n T.heap.size (j + 1)) := State.heap_setCell_self (c := Jvm.Free.Multi.outerC (D.2.2 b) n T.heap.size j) (by rw [o1 _ hlt]; exact f2)
    have hv : glv (gNw hj' b2 k) (gR (some (b2, hC h b2 + j))) := by show hC h b2 + j < hC (gNw hj' b2 k) b2; rw [gNw_C0, cj2]; omega
    have r2 : grep D base (gAd adj hj' b2 X.heap.size) (sR (gNw hj' b2 k) b (hC h b) j (some (b2, hC h b2 + j))) ((X.pushCell (Jvm.Free.Multi.innerC (D.2.2 b2) k (defaultValue ty))).setCell T.heap.size (Jvm.Free.Multi.outerC (D.2.2 b) n T.heap.size (j + 1))).heap := by
      refine grep_put r1 hb hi (gsame_R _ b (hC h b) j _) (gcl_R r1.2.2.2.1 hv) (size_setCell _ _ _) (fun q hq => ?_) ?_
      · rw [ea] at hq
        exact State.heap_setCell_other (Ne.symm hq)
      · refine gput_atA (n := j) (v := .ref X.heap.size) (cell := Jvm.Free.Multi.outerC (D.2.2 b) n T.heap.size j) hk (by rw [ea, e9, f1]; rfl) g3 g4 g5 g6 g7 rfl (by rw [hnn]; omega) (fun j2 hj2 => ?_) ?_
        · have : hR (sR (gNw hj' b2 k) b (hC h b) j (some (b2, hC h b2 + j))) b (hC h b) j2 = hR (gNw hj' b2 k) b (hC h b) j2 := u3_ne (fun z => hj2 z.2.2)
          show gtr _ (gR (hR (sR (gNw hj' b2 k) b (hC h b) j (some (b2, hC h b2 + j))) b (hC h b) j2)) = _
          rw [this]; rfl
        · have : hR (sR (gNw hj' b2 k) b (hC h b) j (some (b2, hC h b2 + j))) b (hC h b) j = some (b2, hC h b2 + j) := u3_eq
          show _ = gtr _ (gR (hR (sR (gNw hj' b2 k) b (hC h b) j (some (b2, hC h b2 + j))) b (hC h b) j))
          rw [this]
          exact congrArg Value.ref en.symm
    have xe : gext hj' adj (gNw hj' b2 k) (gAd adj hj' b2 X.heap.size) := gext_new hj' adj b2 k X.heap.size
    have ef : Jvm.Free.Multi.fill T (D.2.2 b) (D.2.2 b2) n k (defaultValue ty) (j + 1) = (X.pushCell (Jvm.Free.Multi.innerC (D.2.2 b2) k (defaultValue ty))).setCell T.heap.size (Jvm.Free.Multi.outerC (D.2.2 b) n T.heap.size (j + 1)) := by rw [← hX]; rfl
    have eg : gMu h b b2 n k (j + 1) = sR (gNw hj' b2 k) b (hC h b) j (some (b2, hC h b2 + j)) := by rw [← hI]; rfl
    have em : gMa ad h b b2 n k T.heap.size (j + 1) = gAd adj hj' b2 X.heap.size := by rw [← hI, ← hA, f1]; rfl
    rw [ef, eg, em]
    exact ⟨r2, fun b' i q => ⟨(xe b' i (xj b' i q).1).1, (xe b' i (xj b' i q).1).2.trans (xj b' i q).2⟩, fun b' i q => (gfx_lt rj b' i q).trans (yj b' i q), ea⟩
section GML
variable {m : GM} {d : Nat} {B : Nat × Nat} {Qr : List AV → Hp → Prop} {Qx : Rf → Hp → Prop} {u : Nat × Nat} {pc : Nat} {lo : Lo} {r : List AV} {h : Hp} {index : Nat}
/-- multianewarray with two dimensions -/
theorem gT_mul (b b2 n k : Nat) {ty : FieldType} {x z : Int32} (hb : 7 < b) (hb2 : 7 < b2) (hne : b ≠ b2) (hk : grk b = some (.inr (.array ty))) (hk2 : grk b2 = some (.inr ty)) (hp : gplain ty = true) (hr : gnref ty = true) (hdf : fits ty (defaultValue ty) = true) (hdd : (defaultValue ty).isDefault = true) (hs : (FieldType.array ty).toString = "[" ++ ty.toString)
    (hx : x = nI n) (hz : z = nI k) (hn : n ≤ 65536) (hkk : k ≤ 65536) (hw : Jvm.Cond.classLink (gmO m) index ("[" ++ (FieldType.array ty).toString) ∈ lw_all) (hT : ty ∈ gaoT) (ha : Jvm.Cond.arrayClass ty ∈ lw_all) (hd : decode (gmC m) pc = .ok (.multianewarray index 2, 4))
    (hu1 : u.1 + (1 + n) ≤ B.1) (hu2 : u.2 + (n + n * k) ≤ B.2) (K : gT m d B Qr Qx (pc + 4) lo (gR (some (b, hC h b)) :: r) (gMu h b b2 n k n) (u.1 + 1 + n, u.2 + n + n * k)) : gT m d B Qr Qx pc lo (gI z :: gI x :: r) h u := by
  intro p l e s mi args below meth c D base ad0 h0 H locs ls ad cx ex e2 rp vs lk sl u1 u2
  subst hx
  subst hz
  have hts := gcx_hts cx
  have hgk := cx.2.2.2.2.2.2.2.2.2.1
  have c1 : (nI n).toNatClampNeg = n := nI_clamp (by omega)
  have c2 : (nI k).toNatClampNeg = k := nI_clamp (by omega)
  intro T hT0 X
  subst hT0
  obtain ⟨vm₁, cA, comp, hW, hfA, hfC, -, -, X1, step⟩ := X.multianewarray2F cx.1 (own := gmO m) (index := index) (ty := ty) cx.2.2.2.2.2.1 (hts _ hw) (hgk.2.2.2.2.2.2.2.1 ty hT) (hts _ ha)
    (g := F0 mi pc ls ((gI (nI k) :: gI (nI n) :: r).map (gtr ad))) rfl (by rw [cx.2.1]; exact hd) (n := nI n) (k := nI k) (rest := r.map (gtr ad)) rfl (nI_pos (by omega)) (nI_pos (by omega)) (by rw [c1]; omega) (by rw [c2]; exact Nat.le_trans (Nat.mul_le_mul hkk (gcb ty)) (by decide)) (by rw [c2]; omega) hdf hdd (by rw [c1]; exact hu1) (by rw [c1, c2]; exact hu2)
  rw [c1, c2] at X1 step
  have ecA : cA = D.2.2 b := gfindO hfA (hgk.2.2.1 b _ hk hb)
  have ecC : comp = D.2.2 b2 := gfindO hfC (by rw [hs]; exact gRA_n hr (hgk.2.2.1 b2 _ hk2 hb2))
  subst ecA
  subst ecC
  obtain ⟨r1, r2, r3, r4⟩ := gMu_rep (T := T.setVm vm₁) (k := k) hb hb2 hne hk hk2 hp (by omega) (by omega) rp n (Nat.le_refl _)
  have f1 := (Jvm.Free.Multi.fill_facts (T.setVm vm₁) (D.2.2 b) (D.2.2 b2) n k (defaultValue ty) n).1
  have hv : glv (gMu h b b2 n k n) (gR (some (b, hC h b))) := by show hC h b < hC (gMu h b b2 n k n) b; rw [(gMu_C hne n).2]; omega
  have K1 := K p l e s mi args below meth c D base ad0 h0 _ locs ls _ cx (gext_tr ex r2) (fun b' i q => (r3 b' i q).trans (e2 b' i q)) r1 (va_S_new vs (by rw [f1]; show T.heap.size ≤ T.heap.size + 1 + n; omega) (fun q hq => Jvm.Free.Multi.fill_old (T.setVm vm₁) _ _ _ _ _ hq n)) (glok_ext r2 lk) (glc hv (fun v q => glv_ext r2 (gl1 (gl1 sl) v q))) (by show u.1 + 1 + n ≤ B.1; omega) (by show u.2 + n + n * k ≤ B.2; omega)
  have ek : (gR (some (b, hC h b)) :: r).map (gtr (gMa ad h b b2 n k (T.setVm vm₁).heap.size n)) = .ref T.heap.size :: r.map (gtr ad) := by
    show gtr _ _ :: r.map (gtr (gMa ad h b b2 n k (T.setVm vm₁).heap.size n)) = _
    rw [gmap_ext r2 r (gl1 (gl1 sl))]
    exact congrArg (fun z => Value.ref z :: r.map (gtr ad)) r4
  rw [ek] at K1
  obtain ⟨t, a1, b1⟩ := K1 _ rfl X1
  exact ⟨t, step t a1, b1⟩
end GML
