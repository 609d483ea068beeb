/-! ===== ArrayList: add, remove, clear ===== -/
section GMD
variable {m : GM} {d : Nat} {B : Nat × Nat} {Qr : List AV → Hp → Prop} {Qx : Rf → Hp → Prop} {u : Nat × Nat} {pc : Nat} {lo : Lo} {r : List AV} {h : Hp} {j : Nat}
theorem gT_getM (hO : gmO m = "java/util/ArrayList") (hd : decode (gmC m) pc = .ok (.getfield 63, 3)) (K : gT m (d + 1) B Qr Qx (pc + 3) lo (gI (hI h 10 j 0) :: r) h u) : gT m (d + 1) B Qr Qx pc lo (gR (some (10, j)) :: r) h u := by
  intro p l e s mi args below meth c D base ad0 h0 H locs ls ad cx ex e2 rp vs lk sl u1 u2
  have e1 : grk 10 = some (.inl 21) := rfl
  have hl : j < hC h 10 := (gl0 sl : glv h (gR (some (10, j))))
  obtain ⟨rr, cell, g1, g2, g3, g4, g5, gm⟩ := ggatO rp (by decide) hl e1
  have f1 : gcl[21]? = some (RJ2, TJ2, 3) := rfl
  cases g1.symm.trans f1
  obtain ⟨v, v1, v2⟩ := g5 0 (by decide)
  have hv : v = .int (hI h 10 j 0) := v2.1 rfl rfl
  subst hv
  have hts := gcx_hts cx
  obtain ⟨hS, hfc, kC, hkC, hkind⟩ := cx.2.2.2.2.2.2.2.2.2.1.1 21 _ f1
  obtain ⟨cf, kf, fi, fd, hi, hsl⟩ := hS 0 (by decide)
  have hst := (u_facts hfc hkC (u_lays hts (gcl_ok 21 _ f1).1 (show 0 < 3 by decide)) hi).1
  have hw : Jvm.Cond.fieldLink (gmO m) 63 "java/util/ArrayList" "modCount" "I" ∈ lw_all := by rw [hO]; exact q288
  refine W.getf cx.1 cx.2.1 cx.2.2.2.2.2.1 (hts _ hw) (u_same (hts _ q289) _ hi) hst g2 (by rw [g4]; exact fun q => by cases q) (v := .int (hI h 10 j 0)) (by rw [hsl]; exact v1) rfl rfl hd ?_
  exact K p l e s mi args below meth c D base ad0 h0 H locs ls ad cx ex e2 rp vs lk (glc trivial (gl1 sl)) u1 u2
theorem gT_putM {x : Int32} (hO : gmO m = "java/util/ArrayList") (hd : decode (gmC m) pc = .ok (.putfield 63, 3)) (K : gT m (d + 1) B Qr Qx (pc + 3) lo r (sI h 10 j 0 x) u) : gT m (d + 1) B Qr Qx pc lo (gI x :: gR (some (10, j)) :: r) h u := by
  intro p l e s mi args below meth c D base ad0 h0 H locs ls ad cx ex e2 rp vs lk sl u1 u2
  have e1 : grk 10 = some (.inl 21) := rfl
  have hl : j < hC h 10 := (gl0 (gl1 sl) : glv h (gR (some (10, j))))
  obtain ⟨rr, cell, g1, g2, g3, g4, g5, gm⟩ := ggatO rp (by decide) hl e1
  have f1 : gcl[21]? = some (RJ2, TJ2, 3) := rfl
  cases g1.symm.trans f1
  obtain ⟨v0, v1, v2⟩ := g5 0 (by decide)
  have hts := gcx_hts cx
  obtain ⟨hS, hfc, kC, hkC, hkind⟩ := cx.2.2.2.2.2.2.2.2.2.1.1 21 _ f1
  obtain ⟨cf, kf, fi, fd, hi, hsl⟩ := hS 0 (by decide)
  have hst := (u_facts hfc hkC (u_lays hts (gcl_ok 21 _ f1).1 (show 0 < 3 by decide)) hi).1
  have hw : Jvm.Cond.fieldLink (gmO m) 63 "java/util/ArrayList" "modCount" "I" ∈ lw_all := by rw [hO]; exact q288
  have hty := (gcl_ok 21 _ f1).2.1 0 (by decide)
  have hlay := hts _ ((gcl_ok 21 _ f1).1 _ (u_in_lay (show 0 < 3 by decide)))
  unfold u_lay at hlay
  rw [if_neg (show ¬ (TJ2 0).2.2.2 = true by decide)] at hlay
  have h7 := u_store hfc hkC hkind hlay hi hty (v := .int x) rfl rfl
  have hs := u_same (hts _ q289) _ hi
  refine W.putK cx.1 cx.2.1 (f := fd) ⟨cx.2.2.2.2.2.1, hts _ hw, ⟨_, _, _, hs⟩, hst⟩ (by rw [g3]; exact h7) g2 g4 (by rw [hsl]; exact k2_hasslot v1) rfl rfl hd fun H1 e9 z1 o1 => ?_
  rw [hsl] at e9
  have hat : gat D ad (sI h 10 j 0 x) 10 j H1 := gput_atO e1 g1 e9 g3 g4 g5 gm (gap_of cx g1 rfl) (by decide) rfl (fun j2 hj2 => by
    have : hI (sI h 10 j 0 x) 10 j j2 = hI h 10 j j2 := u3_ne (fun z => hj2 z.2.2)
    unfold gval; split <;> first | rfl | rw [this]) (congrArg Value.int (u3_eq (f := hI h) (b := 10) (i := j) (k := 0) (v := x)).symm)
  exact K p l e s mi args below meth c D base ad0 h0 H1 _ ls ad cx ex e2 (grep_put rp (by decide) hl (gsame_I h 10 j 0 x) rp.2.2.2.1 z1 o1 hat) (vs.put z1 o1 (rp.2.2.1 _ _ (by decide) hl)) lk (gl1 (gl1 sl)) u1 u2
theorem gT_dx1R {x z : Option Rf} (hd : decode (gmC m) pc = .ok (.dup_x1, 1)) (K : gT m (d + 1) B Qr Qx (pc + 1) lo (gR z :: gR x :: gR z :: r) h u) : gT m (d + 1) B Qr Qx pc lo (gR z :: gR x :: r) h u := by
  intro p l e s mi args below meth c D base ad0 h0 H locs ls ad cx ex e2 rp vs lk sl u1 u2
  exact lv_dup_x1 cx.1 cx.2.1 hd (gtr_cat ad (gR z)) (gtr_cat ad (gR x)) (K p l e s mi args below meth c D base ad0 h0 H locs ls ad cx ex e2 rp vs lk (glc (gl0 sl) (glc (gl0 (gl1 sl)) (glc (gl0 sl) (gl1 (gl1 sl))))) u1 u2)
end GMD
/-- a reference of a region that moves is set -/
def yR (y : Dy) (b i k : Nat) (v : Option Rf) : Dy := (y.1, y.2.1, u3 y.2.2.1 b i k v, y.2.2.2.1, y.2.2.2.2)
theorem gRX_yR {y : Dy} {b i k : Nat} {v : Option Rf} (hb : glk (gRt y) b = none) : gRX (yR y b i k v) = u3 (gRX y) b i k v := by
  funext b' i' k'
  show (match glk (gRt y) b' with | some f => f i' k' | none => u3 y.2.2.1 b i k v b' i' k') = u3 (gRX y) b i k v b' i' k'
  by_cases e : b' = b ∧ i' = i ∧ k' = k
  · obtain ⟨rfl, rfl, rfl⟩ := e
    rw [hb]
    exact u3_eq.trans u3_eq.symm
  · rw [u3_ne (f := gRX y) e]
    unfold gRX
    cases q : glk (gRt y) b' with
    | none => exact u3_ne e
    | some f => rfl
theorem sR_gH {I : Nat → Nat → Nat → Int32} {L : Nat → Nat → Nat → Int64} {y : Dy} {b i k : Nat} {v : Option Rf} (hb : glk (gRt y) b = none) : sR (gH I L y) b i k v = gH I L (yR y b i k v) := by
  show ((I, L, (u3 (gRX y) b i k v, gNX y, y.2.2.2.2)) : Hp) = (I, L, (gRX (yR y b i k v), gNX y, y.2.2.2.2))
  rw [gRX_yR hb]
section GAO
variable {m : GM} {d : Nat} {B : Nat × Nat} {Qr : List AV → Hp → Prop} {Qx : Rf → Hp → Prop} {u : Nat × Nat} {pc : Nat} {lo : Lo} {r : List AV} {x : Int32} {n e : Nat} {v : Rf} {I : Nat → Nat → Nat → Int32} {L : Nat → Nat → Nat → Int64} {y : Dy}
theorem gT_astO (hv : v.1 = 20 ∨ v.1 = 12) (hx : x = nI n) (hn : n < gNX y 11 e) (hd : decode (gmC m) pc = .ok (.aastore, 1)) (K : gT m d B Qr Qx (pc + 1) lo r (gH I L (yR y 11 e n (some v))) u) : gT m d B Qr Qx pc lo (gR (some v) :: gI x :: gR (some (11, e)) :: r) (gH I L y) u := by
  rw [← sR_gH rfl] at K
  rcases hv with h | h
  · exact gT_ast (by decide) rfl hx hn (by rw [h]; decide) (by rw [h] <;> rfl) rfl q2862 hd K
  · exact gT_ast (by decide) rfl hx hn (by rw [h]; decide) (by rw [h] <;> rfl) rfl q2875 hd K
end GAO
set_option maxRecDepth 100000 in
theorem o_grow2 (d q : Nat) (I : Nat → Nat → Nat → Int32) (L : Nat → Nat → Nat → Int64) (y : Dy) (h0 : gRX y 10 q 1 = some (3, 0)) :
    gTM mJ2_grow_2 (d + 2) (1, 10) [gR (some (10, q)), gI 1] (gH I L y) (fun v h' => v = [gR (some (11, y.2.2.2.2 11))] ∧ h' = gH (fNw I 0 11 (y.2.2.2.2 11)) (fNw L 0 11 (y.2.2.2.2 11)) (yR (yNw y 11 10) 10 q 1 (some (11, y.2.2.2.2 11)))) (fun _ _ => False) := by
  have at14 : ∀ lo', glle [some (gR (some (10, q))), some (gI 1), none, none] lo' → gT mJ2_grow_2 (d + 2) (1, 10) (fun v h' => v = [gR (some (11, y.2.2.2.2 11))] ∧ h' = gH (fNw I 0 11 (y.2.2.2.2 11)) (fNw L 0 11 (y.2.2.2.2 11)) (yR (yNw y 11 10) 10 q 1 (some (11, y.2.2.2.2 11)))) (fun _ _ => False) 14 lo' [gR (gRX y 10 q 1)] (gH I L y) (0, 0) := by
    intro lo' hl'
    rw [h0]
    refine gT_lo _ hl' ?_
    refine gT_gsE dJ2_grow_2_14 q283 ?_
    refine gT_acmp (tgt := 45) dJ2_grow_2_17 rfl (fun _ => ?_) (fun c => absurd rfl c) (fun c => absurd rfl c)
    refine gT_go 400 [52] kJ2_grow_2 ?_
    refine gT_newO 11 10 (by decide) rfl rfl (by decide) q672 (by decide) dJ2_grow_2_52 (by decide) (by decide) ?_
    rw [gNw_gH 10 rfl rfl]
    refine gT_dx1R dJ2_grow_2_55 ?_
    refine gT_go 400 [] kJ2_grow_2 ?_
    exact ⟨rfl, sR_gH rfl⟩
  have at4 : ∀ lo', glle [some (gR (some (10, q))), some (gI 1), none, none] lo' → gT mJ2_grow_2 (d + 2) (1, 10) (fun v h' => v = [gR (some (11, y.2.2.2.2 11))] ∧ h' = gH (fNw I 0 11 (y.2.2.2.2 11)) (fNw L 0 11 (y.2.2.2.2 11)) (yR (yNw y 11 10) 10 q 1 (some (11, y.2.2.2.2 11)))) (fun _ _ => False) 4 lo' [gR (gRX y 10 q 1)] (gH I L y) (0, 0) := by
    intro lo' hl'
    rw [h0]
    refine gT_lo _ hl' ?_
    refine gT_go 400 [14] kJ2_grow_2 ?_
    refine And.intro (fun c => absurd (show (0 : Int32) < nI 0 from c) (by decide)) (fun _ => ?_)
    exact at14 _ (by (repeat' apply And.intro) <;> first | rfl | trivial | exact congrArg Sum.inl (nI_1 _).symm | exact congrArg Sum.inl (nI_1 _).symm)
  refine gEnter 400 [4] kJ2_grow_2 rfl rfl ?_
  exact at4 _ (by (repeat' apply And.intro) <;> first | rfl | trivial | exact congrArg Sum.inl (nI_1 _).symm | exact congrArg Sum.inl (nI_1 _).symm)
/-- what a change of one list leaves -/
def lFr (q : Nat) (I : Nat → Nat → Nat → Int32) (L : Nat → Nat → Nat → Int64) (y : Dy) (I' : Nat → Nat → Nat → Int32) (L' : Nat → Nat → Nat → Int64) (y' : Dy) : Prop :=
  (∀ b, b ≠ 10 → b ≠ 11 → I' b = I b) ∧ (∀ b, b ≠ 11 → L' b = L b) ∧ (∀ i k, i ≠ q → I' 10 i k = I 10 i k) ∧ y'.1 = y.1 ∧ y'.2.1 = y.2.1 ∧ (∀ b, b ≠ 10 → b ≠ 11 → gRX y' b = gRX y b) ∧ (∀ b, b ≠ 11 → gNX y' b = gNX y b ∧ y'.2.2.2.2 b = y.2.2.2.2 b) ∧ (∀ i k, i ≠ q → gRX y' 10 i k = gRX y 10 i k) ∧
  ∃ e, gRX y' 10 q 1 = some (11, e) ∧ (gRX y 10 q 1 = some (11, e) ∨ e = y.2.2.2.2 11) ∧ (∀ i k, i ≠ e → gRX y' 11 i k = gRX y 11 i k) ∧ ∀ i, i ≠ e → gNX y' 11 i = gNX y 11 i
set_option maxRecDepth 100000 in
theorem o_grow (d q : Nat) (I : Nat → Nat → Nat → Int32) (L : Nat → Nat → Nat → Int64) (y : Dy) (h0 : gRX y 10 q 1 = some (3, 0)) (hs : I 10 q 2 = 0) :
    gTM mJ2_grow (d + 3) (1, 10) [gR (some (10, q))] (gH I L y) (fun v h' => v = [gR (some (11, y.2.2.2.2 11))] ∧ h' = gH (fNw I 0 11 (y.2.2.2.2 11)) (fNw L 0 11 (y.2.2.2.2 11)) (yR (yNw y 11 10) 10 q 1 (some (11, y.2.2.2.2 11)))) (fun _ _ => False) := by
  have hM := o_grow2 d q I L y h0
  have at7 : ∀ (x : Int32) (lo' : Lo), x = 1 → glle [none] lo' → gT mJ2_grow (d + 3) (1, 10) (fun v h' => v = [gR (some (11, y.2.2.2.2 11))] ∧ h' = gH (fNw I 0 11 (y.2.2.2.2 11)) (fNw L 0 11 (y.2.2.2.2 11)) (yR (yNw y 11 10) 10 q 1 (some (11, y.2.2.2.2 11)))) (fun _ _ => False) 7 lo' [gI x, gR (some (10, q))] (gH I L y) (0, 0) := by
    intro x lo' hx hl'
    subst hx
    refine gT_callV (k := (1, 10)) rfl rfl rfl rfl rfl dJ2_grow_7 hM (by decide) (by decide) (fun v h' q' => ?_) (fun _ _ q' => q'.elim)
    obtain ⟨rfl, rfl⟩ := q'
    refine gT_lo _ hl' ?_
    refine gT_go 400 [] kJ2_grow ?_
    exact ⟨rfl, rfl⟩
  refine gEnter 400 [7] kJ2_grow rfl rfl ?_
  exact at7 _ _ (by show I 10 q 2 + 1 = 1; rw [hs] <;> rfl) (by (repeat' apply And.intro) <;> first | rfl | trivial | exact congrArg Sum.inl (nI_1 _).symm | exact congrArg Sum.inl (nI_1 _).symm)
theorem fNw_ne2 {α : Type} {f : Nat → Nat → Nat → α} {z : α} {b c b' i k : Nat} (h : ¬ i = c) : fNw f z b c b' i k = f b' i k := by
  show (bif Nat.beq b' b && Nat.beq i c then z else f b' i k) = f b' i k
  rw [gbeqF h, Bool.and_false] <;> rfl
theorem gRX_nw2 {y : Dy} {n i k : Nat} (h : ¬ i = y.2.2.2.2 11) : gRX (yNw y 11 n) 11 i k = gRX y 11 i k := fNw_ne2 h
theorem gNX_nw2 {y : Dy} {n i : Nat} (h : ¬ i = y.2.2.2.2 11) : gNX (yNw y 11 n) 11 i = gNX y 11 i := by
  show (bif Nat.beq 11 11 && Nat.beq i (y.2.2.2.2 11) then n else y.2.2.2.1 11 i) = y.2.2.2.1 11 i
  rw [gbeqF h, Bool.and_false] <;> rfl
theorem gNX_nw0 {y : Dy} {n : Nat} : gNX (yNw y 11 n) 11 (y.2.2.2.2 11) = n := by
  show (bif Nat.beq 11 11 && Nat.beq (y.2.2.2.2 11) (y.2.2.2.2 11) then n else y.2.2.2.1 11 (y.2.2.2.2 11)) = n
  rw [Nat.beq_refl, Nat.beq_refl] <;> rfl
/-- a list has one more -/
def lAd (q n : Nat) (f : Nat → Option Rf) (v : Rf) (I : Nat → Nat → Nat → Int32) (L : Nat → Nat → Nat → Int64) (y : Dy) (h' : Hp) : Prop := ∃ I' L' y', h' = gH I' L' y' ∧ lFr q I L y I' L' y' ∧ cLi q (n + 1) (fun k => if k = n then some v else f k) I' y'
set_option maxRecDepth 100000 in
theorem o_add2 (d q n : Nat) (f : Nat → Option Rf) (v : Rf) (hv : v.1 = 20 ∨ v.1 = 12) (hn : n < 10) (I : Nat → Nat → Nat → Int32) (L : Nat → Nat → Nat → Int64) (y : Dy) (hl : cLi q n f I y) :
    gTM mJ2_add_2 (d + 4) (1, 10) [gR (some (10, q)), gR (some v), gR (gRX y 10 q 1), gI (nI n)] (gH I L y) (fun w h' => w = [] ∧ lAd q n f v I L y h') (fun _ _ => False) := by
  obtain ⟨l1, l2, l3⟩ := hl
  have at11 : ∀ (J : Nat → Nat → Nat → Int32) (M : Nat → Nat → Nat → Int64) (z : Dy) (e : Nat) (u : Nat × Nat) (lo' : Lo), n < gNX z 11 e → lAd q n f v I L y (gH (u3 J 10 q 2 (nI (n + 1))) M (yR z 11 e n (some v))) → glle [some (gR (some (10, q))), some (gR (some v)), some (gR (some (11, e))), some (gI (nI n))] lo' → gT mJ2_add_2 (d + 4) (1, 10) (fun w h' => w = [] ∧ lAd q n f v I L y h') (fun _ _ => False) 11 lo' [] (gH J M z) u := by
    intro J M z e u lo' h1 h2 hl'
    refine gT_lo _ hl' ?_
    refine gT_go 400 [14] kJ2_add_2 ?_
    refine gT_astO hv rfl h1 dJ2_add_2_14 ?_
    refine gT_go 400 [] kJ2_add_2 ?_
    refine ⟨rfl, ?_⟩
    have e1 : nI n + 1 = nI (n + 1) := nI_1 n
    rw [← e1] at h2
    exact h2
  rcases l3 with ⟨rfl, l3⟩ | ⟨e, l3, l4, l5, l6⟩
  · have l1' : I 10 q 2 = 0 := l1
    have hG := o_grow d q I L y l3 l1'
    rw [l3]
    refine gEnter 400 [7] kJ2_add_2 rfl rfl ?_
    · refine bNe 0 0 rfl rfl (fun c => absurd rfl c) (fun _ => ?_)
      refine gT_callV (k := (1, 10)) rfl rfl rfl rfl rfl dJ2_add_2_7 hG (by decide) (by decide) (fun w h' q' => ?_) (fun _ _ q' => q'.elim)
      obtain ⟨rfl, rfl⟩ := q'
      refine gT_go 400 [11] kJ2_add_2 ?_
      obtain ⟨c, hc⟩ : ∃ c, c = y.2.2.2.2 11 := ⟨_, rfl⟩
      rw [← hc]
      have n10 : gNX (yR (yNw y 11 10) 10 q 1 (some (11, c))) 11 c = 10 := by rw [hc]; exact gNX_nw0
      refine at11 _ _ _ c _ _ (by rw [n10]; decide) ⟨_, _, _, rfl, ?_, ?_⟩ (by (repeat' apply And.intro) <;> first | rfl | trivial | exact congrArg Sum.inl (nI_1 _).symm | exact congrArg Sum.inl (nI_1 _).symm)
      · refine ⟨fun b b1 b2 => (u3_ne1 b1).trans (fNw_ne b2), fun b b2 => fNw_ne b2, fun i k hi => (u3_ne (fun z => hi z.2.1)).trans (congrFun (congrFun (fNw_ne (by decide)) i) k), rfl, rfl, fun b b1 b2 => ?_, fun b b2 => ⟨gNX_nw b2, gUp_ne b2⟩, fun i k hi => ?_, c, ?_, Or.inr hc, fun i k hi => ?_, fun i hi => ?_⟩
        · rw [gRX_yR rfl, gRX_yR rfl, u3_ne1 b2, u3_ne1 b1]; exact gRX_nw b2
        · rw [gRX_yR rfl, gRX_yR rfl, u3_ne1 (by decide), u3_ne (fun z => hi z.2.1)]; exact congrFun (congrFun (gRX_nw (by decide)) i) k
        · rw [gRX_yR rfl, gRX_yR rfl, u3_ne1 (by decide)]; exact u3_eq
        · rw [gRX_yR rfl, gRX_yR rfl, u3_ne (fun z => hi z.2.1), u3_ne1 (by decide)]; exact gRX_nw2 (fun z => hi (z.trans hc.symm))
        · exact gNX_nw2 (fun z => hi (z.trans hc.symm))
      · refine ⟨u3_eq, by decide, Or.inr ⟨c, ?_, ?_, fun k hk => ?_, ?_⟩⟩
        · rw [gRX_yR rfl, gRX_yR rfl, u3_ne1 (by decide)]; exact u3_eq
        · show 0 + 1 ≤ gNX (yR (yNw y 11 10) 10 q 1 (some (11, c))) 11 c
          rw [n10]; decide
        · have : k = 0 := by omega
          subst this
          show _ = if 0 = 0 then some v else f 0
          rw [if_pos rfl, gRX_yR rfl]; exact u3_eq
        · exact n10
  · have l6' : gNX y 11 e = 10 := l6
    rw [l3]
    refine gEnter 400 [7, 11] kJ2_add_2 rfl rfl ?_
    · have hsz : n < gNX y 11 e := by omega
      refine bNe n (gNX y 11 e) rfl rfl (fun _ => ?_) (fun c => absurd c (by omega)) (by omega) (by omega)
      · refine at11 I L y e _ _ hsz ⟨_, _, _, rfl, ?_, ?_⟩ (by (repeat' apply And.intro) <;> first | rfl | trivial | exact congrArg Sum.inl (nI_1 _).symm | exact congrArg Sum.inl (nI_1 _).symm)
        · refine ⟨fun b b1 b2 => u3_ne1 b1, fun b b2 => rfl, fun i k hi => u3_ne (fun z => hi z.2.1), rfl, rfl, fun b b1 b2 => ?_, fun b b2 => ⟨rfl, rfl⟩, fun i k hi => ?_, e, ?_, Or.inl ?_, fun i k hi => ?_, fun i hi => rfl⟩
          · rw [gRX_yR rfl]; exact u3_ne1 b2
          · rw [gRX_yR rfl]; exact congrFun (congrFun (u3_ne1 (by decide)) i) k
          · rw [gRX_yR rfl, u3_ne1 (by decide)]; exact l3
          · exact l3
          · rw [gRX_yR rfl]; exact u3_ne (fun z => hi z.2.1)
        · refine ⟨u3_eq, by omega, Or.inr ⟨e, ?_, ?_, fun k hk => ?_, l6⟩⟩
          · rw [gRX_yR rfl, u3_ne1 (by decide)]; exact l3
          · exact hsz
          · rw [gRX_yR rfl]
            show _ = if k = n then some v else f k
            by_cases ek : k = n
            · rw [if_pos ek, ek]; exact u3_eq
            · rw [if_neg ek, u3_ne3 ek]; exact l5 k (by omega)
theorem cLi_M {q n : Nat} {f : Nat → Option Rf} {I : Nat → Nat → Nat → Int32} {y : Dy} {x : Int32} (H : cLi q n f I y) : cLi q n f (u3 I 10 q 0 x) y := ⟨(u3_ne3 (by decide)).trans H.1, H.2⟩
theorem lFr_M {q : Nat} {I I' : Nat → Nat → Nat → Int32} {L L' : Nat → Nat → Nat → Int64} {y y' : Dy} {x : Int32} (H : lFr q (u3 I 10 q 0 x) L y I' L' y') : lFr q I L y I' L' y' :=
  ⟨fun b b1 b2 => (H.1 b b1 b2).trans (u3_ne1 b1), H.2.1, fun i k hi => (H.2.2.1 i k hi).trans (u3_ne (fun z => hi z.2.1)), H.2.2.2⟩
theorem lFr_M2 {q : Nat} {I I' J : Nat → Nat → Nat → Int32} {L L' : Nat → Nat → Nat → Int64} {y y' : Dy} {x : Int32} (hJ : J = u3 I 10 q 0 x) (H : lFr q J L y I' L' y') : lFr q I L y I' L' y' := by
  subst hJ
  exact lFr_M H
set_option maxRecDepth 100000 in
theorem o_add (d q n : Nat) (f : Nat → Option Rf) (v : Rf) (hv : v.1 = 20 ∨ v.1 = 12) (hn : n < 10) (I : Nat → Nat → Nat → Int32) (L : Nat → Nat → Nat → Int64) (y : Dy) (hl : cLi q n f I y) :
    gTM mJ2_add (d + 5) (1, 10) [gR (some (10, q)), gR (some v)] (gH I L y) (fun w h' => w = [gI 1] ∧ lAd q n f v I L y h') (fun _ _ => False) := by
  refine gEnter 400 [2] kJ2_add rfl rfl ?_
  refine gT_getM rfl dJ2_add_2 ?_
  refine gT_go 400 [7] kJ2_add ?_
  refine gT_putM rfl dJ2_add_7 ?_
  obtain ⟨J, hJ⟩ : ∃ J, J = u3 I 10 q 0 (I 10 q 0 + 1) := ⟨_, rfl⟩
  have hl1 : cLi q n f J y := by rw [hJ]; exact cLi_M hl
  change gT _ _ _ _ _ _ _ _ (gH (u3 I 10 q 0 (I 10 q 0 + 1)) L y) _
  rw [← hJ]
  have hM := o_add2 d q n f v hv hn J L y hl1
  have at20 : ∀ (x : Int32) (lo' : Lo), x = nI n → glle [none, none] lo' → gT mJ2_add (d + 5) (1, 10) (fun w h' => w = [gI 1] ∧ lAd q n f v I L y h') (fun _ _ => False) 20 lo' [gI x, gR (gRX y 10 q 1), gR (some v), gR (some (10, q))] (gH J L y) (0, 0) := by
    intro x lo' hx hl'
    subst hx
    refine gT_callV (k := (1, 10)) rfl rfl rfl rfl rfl dJ2_add_20 hM (by decide) (by decide) (fun w h' q' => ?_) (fun _ _ q' => q'.elim)
    obtain ⟨rfl, I', L', y', rfl, f1, f2⟩ := q'
    refine gT_lo _ hl' ?_
    refine gT_go 400 [] kJ2_add ?_
    exact ⟨Or.inr rfl, rfl, I', L', y', rfl, lFr_M2 hJ f1, f2⟩
  refine gT_go 400 [20] kJ2_add ?_
  exact at20 _ _ hl1.1 (by (repeat' apply And.intro) <;> first | rfl | trivial | exact congrArg Sum.inl (nI_1 _).symm | exact congrArg Sum.inl (nI_1 _).symm)
set_option maxRecDepth 100000 in
/-- the last of a list goes -/
theorem o_fastLast (d q n e : Nat) (f : Nat → Option Rf) (I : Nat → Nat → Nat → Int32) (L : Nat → Nat → Nat → Int64) (y : Dy) (hl : cLi q (n + 1) f I y) (he : gRX y 10 q 1 = some (11, e)) (hN : gNX y 11 e = 10) (hn : n < 10) :
    gTM mJ2_fastRemove (d + 2) (0, 0) [gR (some (10, q)), gR (some (11, e)), gI (nI n)] (gH I L y) (fun w h' => w = [] ∧ ∃ I' y', h' = gH I' L y' ∧ lFr q I L y I' L y' ∧ cLi q n f I' y') (fun _ _ => False) := by
  obtain ⟨l1, l2, l3⟩ := hl
  refine gEnter 400 [2] kJ2_fastRemove rfl rfl ?_
  refine gT_getM rfl dJ2_fastRemove_2 ?_
  refine gT_go 400 [7] kJ2_fastRemove ?_
  refine gT_putM rfl dJ2_fastRemove_7 ?_
  obtain ⟨J, hJ⟩ : ∃ J, J = u3 I 10 q 0 (I 10 q 0 + 1) := ⟨_, rfl⟩
  change gT _ _ _ _ _ _ _ _ (gH (u3 I 10 q 0 (I 10 q 0 + 1)) L y) _
  rw [← hJ]
  have j2 : J 10 q 2 - 1 = nI n := by
    rw [hJ, u3_ne3 (by decide), l1]
    exact pk_sub (a := n + 1) (b := 1) (by omega)
  have lt : ∀ x : Int32, x = nI n → ¬ (nI n < x) := fun x hx => by rw [hx]; exact fun z => Int32.lt_irrefl z
  refine gT_go 400 [42] kJ2_fastRemove ?_
  refine And.intro (fun _ => ?_) (fun c => absurd (Int32.not_le.mp c) (lt _ j2))
  refine gT_ast0 (j := e) (n := n) (by decide) rfl (show J 10 q 2 - 1 = nI n from j2) (by show n < gNX y 11 e; omega) dJ2_fastRemove_42 ?_
  have j2' : J 10 q 2 - gic 1 = nI n := j2
  change gT _ _ _ _ _ _ _ _ (sR (gH (u3 J 10 q 2 (J 10 q 2 - gic 1)) L y) 11 e n none) _
  rw [j2', sR_gH rfl]
  refine gT_go 400 [] kJ2_fastRemove ?_
  have fr : lFr q J L y (u3 J 10 q 2 (nI n)) L (yR y 11 e n none) := by
    refine ⟨fun b b1 b2 => u3_ne1 b1, fun b b2 => rfl, fun i k hi => u3_ne (fun z => hi z.2.1), rfl, rfl, fun b b1 b2 => ?_, fun b b2 => ⟨rfl, rfl⟩, fun i k hi => ?_, e, ?_, Or.inl ?_, fun i k hi => ?_, fun i hi => rfl⟩
    · rw [gRX_yR rfl]; exact u3_ne1 b2
    · rw [gRX_yR rfl]; exact congrFun (congrFun (u3_ne1 (by decide)) i) k
    · rw [gRX_yR rfl, u3_ne1 (by decide)]; exact he
    · exact he
    · rw [gRX_yR rfl]; exact u3_ne (fun z => hi z.2.1)
  refine ⟨rfl, _, _, rfl, lFr_M2 hJ fr, ?_⟩
  · refine ⟨u3_eq, by omega, Or.inr ⟨e, ?_, ?_, fun k hk => ?_, hN⟩⟩
    · rw [gRX_yR rfl, u3_ne1 (by decide)]; exact he
    · show n ≤ gNX y 11 e
      omega
    · rcases l3 with ⟨l3, -⟩ | ⟨e', l3, -, l5, -⟩
      · omega
      · have : e' = e := by
          have q' := l3.symm.trans he
          exact congrArg Prod.snd (Option.some.inj q')
        subst this
        rw [gRX_yR rfl, u3_ne3 (by omega)]
        exact l5 k (by omega)
set_option maxRecDepth 100000 in
theorem o_removeLast (d q n : Nat) (f : Nat → Option Rf) (I : Nat → Nat → Nat → Int32) (L : Nat → Nat → Nat → Int64) (y : Dy) (hl : cLi q (n + 1) f I y) :
    gTM mJ2_remove (d + 3) (0, 0) [gR (some (10, q)), gI (nI n)] (gH I L y) (fun w h' => w = [gR (f n)] ∧ ∃ I' y', h' = gH I' L y' ∧ lFr q I L y I' L y' ∧ cLi q n f I' y') (fun _ _ => False) := by
  obtain ⟨e, he, h5, hN, hnn⟩ : ∃ e, gRX y 10 q 1 = some (11, e) ∧ gRX y 11 e n = f n ∧ gNX y 11 e = 10 ∧ n < 10 := by
    rcases hl.2.2 with ⟨z, -⟩ | ⟨e, l3, l4, l5, l6⟩
    · omega
    · have l6' : gNX y 11 e = 10 := l6
      exact ⟨e, l3, l5 n (by omega), l6', by omega⟩
  have hM := o_fastLast d q n e f I L y hl he hN hnn
  have at13 : ∀ lo', glle [some (gR (some (10, q))), some (gI (nI n)), none, none] lo' → gT mJ2_remove (d + 3) (0, 0) (fun w h' => w = [gR (f n)] ∧ ∃ I' y', h' = gH I' L y' ∧ lFr q I L y I' L y' ∧ cLi q n f I' y') (fun _ _ => False) 13 lo' [gR (gRX y 10 q 1)] (gH I L y) (0, 0) := by
    intro lo' hl'
    rw [he]
    refine gT_lo _ hl' ?_
    refine gT_go 400 [21] kJ2_remove ?_
    refine Exists.intro n (And.intro rfl (And.intro (show n < gNX y 11 e by omega) ?_))
    refine gT_callV (k := (0, 0)) rfl rfl rfl rfl rfl dJ2_remove_21 hM (by decide) (by decide) (fun w h' q' => ?_) (fun _ _ q' => q'.elim)
    obtain ⟨rfl, I', y', rfl, f1, f2⟩ := q'
    refine gT_go 400 [] kJ2_remove ?_
    exact ⟨congrArg (fun z => [gR z]) h5, I', y', rfl, f1, f2⟩
  have at5 : ∀ (x : Int32) lo', x = nI (n + 1) → glle [some (gR (some (10, q))), some (gI (nI n)), none, none] lo' → gT mJ2_remove (d + 3) (0, 0) (fun w h' => w = [gR (f n)] ∧ ∃ I' y', h' = gH I' L y' ∧ lFr q I L y I' L y' ∧ cLi q n f I' y') (fun _ _ => False) 5 lo' [gI x, gI (nI n)] (gH I L y) (0, 0) := by
    intro x lo' hx hl'
    subst hx
    refine gT_lo _ hl' ?_
    refine gT_ci rfl dJ2_remove_5 (Nat.lt_succ_self n) hl.2.1 rfl ?_
    refine gT_go 400 [13] kJ2_remove ?_
    exact at13 _ (by (repeat' apply And.intro) <;> first | rfl | trivial | exact congrArg Sum.inl (nI_1 _).symm | exact congrArg Sum.inl (nI_1 _).symm)
  refine gEnter 400 [5] kJ2_remove rfl rfl ?_
  exact at5 _ _ hl.1 (by (repeat' apply And.intro) <;> first | rfl | trivial | exact congrArg Sum.inl (nI_1 _).symm | exact congrArg Sum.inl (nI_1 _).symm)
