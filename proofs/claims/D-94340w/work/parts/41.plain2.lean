/-! ===== public methods of the plain form: journeys told, images, counts, texts ===== -/
def xWas (V : VS) (a b : Int32) : Int32 × AV × VS :=
  bif gWi a 0 24 && gWi b 0 2 then (0, gI (if vS V 79 = 0 ∨ vS V 80 < a ∨ (b = 2 ∧ a = vS V 80) then -1 else if b = 0 then vS V (82 + gTo a) else if b = 1 then vS V (107 + gTo a) else vS V (132 + gTo a)), V) else (1, gI 0, xRef V 2)
set_option maxRecDepth 100000 in
theorem c_was (V : VS) (hw : gWf V) (a b : Int32) : mC mX12_was 2 [gI a, gI b] V (xWas V a b) := by
  intro d I L y hm
  have hm0 := mR_thr hm 0
  refine gEnter 400 [30] kX12_was rfl rfl ?_
  have rest : ∀ (g : Bool) (lo : Lo), g = (gWi a 0 24 && gWi b 0 2) → glle [some gM0, some (gI a), some (gI b)] lo → gT mX12_was (d + 2) (0, 0) (fun v h' => v = [(xWas V a b).2.1] ∧ ∃ I' L', h' = gH I' L' y ∧ mOut I L I' L' ∧ mR (xWas V a b).2.2 I' L' ∧ I' 100 0 0 = (xWas V a b).1) (fun _ _ => False) 30 lo [gI (gb g), gM0] (gH (u3 I 100 0 0 0) L y) (0, 0) := by
    intro g lo hg1 hl
    refine gT_lo _ hl ?_
    refine gT_go 400 [79] kX12_was ?_
    refine gTM_use rfl (p_may d V g 1 (by decide) 2 (by decide) _ L y hm0 u3_eq) (fun v h' q => ?_)
    rcases q with ⟨g2, rfl, rfl⟩ | ⟨g2, rfl, I', rfl, q1, q2, q3⟩
    rotate_left
    · refine And.intro (fun q => absurd rfl q) (fun _ => ?_)
      exact mGt_no (by unfold xWas; simp only [← hg1,g2, cond_true, cond_false] <;> rfl) q1 q2 q3
    refine And.intro (fun _ => ?_) (fun q => absurd q (by decide))
    rw [g2] at hg1
    have hg' := (Bool.and_eq_true _ _).mp hg1.symm
    obtain ⟨j, rfl, hj⟩ := gWi_m (N := 24) rfl (by decide) hg'.1
    have ej : gTo (nI j) = j := gTo_n (by omega)
    have e79 : u3 I 100 0 0 0 125 0 79 = vS V 79 := hm0.2.2.2.1 79 (by omega)
    have e80 : u3 I 100 0 0 0 125 0 80 = vS V 80 := hm0.2.2.2.1 80 (by omega)
    have none_ : (vS V 79 = 0 ∨ vS V 80 < nI j ∨ (b = 2 ∧ nI j = vS V 80)) → [gI (-1)] = [(xWas V (nI j) b).2.1] ∧ ∃ I' L', gH (u3 I 100 0 0 0) L y = gH I' L' y ∧ mOut I L I' L' ∧ mR (xWas V (nI j) b).2.2 I' L' ∧ I' 100 0 0 = (xWas V (nI j) b).1 := fun q =>
      mDone (o2 := (0, gI (-1), V)) (by unfold xWas; rw [← hg1, ej, if_pos q] <;> rfl) rfl (mOut.rf _ _) hm0 u3_eq
    have some_ : ¬ (vS V 79 = 0 ∨ vS V 80 < nI j ∨ (b = 2 ∧ nI j = vS V 80)) → ∀ lo, glle [some gM0, some (gI (nI j)), some (gI b)] lo → gT mX12_was (d + 2) (0, 0) (fun v h' => v = [(xWas V (nI j) b).2.1] ∧ ∃ I' L', h' = gH I' L' y ∧ mOut I L I' L' ∧ mR (xWas V (nI j) b).2.2 I' L' ∧ I' 100 0 0 = (xWas V (nI j) b).1) (fun _ _ => False) 79 lo [] (gH (u3 I 100 0 0 0) L y) (0, 0) := by
      intro q lo hl
      refine gT_lo _ hl ?_
      refine gT_go 400 [] kX12_was ?_
      have ox : xWas V (nI j) b = (0, gI (if b = 0 then vS V (82 + j) else if b = 1 then vS V (107 + j) else vS V (132 + j)), V) := by unfold xWas; rw [← hg1, ej, if_neg q] <;> rfl
      refine And.intro (fun c => ?_) (fun c => ?_)
      · refine And.intro (fun c2 => ?_) (fun c2 => ?_)
        · have hj24 : j < 24 := by
            obtain ⟨jb, eb, hb⟩ := gWi_m (N := 2) rfl (by decide) hg'.2
            have b2 : b = 2 := by
              have n0 : ¬ jb = 0 := fun z => c (by rw [eb, z] <;> rfl)
              have n1 : ¬ jb = 1 := fun z => c2 (by rw [eb, z] <;> rfl)
              have : jb = 2 := by omega
              rw [eb, this] <;> rfl
            rcases hw.2.2.2.2.2.2.2.2.1 with z | ⟨g, z1, z2⟩
            · exact absurd (Or.inl z) q
            · have q2 : ¬ nI g < nI j := fun z => q (Or.inr (Or.inl (by rw [z1]; exact z)))
              have q3 : ¬ nI j = nI g := fun z => q (Or.inr (Or.inr ⟨b2, by rw [z1]; exact z⟩))
              rw [nI_ltI (by omega) (by omega)] at q2
              rw [nI_eq (by omega) (by omega)] at q3
              omega
          refine Exists.intro (132 + j) (And.intro (nI_add 132 j) (And.intro (show 132 + j < 156 by omega) ?_))
          exact mDone (o2 := (0, gI (vS V (132 + j)), V)) (by rw [ox, if_neg c, if_neg (show ¬ b = 1 from c2)]) (congrArg gI (hm0.2.2.2.1 _ (by omega))) (mOut.rf _ _) hm0 u3_eq
        · refine Exists.intro (107 + j) (And.intro (nI_add 107 j) (And.intro (show 107 + j < 156 by omega) ?_))
          exact mDone (o2 := (0, gI (vS V (107 + j)), V)) (by rw [ox, if_neg c, if_pos (show b = 1 from c2)]) (congrArg gI (hm0.2.2.2.1 _ (by omega))) (mOut.rf _ _) hm0 u3_eq
      · refine Exists.intro (82 + j) (And.intro (nI_add 82 j) (And.intro (show 82 + j < 156 by omega) ?_))
        exact mDone (o2 := (0, gI (vS V (82 + j)), V)) (by rw [ox, if_pos c]) (congrArg gI (hm0.2.2.2.1 _ (by omega))) (mOut.rf _ _) hm0 u3_eq
    refine Exists.intro (79) (And.intro rfl (And.intro (show _ < 156 by omega) ?_))
    refine And.intro (fun c => ?_) (fun c => ?_)
    · exact none_ (Or.inl (e79.symm.trans c))
    · have c' : ¬ vS V 79 = 0 := fun q => c (e79.trans q)
      refine Exists.intro (80) (And.intro rfl (And.intro (show _ < 156 by omega) ?_))
      refine And.intro (fun c2 => ?_) (fun c2 => ?_)
      · exact none_ (Or.inr (Or.inl (by rw [← e80]; exact c2)))
      · have c2' : ¬ vS V 80 < nI j := by rw [← e80]; exact c2
        refine And.intro (fun c3 => ?_) (fun c3 => ?_)
        · exact some_ (by rintro (q | q | ⟨q, _⟩); exact c' q; exact c2' q; exact c3 q) _ (by (repeat' apply And.intro) <;> first | rfl | trivial | exact congrArg Sum.inl (nI_1 _).symm | exact congrArg Sum.inl (nI_1 _).symm)
        · refine Exists.intro (80) (And.intro rfl (And.intro (show _ < 156 by omega) ?_))
          refine And.intro (fun c4 => ?_) (fun c4 => ?_)
          · exact some_ (by rintro (q | q | ⟨_, q⟩); exact c' q; exact c2' q; exact c4 (q.trans e80.symm)) _ (by (repeat' apply And.intro) <;> first | rfl | trivial | exact congrArg Sum.inl (nI_1 _).symm | exact congrArg Sum.inl (nI_1 _).symm)
          · exact none_ (Or.inr (Or.inr ⟨c3, c4.trans e80⟩))
  refine gP_use (p_within d a 0 24 _) ?_
  refine bB0 _ rfl (fun c => ?_) (fun c => ?_)
  · exact rest false _ (by rw [c] <;> rfl) (by (repeat' apply And.intro) <;> first | rfl | trivial | exact congrArg Sum.inl (nI_1 _).symm | exact congrArg Sum.inl (nI_1 _).symm)
  · refine gP_use (p_within d b 0 2 _) ?_
    refine bB0 _ rfl (fun c2 => ?_) (fun c2 => ?_)
    · exact rest false _ (by rw [c, c2] <;> rfl) (by (repeat' apply And.intro) <;> first | rfl | trivial | exact congrArg Sum.inl (nI_1 _).symm | exact congrArg Sum.inl (nI_1 _).symm)
    · exact rest true _ (by rw [c, c2] <;> rfl) (by (repeat' apply And.intro) <;> first | rfl | trivial | exact congrArg Sum.inl (nI_1 _).symm | exact congrArg Sum.inl (nI_1 _).symm)
/-- hours of snow, of the first n -/
def gSnC (A : Nat → Nat) : Nat → Nat
  | 0 => 0
  | n + 1 => gSnC A n + (bif gSnw A n then 1 else 0)
theorem gSnC_le (A : Nat → Nat) : ∀ n, gSnC A n ≤ n := by
  intro n
  induction n with
  | zero => exact Nat.le_refl _
  | succ n ih => unfold gSnC; cases gSnw A n <;> simp <;> omega
def xTold (V : VS) (a : Int32) : Int32 × AV × VS :=
  bif gWi a 0 8 then (0, gI (if a = 8 then nI (vR V).length else bif vL V then (if a = 7 then nI (gSnC (vA V) (vA V 3)) else nI (vA V (gTo a))) else 0), V) else (1, gI 0, xRef V 2)
set_option maxRecDepth 100000 in
theorem c_told (V : VS) (hw : gWf V) (a : Int32) : mC mX12_told 2 [gI a] V (xTold V a) := by
  intro d I L y hm
  have hm0 := mR_thr hm 0
  have a1 := hw.1.2.1
  have a3 := hw.1.2.2.2.1
  refine gEnter 400 [60] kX12_told rfl rfl ?_
  refine gP_use (p_within d a 0 8 _) ?_
  refine gTM_use rfl (p_may d V _ 1 (by decide) 2 (by decide) _ L y hm0 u3_eq) (fun v h' q => ?_)
  rcases q with ⟨g1, rfl, rfl⟩ | ⟨g1, rfl, I', rfl, q1, q2, q3⟩
  rotate_left
  · refine And.intro (fun q => absurd rfl q) (fun _ => ?_)
    exact mGt_no (by unfold xTold; simp only [g1, cond_true, cond_false] <;> rfl) q1 q2 q3
  refine And.intro (fun _ => ?_) (fun q => absurd q (by decide))
  refine And.intro (fun c => ?_) (fun c => ?_)
  · refine bB1 (vL V) hm0.2.1 (fun c2 => ?_) (fun c2 => ?_)
    · obtain ⟨j, rfl, hj⟩ := gWi_m (N := 8) rfl (by decide) g1
      refine bGe j 7 rfl rfl (fun c3 => ?_) (fun c3 => ?_)
      · have j7 : j = 7 := by
          have : ¬ j = 8 := fun q => c (by rw [q] <;> rfl)
          omega
        subst j7
        refine gT_for (σ := Unit) (pc := 60) (lo := fun i _ => [some gM0, none, some (gI (nI (gSnC (vA V) i))), some (gI (nI i))]) (hp := fun _ _ => gH (u3 I 100 0 0 0) L y) (Inv := fun _ _ => True) (vA V 3) ?_ ?_ 0 () (Nat.zero_le _) trivial (by (repeat' apply And.intro) <;> first | rfl | trivial | exact congrArg Sum.inl (nI_1 _).symm | exact congrArg Sum.inl (nI_1 _).symm)
        · intro _ _
          refine gT_go 400 [60] kX12_told ?_
          refine Exists.intro (3) (And.intro rfl (And.intro (show _ < 708 by omega) ?_))
          refine bGe (vA V 3) (vA V 3) rfl (hm0.1 3 (by omega)) (fun q => ?_) (fun q => absurd q (by omega))
          exact mDone (o2 := (0, gI (nI (gSnC (vA V) (vA V 3))), V)) (by unfold xTold; rw [g1, c2, if_neg (show ¬ nI 7 = 8 from c), if_pos (show (nI 7 : Int32) = 7 from rfl)] <;> rfl) rfl (mOut.rf _ _) hm0 u3_eq
        · intro i _ hi _ hnext
          refine gT_go 400 [60] kX12_told ?_
          refine Exists.intro (3) (And.intro rfl (And.intro (show _ < 708 by omega) ?_))
          refine bGe i (vA V 3) rfl (hm0.1 3 (by omega)) (fun q => absurd q (by omega)) (fun _ => ?_)
          refine gP_use (p_snows d i (by omega) (vA V) a1 hw.1.lt _ hm0.1 L y) ?_
          refine bB0 (gSnw (vA V) i) rfl (fun q => ?_) (fun q => ?_)
          · refine hnext () _ trivial ?_
            rw [show gSnC (vA V) (i + 1) = gSnC (vA V) i + 0 by rw [gSnC, q]; rfl, ← nI_add]
            exact (by (repeat' apply And.intro) <;> first | rfl | trivial | exact congrArg Sum.inl (nI_1 _).symm | exact congrArg Sum.inl (nI_1 _).symm)
          · refine hnext () _ trivial ?_
            rw [show gSnC (vA V) (i + 1) = gSnC (vA V) i + 1 by rw [gSnC, q]; rfl, ← nI_add]
            exact (by (repeat' apply And.intro) <;> first | rfl | trivial | exact congrArg Sum.inl (nI_1 _).symm | exact congrArg Sum.inl (nI_1 _).symm)
      · refine Exists.intro (j) (And.intro rfl (And.intro (show _ < 708 by omega) ?_))
        have n8 : ¬ (nI j : Int32) = 8 := c
        have n7 : ¬ (nI j : Int32) = 7 := fun q => by have := (nI_eq (b := 7) (by omega) (by decide)).mp q; omega
        exact mDone (o2 := (0, gI (nI (vA V j)), V)) (by unfold xTold; rw [g1, c2, if_neg n8, if_neg n7, gTo_n (by omega)] <;> rfl) (congrArg gI (hm0.1 _ (by omega))) (mOut.rf _ _) hm0 u3_eq
    · exact mDone (o2 := (0, gI 0, V)) (by unfold xTold; rw [g1, c2, if_neg (show ¬ a = 8 from c)] <;> rfl) rfl (mOut.rf _ _) hm0 u3_eq
  · exact mDone (o2 := (0, gI (nI (vR V).length), V)) (by unfold xTold; rw [g1, if_pos (show a = 8 from c)] <;> rfl) (congrArg gI hm0.2.2.1.1) (mOut.rf _ _) hm0 u3_eq
def xI (V : VS) (i : Nat × (Nat → Nat → Int32)) : VS := (vA V, vL V, vR V, vS V, i, vQ V, vT V, vF V)
def xImage (V : VS) : Int32 × AV × VS :=
  bif Nat.beq (vI V).1 3 then (0, gI (-1), V) else (0, gI (nI ((vI V).1 + 1)), xI V ((vI V).1 + 1, fun k => if k = (vI V).1 then vS V else (vI V).2 k))
set_option maxRecDepth 100000 in
theorem c_image (V : VS) (hw : gWf V) : mC mX12_image 1 [] V (xImage V) := by
  intro d I L y hm
  have hm0 := mR_thr hm 0
  have w1 := hw.2.2.2.2.1
  refine gEnter 400 [17] kX12_image rfl rfl ?_
  have e27 : u3 I 100 0 0 0 100 0 27 = nI (vI V).1 := hm0.2.2.2.2.1
  refine bNe (vI V).1 3 e27 rfl (fun c => ?_) (fun c => ?_)
  · have g1 : Nat.beq (vI V).1 3 = false := gbeqF c
    refine gT_for (σ := Nat → Nat → Nat → Int32) (pc := 17) (lo := fun i _ => [some gM0, some (gI (nI i))]) (hp := fun _ x => gH x L y) (Inv := fun i x => (∀ b, b ≠ 126 → x b = u3 I 100 0 0 0 b) ∧ (∀ j, j < 156 * (vI V).1 → x 126 0 j = I 126 0 j) ∧ ∀ j, j < i → x 126 0 (156 * (vI V).1 + j) = vS V j) 156 ?_ ?_ 0 _ (Nat.zero_le _) ⟨fun _ _ => rfl, fun _ _ => rfl, fun j hj => absurd hj (Nat.not_lt_zero _)⟩ (by (repeat' apply And.intro) <;> first | rfl | trivial | exact congrArg Sum.inl (nI_1 _).symm | exact congrArg Sum.inl (nI_1 _).symm)
    · intro x ⟨x1, x2, x3⟩
      refine gT_go 400 [17] kX12_image ?_
      refine bGe 156 156 rfl rfl (fun _ => ?_) (fun q => absurd q (by omega))
      have e27' : x 100 0 27 + 1 = nI ((vI V).1 + 1) := by rw [x1 100 (by decide), e27]; exact nI_1 _
      have e : ∀ b, b ≠ 100 → b ≠ 126 → u3 x 100 0 27 (x 100 0 27 + 1) b = I b := fun b g1 g2 => (u3_ne1 g1).trans ((x1 b g2).trans (u3_ne1 g1))
      have f : ∀ j, j ≠ 27 → u3 x 100 0 27 (x 100 0 27 + 1) 100 0 j = u3 I 100 0 0 0 100 0 j := fun j g => (u3_ne3 g).trans (by rw [x1 100 (by decide)])
      obtain ⟨h1, h2, h3, h4, h5, h6, h7, h8, h9, h10, h11, h12, h13, h14, kn, h15, h16⟩ := hm0
      refine mDone (I' := u3 x 100 0 27 (x 100 0 27 + 1)) (o2 := (0, gI (nI ((vI V).1 + 1)), xI V ((vI V).1 + 1, fun k => if k = (vI V).1 then vS V else (vI V).2 k))) (by unfold xImage; rw [g1] <;> rfl) (congrArg gI (show u3 x 100 0 27 (x 100 0 27 + 1) 100 0 27 = nI ((vI V).1 + 1) from u3_eq.trans e27')) (fun b hb => ⟨by rw [e b (by omega) (by omega)]; exact (u3_ne1 (by omega)).symm, rfl⟩) ?_ ((f 0 (by decide)).trans u3_eq)
      refine ⟨fun j hj => by rw [e 110 (by decide) (by decide)]; exact h1 j hj, (f 12 (by decide)).trans h2, gRm_cg (e 115 (by decide) (by decide)) (e 116 (by decide) (by decide)) (e 119 (by decide) (by decide)) (e 120 (by decide) (by decide)) (f 13 (by decide)) h3, fun j hj => by rw [e 125 (by decide) (by decide)]; exact h4 j hj, u3_eq.trans e27', fun k j hk hj => ?_, fun j hj => by rw [e 101 (by decide) (by decide)]; exact h7 j hj, (f 2 (by decide)).trans h8, fun j hj => by rw [e 109 (by decide) (by decide)]; exact h9 j hj, (f 8 (by decide)).trans h10, (f 32 (by decide)).trans h11, (f 33 (by decide)).trans h12, (f 34 (by decide)).trans h13, (f 35 (by decide)).trans h14, kn, (f 28 (by decide)).trans h15, fun q => ⟨(h16 q).1, gKn_cg (e 136 (by decide) (by decide)) (e 142 (by decide) (by decide)) rfl rfl (h16 q).2⟩⟩
      have hk' : k < (vI V).1 + 1 := hk
      show _ = (if k = (vI V).1 then vS V else (vI V).2 k) j
      rw [u3_ne1 (by decide)]
      by_cases q : k = (vI V).1
      · subst q; rw [if_pos rfl]; exact x3 j hj
      · rw [if_neg q]
        have q2 : k + 1 ≤ (vI V).1 := by omega
        have q3 : 156 * (k + 1) ≤ 156 * (vI V).1 := Nat.mul_le_mul_left _ q2
        exact (x2 _ (by omega)).trans (h6 k j (by omega) hj)
    · intro i x hi ⟨x1, x2, x3⟩ hnext
      refine gT_go 400 [17] kX12_image ?_
      refine bGe i 156 rfl rfl (fun q => absurd q (by omega)) (fun _ => ?_)
      refine Exists.intro (i) (And.intro rfl (And.intro (show _ < 156 by omega) ?_))
      refine Exists.intro (156 * (vI V).1 + i) (And.intro (by rw [← nI_add, ← pk_mul, ← e27, ← x1 100 (by decide)] <;> rfl) (And.intro (show 156 * (vI V).1 + i < 468 by omega) ?_))
      refine hnext _ _ ⟨fun b hb => (u3_ne1 hb).trans (x1 b hb), fun j hj => (u3_ne3 (by omega)).trans (x2 j hj), fun j hj => ?_⟩ (by (repeat' apply And.intro) <;> first | rfl | trivial | exact congrArg Sum.inl (nI_1 _).symm | exact congrArg Sum.inl (nI_1 _).symm)
      by_cases q : j = i
      · subst q
        refine u3_eq.trans ?_
        show x 125 0 j = _
        rw [x1 125 (by decide)]
        exact hm0.2.2.2.1 j (by omega)
      · exact (u3_ne3 (by omega)).trans (x3 j (by omega))
  · exact mDone (o2 := (0, gI (-1), V)) (by unfold xImage; rw [gbeqT c] <;> rfl) rfl (mOut.rf _ _) hm0 u3_eq
def xOn (V : VS) : Int32 × AV × VS :=
  bif Nat.beq (vI V).1 0 then (0, gI (-1), V) else (0, gI (nI ((vI V).1 - 1)), xS (xI V ((vI V).1 - 1, (vI V).2)) ((vI V).2 ((vI V).1 - 1)))
set_option maxRecDepth 100000 in
theorem c_on (V : VS) (hw : gWf V) : mC mX12_on 1 [] V (xOn V) := by
  intro d I L y hm
  have hm0 := mR_thr hm 0
  have w1 := hw.2.2.2.2.1
  refine gEnter 400 [26] kX12_on rfl rfl ?_
  have e27 : u3 I 100 0 0 0 100 0 27 = nI (vI V).1 := hm0.2.2.2.2.1
  refine bNe (vI V).1 0 e27 rfl (fun c => ?_) (fun c => ?_)
  · have g1 : Nat.beq (vI V).1 0 = false := gbeqF c
    have e27' : u3 I 100 0 0 0 100 0 27 - 1 = nI ((vI V).1 - 1) := by rw [e27]; exact pk_sub (b := 1) (by omega)
    refine gT_for (σ := Nat → Nat → Nat → Int32) (pc := 26) (lo := fun i _ => [some gM0, some (gI (nI i))]) (hp := fun _ x => gH x L y) (Inv := fun i x => (∀ b, b ≠ 125 → x b = u3 (u3 I 100 0 0 0) 100 0 27 (nI ((vI V).1 - 1)) b) ∧ ∀ j, j < i → x 125 0 j = (vI V).2 ((vI V).1 - 1) j) 156 ?_ ?_ 0 _ (Nat.zero_le _) ⟨fun b _ => by rw [← e27'] <;> rfl, fun j hj => absurd hj (Nat.not_lt_zero _)⟩ (by (repeat' apply And.intro) <;> first | rfl | trivial | exact congrArg Sum.inl (nI_1 _).symm | exact congrArg Sum.inl (nI_1 _).symm)
    · intro x ⟨x1, x3⟩
      refine gT_go 400 [26] kX12_on ?_
      refine bGe 156 156 rfl rfl (fun _ => ?_) (fun q => absurd q (by omega))
      have e : ∀ b, b ≠ 100 → b ≠ 125 → x b = I b := fun b g1 g2 => (x1 b g2).trans ((u3_ne1 g1).trans (u3_ne1 g1))
      have f : ∀ j, j ≠ 27 → x 100 0 j = u3 I 100 0 0 0 100 0 j := fun j g => by rw [x1 100 (by decide)]; exact u3_ne3 g
      have f27 : x 100 0 27 = nI ((vI V).1 - 1) := by rw [x1 100 (by decide)]; exact u3_eq
      obtain ⟨h1, h2, h3, h4, h5, h6, h7, h8, h9, h10, h11, h12, h13, h14, kn, h15, h16⟩ := hm0
      refine mDone (I' := x) (o2 := (0, gI (nI ((vI V).1 - 1)), xS (xI V ((vI V).1 - 1, (vI V).2)) ((vI V).2 ((vI V).1 - 1)))) (by unfold xOn; rw [g1] <;> rfl) (congrArg gI f27) (fun b hb => ⟨by rw [e b (by omega) (by omega)]; exact (u3_ne1 (by omega)).symm, rfl⟩) ?_ ((f 0 (by decide)).trans u3_eq)
      exact ⟨fun j hj => by rw [e 110 (by decide) (by decide)]; exact h1 j hj, (f 12 (by decide)).trans h2, gRm_cg (e 115 (by decide) (by decide)) (e 116 (by decide) (by decide)) (e 119 (by decide) (by decide)) (e 120 (by decide) (by decide)) (f 13 (by decide)) h3, fun j hj => x3 j hj, f27, fun k j hk hj => by rw [e 126 (by decide) (by decide)]; exact h6 k j (by have : k < (vI V).1 - 1 := hk; omega) hj, fun j hj => by rw [e 101 (by decide) (by decide)]; exact h7 j hj, (f 2 (by decide)).trans h8, fun j hj => by rw [e 109 (by decide) (by decide)]; exact h9 j hj, (f 8 (by decide)).trans h10, (f 32 (by decide)).trans h11, (f 33 (by decide)).trans h12, (f 34 (by decide)).trans h13, (f 35 (by decide)).trans h14, kn, (f 28 (by decide)).trans h15, fun q => ⟨(h16 q).1, gKn_cg (e 136 (by decide) (by decide)) (e 142 (by decide) (by decide)) rfl rfl (h16 q).2⟩⟩
    · intro i x hi ⟨x1, x3⟩ hnext
      refine gT_go 400 [26] kX12_on ?_
      refine bGe i 156 rfl rfl (fun q => absurd q (by omega)) (fun _ => ?_)
      have f27 : x 100 0 27 = nI ((vI V).1 - 1) := by rw [x1 100 (by decide)]; exact u3_eq
      refine Exists.intro (156 * ((vI V).1 - 1) + i) (And.intro (by rw [← nI_add, ← pk_mul, ← f27] <;> rfl) (And.intro (show 156 * ((vI V).1 - 1) + i < 468 by omega) ?_))
      refine Exists.intro (i) (And.intro rfl (And.intro (show _ < 156 by omega) ?_))
      refine hnext _ _ ⟨fun b hb => (u3_ne1 hb).trans (x1 b hb), fun j hj => ?_⟩ (by (repeat' apply And.intro) <;> first | rfl | trivial | exact congrArg Sum.inl (nI_1 _).symm | exact congrArg Sum.inl (nI_1 _).symm)
      by_cases q : j = i
      · subst q
        refine u3_eq.trans ?_
        show x 126 0 (156 * ((vI V).1 - 1) + j) = _
        rw [x1 126 (by decide)]
        exact hm.2.2.2.2.2.1 _ j (by omega) (by omega)
      · exact (u3_ne3 q).trans (x3 j (by omega))
  · exact mDone (o2 := (0, gI (-1), V)) (by unfold xOn; rw [gbeqT c] <;> rfl) rfl (mOut.rf _ _) hm0 u3_eq
/-- turns told, of the first n hours -/
def gTnC (s : Nat → Int32) : Nat → Nat
  | 0 => 0
  | n + 1 => gTnC s n + (if s (29 + n) = -1 then 0 else 1)
def xCount (V : VS) (a : Int32) : Int32 × AV × VS :=
  (0, gI (if a = 0 then vS V 54 else if a = 1 then nI (vI V).1 else if a = 2 then nI (vT V).1 else if a = 3 then nI (gTnC (vS V) 24) else -1), V)
set_option maxRecDepth 100000 in
theorem c_count (V : VS) (a : Int32) : mC mX12_count 1 [gI a] V (xCount V a) := by
  intro d I L y hm
  have hm0 := mR_thr hm 0
  by_cases c0 : a = 0
  · refine gEnter 400 [] kX12_count rfl rfl ?_
    refine gT_sw (nI 0) c0 32 40 dX12_count_8 (by decide) (by decide) rfl rfl ?_
    refine gT_go 400 [] kX12_count ?_
    refine Exists.intro (54) (And.intro rfl (And.intro (show _ < 156 by omega) ?_))
    exact mDone (o2 := (0, gI (vS V 54), V)) (by unfold xCount; rw [if_pos c0]) (congrArg gI (hm0.2.2.2.1 _ (by omega))) (mOut.rf _ _) hm0 u3_eq
  by_cases c1 : a = 1
  · refine gEnter 400 [] kX12_count rfl rfl ?_
    refine gT_sw (nI 1) c1 40 48 dX12_count_8 (by decide) (by decide) rfl rfl ?_
    refine gT_go 400 [] kX12_count ?_
    exact mDone (o2 := (0, gI (nI (vI V).1), V)) (by unfold xCount; rw [if_neg c0, if_pos c1]) (congrArg gI hm0.2.2.2.2.1) (mOut.rf _ _) hm0 u3_eq
  by_cases c2 : a = 2
  · refine gEnter 400 [] kX12_count rfl rfl ?_
    refine gT_sw (nI 2) c2 45 53 dX12_count_8 (by decide) (by decide) rfl rfl ?_
    refine gT_go 400 [] kX12_count ?_
    exact mDone (o2 := (0, gI (nI (vT V).1), V)) (by unfold xCount; rw [if_neg c0, if_neg c1, if_pos c2]) (congrArg gI hm0.2.2.2.2.2.2.2.1) (mOut.rf _ _) hm0 u3_eq
  by_cases c3 : a = 3
  · refine gEnter 400 [] kX12_count rfl rfl ?_
    refine gT_sw (nI 3) c3 50 58 dX12_count_8 (by decide) (by decide) rfl rfl ?_
    refine gT_go 400 [60] kX12_count ?_
    refine gT_for (σ := Unit) (pc := 60) (lo := fun i _ => [some gM0, none, some (gI (nI (gTnC (vS V) i))), some (gI (nI i))]) (hp := fun _ _ => gH (u3 I 100 0 0 0) L y) (Inv := fun _ _ => True) 24 ?_ ?_ 0 () (Nat.zero_le _) trivial (by (repeat' apply And.intro) <;> first | rfl | trivial | exact congrArg Sum.inl (nI_1 _).symm | exact congrArg Sum.inl (nI_1 _).symm)
    · intro _ _
      refine gT_go 400 [60] kX12_count ?_
      refine bGe 24 24 rfl rfl (fun q => ?_) (fun q => absurd q (by omega))
      exact mDone (o2 := (0, gI (nI (gTnC (vS V) 24)), V)) (by unfold xCount; rw [if_neg c0, if_neg c1, if_neg c2, if_pos c3]) rfl (mOut.rf _ _) hm0 u3_eq
    · intro i _ hi _ hnext
      refine gT_go 400 [60] kX12_count ?_
      refine bGe i 24 rfl rfl (fun q => absurd q (by omega)) (fun _ => ?_)
      refine Exists.intro (29 + i) (And.intro (nI_add 29 i) (And.intro (show 29 + i < 156 by omega) ?_))
      have e : u3 I 100 0 0 0 125 0 (29 + i) = vS V (29 + i) := hm0.2.2.2.1 _ (by omega)
      refine And.intro (fun q => ?_) (fun q => ?_)
      · refine hnext () _ trivial ?_
        rw [show gTnC (vS V) (i + 1) = gTnC (vS V) i + 0 by rw [gTnC, if_pos (show vS V (29 + i) = -1 from e.symm.trans q)], ← nI_add]
        exact (by (repeat' apply And.intro) <;> first | rfl | trivial | exact congrArg Sum.inl (nI_1 _).symm | exact congrArg Sum.inl (nI_1 _).symm)
      · refine hnext () _ trivial ?_
        rw [show gTnC (vS V) (i + 1) = gTnC (vS V) i + 1 by rw [gTnC, if_neg (show ¬ vS V (29 + i) = -1 from fun z => q (e.trans z))], ← nI_add]
        exact (by (repeat' apply And.intro) <;> first | rfl | trivial | exact congrArg Sum.inl (nI_1 _).symm | exact congrArg Sum.inl (nI_1 _).symm)
  · refine gEnter 400 [] kX12_count rfl rfl ?_
    have e3 : a.toInt < 0 ∨ 3 < a.toInt := by
      have n0 : ¬ a.toInt = 0 := fun q => c0 (Int32.toInt_inj.mp q)
      have n1 : ¬ a.toInt = 1 := fun q => c1 (Int32.toInt_inj.mp q)
      have n2 : ¬ a.toInt = 2 := fun q => c2 (Int32.toInt_inj.mp q)
      have n3 : ¬ a.toInt = 3 := fun q => c3 (Int32.toInt_inj.mp q)
      omega
    refine gT_swd e3 95 dX12_count_8 rfl ?_
    refine gT_go 400 [] kX12_count ?_
    exact mDone (o2 := (0, gI (-1), V)) (by unfold xCount; rw [if_neg c0, if_neg c1, if_neg c2, if_neg c3]) rfl (mOut.rf _ _) hm0 u3_eq
