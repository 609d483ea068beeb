/-! ===== the component: findLaw ===== -/
theorem gT_grid2 {m : GM} {d : Nat} {B : Nat × Nat} {Qr : List AV → Hp → Prop} {Qx : Rf → Hp → Prop} {u : Nat × Nat} {σ : Type} (q1 q2 q3 : Nat) (l1 : Int32 → σ → Lo) (l2 : Nat → Nat → σ → Lo) (l3 : Nat → Nat → Nat → σ → Lo) (hp : σ → Hp) (F : Nat → σ → Prop) (C : Nat → Nat → Nat → σ → Prop) (H P N : Nat)
    (e1 : ∀ x, F 0 x → (∀ h p n, h ≤ H → p < P → n ≤ N → C h p n x) → gT m d B Qr Qx q1 (l1 (-1) x) [] (hp x) u)
    (s1 : ∀ h x, h ≤ H → F (h + 1) x → (∀ x' lo', F h x' → (∀ h' p' n', C h' p' n' x → C h' p' n' x') → glle (l2 h 0 x') lo' → gT m d B Qr Qx q2 lo' [] (hp x') u) → gT m d B Qr Qx q1 (l1 (nI h) x) [] (hp x) u)
    (s2 : ∀ h p x, h ≤ H → p < P → F h x → (∀ lo', glle (l3 h p 0 x) lo' → gT m d B Qr Qx q3 lo' [] (hp x) u) → gT m d B Qr Qx q2 (l2 h p x) [] (hp x) u)
    (e2 : ∀ h x, h ≤ H → F h x → (∀ y lo', y + 1 = nI h → glle (l1 y x) lo' → gT m d B Qr Qx q1 lo' [] (hp x) u) → gT m d B Qr Qx q2 (l2 h P x) [] (hp x) u)
    (e3 : ∀ h p x, h ≤ H → p < P → F h x → (∀ lo', glle (l2 h (p + 1) x) lo' → gT m d B Qr Qx q2 lo' [] (hp x) u) → gT m d B Qr Qx q3 (l3 h p (N + 1) x) [] (hp x) u)
    (st : ∀ h p n x, h ≤ H → p < P → n ≤ N → F h x → (∀ h' p' n', h' ≤ H → p' < P → n' ≤ N → gBf h p n h' p' n' → C h' p' n' x) →
      (∀ x' lo', F h x' → (∀ h' p' n', h' ≤ H → p' < P → n' ≤ N → gBf h p n h' p' n' → C h' p' n' x') → C h p n x' → glle (l3 h p (n + 1) x') lo' → gT m d B Qr Qx q3 lo' [] (hp x') u) → gT m d B Qr Qx q3 (l3 h p n x) [] (hp x) u)
    (x0 : σ) {lo0 : Lo} (h0 : F (H + 1) x0) (hl : glle (l1 (nI H) x0) lo0) : gT m d B Qr Qx q1 lo0 [] (hp x0) u := by
  refine gT_dn (σ := σ) (pc := q1) (lo := l1) (hp := fun _ x => hp x) (Inv := fun i x => i ≤ H + 1 ∧ F i x ∧ ∀ h' p' n', i ≤ h' → h' ≤ H → p' < P → n' ≤ N → C h' p' n' x) ?_ ?_ H x0 ⟨Nat.le_refl _, h0, fun h' _ _ a b => absurd a (by omega)⟩ hl
  · intro x ⟨_, hF, hC⟩
    exact e1 x hF (fun h p n a b c => hC h p n (Nat.zero_le _) a b c)
  · intro i x ⟨hi, hF, hC⟩ hnext
    refine s1 i x (by omega) hF (fun x1 lo' hF1 hC1 hl' => ?_)
    refine gT_for (σ := σ) (pc := q2) (lo := fun p x => l2 i p x) (hp := fun _ x => hp x) (Inv := fun p x => F i x ∧ ∀ h' p' n', h' ≤ H → p' < P → n' ≤ N → gBf i p 0 h' p' n' → C h' p' n' x) P ?_ ?_ 0 x1 (Nat.zero_le _) ⟨hF1, fun h' p' n' a b c q => hC1 _ _ _ (hC h' p' n' (by unfold gBf at q; omega) a b c)⟩ hl'
    · intro x ⟨hF, hC⟩
      refine e2 i x (by omega) hF (fun y lo' hy hl' => ?_)
      exact hnext x y lo' ⟨by omega, hF, fun h' p' n' a b c e => hC h' p' n' b c e (by unfold gBf; omega)⟩ hy hl'
    · intro p x hp0 ⟨hF, hC⟩ hnext2
      refine s2 i p x (by omega) hp0 hF (fun lo' hl' => ?_)
      refine gT_for (σ := σ) (pc := q3) (lo := fun n x => l3 i p n x) (hp := fun _ x => hp x) (Inv := fun n x => F i x ∧ ∀ h' p' n', h' ≤ H → p' < P → n' ≤ N → gBf i p n h' p' n' → C h' p' n' x) (N + 1) ?_ ?_ 0 x (Nat.zero_le _) ⟨hF, hC⟩ hl'
      · intro x ⟨hF, hC⟩
        refine e3 i p x (by omega) hp0 hF (fun lo' hl' => ?_)
        exact hnext2 x lo' ⟨hF, fun h' p' n' a b c q => hC h' p' n' a b c (by unfold gBf at q ⊢; omega)⟩ hl'
      · intro n x hn0 ⟨hF, hC⟩ hnext3
        refine st i p n x (by omega) hp0 (by omega) hF hC (fun x' lo' hF' hC' hc hl' => ?_)
        refine hnext3 x' lo' ⟨hF', fun h' p' n' a b c q => ?_⟩ hl'
        by_cases e : h' = i ∧ p' = p ∧ n' = n
        · obtain ⟨rfl, rfl, rfl⟩ := e; exact hc
        · exact hC' h' p' n' a b c (by unfold gBf at q ⊢; omega)
/-- the law is known: rows of what is lawful, scales -/
def cKl (A : Nat → Nat) (S : Nat) (R : RL) (I : Nat → Nat → Nat → Int32) (L : Nat → Nat → Nat → Int64) : Prop :=
  (∀ k h p n, k < A 2 → h ≤ A 3 → p < A 0 → n ≤ S → I 160 k (cN h p n) = nI (if aEnd A h p n = 0 then gLb A R none k h p n (A 1) else 0)) ∧ ∀ h, h ≤ A 3 → L 74 0 h = gSc A h
theorem gSc_end (A : Nat → Nat) : gSc A (A 3) = 1 := by
  unfold gSc
  rw [show A 3 + 1 - A 3 = 0 + 1 by omega, gScF]
  have : gSn A (A 3 - 0) = false := by unfold gSn; rw [decide_eq_false (by omega)] <;> rfl
  rw [this] <;> rfl
theorem gSc_step {A : Nat → Nat} {h : Nat} (hh : h < A 3) : gSc A h = bif gSn A h then 16 * gSc A (h + 1) else gSc A (h + 1) := by
  unfold gSc
  rw [show A 3 + 1 - h = (A 3 - h) + 1 by omega, gScF, show A 3 - (A 3 - h) = h by omega, show A 3 + 1 - (h + 1) = A 3 - h by omega, Int64.mul_comm]
set_option maxRecDepth 100000 in
theorem o_findLaw (d ht S : Nat) (A : Nat → Nat) (hA : gLd A) (hA0 : 0 < A 0) (hS : S < 13) (R : RL) (b : Bool) (I : Nat → Nat → Nat → Int32) (L : Nat → Nat → Nat → Int64) (y : Dy) (hl : cLd y.1 S A I) (hR : cRl R ht I y) (hb : I 60 0 28 = gb b) (hk : b = true → cKl A S R I L) :
    gTM mX1_findLaw (d + ht + 6) (0, 0) [gG0] (gH I L y) (fun v h' => v = [] ∧ ∃ I' L', h' = gH I' L' y ∧ (∀ c, c ≠ 60 → c ≠ 73 → c ≠ 160 → I' c = I c) ∧ (∀ j, j ≠ 28 → I' 60 0 j = I 60 0 j) ∧ I' 60 0 28 = 1 ∧ (∀ c, c ≠ 74 → L' c = L c) ∧ cKl A S R I' L') (fun _ _ => False) := by
  have a0 := hA.1
  have a1 := hA.2.1
  have a2 := hA.2.2.1
  have a3 := hA.2.2.2.1
  have e0 := hl.1 0 (by decide)
  have e2 := hl.1 2 (by decide)
  have e3 := hl.1 3 (by decide)
  have e4 := hl.2.1
  have at16 : ∀ lo', glle [some gG0, some (gI (nI (A 3))), none, none, none, none] lo' → gT mX1_findLaw (d + ht + 6) (0, 0) (fun v h' => v = [] ∧ ∃ I' L', h' = gH I' L' y ∧ (∀ c, c ≠ 60 → c ≠ 73 → c ≠ 160 → I' c = I c) ∧ (∀ j, j ≠ 28 → I' 60 0 j = I 60 0 j) ∧ I' 60 0 28 = 1 ∧ (∀ c, c ≠ 74 → L' c = L c) ∧ cKl A S R I' L') (fun _ _ => False) 16 lo' [] (gH I L y) (0, 0) := by
    intro lo' hl'
    have fr : ∀ x : Nat → Nat → Nat → Int32, (∀ c, c ≠ 73 → c ≠ 160 → x c = I c) → cLd y.1 S A x ∧ cRl R ht x y := fun x hx => ⟨cLd_cg (fun c _ _ => hx c (by omega) (by omega)) hl, cRl_cg (fun c _ => hx c (by omega) (by omega)) hR⟩
    refine gT_grid2 (σ := (Nat → Nat → Nat → Int32) × (Nat → Nat → Nat → Int64)) 16 74 87 (fun z _ => [some gG0, some (gI z), none, none, none, none]) (fun h n _ => [some gG0, some (gI (nI h)), some (gI (nI n)), none, none, none]) (fun h n p _ => [some gG0, some (gI (nI h)), some (gI (nI n)), some (gI (nI p)), none, none]) (fun x => gH x.1 x.2 y)
      (fun i x => (∀ c, c ≠ 73 → c ≠ 160 → x.1 c = I c) ∧ (∀ c, c ≠ 74 → x.2 c = L c) ∧ ∀ h, i ≤ h → h ≤ A 3 → x.2 74 0 h = gSc A h) (fun h n p x => ∀ k, k < A 2 → x.1 160 k (cN h p n) = nI (if aEnd A h p n = 0 then gLb A R none k h p n (A 1) else 0)) (A 3) (S + 1) (A 0 - 1) ?_ ?_ ?_ ?_ ?_ ?_ (I, L) ⟨fun _ _ _ => rfl, fun _ _ => rfl, fun h h1 h2 => absurd h1 (by omega)⟩ hl'
    · intro x ⟨hx1, hx2, hx3⟩ hC
      refine gT_go 400 [16, 74, 87] kX1_findLaw ?_
      refine And.intro (fun c => ?_) (fun c => absurd (show (-1 : Int32) < 0 by decide) c)
      refine And.intro (Or.inr rfl) ?_
      refine ⟨rfl, u3 x.1 60 0 28 1, x.2, rfl, fun c c1 c2 c3 => (u3_ne1 c1).trans (hx1 c c2 c3), fun j hj => (u3_ne3 hj).trans (by rw [hx1 60 (by decide) (by decide)]), u3_eq, hx2, fun k h p n b1 b2 b3 b4 => ?_, fun h hh => hx3 h (Nat.zero_le _) hh⟩
      rw [u3_ne1 (by decide)]
      exact hC h n p b2 (by omega) (by omega) k b1
    · intro h x hh ⟨hx1, hx2, hx3⟩ hnext
      obtain ⟨f1, f2⟩ := fr x.1 hx1
      have ee3 := f1.1 3 (by decide)
      have hsn := o_isSnowy (d + ht + 4) h S (by omega) A hA x.1 x.2 y f1
      have at71 : ∀ (v : Int64) (lo' : Lo), v = gSc A h → glle [some gG0, some (gI (nI h)), none, none, none, none] lo' → gT mX1_findLaw (d + ht + 6) (0, 0) (fun v h' => v = [] ∧ ∃ I' L', h' = gH I' L' y ∧ (∀ c, c ≠ 60 → c ≠ 73 → c ≠ 160 → I' c = I c) ∧ (∀ j, j ≠ 28 → I' 60 0 j = I 60 0 j) ∧ I' 60 0 28 = 1 ∧ (∀ c, c ≠ 74 → L' c = L c) ∧ cKl A S R I' L') (fun _ _ => False) 71 lo' [gL v, gI (nI h), gR (some (74, 0))] (gH x.1 x.2 y) (0, 0) := by
        intro v lo' hv hl'
        refine gT_lo _ hl' ?_
        refine gT_go 400 [74] kX1_findLaw ?_
        refine Exists.intro (h) (And.intro rfl (And.intro (show _ < 26 by omega) ?_))
        refine hnext (x.1, u3 x.2 74 0 h v) _ ⟨hx1, fun c hc => (u3_ne1 hc).trans (hx2 c hc), fun h' b1 b2 => ?_⟩ (fun _ _ _ q => q) (by (repeat' apply And.intro) <;> first | rfl | trivial | exact congrArg Sum.inl (nI_1 _).symm | exact congrArg Sum.inl (nI_1 _).symm)
        by_cases e : h' = h
        · rw [e]; exact u3_eq.trans hv
        · exact (u3_ne3 e).trans (hx3 h' (by omega) b2)
      refine gT_go 400 [71] kX1_findLaw ?_
      refine And.intro (fun c => absurd c (nI_pos (by omega))) (fun _ => ?_)
      refine bNe h (A 3) rfl ee3 (fun c => ?_) (fun c => ?_)
      · refine gP_use hsn ?_
        have hlast := hx3 (h + 1) (Nat.le_refl _) (by omega)
        refine bB0 (gSn A h) rfl (fun c2 => ?_) (fun c2 => ?_)
        · refine Exists.intro (h + 1) (And.intro (nI_1 h) (And.intro (show h + 1 < 26 by omega) ?_))
          exact at71 _ _ (by rw [gSc_step (by omega), c2]; exact hlast) (by (repeat' apply And.intro) <;> first | rfl | trivial | exact congrArg Sum.inl (nI_1 _).symm | exact congrArg Sum.inl (nI_1 _).symm)
        · refine Exists.intro (h + 1) (And.intro (nI_1 h) (And.intro (show h + 1 < 26 by omega) ?_))
          exact at71 _ _ (by rw [gSc_step (by omega), c2]; exact congrArg (fun z => 16 * z) hlast) (by (repeat' apply And.intro) <;> first | rfl | trivial | exact congrArg Sum.inl (nI_1 _).symm | exact congrArg Sum.inl (nI_1 _).symm)
      · exact at71 _ _ (by rw [c]; exact (gSc_end A).symm) (by (repeat' apply And.intro) <;> first | rfl | trivial | exact congrArg Sum.inl (nI_1 _).symm | exact congrArg Sum.inl (nI_1 _).symm)
    · intro h n x hh hn ⟨hx1, hx2, hx3⟩ hnext
      have ee4 := (fr x.1 hx1).1.2.1
      refine gT_go 400 [16, 74, 87] kX1_findLaw ?_
      refine bGt n S rfl ee4 (fun c => absurd c (by omega)) (fun c => ?_)
      exact hnext _ (by (repeat' apply And.intro) <;> first | rfl | trivial | exact congrArg Sum.inl (nI_1 _).symm | exact congrArg Sum.inl (nI_1 _).symm)
    · intro h x hh ⟨hx1, hx2, hx3⟩ hnext
      have ee4 := (fr x.1 hx1).1.2.1
      refine gT_go 400 [16, 74, 87] kX1_findLaw ?_
      refine bGt (S + 1) S rfl ee4 (fun c => ?_) (fun c => absurd c (by omega))
      exact hnext (nI h + gic (-1)) _ (by show nI h + -1 + 1 = nI h; grind) (by (repeat' apply And.intro) <;> first | rfl | trivial | exact congrArg Sum.inl (nI_1 _).symm | exact congrArg Sum.inl (nI_1 _).symm)
    · intro h n x hh hn ⟨hx1, hx2, hx3⟩ hnext
      have ee0 := (fr x.1 hx1).1.1 0 (by decide)
      refine gT_go 400 [16, 74, 87] kX1_findLaw ?_
      refine bGe (A 0 - 1 + 1) (A 0) rfl ee0 (fun c => ?_) (fun c => absurd c (by omega))
      exact hnext _ (by (repeat' apply And.intro) <;> first | rfl | trivial | exact congrArg Sum.inl (nI_1 _).symm | exact congrArg Sum.inl (nI_1 _).symm)
    · intro h n p x hh hn hp hF hC hnext
      have hx1 := hF.1
      have ee0 := (fr x.1 hx1).1.1 0 (by decide)
      have hc := cN_lt (h := h) (p := p) (n := n) (by omega) (by omega) (by omega)
      refine gT_go 400 [109] kX1_findLaw ?_
      refine bGe p (A 0) rfl ee0 (fun c => absurd c (by omega)) (fun c => ?_)
      refine gP_use (o_state (d + ht + 4) h p n (gH x.1 x.2 y)) ?_
      refine gT_for (σ := Nat → Nat → Nat → Int32) (pc := 109) (lo := fun k _ => [some gG0, some (gI (nI h)), some (gI (nI n)), some (gI (nI p)), some (gI (nI (cN h p n))), some (gI (nI k))]) (hp := fun _ z => gH z x.2 y) (Inv := fun k z => (∀ c, c ≠ 73 → c ≠ 160 → z c = I c) ∧ (∀ j s, s ≠ cN h p n → z 160 j s = x.1 160 j s) ∧ ∀ j, j < k → z 160 j (cN h p n) = nI (if aEnd A h p n = 0 then gLb A R none j h p n (A 1) else 0)) (A 2) ?_ ?_ 0 x.1 (Nat.zero_le _) ⟨hx1, fun _ _ _ => rfl, fun j hj => absurd hj (Nat.not_lt_zero _)⟩ (by (repeat' apply And.intro) <;> first | rfl | trivial | exact congrArg Sum.inl (nI_1 _).symm | exact congrArg Sum.inl (nI_1 _).symm)
      · intro z ⟨hz1, hz2, hz3⟩
        have zz2 := (fr z hz1).1.1 2 (by decide)
        refine gT_go 400 [87] kX1_findLaw ?_
        refine bGe (A 2) (A 2) rfl zz2 (fun _ => ?_) (fun q => absurd q (by omega))
        refine hnext (z, x.2) _ ⟨hz1, hF.2⟩ (fun h' n' p' b1 b2 b3 b4 k hk => ?_) hz3 (by (repeat' apply And.intro) <;> first | rfl | trivial | exact congrArg Sum.inl (nI_1 _).symm | exact congrArg Sum.inl (nI_1 _).symm)
        rw [← hC h' n' p' b1 b2 b3 b4 k hk]
        refine hz2 k _ (fun e => ?_)
        have b4' : h < h' ∨ (h' = h ∧ (n' < n ∨ (n' = n ∧ p' < p))) := b4
        have := cN_inj (h := h') (h' := h) (by omega) (by omega) (by omega) (by omega) e
        omega
      · intro k z hk ⟨hz1, hz2, hz3⟩ hnext2
        have zz2 := (fr z hz1).1.1 2 (by decide)
        refine gT_go 400 [109] kX1_findLaw ?_
        refine bGe k (A 2) rfl zz2 (fun q => absurd q (by omega)) (fun _ => ?_)
        refine Exists.intro (k) (And.intro rfl (And.intro (show _ < 5 by omega) ?_))
        refine Exists.intro (cN h p n) (And.intro rfl (And.intro (show _ < 3900 by omega) ?_))
        have hw1 : ∀ c, c ≠ 73 → c ≠ 160 → u3 z 160 k (cN h p n) 0 c = I c := fun c c1 c2 => (u3_ne1 c2).trans (hz1 c c1 c2)
        obtain ⟨g1, g2⟩ := fr _ hw1
        have hend := o_endedOf (d + ht + 3) h p n S (by omega) (by omega) (by omega) A hA _ x.2 y g1
        refine gP_use hend ?_
        refine bNe (aEnd A h p n) 0 rfl rfl (fun c => ?_) (fun c => ?_) (by have := aEnd_lt A h p n; omega) (by decide)
        · refine hnext2 (u3 z 160 k (cN h p n) 0) _ ⟨hw1, fun j s hs => (u3_ne3 hs).trans (hz2 j s hs), fun j hj => ?_⟩ (by (repeat' apply And.intro) <;> first | rfl | trivial | exact congrArg Sum.inl (nI_1 _).symm | exact congrArg Sum.inl (nI_1 _).symm)
          by_cases e : j = k
          · rw [e, if_neg c]; exact u3_eq
          · exact (u3_ne (fun q => e q.2.1)).trans (hz3 j (by omega))
        · have hh3 : h < A 3 := by have := (aEnd_0 c).2; omega
          refine gTM_use rfl (o_lawAt d ht k h p n S (by omega) A hA hh3 (by omega) (by omega) R _ x.2 y g1 g2) (fun v h' q => ?_)
          obtain ⟨rfl, I', rfl, q1, q2, q3⟩ := q
          refine hnext2 I' _ ⟨fun c c1 c2 => (q1 c c1 c2).trans (hw1 c c1 c2), fun j s hs => (q2 j s (fun q => hs q.2)).trans ((u3_ne3 hs).trans (hz2 j s hs)), fun j hj => ?_⟩ (by (repeat' apply And.intro) <;> first | rfl | trivial | exact congrArg Sum.inl (nI_1 _).symm | exact congrArg Sum.inl (nI_1 _).symm)
          by_cases e : j = k
          · rw [e, if_pos c]; exact q3
          · exact (q2 j _ (fun q => e q.1)).trans ((u3_ne (fun q => e q.2.1)).trans (hz3 j (by omega)))
  refine gEnter 400 [16] kX1_findLaw rfl rfl ?_
  refine bB0 b hb (fun c => ?_) (fun c => ?_)
  · exact at16 _ ⟨rfl, congrArg (fun z => gI z) e3.symm, trivial⟩
  · refine ⟨rfl, I, L, rfl, fun _ _ _ _ => rfl, fun _ _ => rfl, by rw [hb, c]; rfl, fun _ _ => rfl, hk c⟩
