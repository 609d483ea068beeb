/-! ===== the component: findAlone() ===== -/
theorem gSf_scl {A : Nat → Nat} {S : Nat} {sn : Nat → Bool} {sc sc' : Nat → Int64} {B : Nat → Nat → Nat → Nat} {l : Nat → Bool} {k : Nat} {r : Nat → Int64} {h p n : Nat} (hs : sc h = sc' h) (H : gSf A S sn sc B l k r h p n) : gSf A S sn sc' B l k r h p n := by
  unfold gSf at H ⊢
  rw [← gEn_cg (sc := sc) (sc' := sc') hs]
  exact H
theorem cKl.lw {A : Nat → Nat} {S : Nat} {R : RL} {I : Nat → Nat → Nat → Int32} {L : Nat → Nat → Nat → Int64} (hA : gLd A) (H : cKl A S R I L) : cLw A S (gMw A R none) I := by
  intro k h p n hk hh hp hn he
  have a1 := hA.2.1
  have q := H.1 k h p n hk (by omega) hp hn
  rw [if_pos he] at q
  have h1 := gLb_lt A R none k h p n (A 1)
  have h2 : 2 ^ (A 1 + 1) ≤ 2 ^ 25 := Nat.pow_le_pow_right (by decide) (by omega)
  exact ⟨q, by show gLb A R none k h p n (A 1) < 2 ^ 26; omega, gMv_bit h1⟩
/-- worths alone are known -/
def cKa (A : Nat → Nat) (S : Nat) (R : RL) (L : Nat → Nat → Nat → Int64) : Prop := ∀ k, k < A 2 → gAl A S R none k (vw (fun s => L 162 k s))
set_option maxRecDepth 100000 in
theorem o_findAlone (d ht S : Nat) (A : Nat → Nat) (hA : gLd A) (hA0 : 0 < A 0) (hS : S < 13) (R : RL) (b c : Bool) (I : Nat → Nat → Nat → Int32) (L : Nat → Nat → Nat → Int64) (y : Dy) (hl : cLd y.1 S A I) (hR : cRl R ht I y) (hb : I 60 0 28 = gb b) (hk : b = true → cKl A S R I L) (hc : I 60 0 29 = gb c) (hka : c = true → cKa A S R L) :
    gTM mX1_findAlone (d + ht + 7) (0, 0) [gG0] (gH I L y) (fun v h' => v = [] ∧ ∃ I' L', h' = gH I' L' y ∧ (∀ q, q ≠ 60 → q ≠ 73 → q ≠ 160 → I' q = I q) ∧ (∀ j, j ≠ 28 → j ≠ 29 → I' 60 0 j = I 60 0 j) ∧ I' 60 0 28 = 1 ∧ I' 60 0 29 = 1 ∧ (∀ q, q ≠ 74 → q ≠ 162 → L' q = L q) ∧ cKl A S R I' L' ∧ cKa A S R L') (fun _ _ => False) := by
  have a2 := hA.2.2.1
  refine gEnter 400 [4] kX1_findAlone rfl rfl ?_
  refine gTM_use rfl (o_findLaw d ht S A hA hA0 hS R b I L y hl hR hb hk) (fun v h' q => ?_)
  obtain ⟨rfl, I1, L1, rfl, f1, f2, f3, f4, kl⟩ := q
  have hl1 : cLd y.1 S A I1 := cLd_cg (fun q _ _ => f1 q (by omega) (by omega) (by omega)) hl
  have hc1 : I1 60 0 29 = gb c := (f2 29 (by decide)).trans hc
  have e2 := hl1.1 2 (by decide)
  have at4 : ∀ lo', glle [some gG0, none] lo' → gT mX1_findAlone (d + ht + 7) (0, 0) (fun v h' => v = [] ∧ ∃ I' L', h' = gH I' L' y ∧ (∀ q, q ≠ 60 → q ≠ 73 → q ≠ 160 → I' q = I q) ∧ (∀ j, j ≠ 28 → j ≠ 29 → I' 60 0 j = I 60 0 j) ∧ I' 60 0 28 = 1 ∧ I' 60 0 29 = 1 ∧ (∀ q, q ≠ 74 → q ≠ 162 → L' q = L q) ∧ cKl A S R I' L' ∧ cKa A S R L') (fun _ _ => False) 4 lo' [] (gH I1 L1 y) (0, 0) := by
    intro lo' hl'
    refine gT_lo _ hl' ?_
    refine gT_go 400 [14] kX1_findAlone ?_
    refine bB0 c hc1 (fun cc => ?_) (fun cc => ?_)
    · refine gT_for (σ := Nat → Nat → Nat → Int64) (pc := 14) (lo := fun k _ => [some gG0, some (gI (nI k))]) (hp := fun _ x => gH I1 x y) (Inv := fun k x => (∀ q, q ≠ 162 → x q = L1 q) ∧ ∀ j, j < k → gAl A S R none j (vw (fun s => x 162 j s))) (A 2) ?_ ?_ 0 L1 (Nat.zero_le _) ⟨fun _ _ => rfl, fun j hj => absurd hj (Nat.not_lt_zero _)⟩ (by (repeat' apply And.intro) <;> first | rfl | trivial | exact congrArg Sum.inl (nI_1 _).symm | exact congrArg Sum.inl (nI_1 _).symm)
      · intro x ⟨x1, x2⟩
        refine gT_go 400 [14] kX1_findAlone ?_
        refine bGe (A 2) (A 2) rfl e2 (fun _ => ?_) (fun q => absurd q (by omega))
        refine And.intro (Or.inr rfl) ?_
        refine ⟨rfl, u3 I1 60 0 29 1, x, rfl, fun q q1 q2 q3 => (u3_ne1 q1).trans (f1 q q1 q2 q3), fun j j1 j2 => (u3_ne3 j2).trans (f2 j j1), (u3_ne3 (by decide)).trans f3, u3_eq, fun q q1 q2 => (x1 q q2).trans (f4 q q1), ⟨fun k h p n b1 b2 b3 b4 => ?_, fun h hh => ?_⟩, x2⟩
        · rw [u3_ne1 (by decide)]; exact kl.1 k h p n b1 b2 b3 b4
        · rw [x1 74 (by decide)]; exact kl.2 h hh
      · intro k x hk0 ⟨x1, x2⟩ hnext
        refine gT_go 400 [14] kX1_findAlone ?_
        refine bGe k (A 2) rfl e2 (fun q => absurd q (by omega)) (fun _ => ?_)
        refine gTM_use rfl (o_findAlone0 (d + ht + 1) k A hk0 hA hA0 S hS I1 (gMw A R none) (kl.lw hA) x y hl1) (fun v h' q => ?_)
        obtain ⟨rfl, x', rfl, g1, g2, g3⟩ := q
        refine hnext x' _ ⟨fun q hq => (g1 q hq).trans (x1 q hq), fun j hj => ?_⟩ (by (repeat' apply And.intro) <;> first | rfl | trivial | exact congrArg Sum.inl (nI_1 _).symm | exact congrArg Sum.inl (nI_1 _).symm)
        by_cases e : j = k
        · subst e
          intro h p n b1 b2 b3
          exact gSf_scl (by rw [x1 74 (by decide)]; exact kl.2 h b1) (g3 h p n b1 b2 b3)
        · rw [g2 j e]
          exact x2 j (by omega)
    · refine ⟨rfl, I1, L1, rfl, f1, fun j j1 _ => f2 j j1, f3, hc1.trans (by rw [cc] <;> rfl), fun q q1 _ => f4 q q1, kl, fun k hk0 => ?_⟩
      rw [f4 162 (by decide)]
      exact hka cc k hk0
  exact at4 _ (by (repeat' apply And.intro) <;> first | rfl | trivial | exact congrArg Sum.inl (nI_1 _).symm | exact congrArg Sum.inl (nI_1 _).symm)
