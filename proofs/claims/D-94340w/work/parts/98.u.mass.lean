/-! ===== the component: how heavy it is that each state comes ===== -/
theorem sNn_app {f : Nat → Int64} : ∀ b a, sNn f (a + b) = sNn f a + sNn (fun i => f (a + i)) b := by
  intro b
  induction b with
  | zero => intro a; exact (Int64.add_zero _).symm
  | succ b ih =>
    intro a
    rw [show a + (b + 1) = (a + b) + 1 by omega, sNn, sNn, ih a, Int64.add_assoc]
theorem sNn_zero {f : Nat → Int64} {N : Nat} (h : ∀ n, n < N → f n = 0) : sNn f N = 0 := by
  rw [sNn_cg N (g := fun _ => 0) h, sNn_z]
theorem sNn_blk {f : Nat → Int64} {k : Nat} : ∀ N, sNn f (k * N) = sNn (fun n => sNn (fun p => f (k * n + p)) k) N := by
  intro N
  induction N with
  | zero => rfl
  | succ N ih => rw [Nat.mul_succ, sNn_app, ih, sNn]
theorem sNn_cut {f : Nat → Int64} {a N : Nat} (ha : a ≤ N) (h : ∀ n, a ≤ n → n < N → f n = 0) : sNn f N = sNn f a := by
  obtain ⟨b, rfl⟩ := Nat.exists_eq_add_of_le ha
  rw [sNn_app, sNn_zero (fun n hn => h (a + n) (by omega) (by omega)), Int64.add_zero]
theorem sNn_sw {F : Nat → Nat → Int64} {P : Nat} : ∀ N, sNn (fun n => sNn (fun p => F p n) P) N = sP F N P := by
  intro N
  induction N with
  | zero =>
    have : ∀ P, sP F 0 P = 0 := by
      intro P
      induction P with
      | zero => rfl
      | succ P ih => rw [sP, ih] <;> rfl
    exact (this P).symm
  | succ N ih =>
    rw [sNn, ih]
    have : ∀ P, sP F N P + sNn (fun p => F p N) P = sP F (N + 1) P := by
      intro P
      induction P with
      | zero => rfl
      | succ P ih =>
        rw [sP, sNn, sP, ← ih, sNn]
        grind
    exact this P
section
variable (A : Nat → Nat) (S : Nat) (T : Nat → Nat → Nat → Nat)
/-- the mass of a state by its number -/
def cMa (s : Nat) : Int64 := if s % 12 < A 0 ∧ s / 12 % 13 ≤ S ∧ s / 156 ≤ A 3 then mFl A S T (s / 156) (s % 12) (s / 12 % 13) else 0
/-- what a state gives to another -/
def cGv (s t : Nat) : Int64 := if (s % 12 < A 0 ∧ s / 12 % 13 ≤ S) ∧ t / 156 = s / 156 + 1 then mC1 A S T (cMa A S T s) (s / 156) (s % 12) (s / 12 % 13) (t % 12) (t / 12 % 13) else 0
def cGs (s t : Nat) : Int64 := (if t = cN 0 (A 6) S then 1 else 0) + sNn (fun s' => cGv A S T s' t) s
end
theorem cGs_st {A : Nat → Nat} {S : Nat} {T : Nat → Nat → Nat → Nat} {s t : Nat} : cGs A S T (s + 1) t = cGs A S T s t + cGv A S T s t := by
  unfold cGs
  rw [sNn, Int64.add_assoc]
theorem cGs_ok {A : Nat → Nat} {S : Nat} {T : Nat → Nat → Nat → Nat} (hA : gLg A) (hS : S < 13) (hT : ∀ h p n, h < A 3 → p < A 0 → n ≤ S → aEnd A h p n = 0 → T h p n ≤ A 1) {s t : Nat} (hs : t / 156 * 156 ≤ s) (ht : t < 3900) : cGs A S T s t = cMa A S T t := by
  have a0 := hA.1.1
  have a3 := hA.1.2.2.2.1
  have h6 := hA.2.2.2.2.2.1
  unfold cGs
  by_cases h0 : t / 156 = 0
  · rw [sNn_zero (fun n hn => by unfold cGv; rw [if_neg (by omega)]), Int64.add_zero]
    unfold cMa
    by_cases e : t = cN 0 (A 6) S
    · have e1 : t % 12 = A 6 := by rw [e]; unfold cN; omega
      have e2 : t / 12 % 13 = S := by rw [e]; unfold cN; omega
      rw [if_pos e, if_pos (by omega), h0, e1, e2, mFl, if_pos ⟨rfl, rfl⟩]
    · rw [if_neg e]
      have ne : ¬ (t % 12 = A 6 ∧ t / 12 % 13 = S) := by
        rintro ⟨e1, e2⟩
        refine e ?_
        unfold cN
        omega
      by_cases v : t % 12 < A 0 ∧ t / 12 % 13 ≤ S ∧ t / 156 ≤ A 3
      · rw [if_pos v, h0, mFl, if_neg ne]
      · rw [if_neg v]
  · obtain ⟨h, hh⟩ : ∃ h, t / 156 = h + 1 := ⟨t / 156 - 1, by omega⟩
    have nb : t ≠ cN 0 (A 6) S := by
      intro e
      rw [e] at h0
      refine h0 ?_
      unfold cN
      omega
    rw [if_neg nb, Int64.zero_add]
    have e1 : sNn (fun s' => cGv A S T s' t) s = sNn (fun i => cGv A S T (156 * h + i) t) 156 := by
      obtain ⟨r, hr⟩ := Nat.exists_eq_add_of_le (show 156 * h + 156 ≤ s by omega)
      rw [hr, sNn_app, sNn_app, sNn_zero (N := 156 * h) (fun n hn => by unfold cGv; rw [if_neg (by omega)]), Int64.zero_add, sNn_zero (N := r) (fun n hn => by unfold cGv; rw [if_neg (by omega)]), Int64.add_zero]
    have e2 : sNn (fun i => cGv A S T (156 * h + i) t) 156 = sP (fun p n => cGv A S T (156 * h + (12 * n + p)) t) 13 12 := by
      rw [show (156 : Nat) = 12 * 13 by decide, sNn_blk, sNn_sw]
    have e3 : sP (fun p n => cGv A S T (156 * h + (12 * n + p)) t) 13 12 = sP (fun p n => cGv A S T (156 * h + (12 * n + p)) t) (S + 1) (A 0) := by
      rw [← sNn_sw, ← sNn_sw]
      rw [sNn_cut (a := S + 1) (N := 13) (by omega) (fun n h1 h2 => sNn_zero (fun p hp => by unfold cGv; rw [if_neg (by omega)]))]
      refine sNn_cg _ (fun n hn => ?_)
      exact sNn_cut (a := A 0) (N := 12) (by omega) (fun p h1 h2 => by unfold cGv; rw [if_neg (by omega)])
    rw [e1, e2, e3]
    have e4 : ∀ p n, p < A 0 → n < S + 1 → cGv A S T (156 * h + (12 * n + p)) t = mC1 A S T (cMa A S T (156 * h + (12 * n + p))) h p n (t % 12) (t / 12 % 13) := by
      intro p n hp hn
      unfold cGv
      rw [show (156 * h + (12 * n + p)) % 12 = p by omega, show (156 * h + (12 * n + p)) / 12 % 13 = n by omega, show (156 * h + (12 * n + p)) / 156 = h by omega, if_pos (by omega)]
    rw [sP_cg (A 0) e4]
    by_cases v : t % 12 < A 0 ∧ t / 12 % 13 ≤ S ∧ t / 156 ≤ A 3
    · unfold cMa
      rw [if_pos v, hh, mFl]
      refine sP_cg (A 0) (fun p n hp hn => ?_)
      rw [show (156 * h + (12 * n + p)) % 12 = p by omega, show (156 * h + (12 * n + p)) / 12 % 13 = n by omega, show (156 * h + (12 * n + p)) / 156 = h by omega, if_pos (by omega)]
    · have z : cMa A S T t = 0 := by unfold cMa; rw [if_neg v]
      rw [z, sP_cg (g := fun _ _ => 0) (A 0) (fun p n hp hn => ?_), sP_z]
      by_cases hv : h < A 3
      · unfold mC1
        by_cases e : aEnd A h p n = 0
        · have tm := hT h p n hv hp (by omega) e
          have g := gGo_ltR hA tm hp
          have n1 := aNx_le (A := A) (S := S) (n := n) (t := p) (by omega)
          have n2 := aNx_le (A := A) (S := S) (n := n) (t := gGo A (T h p n) p) (by omega)
          rw [if_pos e, if_neg (by rintro ⟨q1, q2⟩; omega), if_neg (by rintro ⟨q1, q2⟩; omega)]
          rfl
        · rw [if_neg e]
      · have m0 : cMa A S T (156 * h + (12 * n + p)) = 0 ∨ ¬ aEnd A h p n = 0 := by
          rcases Nat.lt_or_ge (A 3) h with w | w
          · refine Or.inl ?_
            unfold cMa
            rw [if_neg (by omega)]
          · have e : h = A 3 := by omega
            exact Or.inr (fun z => (aEnd_0 z).2 e)
        exact mC1_0 m0
theorem cKn_94 {A : Nat → Nat} {S : Nat} {R : RL} {P : PP} {I : Nat → Nat → Nat → Int32} {L L' : Nat → Nat → Nat → Int64} (e : ∀ b, b ≠ 94 → L' b = L b) (H : cKn A S R P I L) : cKn A S R P I L' :=
  ⟨cKl_cg rfl (e 74 (by decide)) H.1, cKa_cg (e 162 (by decide)) H.2.1, cKo_cg (e 163 (by decide)) H.2.2.1, cPl_cg rfl (e 84 (by decide)) (e 85 (by decide)) (e 161 (by decide)) (e 162 (by decide)) (e 163 (by decide)) H.2.2.2⟩
set_option maxRecDepth 100000 in
theorem o_findMass (d : Nat) (V : VS) (hw : gWf V) (hL : vL V = true) (I : Nat → Nat → Nat → Int32) (L : Nat → Nat → Nat → Int64) (y : Dy) (H : cR V I L y) :
    gTM mX1_findMass (d + 609) (0, 0) [gG0] (gH I L y) (fun v h' => v = [] ∧ ∃ I' L', h' = gH I' L' y ∧ cOut I L I' L' ∧ cR V I' L' y ∧ cKn (vA V) (vA V 4) (vR V) (gP0 V) I' L' ∧ ∀ s, s < 3900 → L' 94 0 s = cMa (vA V) (vA V 4) (wM (vA V) (vA V 4) (gMw (vA V) (vR V) none) (gP0 V)) s) (fun _ _ => False) := by
  have hA := hw.2.1 hL
  have hS := vA4 hw
  have a0 := hw.1.1
  have a1 := hw.1.2.1
  have a3 := hw.1.2.2.2.1
  have h6 := hA.2.2.2.2.2.1
  obtain ⟨T, hT⟩ : ∃ T, T = wM (vA V) (vA V 4) (gMw (vA V) (vR V) none) (gP0 V) := ⟨_, rfl⟩
  rw [← hT]
  refine gEnter 400 [6] kX1_findMass rfl rfl ?_
  refine gTM_use rfl (o_findV d V hw hL I L y H) (fun v h' q => ?_)
  obtain ⟨rfl, I1, L1, rfl, fr, H1, kn⟩ := q
  have hl := H1.1.1
  have tk : ∀ h p n, h < vA V 3 → p < vA V 0 → n ≤ vA V 4 → aEnd (vA V) h p n = 0 → ∃ m, m ≤ vA V 1 ∧ I1 86 0 (cN h p n) = nI m ∧ T h p n = m := by
    intro h p n c2 c1 c3 e
    obtain ⟨m, m1, m2, m3⟩ := wT_le hA hS (gPok_V hw hL) kn (by omega) c1 c3 e
    refine ⟨m, m1, m2, ?_⟩
    have q := (kn.w hA hS (gPok_V hw hL) (show h ≤ vA V 3 by omega) c1 c3).1
    rw [m2] at q
    rw [hT]
    unfold wM
    rw [← q, gTo_n (by omega)]
  have tle : ∀ h p n, h < vA V 3 → p < vA V 0 → n ≤ vA V 4 → aEnd (vA V) h p n = 0 → T h p n ≤ vA V 1 := fun h p n c2 c1 c3 e => by
    obtain ⟨m, m1, m2, m3⟩ := tk h p n c2 c1 c3 e
    rw [m3]; exact m1
  refine gT_for (σ := Nat → Nat → Nat → Int64) (pc := 6) (lo := fun i _ => [some gG0, some (gI (nI i)), none, none, none, none, none]) (hp := fun _ x => gH I1 x y) (Inv := fun i x => (∀ b, b ≠ 94 → x b = L1 b) ∧ ∀ t, t < i → x 94 0 t = if t = cN 0 (vA V 6) (vA V 4) then 1 else 0) 3900 ?_ ?_ 0 L1 (Nat.zero_le _) ⟨fun _ _ => rfl, fun t ht => absurd ht (Nat.not_lt_zero _)⟩ (by (repeat' apply And.intro) <;> first | rfl | trivial | exact congrArg Sum.inl (nI_1 _).symm | exact congrArg Sum.inl (nI_1 _).symm)
  · intro x ⟨x1, x2⟩
    refine gT_go 400 [40] kX1_findMass ?_
    refine bGe 3900 3900 rfl rfl (fun _ => ?_) (fun q => absurd q (by omega))
    refine gT_for (σ := Nat → Nat → Nat → Int64) (pc := 40) (lo := fun s _ => [some gG0, some (gI (nI s)), none, none, none, none, none]) (hp := fun _ x => gH I1 x y) (Inv := fun s x => (∀ b, b ≠ 94 → x b = L1 b) ∧ ∀ t, t < 3900 → x 94 0 t = cGs (vA V) (vA V 4) T s t) 3900 ?_ ?_ 0 x (Nat.zero_le _) ⟨x1, fun t ht => (x2 t ht).trans (Int64.add_zero _).symm⟩ (by (repeat' apply And.intro) <;> first | rfl | trivial | exact congrArg Sum.inl (nI_1 _).symm | exact congrArg Sum.inl (nI_1 _).symm)
    · intro x ⟨x1, x2⟩
      refine gT_go 400 [] kX1_findMass ?_
      refine bGe 3900 3900 rfl rfl (fun _ => ?_) (fun q => absurd q (by omega))
      exact ⟨rfl, I1, x, rfl, fr.out.tr (fun b c1 c2 => ⟨rfl, x1 b (by omega)⟩), cR_L H1 (fun b hb => x1 b (by omega)), cKn_94 x1 kn, fun s hs => (x2 s hs).trans (cGs_ok hA hS tle (by omega) hs)⟩
    · intro s x hs ⟨x1, x2⟩ hnext
      obtain ⟨h, p, n, hsd, hp, hn⟩ : ∃ h p n, s = cN h p n ∧ p < 12 ∧ n < 13 := ⟨_, _, _, cN_dec s, Nat.mod_lt _ (by decide), Nat.mod_lt _ (by decide)⟩
      have hh : h < 25 := by rw [hsd] at hs; unfold cN at hs; omega
      have s1 : s % 12 = p := by rw [hsd]; exact cN_p hp
      have s2 : s / 12 % 13 = n := by rw [hsd]; exact cN_n hp hn
      have s3 : s / 156 = h := by rw [hsd]; unfold cN; omega
      have xs : x 94 0 s = cMa (vA V) (vA V 4) T s := (x2 s hs).trans (cGs_ok hA hS tle (by omega) hs)
      have at177 : ∀ (z : Nat → Nat → Nat → Int64) (lo' : Lo), (∀ b, b ≠ 94 → z b = L1 b) → (∀ t, t < 3900 → z 94 0 t = cGs (vA V) (vA V 4) T s t + cGv (vA V) (vA V 4) T s t) → glle [some gG0, some (gI (nI s)), none, none, none, none, none] lo' → gT mX1_findMass (d + 609) (0, 0) (fun v h' => v = [] ∧ ∃ I' L', h' = gH I' L' y ∧ cOut I L I' L' ∧ cR V I' L' y ∧ cKn (vA V) (vA V 4) (vR V) (gP0 V) I' L' ∧ ∀ s, s < 3900 → L' 94 0 s = cMa (vA V) (vA V 4) T s) (fun _ _ => False) 177 lo' [] (gH I1 z y) (0, 0) := by
        intro z lo' z1 z2 hl'
        refine gT_lo _ hl' ?_
        refine gT_go 400 [40] kX1_findMass ?_
        exact hnext z _ ⟨z1, fun t ht => (z2 t ht).trans cGs_st.symm⟩ (by (repeat' apply And.intro) <;> first | rfl | trivial | exact congrArg Sum.inl (nI_1 _).symm | exact congrArg Sum.inl (nI_1 _).symm)
      have none0 : (cMa (vA V) (vA V 4) T s = 0 ∨ ¬ aEnd (vA V) h p n = 0) → ∀ t, t < 3900 → x 94 0 t = cGs (vA V) (vA V 4) T s t + cGv (vA V) (vA V 4) T s t := by
        intro e t ht
        have z : cGv (vA V) (vA V 4) T s t = 0 := by
          unfold cGv
          by_cases c : (s % 12 < vA V 0 ∧ s / 12 % 13 ≤ vA V 4) ∧ t / 156 = s / 156 + 1
          · rw [if_pos c, s1, s2, s3]
            exact mC1_0 e
          · rw [if_neg c]
        rw [z, Int64.add_zero]
        exact x2 t ht
      refine gT_go 400 [102, 177] kX1_findMass ?_
      refine bGe s 3900 rfl rfl (fun q => absurd q (by omega)) (fun _ => ?_)
      refine Exists.intro (s) (And.intro rfl (And.intro (show _ < 3900 by omega) ?_))
      refine And.intro (fun c => ?_) (fun c => ?_)
      · have c' : x 94 0 s = 0 := (gcmp_eq _ _).mp c
        exact at177 x _ x1 (none0 (Or.inl (xs.symm.trans c'))) (by (repeat' apply And.intro) <;> first | rfl | trivial | exact congrArg Sum.inl (nI_1 _).symm | exact congrArg Sum.inl (nI_1 _).symm)
      · have c' : ¬ cMa (vA V) (vA V 4) T s = 0 := fun q => c ((gcmp_eq _ _).mpr (xs.trans q))
        have val : p < vA V 0 ∧ n ≤ vA V 4 ∧ h ≤ vA V 3 := by
          by_cases v : s % 12 < vA V 0 ∧ s / 12 % 13 ≤ vA V 4 ∧ s / 156 ≤ vA V 3
          · rw [s1, s2, s3] at v; exact v
          · exact absurd (by unfold cMa; rw [if_neg v]) c'
        refine gP_use (gP_eq (by rw [← hsd]) (o_endedOf (d + 606) h p n (vA V 4) hh hp hn (vA V) hw.1 I1 x y hl)) ?_
        refine bEq (aEnd (vA V) h p n) 0 rfl rfl (fun e => ?_) (fun e => ?_) (by have := aEnd_lt (vA V) h p n; omega) (by decide)
        · have hh3 : h < vA V 3 := by have := (aEnd_0 e).2; omega
          have hn0 := (aEnd_0 e).1
          obtain ⟨m, m1, m2, m3⟩ := tk h p n hh3 val.1 val.2.1 e
          rw [← hsd] at m2
          obtain ⟨c0, hc0⟩ : ∃ c0, c0 = eSn (vA V) m h := ⟨_, rfl⟩
          have cpt := eSn_pt hw.1 m1 hh3
          rw [← hc0] at cpt
          have hbm := o_behind (d + 606) h p n m (vA V 4) (by omega) hp hn hn0 (by omega) hS (vA V) hw.1 I1
          have hb0 := o_behind (d + 606) h p n 0 (vA V 4) (by omega) hp hn hn0 (by omega) hS (vA V) hw.1 I1
          rw [← hsd] at hbm hb0
          have cbm := cBh_lt (n := n) hw.1 (show h < 24 by omega) hp hn (show m ≤ 24 by omega) hS
          have cb0 := cBh_lt (n := n) hw.1 (show h < 24 by omega) hp hn (show 0 ≤ 24 by omega) hS
          have bs : ∀ m, m ≤ 24 → cBh (vA V) (vA V 4) h p n m ≠ s := fun m hm q => by
            rw [hsd] at q
            have := cN_up (h := h) (p := p) (n := n) (t := aMv (vA V) p m) (j := aNx (vA V) (vA V 4) n (aMv (vA V) p m)) hp hn
            unfold cBh at q
            omega
          obtain ⟨M, hM⟩ : ∃ M, M = cMa (vA V) (vA V 4) T s := ⟨_, rfl⟩
          have gv : ∀ t, t < 3900 → cGv (vA V) (vA V 4) T s t = (if t = cBh (vA V) (vA V 4) h p n 0 then M * lN c0 else 0) + (if t = cBh (vA V) (vA V 4) h p n m then M * lN (ePt (vA V) h - c0) else 0) := by
            intro t ht
            have dec : ∀ q, q ≤ 24 → ((t % 12 = aMv (vA V) p q ∧ t / 12 % 13 = aNx (vA V) (vA V 4) n (aMv (vA V) p q)) ∧ t / 156 = h + 1 ↔ t = cBh (vA V) (vA V 4) h p n q) := by
              intro q hq
              have l1 := aMv_lt hw.1 hp hq
              have l2 := aNx_lt (A := vA V) (t := aMv (vA V) p q) hS hn
              unfold cBh cN
              constructor
              · rintro ⟨⟨q1, q2⟩, q3⟩; omega
              · intro q1; omega
            have d0 := dec 0 (by omega)
            have dm := dec m (by omega)
            have p0 : aMv (vA V) p 0 = p := rfl
            rw [p0] at d0
            unfold cGv
            rw [s1, s2, s3, ← hM]
            by_cases c : t / 156 = h + 1
            · rw [if_pos ⟨⟨val.1, val.2.1⟩, c⟩]
              unfold mC1
              rw [if_pos e, m3, ← hc0]
              have i0 : (t % 12 = p ∧ t / 12 % 13 = aNx (vA V) (vA V 4) n p) ↔ t = cBh (vA V) (vA V 4) h p n 0 := ⟨fun w => d0.mp ⟨w, c⟩, fun w => (d0.mpr w).1⟩
              have im : (t % 12 = gGo (vA V) m p ∧ t / 12 % 13 = aNx (vA V) (vA V 4) n (gGo (vA V) m p)) ↔ t = cBh (vA V) (vA V 4) h p n m := ⟨fun w => dm.mp ⟨w, c⟩, fun w => (dm.mpr w).1⟩
              by_cases w0 : t = cBh (vA V) (vA V 4) h p n 0
              · rw [if_pos (i0.mpr w0), if_pos w0]
                by_cases wm : t = cBh (vA V) (vA V 4) h p n m
                · rw [if_pos (im.mpr wm), if_pos wm]
                · rw [if_neg (fun w => wm (im.mp w)), if_neg wm]
              · rw [if_neg (fun w => w0 (i0.mp w)), if_neg w0]
                by_cases wm : t = cBh (vA V) (vA V 4) h p n m
                · rw [if_pos (im.mpr wm), if_pos wm]
                · rw [if_neg (fun w => wm (im.mp w)), if_neg wm]
            · rw [if_neg (fun w => c w.2), if_neg (fun w => c (d0.mpr w).2), if_neg (fun w => c (dm.mpr w).2)]
              rfl
          have at119 : ∀ (g : Int64) (lo' : Lo), g = lN (ePt (vA V) h) → glle [some gG0, some (gI (nI s)), some (gI (nI m)), some (gI (nI h)), some (gI (nI c0)), none, none] lo' → gT mX1_findMass (d + 609) (0, 0) (fun v h' => v = [] ∧ ∃ I' L', h' = gH I' L' y ∧ cOut I L I' L' ∧ cR V I' L' y ∧ cKn (vA V) (vA V 4) (vR V) (gP0 V) I' L' ∧ ∀ s, s < 3900 → L' 94 0 s = cMa (vA V) (vA V 4) T s) (fun _ _ => False) 119 lo' [gL g] (gH I1 x y) (0, 0) := by
            intro g lo' hg hl'
            subst hg
            refine gT_lo _ hl' ?_
            refine gT_go 400 [177] kX1_findMass ?_
            refine gP_use (hbm x y hl) ?_
            refine Exists.intro (cBh (vA V) (vA V 4) h p n m) (And.intro rfl (And.intro (show _ < 3900 by omega) ?_))
            refine Exists.intro (s) (And.intro rfl (And.intro (show _ < 3900 by omega) ?_))
            refine Exists.intro (cBh (vA V) (vA V 4) h p n m) (And.intro rfl (And.intro (show _ < 3900 by omega) ?_))
            have v1 : (lN (ePt (vA V) h) - (nI c0).toInt64) * x 94 0 s = M * lN (ePt (vA V) h - c0) := by
              rw [nI_l (show c0 < 2 ^ 31 by omega), lN_sub cpt.1, xs, ← hM, Int64.mul_comm]
            have xs1 : u3 x 94 0 (cBh (vA V) (vA V 4) h p n m) (x 94 0 (cBh (vA V) (vA V 4) h p n m) + (lN (ePt (vA V) h) - (nI c0).toInt64) * x 94 0 s) 94 0 s = M := (u3_ne3 (fun q => bs m (by omega) q.symm)).trans (xs.trans hM.symm)
            refine bLe c0 0 rfl rfl (fun c => ?_) (fun c => ?_)
            · refine at177 _ _ (fun b hb => (u3_ne1 hb).trans (x1 b hb)) (fun t ht => ?_) (by (repeat' apply And.intro) <;> first | rfl | trivial | exact congrArg Sum.inl (nI_1 _).symm | exact congrArg Sum.inl (nI_1 _).symm)
              have c00 : c0 = 0 := by omega
              rw [gv t ht]
              by_cases w : t = cBh (vA V) (vA V 4) h p n m
              · rw [w]
                refine u3_eq.trans ?_
                show x 94 0 (cBh (vA V) (vA V 4) h p n m) + (lN (ePt (vA V) h) - (nI c0).toInt64) * x 94 0 s = _
                rw [v1, if_pos rfl, x2 _ cbm, c00]
                show _ + _ = _ + ((if _ then M * (0 : Int64) else 0) + _)
                rw [Int64.mul_zero, ite_self, Int64.zero_add]
              · refine (u3_ne3 w).trans ?_
                show x 94 0 t = _
                rw [if_neg w, x2 t ht, c00]
                show _ = _ + ((if _ then M * (0 : Int64) else 0) + 0)
                rw [Int64.mul_zero, ite_self, Int64.zero_add, Int64.add_zero]
            · refine gP_use (hb0 _ y hl) ?_
              refine Exists.intro (cBh (vA V) (vA V 4) h p n 0) (And.intro rfl (And.intro (show _ < 3900 by omega) ?_))
              refine Exists.intro (s) (And.intro rfl (And.intro (show _ < 3900 by omega) ?_))
              refine Exists.intro (cBh (vA V) (vA V 4) h p n 0) (And.intro rfl (And.intro (show _ < 3900 by omega) ?_))
              refine at177 _ _ (fun b hb => (u3_ne1 hb).trans ((u3_ne1 hb).trans (x1 b hb))) (fun t ht => ?_) (by (repeat' apply And.intro) <;> first | rfl | trivial | exact congrArg Sum.inl (nI_1 _).symm | exact congrArg Sum.inl (nI_1 _).symm)
              rw [gv t ht]
              have v2 : (nI c0).toInt64 * u3 x 94 0 (cBh (vA V) (vA V 4) h p n m) (x 94 0 (cBh (vA V) (vA V 4) h p n m) + (lN (ePt (vA V) h) - (nI c0).toInt64) * x 94 0 s) 94 0 s = M * lN c0 := by
                rw [xs1, nI_l (show c0 < 2 ^ 31 by omega), Int64.mul_comm]
              by_cases w0 : t = cBh (vA V) (vA V 4) h p n 0
              · rw [w0]
                refine u3_eq.trans ?_
                show u3 x 94 0 (cBh (vA V) (vA V 4) h p n m) (x 94 0 (cBh (vA V) (vA V 4) h p n m) + (lN (ePt (vA V) h) - (nI c0).toInt64) * x 94 0 s) 94 0 (cBh (vA V) (vA V 4) h p n 0) + (nI c0).toInt64 * u3 x 94 0 (cBh (vA V) (vA V 4) h p n m) (x 94 0 (cBh (vA V) (vA V 4) h p n m) + (lN (ePt (vA V) h) - (nI c0).toInt64) * x 94 0 s) 94 0 s = _
                rw [v2, if_pos rfl]
                by_cases w : cBh (vA V) (vA V 4) h p n 0 = cBh (vA V) (vA V 4) h p n m
                · rw [w, if_pos rfl, u3_eq, v1, x2 _ cbm]
                  grind
                · rw [if_neg w, u3_ne3 w, x2 _ cb0]
                  grind
              · refine (u3_ne3 w0).trans ?_
                show u3 x 94 0 (cBh (vA V) (vA V 4) h p n m) (x 94 0 (cBh (vA V) (vA V 4) h p n m) + (lN (ePt (vA V) h) - (nI c0).toInt64) * x 94 0 s) 94 0 t = _
                rw [if_neg w0]
                by_cases w : t = cBh (vA V) (vA V 4) h p n m
                · rw [w, if_pos rfl, u3_eq, v1, x2 _ cbm]
                  grind
                · rw [if_neg w, u3_ne3 w, x2 t ht]
                  grind
          have at102 : ∀ (v : Int32) (lo' : Lo), v = nI c0 → glle [some gG0, some (gI (nI s)), some (gI (nI m)), some (gI (nI h)), none, none, none] lo' → gT mX1_findMass (d + 609) (0, 0) (fun v h' => v = [] ∧ ∃ I' L', h' = gH I' L' y ∧ cOut I L I' L' ∧ cR V I' L' y ∧ cKn (vA V) (vA V 4) (vR V) (gP0 V) I' L' ∧ ∀ s, s < 3900 → L' 94 0 s = cMa (vA V) (vA V 4) T s) (fun _ _ => False) 102 lo' [gI v] (gH I1 x y) (0, 0) := by
            intro v lo' hv hl'
            subst hv
            refine gT_lo _ hl' ?_
            refine gT_go 400 [119] kX1_findMass ?_
            refine gP_use (o_isSnowy (d + 607) h (vA V 4) hh (vA V) hw.1 I1 x y hl) ?_
            refine bB0 (gSn (vA V) h) rfl (fun c => ?_) (fun c => ?_)
            · exact at119 _ _ (by unfold ePt; rw [c] <;> rfl) (by (repeat' apply And.intro) <;> first | rfl | trivial | exact congrArg Sum.inl (nI_1 _).symm | exact congrArg Sum.inl (nI_1 _).symm)
            · exact at119 _ _ (by unfold ePt; rw [c] <;> rfl) (by (repeat' apply And.intro) <;> first | rfl | trivial | exact congrArg Sum.inl (nI_1 _).symm | exact congrArg Sum.inl (nI_1 _).symm)
          refine Exists.intro (s) (And.intro rfl (And.intro (show _ < 3900 by omega) ?_))
          refine gP_use (gP_eq (by rw [← hsd]) (o_hourOf (d + 607) h p n hh hp hn (gH I1 x y))) ?_
          refine bNe m 0 m2 rfl (fun c => ?_) (fun c => ?_)
          · refine Exists.intro (m - 1) (And.intro (by show I1 86 0 s - 1 = _; rw [m2]; exact pk_sub (b := 1) (by omega)) (And.intro (show m - 1 < 24 by omega) ?_))
            refine Exists.intro (h) (And.intro rfl (And.intro (show _ < 24 by omega) ?_))
            exact at102 _ _ (by rw [hc0]; unfold eSn; rw [if_neg c]; exact hl.2.2.2.2.2.2.2.2.1 (m - 1) h (by omega) (by omega)) ⟨rfl, rfl, congrArg (fun q => gI q) m2.symm, rfl, trivial⟩
          · exact at102 _ _ (by rw [hc0]; unfold eSn; rw [if_pos c] <;> rfl) ⟨rfl, rfl, congrArg (fun q => gI q) m2.symm, rfl, trivial⟩
        · exact at177 x _ x1 (none0 (Or.inr e)) (by (repeat' apply And.intro) <;> first | rfl | trivial | exact congrArg Sum.inl (nI_1 _).symm | exact congrArg Sum.inl (nI_1 _).symm)
  · intro i x hi ⟨x1, x2⟩ hnext
    have at31 : ∀ (v : Int64) (lo' : Lo), v = (if i = cN 0 (vA V 6) (vA V 4) then 1 else 0) → glle [some gG0, some (gI (nI i)), none, none, none, none, none] lo' → gT mX1_findMass (d + 609) (0, 0) (fun v h' => v = [] ∧ ∃ I' L', h' = gH I' L' y ∧ cOut I L I' L' ∧ cR V I' L' y ∧ cKn (vA V) (vA V 4) (vR V) (gP0 V) I' L' ∧ ∀ s, s < 3900 → L' 94 0 s = cMa (vA V) (vA V 4) T s) (fun _ _ => False) 31 lo' [gL v, gI (nI i), gR (some (94, 0))] (gH I1 x y) (0, 0) := by
      intro v lo' hv hl'
      refine gT_lo _ hl' ?_
      refine gT_go 400 [6] kX1_findMass ?_
      refine Exists.intro (i) (And.intro rfl (And.intro (show _ < 3900 by omega) ?_))
      refine hnext _ _ ⟨fun b hb => (u3_ne1 hb).trans (x1 b hb), fun t ht => ?_⟩ (by (repeat' apply And.intro) <;> first | rfl | trivial | exact congrArg Sum.inl (nI_1 _).symm | exact congrArg Sum.inl (nI_1 _).symm)
      by_cases e : t = i
      · subst e; exact u3_eq.trans hv
      · exact (u3_ne3 e).trans (x2 t (by omega))
    refine gT_go 400 [31] kX1_findMass ?_
    refine bGe i 3900 rfl rfl (fun q => absurd q (by omega)) (fun _ => ?_)
    refine gP_use (o_begin (d + 606) V I1 x y hl) ?_
    refine bNe i (cN 0 (vA V 6) (vA V 4)) rfl rfl (fun c => ?_) (fun c => ?_) (by omega) (by have := cN_lt (show 0 < 25 by decide) (show vA V 6 < 12 by omega) hS; omega)
    · exact at31 _ _ (if_neg c).symm (by (repeat' apply And.intro) <;> first | rfl | trivial | exact congrArg Sum.inl (nI_1 _).symm | exact congrArg Sum.inl (nI_1 _).symm)
    · exact at31 _ _ (if_pos c).symm (by (repeat' apply And.intro) <;> first | rfl | trivial | exact congrArg Sum.inl (nI_1 _).symm | exact congrArg Sum.inl (nI_1 _).symm)
