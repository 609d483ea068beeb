/-! ===== the component: states that come are marked ===== -/
theorem cN_dec (s : Nat) : s = cN (s / 156) (s % 12) (s / 12 % 13) := by unfold cN; omega
theorem cN_up {h p n t j : Nat} (hp : p < 12) (hn : n < 13) : cN h p n < cN (h + 1) t j := by unfold cN; omega
theorem cN_hr {h p n h' : Nat} (hh : h < h') (hp : p < 12) (hn : n < 13) : cN h p n < cN h' 0 0 := by unfold cN; omega
/-- the marks are those of Q -/
def cMk (x : Nat → Nat → Nat → Int32) (Q : Nat → Prop) : Prop := ∀ t, t < 3900 → x 87 0 t = gb (dP (Q t))
theorem cMk_cg {x : Nat → Nat → Nat → Int32} {Q Q' : Nat → Prop} (h : ∀ t, t < 3900 → (Q t ↔ Q' t)) (H : cMk x Q) : cMk x Q' := fun t ht => (H t ht).trans (congrArg gb (dP_cg (h t ht)))
theorem cMk_put {x : Nat → Nat → Nat → Int32} {Q : Nat → Prop} {t0 : Nat} (H : cMk x Q) : cMk (u3 x 87 0 t0 1) (fun t => Q t ∨ t = t0) := by
  intro t ht
  by_cases e : t = t0
  · subst e
    rw [dP_t (Or.inr rfl)]
    exact u3_eq
  · refine (u3_ne3 e).trans ((H t ht).trans (congrArg gb (dP_cg ⟨Or.inl, fun q => q.resolve_right e⟩)))
section
variable {A : Nat → Nat} {S : Nat} {B : Nat → Nat → Nat → Nat} {cl : Bool} {h0 p0 n0 : Nat}
/-- comes from a state before s -/
def cMs (A : Nat → Nat) (S : Nat) (B : Nat → Nat → Nat → Nat) (cl : Bool) (h0 p0 n0 s t : Nat) : Prop :=
  t = cN h0 p0 n0 ∨ ∃ i p n t' j', p < A 0 ∧ n ≤ S ∧ cN (h0 + i) p n < s ∧ rE A S B cl h0 p0 n0 i p n ∧ aEnd A (h0 + i) p n = 0 ∧ eTo A S B cl (h0 + i) p n t' j' ∧ t = cN (h0 + i + 1) t' j'
def cRc (A : Nat → Nat) (S : Nat) (B : Nat → Nat → Nat → Nat) (cl : Bool) (h0 p0 n0 t : Nat) : Prop := ∃ i p n, t = cN (h0 + i) p n ∧ rE A S B cl h0 p0 n0 i p n
theorem eTo_ok (hA : gLg A) {h p n t j : Nat} (hp : p < A 0) (hn : n ≤ S) (H : eTo A S B cl h p n t j) : t < A 0 ∧ j ≤ S := by
  obtain ⟨m, m1, -, q, rfl⟩ := H
  refine ⟨?_, aNx_le hn⟩
  rcases q with q | q
  · rw [q.2]; exact gGo_ltR hA m1 hp
  · rw [q.2]; exact hp
theorem rE_ok (hA : gLg A) (hp0 : p0 < A 0) (hn0 : n0 ≤ S) : ∀ i t j, rE A S B cl h0 p0 n0 i t j → t < A 0 ∧ j ≤ S := by
  intro i
  cases i with
  | zero => intro t j H; obtain ⟨rfl, rfl⟩ := H; exact ⟨hp0, hn0⟩
  | succ i => intro t j H; obtain ⟨p, n, b1, b3, -, -, q⟩ := H; exact eTo_ok hA b1 b3 q
theorem cMs_i {s t : Nat} (H : cMs A S B cl h0 p0 n0 s t) : cRc A S B cl h0 p0 n0 t := by
  rcases H with e | ⟨i, p, n, t', j', b1, b3, -, r, e, q, rfl⟩
  · exact ⟨0, p0, n0, e, rfl, rfl⟩
  · exact ⟨i + 1, t', j', rfl, p, n, b1, b3, r, e, q⟩
/-- every state that comes, comes from one before it -/
theorem cRc_i (hA : gLg A) (hS : S < 13) {s t : Nat} (hs : ∀ h p n, p < A 0 → n ≤ S → aEnd A h p n = 0 → (∃ t' j', t = cN (h + 1) t' j') → h < A 3 → cN h p n < s) (h3 : h0 ≤ A 3) (H : cRc A S B cl h0 p0 n0 t) : cMs A S B cl h0 p0 n0 s t := by
  obtain ⟨i, p, n, e, r⟩ := H
  cases i with
  | zero => obtain ⟨rfl, rfl⟩ := r; exact Or.inl e
  | succ i =>
    obtain ⟨p', n', b1, b3, r', e', q⟩ := r
    have hb : ∀ i p n, rE A S B cl h0 p0 n0 i p n → h0 + i ≤ A 3 := by
      intro i
      induction i with
      | zero => intro p n _; exact h3
      | succ i ih =>
        intro p n r
        obtain ⟨p', n', _, _, r', e', _⟩ := r
        have := ih p' n' r'
        have := (aEnd_0 e').2
        omega
    have := hb i p' n' r'
    have := (aEnd_0 e').2
    exact Or.inr ⟨i, p', n', p, n, b1, b3, hs _ p' n' b1 b3 e' ⟨p, n, e⟩ (by omega), r', e', q, e⟩
theorem rE_hr (h3 : h0 ≤ A 3) : ∀ i p n, rE A S B cl h0 p0 n0 i p n → h0 + i ≤ A 3 := by
  intro i
  induction i with
  | zero => intro p n _; exact h3
  | succ i ih =>
    intro p n r
    obtain ⟨p', n', _, _, r', e', _⟩ := r
    have := ih p' n' r'
    have := (aEnd_0 e').2
    omega
end
set_option maxRecDepth 100000 in
theorem o_marks (d : Nat) (V : VS) (hw : gWf V) (hL : vL V = true) (cl : Bool) (h0 p0 n0 : Nat) (hh0 : h0 ≤ vA V 3) (hp0 : p0 < vA V 0) (hn0 : n0 ≤ vA V 4) (I : Nat → Nat → Nat → Int32) (L : Nat → Nat → Nat → Int64) (y : Dy) (H : cR V I L y) (kl : cKl (vA V) (vA V 4) (vR V) I L) :
    gTM mX1_marks (d + 3) (0, 0) [gG0, gI (nI (cN h0 p0 n0)), gI (gb cl)] (gH I L y) (fun v h' => v = [] ∧ ∃ I', h' = gH I' L y ∧ (∀ b, b ≠ 87 → I' b = I b) ∧ cMk I' (cRc (vA V) (vA V 4) (xMay V (gP0 V)) cl h0 p0 n0)) (fun _ _ => False) := by
  have hA := hw.2.1 hL
  have hS := vA4 hw
  have a0 := hw.1.1
  have a1 := hw.1.2.1
  have a2 := hw.1.2.2.1
  have a3 := hw.1.2.2.2.1
  have hl := H.1.1
  have fr : ∀ x : Nat → Nat → Nat → Int32, (∀ b, b ≠ 87 → x b = I b) → cLd y.1 (vA V 4) (vA V) x := fun x hx => cLd_cg2 (fun b b1 b2 => hx b (by omega)) hl
  have hc0 := cN_lt (show h0 < 25 by omega) (show p0 < 12 by omega) (show n0 < 13 by omega)
  obtain ⟨E, hE⟩ : ∃ E, E = cN (vA V 3) 0 0 := ⟨_, rfl⟩
  obtain ⟨N, hN⟩ : ∃ N, N = max (cN h0 p0 n0) E := ⟨_, rfl⟩
  have hE39 : E ≤ 3744 := by rw [hE]; unfold cN; omega
  refine gEnter 400 [2] kX1_marks rfl rfl ?_
  refine gT_for (σ := Nat → Nat → Nat → Int32) (pc := 2) (lo := fun i _ => [some gG0, some (gI (nI (cN h0 p0 n0))), some (gI (gb cl)), some (gI (nI i)), none, none, none]) (hp := fun _ x => gH x L y) (Inv := fun i x => (∀ b, b ≠ 87 → x b = I b) ∧ ∀ t, t < i → x 87 0 t = gb (dP (t = cN h0 p0 n0))) 3900 ?_ ?_ 0 I (Nat.zero_le _) ⟨fun _ _ => rfl, fun t ht => absurd ht (Nat.not_lt_zero _)⟩ (by (repeat' apply And.intro) <;> first | rfl | trivial | exact congrArg Sum.inl (nI_1 _).symm | exact congrArg Sum.inl (nI_1 _).symm)
  · intro x ⟨x1, x2⟩
    have m0 : cMk x (cMs (vA V) (vA V 4) (xMay V (gP0 V)) cl h0 p0 n0 (cN h0 p0 n0)) := by
      refine cMk_cg (fun t ht => ⟨Or.inl, fun q => ?_⟩) x2
      rcases q with q | ⟨i, p, n, t', j', b1, b3, lt, re, -⟩
      · exact q
      · cases i with
        | zero =>
          obtain ⟨rfl, rfl⟩ := re
          exact absurd lt (Nat.lt_irrefl _)
        | succ i => unfold cN at lt; omega
    refine gT_go 400 [33] kX1_marks ?_
    refine bGe 3900 3900 rfl rfl (fun _ => ?_) (fun q => absurd q (by omega))
    refine gT_for (σ := Nat → Nat → Nat → Int32) (pc := 33) (lo := fun s _ => [some gG0, some (gI (nI (cN h0 p0 n0))), some (gI (gb cl)), some (gI (nI s)), none, none, none]) (hp := fun _ x => gH x L y) (Inv := fun s x => cN h0 p0 n0 ≤ s ∧ (∀ b, b ≠ 87 → x b = I b) ∧ cMk x (cMs (vA V) (vA V 4) (xMay V (gP0 V)) cl h0 p0 n0 s)) N ?_ ?_ (cN h0 p0 n0) x (by omega) ⟨Nat.le_refl _, x1, m0⟩ (by (repeat' apply And.intro) <;> first | rfl | trivial | exact congrArg Sum.inl (nI_1 _).symm | exact congrArg Sum.inl (nI_1 _).symm)
    · intro x ⟨_, x1, x2⟩
      refine gT_go 400 [] kX1_marks ?_
      refine gP_use (gP_eq (by rw [← (fr x x1).1 3 (by decide)] <;> rfl) (o_state (d + 1) (vA V 3) 0 0 (gH x L y))) ?_
      refine bGe N E rfl (by rw [hE]) (fun _ => ?_) (fun q => absurd q (by omega))
      refine ⟨rfl, x, rfl, x1, cMk_cg (fun t ht => ⟨cMs_i, fun q => cRc_i hA hS (fun h p n b1 b3 e _ hh => ?_) hh0 q⟩) x2⟩
      have := cN_hr (h' := vA V 3) hh (show p < 12 by omega) (show n < 13 by omega)
      omega
    · intro s x hs ⟨xs, x1, x2⟩ hnext
      have sE : s < E := by omega
      have f1 := fr x x1
      obtain ⟨h, p, n, hsd, hp, hn⟩ : ∃ h p n, s = cN h p n ∧ p < 12 ∧ n < 13 := ⟨_, _, _, cN_dec s, Nat.mod_lt _ (by decide), Nat.mod_lt _ (by decide)⟩
      have hh : h < vA V 3 := by
        have : cN h p n < cN (vA V 3) 0 0 := by rw [← hsd, ← hE]; exact sE
        unfold cN at this
        omega
      have hc := cN_lt (show h < 25 by omega) hp hn
      have at194 : ∀ (z : Nat → Nat → Nat → Int32) (lo' : Lo), (∀ b, b ≠ 87 → z b = I b) → cMk z (cMs (vA V) (vA V 4) (xMay V (gP0 V)) cl h0 p0 n0 (s + 1)) → glle [some gG0, some (gI (nI (cN h0 p0 n0))), some (gI (gb cl)), some (gI (nI s)), none, none, none] lo' → gT mX1_marks (d + 3) (0, 0) (fun v h' => v = [] ∧ ∃ I', h' = gH I' L y ∧ (∀ b, b ≠ 87 → I' b = I b) ∧ cMk I' (cRc (vA V) (vA V 4) (xMay V (gP0 V)) cl h0 p0 n0)) (fun _ _ => False) 194 lo' [] (gH z L y) (0, 0) := by
        intro z lo' z1 z2 hl'
        refine gT_lo _ hl' ?_
        refine gT_go 400 [33] kX1_marks ?_
        exact hnext z _ ⟨by omega, z1, z2⟩ (by (repeat' apply And.intro) <;> first | rfl | trivial | exact congrArg Sum.inl (nI_1 _).symm | exact congrArg Sum.inl (nI_1 _).symm)
      -- where s doesn't come, or has ended, nothing comes of it
      have stay : (∀ i p' n', p' < vA V 0 → n' ≤ vA V 4 → s = cN (h0 + i) p' n' → rE (vA V) (vA V 4) (xMay V (gP0 V)) cl h0 p0 n0 i p' n' → ¬ aEnd (vA V) (h0 + i) p' n' = 0) → cMk x (cMs (vA V) (vA V 4) (xMay V (gP0 V)) cl h0 p0 n0 (s + 1)) := by
        intro no
        refine cMk_cg (fun t ht => ⟨fun q => ?_, fun q => ?_⟩) x2
        · rcases q with q | ⟨i, p', n', t', j', b1, b3, lt, r⟩
          · exact Or.inl q
          · exact Or.inr ⟨i, p', n', t', j', b1, b3, by omega, r⟩
        · rcases q with q | ⟨i, p', n', t', j', b1, b3, lt, r, e, r2⟩
          · exact Or.inl q
          · refine Or.inr ⟨i, p', n', t', j', b1, b3, ?_, r, e, r2⟩
            rcases Nat.lt_or_ge (cN (h0 + i) p' n') s with w | w
            · exact w
            · exact absurd e (no i p' n' b1 b3 (by omega) r)
      have self : ∀ i p' n', s = cN (h0 + i) p' n' → rE (vA V) (vA V 4) (xMay V (gP0 V)) cl h0 p0 n0 i p' n' → cMs (vA V) (vA V 4) (xMay V (gP0 V)) cl h0 p0 n0 s s := by
        intro i p' n' e r
        refine cRc_i hA hS (fun h p n b1 b3 _ q _ => ?_) hh0 ⟨i, p', n', e, r⟩
        obtain ⟨t', j', q⟩ := q
        rw [q]
        exact cN_up (by omega) (by omega)
      refine gT_go 400 [87, 194] kX1_marks ?_
      refine gP_use (gP_eq (by rw [← f1.1 3 (by decide)] <;> rfl) (o_state (d + 1) (vA V 3) 0 0 (gH x L y))) ?_
      refine bGe s E rfl (by rw [hE]) (fun q => absurd q (by omega)) (fun _ => ?_)
      refine Exists.intro (s) (And.intro rfl (And.intro (show _ < 3900 by omega) ?_))
      refine bB0 (dP (cMs (vA V) (vA V 4) (xMay V (gP0 V)) cl h0 p0 n0 s s)) (x2 s (by omega)) (fun c => ?_) (fun c => ?_)
      · exact at194 x _ x1 (stay (fun i p' n' _ _ e r => absurd (self i p' n' e r) (dP_n c))) (by (repeat' apply And.intro) <;> first | rfl | trivial | exact congrArg Sum.inl (nI_1 _).symm | exact congrArg Sum.inl (nI_1 _).symm)
      · obtain ⟨i, p', n', e, r⟩ := cMs_i (dP_i c)
        obtain ⟨b1, b3⟩ := rE_ok hA hp0 hn0 i p' n' r
        obtain ⟨rfl, rfl, rfl⟩ : h = h0 + i ∧ p = p' ∧ n = n' := cN_inj hp hn (by omega) (by omega) (hsd.symm.trans e)
        refine gP_use (gP_eq (by rw [← hsd]) (o_endedOf (d + 0) (h0 + i) p n (vA V 4) (by omega) hp hn (vA V) hw.1 x L y f1)) ?_
        refine bEq (aEnd (vA V) (h0 + i) p n) 0 rfl rfl (fun e0 => ?_) (fun e0 => ?_) (by have := aEnd_lt (vA V) (h0 + i) p n; omega) (by decide)
        · have hn1 := (aEnd_0 e0).1
          have hle := (cLe_V hw hL H.1)
          have hle1 : cLe (sTn (vS V)) (fun j => j) (sLn (vS V)) (vA V) x := by
            unfold cLe at hle ⊢
            rw [x1 23 (by decide), x1 20 (by decide), x1 72 (by decide)]
            exact hle
          have hle2 := hle1.use (d + 1) (h0 + i) (vA V 4) (by omega) hw.1 hA.2.2.1 L y f1
          rw [cWho_V V (h0 + i)] at hle2
          have hkk := gP0_lt hw hh
          have q := kl.lw hw.1 ((gP0 V).1 (h0 + i)) (h0 + i) p n hkk hh b1 b3 e0
          obtain ⟨M, hM⟩ : ∃ M, M = xMay V (gP0 V) (h0 + i) p n := ⟨_, rfl⟩
          have hM31 : M < 2 ^ 31 := by rw [hM]; exact gMv_lt q.2.1
          have hmay : gP mX1_mayOf (d + 1 + 1) [gG0, gI (nI ((gP0 V).1 (h0 + i))), gI (nI (cN (h0 + i) p n))] (gH x L y) (gI (nI M)) := by
            rw [hM]
            exact o_mayOf (d + 1) ((gP0 V).1 (h0 + i)) (h0 + i) p n _ (by omega) (by omega) hp hn (by have := q.2.1; omega) x L y (by rw [x1 160 (by decide)]; exact q.1)
          subst hsd
          refine gP_use (o_hourOf (d + 1) (h0 + i) p n (by omega) hp hn (gH x L y)) ?_
          refine gP_use hle2 ?_
          refine gP_use hmay ?_
          have l9 := f1.2.2.2.2.2.2.2.2.1
          have e1 := f1.1 1 (by decide)
          obtain ⟨Q, hQ⟩ : ∃ Q : Nat → Nat → Prop, Q = fun m t => cMs (vA V) (vA V 4) (xMay V (gP0 V)) cl h0 p0 n0 (cN (h0 + i) p n) t ∨ ∃ m' t' j', m' < m ∧ m' ≤ vA V 1 ∧ M.testBit m' = true ∧ eT1 (vA V) (vA V 4) cl (h0 + i) p n m' t' j' ∧ t = cN (h0 + i + 1) t' j' := ⟨_, rfl⟩
          have q0 : cMk x (Q 0) := by
            rw [hQ]
            refine cMk_cg (fun t ht => ⟨Or.inl, fun q => ?_⟩) x2
            rcases q with q | ⟨m', t', j', lt, -⟩
            · exact q
            · exact absurd lt (Nat.not_lt_zero _)
          refine gT_for (σ := Nat → Nat → Nat → Int32) (pc := 87) (lo := fun m _ => [some gG0, some (gI (nI (cN h0 p0 n0))), some (gI (gb cl)), some (gI (nI (cN (h0 + i) p n))), some (gI (nI M)), some (gI (nI m)), none]) (hp := fun _ z => gH z L y) (Inv := fun m z => (∀ b, b ≠ 87 → z b = I b) ∧ cMk z (Q m)) (vA V 1 + 1) ?_ ?_ 0 x (Nat.zero_le _) ⟨x1, q0⟩ (by (repeat' apply And.intro) <;> first | rfl | trivial | exact congrArg Sum.inl (nI_1 _).symm | exact congrArg Sum.inl (nI_1 _).symm)
          · intro z ⟨z1, z2⟩
            refine gT_go 400 [194] kX1_marks ?_
            refine bGt (vA V 1 + 1) (vA V 1) rfl ((fr z z1).1 1 (by decide)) (fun _ => ?_) (fun q => absurd q (by omega))
            refine at194 z _ z1 (cMk_cg (fun t ht => ?_) z2) (by (repeat' apply And.intro) <;> first | rfl | trivial | exact congrArg Sum.inl (nI_1 _).symm | exact congrArg Sum.inl (nI_1 _).symm)
            rw [hQ]
            refine ⟨fun w => ?_, fun w => ?_⟩
            · rcases w with w | ⟨m', t', j', -, m1, bt, w1, w2⟩
              · rcases w with w | ⟨i', p', n', t', j', c1, c3, lt, r2⟩
                · exact Or.inl w
                · exact Or.inr ⟨i', p', n', t', j', c1, c3, by omega, r2⟩
              · exact Or.inr ⟨i, p, n, t', j', b1, b3, by omega, r, e0, ⟨m', m1, by rw [← hM]; exact bt, w1⟩, w2⟩
            · rcases w with w | ⟨i', p', n', t', j', c1, c3, lt, r2, e2, w1, w2⟩
              · exact Or.inl (Or.inl w)
              · rcases Nat.lt_or_ge (cN (h0 + i') p' n') (cN (h0 + i) p n) with u | u
                · exact Or.inl (Or.inr ⟨i', p', n', t', j', c1, c3, u, r2, e2, w1, w2⟩)
                · obtain ⟨f1, f2, f3⟩ := cN_inj (h := h0 + i') (h' := h0 + i) (show p' < 12 by omega) (show n' < 13 by omega) hp hn (by omega)
                  obtain ⟨m', m1, bt, w3⟩ := w1
                  rw [f1, f2, f3] at bt w3
                  refine Or.inr ⟨m', t', j', by omega, m1, by rw [hM]; exact bt, w3, ?_⟩
                  rw [← f1]
                  exact w2
          · intro m z hm ⟨z1, z2⟩ hnextm
            have fz := fr z z1
            have hbit : (nI M >>> (nI m &&& 31)) &&& 1 = gb (M.testBit m) := gbit hM31 (by omega)
            have n16 := (eSn_pt hw.1 (show m ≤ vA V 1 by omega) hh).2
            obtain ⟨c0, hc0d⟩ : ∃ c0, c0 = eSn (vA V) m (h0 + i) := ⟨_, rfl⟩
            rw [← hc0d] at n16
            have tm : ∀ t, (∃ t' j', eT1 (vA V) (vA V 4) cl (h0 + i) p n m t' j' ∧ t = cN (h0 + i + 1) t' j') ↔ (c0 < 16 ∧ t = cBh (vA V) (vA V 4) (h0 + i) p n m) ∨ (((cl = true ∧ 0 < c0) ∨ c0 = 16) ∧ t = cBh (vA V) (vA V 4) (h0 + i) p n 0) := by
              intro t
              unfold eT1
              rw [← hc0d]
              constructor
              · rintro ⟨t', j', ⟨w | w, rfl⟩, rfl⟩
                · obtain ⟨w1, rfl⟩ := w
                  exact Or.inl ⟨w1, rfl⟩
                · obtain ⟨w1, rfl⟩ := w
                  exact Or.inr ⟨w1, rfl⟩
              · rintro (⟨w1, rfl⟩ | ⟨w1, rfl⟩)
                · exact ⟨_, _, ⟨Or.inl ⟨w1, rfl⟩, rfl⟩, rfl⟩
                · exact ⟨_, _, ⟨Or.inr ⟨w1, rfl⟩, rfl⟩, rfl⟩
            have qs : ∀ t, Q (m + 1) t ↔ Q m t ∨ (M.testBit m = true ∧ ∃ t' j', eT1 (vA V) (vA V 4) cl (h0 + i) p n m t' j' ∧ t = cN (h0 + i + 1) t' j') := by
              intro t
              rw [hQ]
              constructor
              · rintro (w | ⟨m', t', j', lt, m1, bt, w1, w2⟩)
                · exact Or.inl (Or.inl w)
                · rcases Nat.lt_or_ge m' m with u | u
                  · exact Or.inl (Or.inr ⟨m', t', j', u, m1, bt, w1, w2⟩)
                  · have : m' = m := by omega
                    subst this
                    exact Or.inr ⟨bt, t', j', w1, w2⟩
              · rintro ((w | ⟨m', t', j', lt, w⟩) | ⟨bt, t', j', w1, w2⟩)
                · exact Or.inl w
                · exact Or.inr ⟨m', t', j', by omega, w⟩
                · exact Or.inr ⟨m, t', j', by omega, by omega, bt, w1, w2⟩
            have at188 : ∀ (w : Nat → Nat → Nat → Int32) (lo' : Lo), (∀ b, b ≠ 87 → w b = I b) → cMk w (Q (m + 1)) → glle [some gG0, some (gI (nI (cN h0 p0 n0))), some (gI (gb cl)), some (gI (nI (cN (h0 + i) p n))), some (gI (nI M)), some (gI (nI m)), none] lo' → gT mX1_marks (d + 3) (0, 0) (fun v h' => v = [] ∧ ∃ I', h' = gH I' L y ∧ (∀ b, b ≠ 87 → I' b = I b) ∧ cMk I' (cRc (vA V) (vA V 4) (xMay V (gP0 V)) cl h0 p0 n0)) (fun _ _ => False) 188 lo' [] (gH w L y) (0, 0) := by
              intro w lo' w1 w2 hl2
              refine gT_lo _ hl2 ?_
              refine gT_go 400 [87] kX1_marks ?_
              exact hnextm w _ ⟨w1, w2⟩ (by (repeat' apply And.intro) <;> first | rfl | trivial | exact congrArg Sum.inl (nI_1 _).symm | exact congrArg Sum.inl (nI_1 _).symm)
            refine gT_go 400 [138, 188] kX1_marks ?_
            refine bGt m (vA V 1) rfl (fz.1 1 (by decide)) (fun q => absurd q (by omega)) (fun _ => ?_)
            refine bB1 (M.testBit m) hbit (fun bt => ?_) (fun bt => ?_)
            · have at176 : ∀ (w : Nat → Nat → Nat → Int32) (lo' : Lo), (∀ b, b ≠ 87 → w b = I b) → cMk w (fun t => Q m t ∨ (c0 < 16 ∧ t = cBh (vA V) (vA V 4) (h0 + i) p n m)) → ((cl = true ∧ 0 < c0) ∨ c0 = 16) → glle [some gG0, some (gI (nI (cN h0 p0 n0))), some (gI (gb cl)), some (gI (nI (cN (h0 + i) p n))), some (gI (nI M)), some (gI (nI m)), none] lo' → gT mX1_marks (d + 3) (0, 0) (fun v h' => v = [] ∧ ∃ I', h' = gH I' L y ∧ (∀ b, b ≠ 87 → I' b = I b) ∧ cMk I' (cRc (vA V) (vA V 4) (xMay V (gP0 V)) cl h0 p0 n0)) (fun _ _ => False) 176 lo' [] (gH w L y) (0, 0) := by
                intro w lo' w1 w2 w3 hl2
                have cb := cBh_lt (n := n) hw.1 (show h0 + i < 24 by omega) hp hn (show 0 ≤ 24 by omega) hS
                refine gT_lo _ hl2 ?_
                refine gT_go 400 [188] kX1_marks ?_
                refine gP_use (o_behind d (h0 + i) p n 0 (vA V 4) (by omega) hp hn hn1 (by omega) hS (vA V) hw.1 w L y (fr w w1)) ?_
                refine And.intro (Or.inr rfl) ?_
                refine Exists.intro (cBh (vA V) (vA V 4) (h0 + i) p n 0) (And.intro rfl (And.intro (show _ < 3900 by omega) ?_))
                refine at188 _ _ (fun b hb => (u3_ne1 hb).trans (w1 b hb)) (cMk_cg (fun t ht => ?_) (cMk_put w2)) (by (repeat' apply And.intro) <;> first | rfl | trivial | exact congrArg Sum.inl (nI_1 _).symm | exact congrArg Sum.inl (nI_1 _).symm)
                rw [qs t, tm t]
                constructor
                · rintro ((u | u) | u)
                  · exact Or.inl u
                  · exact Or.inr ⟨bt, Or.inl u⟩
                  · exact Or.inr ⟨bt, Or.inr ⟨w3, u⟩⟩
                · rintro (u | ⟨_, u | u⟩)
                  · exact Or.inl (Or.inl u)
                  · exact Or.inl (Or.inr u)
                  · exact Or.inr u.2
              have none0 : ∀ (w : Nat → Nat → Nat → Int32), cMk w (fun t => Q m t ∨ (c0 < 16 ∧ t = cBh (vA V) (vA V 4) (h0 + i) p n m)) → ¬ ((cl = true ∧ 0 < c0) ∨ c0 = 16) → cMk w (Q (m + 1)) := by
                intro w w2 w3
                refine cMk_cg (fun t ht => ?_) w2
                rw [qs t, tm t]
                constructor
                · rintro (u | u)
                  · exact Or.inl u
                  · exact Or.inr ⟨bt, Or.inl u⟩
                · rintro (u | ⟨_, u | u⟩)
                  · exact Or.inl u
                  · exact Or.inr u
                  · exact absurd u.1 w3
              have at160 : ∀ (w : Nat → Nat → Nat → Int32) (lo' : Lo), (∀ b, b ≠ 87 → w b = I b) → cMk w (fun t => Q m t ∨ (c0 < 16 ∧ t = cBh (vA V) (vA V 4) (h0 + i) p n m)) → glle [some gG0, some (gI (nI (cN h0 p0 n0))), some (gI (gb cl)), some (gI (nI (cN (h0 + i) p n))), some (gI (nI M)), some (gI (nI m)), some (gI (nI c0))] lo' → gT mX1_marks (d + 3) (0, 0) (fun v h' => v = [] ∧ ∃ I', h' = gH I' L y ∧ (∀ b, b ≠ 87 → I' b = I b) ∧ cMk I' (cRc (vA V) (vA V 4) (xMay V (gP0 V)) cl h0 p0 n0)) (fun _ _ => False) 160 lo' [] (gH w L y) (0, 0) := by
                intro w lo' w1 w2 hl2
                have at169 : ∀ (lo' : Lo), ¬ (cl = true ∧ 0 < c0) → glle [some gG0, some (gI (nI (cN h0 p0 n0))), some (gI (gb cl)), some (gI (nI (cN (h0 + i) p n))), some (gI (nI M)), some (gI (nI m)), some (gI (nI c0))] lo' → gT mX1_marks (d + 3) (0, 0) (fun v h' => v = [] ∧ ∃ I', h' = gH I' L y ∧ (∀ b, b ≠ 87 → I' b = I b) ∧ cMk I' (cRc (vA V) (vA V 4) (xMay V (gP0 V)) cl h0 p0 n0)) (fun _ _ => False) 169 lo' [] (gH w L y) (0, 0) := by
                  intro lo' nc hl3
                  refine gT_lo _ hl3 ?_
                  refine gT_go 400 [176, 188] kX1_marks ?_
                  refine bNe c0 16 rfl rfl (fun c => ?_) (fun c => ?_)
                  · exact at188 w _ w1 (none0 w w2 (fun u => u.elim nc c)) (by (repeat' apply And.intro) <;> first | rfl | trivial | exact congrArg Sum.inl (nI_1 _).symm | exact congrArg Sum.inl (nI_1 _).symm)
                  · exact at176 w _ w1 w2 (Or.inr c) (by (repeat' apply And.intro) <;> first | rfl | trivial | exact congrArg Sum.inl (nI_1 _).symm | exact congrArg Sum.inl (nI_1 _).symm)
                refine gT_lo _ hl2 ?_
                refine gT_go 400 [169, 176] kX1_marks ?_
                refine bB0 cl rfl (fun c => ?_) (fun c => ?_)
                · exact at169 _ (fun u => by rw [c] at u; exact absurd u.1 (by decide)) (by (repeat' apply And.intro) <;> first | rfl | trivial | exact congrArg Sum.inl (nI_1 _).symm | exact congrArg Sum.inl (nI_1 _).symm)
                · refine bGt c0 0 rfl rfl (fun c2 => ?_) (fun c2 => ?_)
                  · exact at176 w _ w1 w2 (Or.inl ⟨c, c2⟩) (by (repeat' apply And.intro) <;> first | rfl | trivial | exact congrArg Sum.inl (nI_1 _).symm | exact congrArg Sum.inl (nI_1 _).symm)
                  · exact at169 _ (fun u => by omega) (by (repeat' apply And.intro) <;> first | rfl | trivial | exact congrArg Sum.inl (nI_1 _).symm | exact congrArg Sum.inl (nI_1 _).symm)
              have at138 : ∀ (v : Int32) (lo' : Lo), v = nI c0 → glle [some gG0, some (gI (nI (cN h0 p0 n0))), some (gI (gb cl)), some (gI (nI (cN (h0 + i) p n))), some (gI (nI M)), some (gI (nI m)), none] lo' → gT mX1_marks (d + 3) (0, 0) (fun v h' => v = [] ∧ ∃ I', h' = gH I' L y ∧ (∀ b, b ≠ 87 → I' b = I b) ∧ cMk I' (cRc (vA V) (vA V 4) (xMay V (gP0 V)) cl h0 p0 n0)) (fun _ _ => False) 138 lo' [gI v] (gH z L y) (0, 0) := by
                intro v lo' hv hl2
                subst hv
                refine gT_lo _ hl2 ?_
                refine gT_go 400 [160] kX1_marks ?_
                refine bGe c0 16 rfl rfl (fun c => ?_) (fun c => ?_)
                · exact at160 z _ z1 (cMk_cg (fun t ht => ⟨Or.inl, fun u => u.elim id (fun u => absurd u.1 (by omega))⟩) z2) (by (repeat' apply And.intro) <;> first | rfl | trivial | exact congrArg Sum.inl (nI_1 _).symm | exact congrArg Sum.inl (nI_1 _).symm)
                · have cb := cBh_lt (n := n) hw.1 (show h0 + i < 24 by omega) hp hn (show m ≤ 24 by omega) hS
                  refine gP_use (o_behind d (h0 + i) p n m (vA V 4) (by omega) hp hn hn1 (by omega) hS (vA V) hw.1 z L y fz) ?_
                  refine And.intro (Or.inr rfl) ?_
                  refine Exists.intro (cBh (vA V) (vA V 4) (h0 + i) p n m) (And.intro rfl (And.intro (show _ < 3900 by omega) ?_))
                  refine at160 _ _ (fun b hb => (u3_ne1 hb).trans (z1 b hb)) (cMk_cg (fun t ht => ?_) (cMk_put z2)) (by (repeat' apply And.intro) <;> first | rfl | trivial | exact congrArg Sum.inl (nI_1 _).symm | exact congrArg Sum.inl (nI_1 _).symm)
                  exact ⟨fun u => u.elim Or.inl (fun u => Or.inr ⟨c, u⟩), fun u => u.elim Or.inl (fun u => Or.inr u.2)⟩
              refine bNe m 0 rfl rfl (fun c => ?_) (fun c => ?_)
              · refine Exists.intro (m - 1) (And.intro (pk_sub (b := 1) (by omega)) (And.intro (show m - 1 < 24 by omega) ?_))
                refine gP_use (o_hourOf (d + 1) (h0 + i) p n (by omega) hp hn (gH z L y)) ?_
                refine Exists.intro (h0 + i) (And.intro rfl (And.intro (show _ < 24 by omega) ?_))
                exact at138 _ _ (by rw [hc0d]; unfold eSn; rw [if_neg c]; exact fz.2.2.2.2.2.2.2.2.1 (m - 1) (h0 + i) (by omega) (by omega)) (by (repeat' apply And.intro) <;> first | rfl | trivial | exact congrArg Sum.inl (nI_1 _).symm | exact congrArg Sum.inl (nI_1 _).symm)
              · exact at138 _ _ (by rw [hc0d]; unfold eSn; rw [if_pos c] <;> rfl) (by (repeat' apply And.intro) <;> first | rfl | trivial | exact congrArg Sum.inl (nI_1 _).symm | exact congrArg Sum.inl (nI_1 _).symm)
            · refine at188 z _ z1 (cMk_cg (fun t ht => ?_) z2) (by (repeat' apply And.intro) <;> first | rfl | trivial | exact congrArg Sum.inl (nI_1 _).symm | exact congrArg Sum.inl (nI_1 _).symm)
              rw [qs t, bt]
              exact ⟨Or.inl, fun u => u.elim id (fun u => absurd u.1 (by decide))⟩
        · exact at194 x _ x1 (stay (fun i' p' n' w1 w3 ew r' z => by
            obtain ⟨e1, e2, e3⟩ := cN_inj hp hn (show p' < 12 by omega) (show n' < 13 by omega) (hsd.symm.trans ew)
            rw [← e1, ← e2, ← e3] at z
            exact e0 z)) (by (repeat' apply And.intro) <;> first | rfl | trivial | exact congrArg Sum.inl (nI_1 _).symm | exact congrArg Sum.inl (nI_1 _).symm)
  · intro i x hi ⟨x1, x2⟩ hnext
    have at24 : ∀ (v : Int32) (lo' : Lo), v = gb (dP (i = cN h0 p0 n0)) → glle [some gG0, some (gI (nI (cN h0 p0 n0))), some (gI (gb cl)), some (gI (nI i)), none, none, none] lo' → gT mX1_marks (d + 3) (0, 0) (fun v h' => v = [] ∧ ∃ I', h' = gH I' L y ∧ (∀ b, b ≠ 87 → I' b = I b) ∧ cMk I' (cRc (vA V) (vA V 4) (xMay V (gP0 V)) cl h0 p0 n0)) (fun _ _ => False) 24 lo' [gI v, gI (nI i), gR (some (87, 0))] (gH x L y) (0, 0) := by
      intro v lo' hv hl'
      refine gT_lo _ hl' ?_
      refine gT_go 400 [2] kX1_marks ?_
      refine And.intro (by rw [hv]; cases dP (i = cN h0 p0 n0); exact Or.inl rfl; exact Or.inr rfl) ?_
      refine Exists.intro (i) (And.intro rfl (And.intro (show _ < 3900 by omega) ?_))
      refine hnext _ _ ⟨fun b hb => (u3_ne1 hb).trans (x1 b hb), fun t ht => ?_⟩ (by (repeat' apply And.intro) <;> first | rfl | trivial | exact congrArg Sum.inl (nI_1 _).symm | exact congrArg Sum.inl (nI_1 _).symm)
      by_cases e : t = i
      · subst e; exact u3_eq.trans hv
      · exact (u3_ne3 e).trans (x2 t (by omega))
    refine gT_go 400 [24] kX1_marks ?_
    refine bGe i 3900 rfl rfl (fun q => absurd q (by omega)) (fun _ => ?_)
    refine bNe i (cN h0 p0 n0) rfl rfl (fun c => ?_) (fun c => ?_)
    · exact at24 _ _ (by rw [dP_f c] <;> rfl) (by (repeat' apply And.intro) <;> first | rfl | trivial | exact congrArg Sum.inl (nI_1 _).symm | exact congrArg Sum.inl (nI_1 _).symm)
    · exact at24 _ _ (by rw [dP_t c] <;> rfl) (by (repeat' apply And.intro) <;> first | rfl | trivial | exact congrArg Sum.inl (nI_1 _).symm | exact congrArg Sum.inl (nI_1 _).symm)
