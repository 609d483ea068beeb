/-! ===== readers of the component: frames, references ===== -/
section GRD
variable {m : GM} {d : Nat} {B : Nat × Nat} {Qr : List AV → Hp → Prop} {Qx : Rf → Hp → Prop} {u : Nat × Nat} {pc : Nat} {lo : Lo} {r : List AV} {h : Hp}
theorem gT_ref {o : Option Rf} {q : Rf} (e : o = some q) (K : gT m d B Qr Qx pc lo (gR (some q) :: r) h u) : gT m d B Qr Qx pc lo (gR o :: r) h u := by
  subst e; exact K
theorem gT_int {x z : Int32} (e : x = z) (K : gT m d B Qr Qx pc lo (gI z :: r) h u) : gT m d B Qr Qx pc lo (gI x :: r) h u := by
  subst e; exact K
theorem gT_int2 {a : AV} {x z : Int32} (e : x = z) (K : gT m d B Qr Qx pc lo (a :: gI z :: r) h u) : gT m d B Qr Qx pc lo (a :: gI x :: r) h u := by
  subst e; exact K
/-- fewer cells used than told -/
theorem gT_wide (u' : Nat × Nat) (h1 : u.1 ≤ u'.1) (h2 : u.2 ≤ u'.2) (h3 : u'.1 ≤ B.1) (h4 : u'.2 ≤ B.2) (K : gT m d B Qr Qx pc lo r h u') : gT m d B Qr Qx pc lo r h u :=
  fun p l e s mi args below meth c D base ad0 h0 H locs ls ad cx ex e2 rp vs lk sl _ _ => W.widen h1 h2 (K p l e s mi args below meth c D base ad0 h0 H locs ls ad cx ex e2 rp vs lk sl h3 h4)
/-- references in a heap are valid; those on the stack too -/
theorem gT_valS (K : (∀ b i k r, i < hC h b → gvk h b i k → hR h b i k = some r → r.2 < hC h r.1) → (∀ i v, glo lo i = some v → glv h v) → (∀ v ∈ r, glv h v) → gT m d B Qr Qx pc lo r h u) : gT m d B Qr Qx pc lo r h u :=
  fun p l e s mi args below meth c D base ad0 h0 H locs ls ad cx ex e2 rp vs lk sl u1 u2 => K rp.2.2.2.1 (fun i v q => (lk.2.2.2 i v q).2) sl p l e s mi args below meth c D base ad0 h0 H locs ls ad cx ex e2 rp vs lk sl u1 u2
end GRD
theorem u3_u3 {α : Type} {f : Nat → Nat → Nat → α} {b i k : Nat} {v w : α} : u3 (u3 f b i k v) b i k w = u3 f b i k w := by
  funext b' i' k'
  by_cases e : b' = b ∧ i' = i ∧ k' = k
  · obtain ⟨rfl, rfl, rfl⟩ := e
    exact u3_eq.trans u3_eq.symm
  · exact (u3_ne e).trans ((u3_ne e).trans (u3_ne e).symm)
theorem u3_self {α : Type} {f : Nat → Nat → Nat → α} {b i k : Nat} {v : α} (h : f b i k = v) : u3 f b i k v = f := by
  funext b' i' k'
  by_cases e : b' = b ∧ i' = i ∧ k' = k
  · obtain ⟨rfl, rfl, rfl⟩ := e
    exact u3_eq.trans h.symm
  · exact u3_ne e
theorem fNw_o {α : Type} {f : Nat → Nat → Nat → α} {z : α} {b c b' i k : Nat} (h : ¬ (b' = b ∧ i = c)) : fNw f z b c b' i k = f b' i k := by
  show (bif Nat.beq b' b && Nat.beq i c then z else f b' i k) = f b' i k
  rw [gqf h] <;> rfl
theorem fNw_n {α : Type} {f : Nat → Nat → Nat → α} {z : α} {b c k : Nat} : fNw f z b c b c k = z := by
  show (bif Nat.beq b b && Nat.beq c c then z else f b c k) = z
  rw [gqt] <;> rfl
theorem gRX_nwO {y : Dy} {b n b' i k : Nat} (h : ¬ (b' = b ∧ i = y.2.2.2.2 b)) : gRX (yNw y b n) b' i k = gRX y b' i k := by
  show (match glk (gRt y) b' with | some f => f i k | none => fNw y.2.2.1 none b (y.2.2.2.2 b) b' i k) = (match glk (gRt y) b' with | some f => f i k | none => y.2.2.1 b' i k)
  cases glk (gRt y) b' with
  | some f => rfl
  | none => exact fNw_o h
theorem gRX_nwN {y : Dy} {b n k : Nat} (hR0 : glk (gRt y) b = none) : gRX (yNw y b n) b (y.2.2.2.2 b) k = none := by
  show (match glk (gRt y) b with | some f => f (y.2.2.2.2 b) k | none => fNw y.2.2.1 none b (y.2.2.2.2 b) b (y.2.2.2.2 b) k) = none
  rw [hR0]
  exact fNw_n
theorem gNX_nwO {y : Dy} {b n b' i : Nat} (h : ¬ (b' = b ∧ i = y.2.2.2.2 b)) : gNX (yNw y b n) b' i = gNX y b' i := by
  show (match glk gNt b' with | some z => z | none => (bif Nat.beq b' b && Nat.beq i (y.2.2.2.2 b) then n else y.2.2.2.1 b' i)) = (match glk gNt b' with | some z => z | none => y.2.2.2.1 b' i)
  cases glk gNt b' with
  | some f => rfl
  | none =>
    show (bif Nat.beq b' b && Nat.beq i (y.2.2.2.2 b) then n else y.2.2.2.1 b' i) = y.2.2.2.1 b' i
    rw [gqf h] <;> rfl
/-- a new cell whose length the shape knows, or that it doesn't -/
theorem gNw_gHn {I : Nat → Nat → Nat → Int32} {L : Nat → Nat → Nat → Int64} {y : Dy} {b : Nat} (n : Nat) (hR0 : glk (gRt y) b = none) (hN0 : ∀ z, glk gNt b = some z → z = n) : gNw (gH I L y) b n = gH (fNw I 0 b (y.2.2.2.2 b)) (fNw L 0 b (y.2.2.2.2 b)) (yNw y b n) := by
  unfold gNw
  refine Prod.ext rfl (Prod.ext rfl (Prod.ext ?_ (Prod.ext ?_ rfl)))
  · funext b' i k
    show (bif Nat.beq b' b && Nat.beq i (y.2.2.2.2 b) then none else gRX y b' i k) = (match glk (gRt y) b' with | some f => f i k | none => (bif Nat.beq b' b && Nat.beq i (y.2.2.2.2 b) then none else y.2.2.1 b' i k))
    unfold gRX
    cases hq : glk (gRt y) b' with
    | none => rfl
    | some f =>
      have hb : ¬ (b' = b ∧ i = y.2.2.2.2 b) := fun z => by rw [z.1, hR0] at hq; cases hq
      rw [gqf hb] <;> rfl
  · funext b' i
    show (bif Nat.beq b' b && Nat.beq i (y.2.2.2.2 b) then n else gNX y b' i) = (match glk gNt b' with | some z => z | none => (bif Nat.beq b' b && Nat.beq i (y.2.2.2.2 b) then n else y.2.2.2.1 b' i))
    unfold gNX
    cases hq : glk gNt b' with
    | none => rfl
    | some z =>
      show (bif Nat.beq b' b && Nat.beq i (y.2.2.2.2 b) then n else z) = z
      cases hc : (Nat.beq b' b && Nat.beq i (y.2.2.2.2 b)) with
      | false => rfl
      | true =>
        rw [Bool.and_eq_true] at hc
        have e := Nat.eq_of_beq_eq_true hc.1
        subst e
        exact (hN0 z hq).symm
theorem gUp_eq {C : Nat → Nat} {b : Nat} : gUp C b b = C b + 1 := by
  show (bif Nat.beq b b then C b + 1 else C b) = C b + 1
  rw [Nat.beq_refl] <;> rfl
theorem gUp_le {C : Nat → Nat} {b b' : Nat} : C b' ≤ gUp C b b' := by
  by_cases e : b' = b
  · subst e; rw [gUp_eq]; omega
  · rw [gUp_ne e]; exact Nat.le_refl _
/-- cells that were there stay, but for M; regions outside G stay whole -/
def hF (G : Nat → Prop) (M : Nat → Nat → Nat → Prop) (I : Nat → Nat → Nat → Int32) (L : Nat → Nat → Nat → Int64) (y : Dy) (I' : Nat → Nat → Nat → Int32) (L' : Nat → Nat → Nat → Int64) (y' : Dy) : Prop :=
  (y'.1 = y.1 ∧ y'.2.1 = y.2.1) ∧ (∀ b i k, (G b → i < y.2.2.2.2 b) → ¬ M b i k → I' b i k = I b i k) ∧ (∀ b i k, (G b → i < y.2.2.2.2 b) → L' b i k = L b i k ∧ gRX y' b i k = gRX y b i k ∧ gNX y' b i = gNX y b i) ∧ (∀ b, y.2.2.2.2 b ≤ y'.2.2.2.2 b) ∧ ∀ b, ¬ G b → y'.2.2.2.2 b = y.2.2.2.2 b
section GHF
variable {G G' : Nat → Prop} {M M' : Nat → Nat → Nat → Prop} {I I1 I2 : Nat → Nat → Nat → Int32} {L L1 L2 : Nat → Nat → Nat → Int64} {y y1 y2 : Dy} {b i k n : Nat}
theorem hF.rf : hF G M I L y I L y := ⟨⟨rfl, rfl⟩, fun _ _ _ _ _ => rfl, fun _ _ _ _ => ⟨rfl, rfl, rfl⟩, fun _ => Nat.le_refl _, fun _ _ => rfl⟩
theorem hF.tr (a : hF G M I L y I1 L1 y1) (c : hF G M I1 L1 y1 I2 L2 y2) : hF G M I L y I2 L2 y2 := by
  have up : ∀ q i, (G q → i < y.2.2.2.2 q) → (G q → i < y1.2.2.2.2 q) := fun q i h g => Nat.lt_of_lt_of_le (h g) (a.2.2.2.1 q)
  refine ⟨⟨c.1.1.trans a.1.1, c.1.2.trans a.1.2⟩, fun q i k h n => (c.2.1 q i k (up q i h) n).trans (a.2.1 q i k h n), fun q i k h => ?_, fun q => Nat.le_trans (a.2.2.2.1 q) (c.2.2.2.1 q), fun q g => (c.2.2.2.2 q g).trans (a.2.2.2.2 q g)⟩
  obtain ⟨c1, c2, c3⟩ := c.2.2.1 q i k (up q i h)
  obtain ⟨d1, d2, d3⟩ := a.2.2.1 q i k h
  exact ⟨c1.trans d1, c2.trans d2, c3.trans d3⟩
theorem hF.mono (H : hF G M I L y I1 L1 y1) (hG : ∀ b, G b → G' b) (hM : ∀ b i k, M b i k → M' b i k) : hF G' M' I L y I1 L1 y1 :=
  ⟨H.1, fun b i k h n => H.2.1 b i k (fun g => h (hG b g)) (fun q => n (hM b i k q)), fun b i k h => H.2.2.1 b i k (fun g => h (hG b g)), H.2.2.2.1, fun b n => H.2.2.2.2 b (fun g => n (hG b g))⟩
theorem hF.put (H : hF G M I L y I1 L1 y1) (h : M b i k) (v : Int32) : hF G M I L y (u3 I1 b i k v) L1 y1 :=
  ⟨H.1, fun b' i' k' q n => (u3_ne (fun z => n (by obtain ⟨rfl, rfl, rfl⟩ := z; exact h))).trans (H.2.1 b' i' k' q n), H.2.2⟩
/-- a place of a new cell is set -/
theorem hF.putN (H : hF G M I L y I1 L1 y1) (g : G b) (hi : y.2.2.2.2 b ≤ i) (v : Int32) : hF G M I L y (u3 I1 b i k v) L1 y1 :=
  ⟨H.1, fun b' i' k' q n => (u3_ne (fun z => by obtain ⟨rfl, rfl, -⟩ := z; exact absurd (q g) (by omega))).trans (H.2.1 b' i' k' q n), H.2.2⟩
theorem hF.refN (H : hF G M I L y I1 L1 y1) (g : G b) (hi : y.2.2.2.2 b ≤ i) (hb : glk (gRt y1) b = none) (v : Option Rf) : hF G M I L y I1 L1 (yR y1 b i k v) :=
  ⟨H.1, H.2.1, fun b' i' k' q => ⟨(H.2.2.1 b' i' k' q).1, by rw [gRX_yR hb]; exact (u3_ne (fun z => by obtain ⟨rfl, rfl, -⟩ := z; exact absurd (q g) (by omega))).trans (H.2.2.1 b' i' k' q).2.1, (H.2.2.1 b' i' k' q).2.2⟩, H.2.2.2⟩
/-- a new cell -/
theorem hF.nw (H : hF G M I L y I1 L1 y1) (g : G b) (n : Nat) : hF G M I L y (fNw I1 0 b (y1.2.2.2.2 b)) (fNw L1 0 b (y1.2.2.2.2 b)) (yNw y1 b n) := by
  have ne : ∀ b' i', (G b' → i' < y.2.2.2.2 b') → ¬ (b' = b ∧ i' = y1.2.2.2.2 b) := fun b' i' q z => by
    obtain ⟨rfl, rfl⟩ := z
    have := H.2.2.2.1 b'
    have := q g
    omega
  refine ⟨H.1, fun b' i' k' q n => (fNw_o (ne b' i' q)).trans (H.2.1 b' i' k' q n), fun b' i' k' q => ?_, fun b' => Nat.le_trans (H.2.2.2.1 b') gUp_le, fun b' n => (gUp_ne (fun z => n (by subst z; exact g))).trans (H.2.2.2.2 b' n)⟩
  obtain ⟨a1, a2, a3⟩ := H.2.2.1 b' i' k' q
  exact ⟨(fNw_o (ne b' i' q)).trans a1, (gRX_nwO (ne b' i' q)).trans a2, (gNX_nwO (ne b' i' q)).trans a3⟩
end GHF
/-- references of a heap are valid -/
abbrev hVal (h : Hp) : Prop := ∀ b i k r, i < hC h b → gvk h b i k → hR h b i k = some r → r.2 < hC h r.1
section GTO
variable {G : Nat → Prop} {M : Nat → Nat → Nat → Prop} {I I' : Nat → Nat → Nat → Int32} {L L' : Nat → Nat → Nat → Int64} {y y' : Dy}
theorem cT0_old (e : hF G M I L y I' L' y') (hM : ∀ b i k, 12 ≤ b → b < 20 → ¬ M b i k) {r : Rf} {C : Cd} (hr : r.2 < y.2.2.2.2 r.1) (H : cT0 I r C) : cT0 I' r C := by
  rcases H with ⟨i, n, a, b, c, d⟩ | ⟨i, k, a, b, c, d⟩
  · subst a
    exact Or.inl ⟨i, n, rfl, b, (e.2.1 16 i 0 (fun _ => hr) (hM 16 i 0 (by decide) (by decide))).trans c, d⟩
  · subst a
    exact Or.inr ⟨i, k, rfl, b, (e.2.1 17 i 0 (fun _ => hr) (hM 17 i 0 (by decide) (by decide))).trans c, d⟩
/-- a tree stays where old cells stay -/
theorem cTm_old (hv : hVal (gH I L y)) (e : hF G M I L y I' L' y') (hM : ∀ b i k, 12 ≤ b → b < 20 → ¬ M b i k) : ∀ {h : Nat} {r : Rf} {C : Cd}, r.2 < y.2.2.2.2 r.1 → cTm I y h r C → cTm I' y' h r C := by
  intro h
  induction h with
  | zero => intro r C hr H; exact cT0_old e hM hr H
  | succ h ih =>
    intro r C hr H
    rcases H with H | ⟨i, r1, r2, C1, C2, o, sg, a, b, c, d, t1, t2, f, g⟩
    · exact Or.inl (cT0_old e hM hr H)
    · subst a
      have v1 := hv 18 i 1 r1 hr (gvk_o rfl) c
      have v2 := hv 18 i 2 r2 hr (gvk_o rfl) d
      exact Or.inr ⟨i, r1, r2, C1, C2, o, sg, rfl, b, (e.2.2.1 18 i 1 (fun _ => hr)).2.1.trans c, (e.2.2.1 18 i 2 (fun _ => hr)).2.1.trans d, ih v1 t1, ih v2 t2, (e.2.1 18 i 0 (fun _ => hr) (hM 18 i 0 (by decide) (by decide))).trans f, g⟩
theorem cAs_old (hv : hVal (gH I L y)) (e : hF G M I L y I' L' y') (hM : ∀ b i k, 12 ≤ b → b < 20 → ¬ M b i k) : ∀ {h : Nat} {r : Rf} {C : Cd}, r.2 < y.2.2.2.2 r.1 → cAs I y h r C → cAs I' y' h r C := by
  intro h
  induction h with
  | zero => intro r C hr H; exact H.elim
  | succ h ih =>
    intro r C hr H
    rcases H with ⟨i, r1, r2, C1, C2, o, sg, a, b, c, d, t1, t2, f, g⟩ | ⟨i, r1, C1, a, b, c, t1⟩ | ⟨i, r1, r2, C1, C2, bb, a, b2, c, d, t1, t2, g⟩
    · subst a
      have v1 := hv 15 i 1 r1 hr (gvk_o rfl) c
      have v2 := hv 15 i 2 r2 hr (gvk_o rfl) d
      exact Or.inl ⟨i, r1, r2, C1, C2, o, sg, rfl, b, (e.2.2.1 15 i 1 (fun _ => hr)).2.1.trans c, (e.2.2.1 15 i 2 (fun _ => hr)).2.1.trans d, cTm_old hv e hM v1 t1, cTm_old hv e hM v2 t2, (e.2.1 15 i 0 (fun _ => hr) (hM 15 i 0 (by decide) (by decide))).trans f, g⟩
    · subst a
      have v1 := hv 13 i 0 r1 hr (gvk_o rfl) c
      exact Or.inr (Or.inl ⟨i, r1, C1, rfl, b, (e.2.2.1 13 i 0 (fun _ => hr)).2.1.trans c, ih v1 t1⟩)
    · subst a
      have v1 := hv 14 i 1 r1 hr (gvk_o rfl) c
      have v2 := hv 14 i 2 r2 hr (gvk_o rfl) d
      exact Or.inr (Or.inr ⟨i, r1, r2, C1, C2, bb, rfl, b2, (e.2.2.1 14 i 1 (fun _ => hr)).2.1.trans c, (e.2.2.1 14 i 2 (fun _ => hr)).2.1.trans d, ih v1 t1, ih v2 t2, (e.2.1 14 i 0 (fun _ => hr) (hM 14 i 0 (by decide) (by decide))).trans g⟩)
end GTO
/-! bytes as they are kept -/
theorem gBy_f : ∀ c, c < 256 → (c < 128 → gBy c = nI c) ∧ (¬ c < 128 → gBy c < 0) ∧ gBy c &&& 255 = nI c := by decide +kernel
section GBY
variable {x y : Int32} {P Q : Prop} {c k : Nat}
theorem bByNe (c k : Nat) (hc : c < 256) (hk : k < 128) (hx : x = gBy c) (hy : y = nI k) (f : ¬ c = k → P) (g : c = k → Q) : (¬ x = y → P) ∧ (x = y → Q) := by
  subst hx; subst hy
  obtain ⟨a, b, -⟩ := gBy_f c hc
  by_cases h : c < 128
  · rw [a h]; exact bNe c k rfl rfl f g
  · refine ⟨fun _ => f (by omega), fun q => ?_⟩
    have z := b h
    rw [q] at z
    exact absurd z (nI_pos (by omega))
theorem bByLt (c k : Nat) (hc : c < 256) (hk : k < 128) (hx : x = gBy c) (hy : y = nI k) (f : c < k ∨ 128 ≤ c → P) (g : k ≤ c ∧ c < 128 → Q) : (x < y → P) ∧ (¬ x < y → Q) := by
  subst hx; subst hy
  obtain ⟨a, b, -⟩ := gBy_f c hc
  by_cases h : c < 128
  · rw [a h]; exact bLt c k rfl rfl (fun q => f (Or.inl q)) (fun q => g ⟨q, h⟩)
  · refine ⟨fun _ => f (Or.inr (by omega)), fun q => absurd (Int32.lt_of_lt_of_le (b h) (nI_pos' (by omega))) q⟩
theorem bByGt (c k : Nat) (hc : c < 256) (hk : k < 128) (hx : x = gBy c) (hy : y = nI k) (f : k < c ∧ c < 128 → P) (g : c ≤ k ∨ 128 ≤ c → Q) : (y < x → P) ∧ (¬ y < x → Q) := by
  subst hx; subst hy
  obtain ⟨a, b, -⟩ := gBy_f c hc
  by_cases h : c < 128
  · rw [a h]; exact bGt c k rfl rfl (fun q => f ⟨q, h⟩) (fun q => g (Or.inl q))
  · refine ⟨fun q => ?_, fun _ => g (Or.inr (by omega))⟩
    exact absurd (Int32.lt_trans q (b h)) (nI_pos (by omega))
end GBY
theorem tDg_lo {c : Nat} (h : c < 48 ∨ 57 < c) : tDg c = false := by
  unfold tDg
  rcases h with h | h
  · rw [nble_f h] <;> rfl
  · rw [nble_f h, Bool.and_false]
theorem tDg_in {c : Nat} (h1 : 48 ≤ c) (h2 : c ≤ 57) : tDg c = true := by unfold tDg; rw [Nat.ble_eq_true_of_le h1, Nat.ble_eq_true_of_le h2] <;> rfl
theorem tSm_lo {c : Nat} (h : c < 97 ∨ 122 < c) : tSm c = false := by
  unfold tSm
  rcases h with h | h
  · rw [nble_f h] <;> rfl
  · rw [nble_f h, Bool.and_false]
theorem tSm_in {c : Nat} (h1 : 97 ≤ c) (h2 : c ≤ 122) : tSm c = true := by unfold tSm; rw [Nat.ble_eq_true_of_le h1, Nat.ble_eq_true_of_le h2] <;> rfl
/-- the reader i of the region b stands at a -/
def bS (b i : Nat) (T : Nat → Nat) (N a : Nat) (I : Nat → Nat → Nat → Int32) (y : Dy) : Prop := i < y.2.2.2.2 b ∧ gRX y b i 0 = some (66, 0) ∧ I b i 1 = nI N ∧ N ≤ 600 ∧ I b i 2 = nI a ∧ a ≤ N ∧ ∀ j, j < N → I 66 0 j = gBy (T j) ∧ T j < 256
abbrev bM (I : Nat → Nat → Nat → Int32) (b i a : Nat) : Nat → Nat → Nat → Int32 := u3 I b i 2 (nI a)
theorem bS.at {b i N a a' : Nat} {T : Nat → Nat} {I : Nat → Nat → Nat → Int32} {y : Dy} (H : bS b i T N a I y) (hb : ¬ 66 = b) (h : a' ≤ N) : bS b i T N a' (u3 I b i 2 (nI a')) y :=
  ⟨H.1, H.2.1, (u3_ne3 (by decide)).trans H.2.2.1, H.2.2.2.1, u3_eq, h, fun j hj => by rw [u3_ne1 hb]; exact H.2.2.2.2.2.2 j hj⟩
theorem bS.fr {b i N a a' : Nat} {T : Nat → Nat} {G : Nat → Prop} {M : Nat → Nat → Nat → Prop} {I I' : Nat → Nat → Nat → Int32} {L L' : Nat → Nat → Nat → Int64} {y y' : Dy} (H : bS b i T N a I y) (f : hF G M I L y I' L' y') (g : ¬ G 66) (n1 : ¬ M b i 1) (n66 : ∀ j, ¬ M 66 0 j) (h2 : I' b i 2 = nI a') (h : a' ≤ N) : bS b i T N a' I' y' :=
  ⟨Nat.lt_of_lt_of_le H.1 (f.2.2.2.1 b), (f.2.2.1 b i 0 (fun _ => H.1)).2.1.trans H.2.1, (f.2.1 b i 1 (fun _ => H.1) n1).trans H.2.2.1, H.2.2.2.1, h2, h, fun j hj => by rw [f.2.1 66 0 j (fun q => absurd q g) (n66 j)]; exact H.2.2.2.2.2.2 j hj⟩
/-- what a reader itself changes -/
def Mb (b i : Nat) : Nat → Nat → Nat → Prop := fun b' j k => b' = b ∧ j = i ∧ (k = 2 ∨ k = 4)
/-- a throw makes cells of this region -/
def Gw : Nat → Prop := fun b => b = 37
/-- a Wrong is thrown, of this kind and place -/
def wX (G : Nat → Prop) (M : Nat → Nat → Nat → Prop) (kp : Nat × Nat) (I : Nat → Nat → Nat → Int32) (L : Nat → Nat → Nat → Int64) (y : Dy) : Rf → Hp → Prop := fun q h' => ∃ I' L' y', q.1 = 37 ∧ h' = gH I' L' y' ∧ hF G M I L y I' L' y' ∧ I' 37 q.2 6 = nI kp.1 ∧ I' 37 q.2 7 = nI kp.2
theorem wX.of {G G' : Nat → Prop} {M M' : Nat → Nat → Nat → Prop} {kp : Nat × Nat} {I I1 : Nat → Nat → Nat → Int32} {L L1 : Nat → Nat → Nat → Int64} {y y1 : Dy} {q : Rf} {h' : Hp} (H : wX G M kp I1 L1 y1 q h') (hG : ∀ b, G b → G' b) (hM : ∀ b i k, M b i k → M' b i k) (f : hF G' M' I L y I1 L1 y1) : wX G' M' kp I L y q h' := by
  obtain ⟨I', L', y', h1, h2, h3, h4⟩ := H
  exact ⟨I', L', y', h1, h2, f.tr (h3.mono hG hM), h4⟩
theorem hF.bM {G : Nat → Prop} {b i a : Nat} {I : Nat → Nat → Nat → Int32} {L : Nat → Nat → Nat → Int64} {y : Dy} : hF G (Mb b i) I L y (u3 I b i 2 (nI a)) L y := hF.rf.put ⟨rfl, rfl, Or.inl rfl⟩ _
set_option maxRecDepth 100000 in
theorem o_wrNew (d c : Nat) (k p : Int32) (I : Nat → Nat → Nat → Int32) (L : Nat → Nat → Nat → Int64) (y : Dy) (hb : gRX y 37 c 4 = none) : gTM mX15_init (d + 6) (0, 0) [gR (some (37, c)), gI k, gI p] (gH I L y) (fun v h' => v = [] ∧ h' = gH (u3 (u3 I 37 c 6 k) 37 c 7 p) L y) (fun _ _ => False) := by
  refine gEnter 400 [1] kX15_init rfl rfl ?_
  refine gT_sup rfl dX15_init_1 hb (by decide) ?_
  refine gT_go 400 [] kX15_init ?_
  exact ⟨rfl, rfl⟩
/-- what a throw of a Wrong leaves -/
theorem wX_new {G : Nat → Prop} {M : Nat → Nat → Nat → Prop} {I : Nat → Nat → Nat → Int32} {L : Nat → Nat → Nat → Int64} {y : Dy} (k p : Nat) (g : G 37) : wX G M (k, p) I L y (37, y.2.2.2.2 37) (gH (u3 (u3 (fNw I 0 37 (y.2.2.2.2 37)) 37 (y.2.2.2.2 37) 6 (nI k)) 37 (y.2.2.2.2 37) 7 (nI p)) (fNw L 0 37 (y.2.2.2.2 37)) (yNw y 37 0)) :=
  ⟨_, _, _, rfl, rfl, ((hF.rf.nw g 0).putN g (Nat.le_refl _) _).putN g (Nat.le_refl _) _, (u3_ne3 (by decide)).trans u3_eq, u3_eq⟩
