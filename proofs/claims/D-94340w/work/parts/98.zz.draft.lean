/-! ===== reading a law in the component: what it costs, its trees ===== -/
def Gt : Nat → Prop := fun b => (13 ≤ b ∧ b ≤ 18) ∨ b = 37
theorem nGt {b : Nat} (h : b < 13 ∨ (18 < b ∧ b ≠ 37)) : ¬ Gt b := by unfold Gt; omega
theorem gGt {b : Nat} (h : 13 ≤ b ∧ b ≤ 18) : Gt b := Or.inl h
theorem hGw : ∀ b, Gw b → Gt b := fun _ z => Or.inr z
/-- what a reading may cost -/
def cst {α : Type} (N a : Nat) (R : RR α) : Nat × Nat := match R with
  | .inl _ => (4 * (N - a) + 4, 32 * (N - a) + 32)
  | .inr q => (4 * (q.2 - a), 32 * (q.2 - a))
section CST
variable {α : Type} {N a b B1 B2 : Nat} {R : RR α}
theorem cst_L {kp : Nat × Nat} (h : cst N a R = (B1, B2)) (e : R = .inl kp) : B1 = 4 * (N - a) + 4 ∧ B2 = 32 * (N - a) + 32 := by
  subst e
  exact ⟨(congrArg Prod.fst h).symm, (congrArg Prod.snd h).symm⟩
theorem cst_R {q : α × Nat} (h : cst N a R = (B1, B2)) (e : R = .inr q) : B1 = 4 * (q.2 - a) ∧ B2 = 32 * (q.2 - a) := by
  subst e
  exact ⟨(congrArg Prod.fst h).symm, (congrArg Prod.snd h).symm⟩
theorem cst_G (h : cst N a R = (B1, B2)) (hab : a ≤ b) (hb : b ≤ N) (g : ∀ q, R = .inr q → b ≤ q.2) : 4 * (b - a) ≤ B1 ∧ 32 * (b - a) ≤ B2 := by
  cases R with
  | inl kp => obtain ⟨e1, e2⟩ := cst_L h rfl; omega
  | inr q => obtain ⟨e1, e2⟩ := cst_R h rfl; have := g q rfl; omega
theorem cst_P (h : cst N a R = (B1, B2)) (g : ∀ q, R = .inr q → a < q.2) : 4 ≤ B1 ∧ 32 ≤ B2 := by
  cases R with
  | inl kp => obtain ⟨e1, e2⟩ := cst_L h rfl; omega
  | inr q => obtain ⟨e1, e2⟩ := cst_R h rfl; have := g q rfl; omega
end CST
/-- a reading goes on, and tells no more steps than bytes -/
def rGood (N : Nat) (R : Nat → RR Cd) : Prop := ∀ a q, a ≤ N → R a = .inr q → a + q.1.length ≤ q.2 ∧ q.2 ≤ N ∧ a < q.2
theorem rShut_inr {T : Nat → Nat} {N c : Nat} {r : RR Cd} {q : Cd × Nat} (h : rShut T N c r = .inr q) : ∃ q', r = .inr q' ∧ rSign T N c q'.2 = .inr ((), q.2) ∧ q = (q'.1, q.2) := by
  cases r with
  | inl kp => cases h
  | inr q' =>
    cases e : rSign T N c q'.2 with
    | inl kp => rw [rShut_no e] at h; cases h
    | inr u => rw [rShut_ye e] at h; cases h; exact ⟨q', rfl, e, rfl⟩
theorem rUn_good {T : Nat → Nat} {N : Nat} {sub : Option (Nat → RR Cd)} (hs : ∀ f, sub = some f → rGood N f) : rGood N (rUn T N sub) := by
  intro a q ha h
  obtain ⟨k1, k2, k3, k4⟩ := sk_ok (T := T) ha
  unfold rUn at h
  split at h
  · cases e : rNum T N 0 10000 (sk T N a) with
    | inl kp => rw [rbd_l e] at h; cases h
    | inr u =>
      obtain ⟨n, b⟩ := u
      rw [rbd_r e] at h
      cases h
      obtain ⟨h1, h2, -, -⟩ := rNum_inr e k2
      exact ⟨(by show a + 1 ≤ b; omega), h1, (by show a < b; omega)⟩
  · split at h
    · rename_i hc
      have hlt : sk T N a < N := cAt_0 (T := T) (by omega)
      cases sub with
      | none => cases h
      | some f =>
        have h' : rShut T N 41 (f (sk T N a + 1)) = .inr q := h
        obtain ⟨q', e1, e2, e3⟩ := rShut_inr h'
        obtain ⟨g1, g2, g3⟩ := hs f rfl _ q' hlt e1
        obtain ⟨w1, w2⟩ := rSign_le e2
        rw [e3]
        exact ⟨(by show a + q'.1.length ≤ q.2; omega), w1, (by show a < q.2; omega)⟩
    · cases e : rNmO (rWord T N a) with
      | none => rw [e] at h; cases h
      | some v =>
        rw [e] at h
        cases h
        have w1 := rWord_at (rNmO_lt e).2
        exact ⟨(by show a + 1 ≤ wE T N (sk T N a); omega), (wE_ok (T := T) k2).2.1, (by show a < wE T N (sk T N a); omega)⟩
theorem rLp_good {T : Nat → Nat} {N c1 o1 c2 o2 : Nat} {one : Nat → RR Cd} (g : rGood N one) (h1 : 0 < c1) (h2 : 0 < c2) : ∀ (f : Nat) (C : Cd) (a : Nat) (q : Cd × Nat), a ≤ N → rLp T N c1 o1 c2 o2 one f C a = .inr q → (∀ a0, a0 + C.length ≤ a → a0 + q.1.length ≤ q.2) ∧ a ≤ q.2 ∧ q.2 ≤ N := by
  intro f
  induction f with
  | zero =>
    intro C a q ha h
    obtain ⟨k1, k2, -, -⟩ := sk_ok (T := T) ha
    cases h
    exact ⟨fun a0 h0 => (by show a0 + C.length ≤ sk T N a; omega), k1, k2⟩
  | succ f ih =>
    intro C a q ha h
    obtain ⟨k1, k2, -, -⟩ := sk_ok (T := T) ha
    rw [rLp] at h
    split at h
    · rename_i hc
      have hlt : sk T N a < N := cAt_0 (T := T) (by omega)
      cases e : one (sk T N a + 1) with
      | inl kp => rw [e] at h; cases h
      | inr q1 =>
        rw [e] at h
        obtain ⟨g1, g2, g3⟩ := g _ q1 hlt e
        obtain ⟨i1, i2, i3⟩ := ih _ _ q g2 h
        refine ⟨fun a0 h0 => i1 a0 ?_, by omega, i3⟩
        rw [List.length_append, List.length_append]
        show a0 + (C.length + q1.1.length + 1) ≤ q1.2
        omega
    · cases h
      exact ⟨fun a0 h0 => (by show a0 + C.length ≤ sk T N a; omega), k1, k2⟩
theorem rOps_good {T : Nat → Nat} {N c1 o1 c2 o2 : Nat} {one : Nat → RR Cd} (g : rGood N one) (h1 : 0 < c1) (h2 : 0 < c2) : rGood N (rOps T N c1 o1 c2 o2 one) := by
  intro a q ha h
  unfold rOps at h
  cases e : one a with
  | inl kp => rw [e] at h; cases h
  | inr q1 =>
    rw [e] at h
    obtain ⟨g1, g2, g3⟩ := g a q1 ha e
    obtain ⟨i1, i2, i3⟩ := rLp_good g h1 h2 _ _ _ q g2 h
    exact ⟨i1 a g1, i3, by omega⟩
theorem rLw_good {T : Nat → Nat} {N t o : Nat} {one : Nat → RR Cd} (g : rGood N one) (ht : ¬ t = 0) : ∀ (f : Nat) (C : Cd) (a : Nat) (q : Cd × Nat), a ≤ N → rLw T N t o one f C a = .inr q → (∀ a0, a0 + C.length ≤ a → a0 + q.1.length ≤ q.2) ∧ a ≤ q.2 ∧ q.2 ≤ N := by
  intro f
  induction f with
  | zero =>
    intro C a q ha h
    obtain ⟨k1, k2, -, -⟩ := sk_ok (T := T) ha
    cases h
    exact ⟨fun a0 h0 => (by show a0 + C.length ≤ sk T N a; omega), k1, k2⟩
  | succ f ih =>
    intro C a q ha h
    obtain ⟨k1, k2, -, -⟩ := sk_ok (T := T) ha
    rw [rLw] at h
    split at h
    · rename_i hc
      have hlt := rWord_at (show ¬ rWord T N a = 0 by rw [hc]; exact ht)
      have hw := (wE_ok (T := T) k2).2.1
      cases e : one (wE T N (sk T N a)) with
      | inl kp => rw [e] at h; cases h
      | inr q1 =>
        rw [e] at h
        obtain ⟨g1, g2, g3⟩ := g _ q1 hw e
        obtain ⟨i1, i2, i3⟩ := ih _ _ q g2 h
        refine ⟨fun a0 h0 => i1 a0 ?_, by omega, i3⟩
        rw [List.length_append, List.length_append]
        show a0 + (C.length + q1.1.length + 1) ≤ q1.2
        omega
    · cases h
      exact ⟨fun a0 h0 => (by show a0 + C.length ≤ sk T N a; omega), k1, k2⟩
theorem rWs_good {T : Nat → Nat} {N t o : Nat} {one : Nat → RR Cd} (g : rGood N one) (ht : ¬ t = 0) : rGood N (rWs T N t o one) := by
  intro a q ha h
  unfold rWs at h
  cases e : one a with
  | inl kp => rw [e] at h; cases h
  | inr q1 =>
    rw [e] at h
    obtain ⟨g1, g2, g3⟩ := g a q1 ha e
    obtain ⟨i1, i2, i3⟩ := rLw_good g ht _ _ _ q g2 h
    exact ⟨i1 a g1, i3, by omega⟩
theorem wd_20 : ¬ wd 20 = 0 := by decide +kernel
theorem wd_21 : ¬ wd 21 = 0 := by decide +kernel
theorem rAny_good {T : Nat → Nat} {N : Nat} {one : Nat → RR Cd} (g : rGood N one) : rGood N (rAny T N one) := rWs_good (rWs_good g wd_20) wd_21
theorem rOn_good {T : Nat → Nat} {N : Nat} {sm : Nat → RR Cd} {sub : Option (Nat → RR Cd)} (gs : rGood N sm) (hs : ∀ f, sub = some f → rGood N f) : rGood N (rOn T N sm sub) := by
  intro a q ha h
  obtain ⟨k1, k2, k3, k4⟩ := sk_ok (T := T) ha
  unfold rOn at h
  split at h
  · rename_i hc
    have hlt : sk T N a < N := cAt_0 (T := T) (by omega)
    cases sub with
    | none => cases h
    | some f =>
      have h' : rShut T N 93 (rAny T N f (sk T N a + 1)) = .inr q := h
      obtain ⟨q', e1, e2, e3⟩ := rShut_inr h'
      obtain ⟨g1, g2, g3⟩ := rAny_good (hs f rfl) _ q' hlt e1
      obtain ⟨w1, w2⟩ := rSign_le e2
      rw [e3]
      exact ⟨(by show a + q'.1.length ≤ q.2; omega), w1, (by show a < q.2; omega)⟩
  · split at h
    · rename_i hw
      have h3 := rWord_3 k2 hw
      have h4 := (wE_ok (T := T) k2).2.1
      cases sub with
      | none => cases h
      | some f =>
        have h' : rbd (f (sk T N a + 3)) (fun C b => (.inr (C ++ [(9, 0)], b) : RR Cd)) = .inr q := h
        cases e : f (sk T N a + 3) with
        | inl kp => rw [rbd_l e] at h'; cases h'
        | inr u =>
          obtain ⟨C, b⟩ := u
          rw [rbd_r e] at h'
          cases h'
          obtain ⟨g1, g2, g3⟩ := hs f rfl _ _ (by omega) e
          have g1' : sk T N a + 3 + C.length ≤ b := g1
          have g3' : sk T N a + 3 < b := g3
          refine ⟨?_, g2, (by show a < b; omega)⟩
          show a + (C ++ [(9, 0)]).length ≤ b
          rw [List.length_append]
          show a + (C.length + 1) ≤ b
          omega
    · cases e : sm (sk T N a) with
      | inl kp => rw [rbd_l e] at h; cases h
      | inr u =>
        obtain ⟨C, b⟩ := u
        rw [rbd_r e] at h
        obtain ⟨g1, g2, g3⟩ := gs _ _ k2 e
        have g1' : sk T N a + C.length ≤ b := g1
        have g3' : sk T N a < b := g3
        obtain ⟨k5, k6, -, -⟩ := sk_ok (T := T) (show b ≤ N from g2)
        split at h
        · rename_i hy
          have hlt : sk T N b < N := cAt_0 (T := T) (by omega)
          cases e2 : sm (sk T N b + 1) with
          | inl kp => rw [rbd_l e2] at h; cases h
          | inr u2 =>
            obtain ⟨C2, b2⟩ := u2
            rw [rbd_r e2] at h
            cases h
            obtain ⟨j1, j2, j3⟩ := gs _ _ hlt e2
            have j1' : sk T N b + 1 + C2.length ≤ b2 := j1
            refine ⟨?_, j2, (by show a < b2; omega)⟩
            rw [List.length_append, List.length_append]
            show a + (C.length + C2.length + 1) ≤ b2
            omega
        · cases h
theorem rSu_good (T : Nat → Nat) (N : Nat) : ∀ k, rGood N (rSu T N k) := by
  intro k
  induction k with
  | zero => exact rOps_good (rOps_good (rUn_good (fun f h => by cases h)) (by decide) (by decide)) (by decide) (by decide)
  | succ k ih => exact rOps_good (rOps_good (rUn_good (fun f h => by cases h; exact ih)) (by decide) (by decide)) (by decide) (by decide)
theorem rO1_good (T : Nat → Nat) (N : Nat) : ∀ k, rGood N (rO1 T N k) := by
  intro k
  induction k with
  | zero => exact rOn_good (rSu_good T N 0) (fun f h => by cases h)
  | succ k ih => exact rOn_good (rSu_good T N (k + 1)) (fun f h => by cases h; exact ih)
theorem rCo_good (T : Nat → Nat) (N : Nat) : rGood N (rCo T N) := rAny_good (rO1_good T N 6)
/-! trees that a new cell doesn't touch -/
def eNew (E : Nat → Nat → Prop) (y : Dy) : Prop := ∀ b i, E b i → (b = 13 ∧ gRX y 13 i 0 = none) ∨ ((b = 14 ∨ b = 15 ∨ b = 18) ∧ gRX y b i 1 = none)
section GTS
variable {E : Nat → Nat → Prop} {I I' : Nat → Nat → Nat → Int32} {y y' : Dy}
theorem cT0_set (hE : eNew E y) (e : ∀ b i k, 12 ≤ b → b < 20 → ¬ E b i → I' b i k = I b i k ∧ gRX y' b i k = gRX y b i k) {r : Rf} {C : Cd} (H : cT0 I r C) : cT0 I' r C := by
  rcases H with ⟨i, n, a, b, c, d⟩ | ⟨i, k, a, b, c, d⟩
  · exact Or.inl ⟨i, n, a, b, (e 16 i 0 (by decide) (by decide) (fun z => by rcases hE 16 i z with ⟨q, -⟩ | ⟨q, -⟩ <;> omega)).1.trans c, d⟩
  · exact Or.inr ⟨i, k, a, b, (e 17 i 0 (by decide) (by decide) (fun z => by rcases hE 17 i z with ⟨q, -⟩ | ⟨q, -⟩ <;> omega)).1.trans c, d⟩
theorem cTm_set (hE : eNew E y) (e : ∀ b i k, 12 ≤ b → b < 20 → ¬ E b i → I' b i k = I b i k ∧ gRX y' b i k = gRX y b i k) : ∀ {h : Nat} {r : Rf} {C : Cd}, cTm I y h r C → cTm I' y' h r C := by
  intro h
  induction h with
  | zero => intro r C H; exact cT0_set hE e H
  | succ h ih =>
    intro r C H
    rcases H with H | ⟨i, r1, r2, C1, C2, o, sg, a, b, c, d, t1, t2, f, g⟩
    · exact Or.inl (cT0_set hE e H)
    · have ne : ¬ E 18 i := fun z => by
        rcases hE 18 i z with ⟨q, -⟩ | ⟨-, q⟩
        · omega
        · rw [q] at c; cases c
      exact Or.inr ⟨i, r1, r2, C1, C2, o, sg, a, b, (e 18 i 1 (by decide) (by decide) ne).2.trans c, (e 18 i 2 (by decide) (by decide) ne).2.trans d, ih t1, ih t2, (e 18 i 0 (by decide) (by decide) ne).1.trans f, g⟩
theorem cAs_set (hE : eNew E y) (e : ∀ b i k, 12 ≤ b → b < 20 → ¬ E b i → I' b i k = I b i k ∧ gRX y' b i k = gRX y b i k) : ∀ {h : Nat} {r : Rf} {C : Cd}, cAs I y h r C → cAs I' y' h r C := by
  intro h
  induction h with
  | zero => intro r C H; exact H.elim
  | succ h ih =>
    intro r C H
    rcases H with ⟨i, r1, r2, C1, C2, o, sg, a, b, c, d, t1, t2, f, g⟩ | ⟨i, r1, C1, a, b, c, t1⟩ | ⟨i, r1, r2, C1, C2, bb, a, b, c, d, t1, t2, g⟩
    · have ne : ¬ E 15 i := fun z => by
        rcases hE 15 i z with ⟨q, -⟩ | ⟨-, q⟩
        · omega
        · rw [q] at c; cases c
      exact Or.inl ⟨i, r1, r2, C1, C2, o, sg, a, b, (e 15 i 1 (by decide) (by decide) ne).2.trans c, (e 15 i 2 (by decide) (by decide) ne).2.trans d, cTm_set hE e t1, cTm_set hE e t2, (e 15 i 0 (by decide) (by decide) ne).1.trans f, g⟩
    · have ne : ¬ E 13 i := fun z => by
        rcases hE 13 i z with ⟨-, q⟩ | ⟨q, -⟩
        · rw [q] at c; cases c
        · omega
      exact Or.inr (Or.inl ⟨i, r1, C1, a, b, (e 13 i 0 (by decide) (by decide) ne).2.trans c, ih t1⟩)
    · have ne : ¬ E 14 i := fun z => by
        rcases hE 14 i z with ⟨q, -⟩ | ⟨-, q⟩
        · omega
        · rw [q] at c; cases c
      exact Or.inr (Or.inr ⟨i, r1, r2, C1, C2, bb, a, b, (e 14 i 1 (by decide) (by decide) ne).2.trans c, (e 14 i 2 (by decide) (by decide) ne).2.trans d, ih t1, ih t2, (e 14 i 0 (by decide) (by decide) ne).1.trans g⟩)
theorem cTm_28 (e : ∀ b, b < 20 → I' b = I b) {h : Nat} {r : Rf} {C : Cd} (H : cTm I y h r C) : cTm I' y h r C := cTm_set (E := fun _ _ => False) (fun _ _ z => z.elim) (fun b i k _ hb _ => ⟨by rw [e b hb], rfl⟩) H
theorem cAs_28 (e : ∀ b, b < 20 → I' b = I b) {h : Nat} {r : Rf} {C : Cd} (H : cAs I y h r C) : cAs I' y h r C := cAs_set (E := fun _ _ => False) (fun _ _ z => z.elim) (fun b i k _ hb _ => ⟨by rw [e b hb], rfl⟩) H
end GTS
theorem nMb {i : Nat} : ∀ b j k, 12 ≤ b → b < 20 → ¬ Mb 28 i b j k := fun b j k _ h z => by have := z.1; omega
theorem m28 {i : Nat} : Mb 28 i 28 i 2 := ⟨rfl, rfl, Or.inl rfl⟩
theorem m28' {i : Nat} : Mb 28 i 28 i 4 := ⟨rfl, rfl, Or.inr rfl⟩
theorem sgn1 {x : Nat} (h : x = 42 ∨ x = 47) : x = 43 ∧ (if x = 42 then 4 else 5) = 2 ∨ x = 45 ∧ (if x = 42 then 4 else 5) = 3 ∨ x = 42 ∧ (if x = 42 then 4 else 5) = 4 ∨ x = 47 ∧ (if x = 42 then 4 else 5) = 5 := by
  rcases h with rfl | rfl <;> decide
theorem sgn2 {x : Nat} (h : x = 43 ∨ x = 45) : x = 43 ∧ (if x = 43 then 2 else 3) = 2 ∨ x = 45 ∧ (if x = 43 then 2 else 3) = 3 ∨ x = 42 ∧ (if x = 43 then 2 else 3) = 4 ∨ x = 47 ∧ (if x = 43 then 2 else 3) = 5 := by
  rcases h with rfl | rfl <;> decide
theorem sgn3 {x : Nat} (h : x = 60 ∨ x = 62 ∨ x = 61) : x = 60 ∧ (if x = 60 then 6 else if x = 62 then 7 else 8) = 6 ∨ x = 62 ∧ (if x = 60 then 6 else if x = 62 then 7 else 8) = 7 ∨ x = 61 ∧ (if x = 60 then 6 else if x = 62 then 7 else 8) = 8 := by
  rcases h with rfl | rfl | rfl <;> decide
/-! what is there now, against a sign -/
section BAT
variable {x y : Int32} {P Q : Prop} {T : Nat → Nat} {N s : Nat}
theorem bAtEq (c : Nat) (h0 : 0 < c) (h1 : c < 256) (hT : ∀ t, t < N → T t < 256) (hx : x = bAt T N s) (hy : y = nI c) (f : cAt T N s = c → P) (g : ¬ cAt T N s = c → Q) : (x = y → P) ∧ (¬ x = y → Q) := by
  subst hx; subst hy
  rcases Nat.lt_or_ge s N with w | w
  · rw [bAt_in w]
    rw [cAt_in w] at f g
    have := hT s w
    exact bEq (T s) c rfl rfl f g
  · rw [bAt_out w]
    rw [cAt_out w] at f g
    exact ⟨fun z => absurd z.symm (gOI_ne (by omega)), fun _ => g (by omega)⟩
theorem bAtNe (c : Nat) (h0 : 0 < c) (h1 : c < 256) (hT : ∀ t, t < N → T t < 256) (hx : x = bAt T N s) (hy : y = nI c) (f : ¬ cAt T N s = c → P) (g : cAt T N s = c → Q) : (¬ x = y → P) ∧ (x = y → Q) :=
  (bAtEq c h0 h1 hT hx hy g f).symm
end BAT
/-! constructors of what is read -/
set_option maxRecDepth 100000 in
theorem o_tm16 (d c : Nat) (h : Hp) : gTM mX20_init (d + 1) (0, 0) [gR (some (16, c))] h (fun v h' => v = [] ∧ h' = h) (fun _ _ => False) := by
  refine gEnter 400 [] kX20_init rfl rfl ?_
  exact ⟨rfl, rfl⟩
set_option maxRecDepth 100000 in
theorem o_tm17 (d c : Nat) (h : Hp) : gTM mX20_init (d + 1) (0, 0) [gR (some (17, c))] h (fun v h' => v = [] ∧ h' = h) (fun _ _ => False) := by
  refine gEnter 400 [] kX20_init rfl rfl ?_
  exact ⟨rfl, rfl⟩
set_option maxRecDepth 100000 in
theorem o_tm18 (d c : Nat) (h : Hp) : gTM mX20_init (d + 1) (0, 0) [gR (some (18, c))] h (fun v h' => v = [] ∧ h' = h) (fun _ _ => False) := by
  refine gEnter 400 [] kX20_init rfl rfl ?_
  exact ⟨rfl, rfl⟩
set_option maxRecDepth 100000 in
theorem o_tm13 (d c : Nat) (h : Hp) : gTM mX18_init (d + 1) (0, 0) [gR (some (13, c))] h (fun v h' => v = [] ∧ h' = h) (fun _ _ => False) := by
  refine gEnter 400 [] kX18_init rfl rfl ?_
  exact ⟨rfl, rfl⟩
set_option maxRecDepth 100000 in
theorem o_tm14 (d c : Nat) (h : Hp) : gTM mX18_init (d + 1) (0, 0) [gR (some (14, c))] h (fun v h' => v = [] ∧ h' = h) (fun _ _ => False) := by
  refine gEnter 400 [] kX18_init rfl rfl ?_
  exact ⟨rfl, rfl⟩
set_option maxRecDepth 100000 in
theorem o_tm15 (d c : Nat) (h : Hp) : gTM mX18_init (d + 1) (0, 0) [gR (some (15, c))] h (fun v h' => v = [] ∧ h' = h) (fun _ _ => False) := by
  refine gEnter 400 [] kX18_init rfl rfl ?_
  exact ⟨rfl, rfl⟩
set_option maxRecDepth 100000 in
theorem o_plain (d c : Nat) (x : Int32) (I : Nat → Nat → Nat → Int32) (L : Nat → Nat → Nat → Int64) (y : Dy) : gTM mX21_init (d + 2) (0, 0) [gR (some (16, c)), gI x] (gH I L y) (fun v h' => v = [] ∧ h' = gH (u3 I 16 c 0 x) L y) (fun _ _ => False) := by
  refine gEnter 400 [] kX21_init rfl rfl ?_
  refine gTM_use rfl (o_tm16 d c (gH I L y)) (fun v h' q => ?_)
  obtain ⟨rfl, rfl⟩ := q
  exact ⟨rfl, rfl⟩
set_option maxRecDepth 100000 in
theorem o_name (d c : Nat) (x : Int32) (I : Nat → Nat → Nat → Int32) (L : Nat → Nat → Nat → Int64) (y : Dy) : gTM mX22_init (d + 2) (0, 0) [gR (some (17, c)), gI x] (gH I L y) (fun v h' => v = [] ∧ h' = gH (u3 I 17 c 0 x) L y) (fun _ _ => False) := by
  refine gEnter 400 [] kX22_init rfl rfl ?_
  refine gTM_use rfl (o_tm17 d c (gH I L y)) (fun v h' q => ?_)
  obtain ⟨rfl, rfl⟩ := q
  exact ⟨rfl, rfl⟩
set_option maxRecDepth 100000 in
theorem o_two (d c : Nat) (x : Int32) (r1 r2 : Rf) (I : Nat → Nat → Nat → Int32) (L : Nat → Nat → Nat → Int64) (y : Dy) : gTM mX23_init (d + 2) (0, 0) [gR (some (18, c)), gI x, gR (some r1), gR (some r2)] (gH I L y) (fun v h' => v = [] ∧ h' = gH (u3 I 18 c 0 x) L (yR (yR y 18 c 1 (some r1)) 18 c 2 (some r2))) (fun _ _ => False) := by
  refine gEnter 400 [] kX23_init rfl rfl ?_
  refine gTM_use rfl (o_tm18 d c (gH I L y)) (fun v h' q => ?_)
  obtain ⟨rfl, rfl⟩ := q
  refine ⟨rfl, ?_⟩
  show sR (sR (gH (u3 I 18 c 0 x) L y) 18 c 1 (some r1)) 18 c 2 (some r2) = _
  rw [sR_gH rfl, sR_gH rfl]
set_option maxRecDepth 100000 in
theorem o_cmp (d c : Nat) (x : Int32) (r1 r2 : Rf) (I : Nat → Nat → Nat → Int32) (L : Nat → Nat → Nat → Int64) (y : Dy) : gTM mX24_init (d + 2) (0, 0) [gR (some (15, c)), gI x, gR (some r1), gR (some r2)] (gH I L y) (fun v h' => v = [] ∧ h' = gH (u3 I 15 c 0 x) L (yR (yR y 15 c 1 (some r1)) 15 c 2 (some r2))) (fun _ _ => False) := by
  refine gEnter 400 [] kX24_init rfl rfl ?_
  refine gTM_use rfl (o_tm15 d c (gH I L y)) (fun v h' q => ?_)
  obtain ⟨rfl, rfl⟩ := q
  refine ⟨rfl, ?_⟩
  show sR (sR (gH (u3 I 15 c 0 x) L y) 15 c 1 (some r1)) 15 c 2 (some r2) = _
  rw [sR_gH rfl, sR_gH rfl]
set_option maxRecDepth 100000 in
theorem o_both (d c : Nat) (g : Bool) (r1 r2 : Rf) (I : Nat → Nat → Nat → Int32) (L : Nat → Nat → Nat → Int64) (y : Dy) : gTM mX25_init (d + 2) (0, 0) [gR (some (14, c)), gI (gb g), gR (some r1), gR (some r2)] (gH I L y) (fun v h' => v = [] ∧ h' = gH (u3 I 14 c 0 (gb g)) L (yR (yR y 14 c 1 (some r1)) 14 c 2 (some r2))) (fun _ _ => False) := by
  refine gEnter 400 [] kX25_init rfl rfl ?_
  refine gTM_use rfl (o_tm14 d c (gH I L y)) (fun v h' q => ?_)
  obtain ⟨rfl, rfl⟩ := q
  refine And.intro (gbo_b g) ?_
  refine ⟨rfl, ?_⟩
  show sR (sR (gH (u3 I 14 c 0 (gb g)) L y) 14 c 1 (some r1)) 14 c 2 (some r2) = _
  rw [sR_gH rfl, sR_gH rfl]
set_option maxRecDepth 100000 in
theorem o_not (d c : Nat) (r1 : Rf) (I : Nat → Nat → Nat → Int32) (L : Nat → Nat → Nat → Int64) (y : Dy) : gTM mX19_init (d + 2) (0, 0) [gR (some (13, c)), gR (some r1)] (gH I L y) (fun v h' => v = [] ∧ h' = gH I L (yR y 13 c 0 (some r1))) (fun _ _ => False) := by
  refine gEnter 400 [] kX19_init rfl rfl ?_
  refine gTM_use rfl (o_tm13 d c (gH I L y)) (fun v h' q => ?_)
  obtain ⟨rfl, rfl⟩ := q
  refine ⟨rfl, ?_⟩
  show sR (gH I L y) 13 c 0 (some r1) = _
  rw [sR_gH rfl]
set_option maxRecDepth 100000 in
theorem o_rule (d c : Nat) (g : Bool) (r1 : Rf) (I : Nat → Nat → Nat → Int32) (L : Nat → Nat → Nat → Int64) (y : Dy) : gTM mX17_init (d + 1) (0, 0) [gR (some (12, c)), gI (gb g), gR (some r1)] (gH I L y) (fun v h' => v = [] ∧ h' = gH (u3 I 12 c 0 (gb g)) L (yR y 12 c 1 (some r1))) (fun _ _ => False) := by
  refine gEnter 400 [] kX17_init rfl rfl ?_
  refine And.intro (gbo_b g) ?_
  refine ⟨rfl, ?_⟩
  show sR (gH (u3 I 12 c 0 (gb g)) L y) 12 c 1 (some r1) = _
  rw [sR_gH rfl]
/-! the reader of laws: where it stands -/
def nmW (t : Nat) : Nat := match t with
  | 0 => 11
  | 1 => 12
  | 2 => 13
  | 3 => 9
  | 4 => 14
  | 5 => 0
  | 6 => 15
  | _ => 2
theorem nmW_all : ∀ t, t < 8 → nmW t < 22 ∧ rNmO (wd (nmW t)) = some t := by decide +kernel
theorem nmW_no {w : Nat} (h : ∀ t, t < 8 → ¬ w = wd (nmW t)) : rNmO w = none := by
  unfold rNmO
  rw [if_neg (show ¬ w = wd 11 from h 0 (by decide)), if_neg (show ¬ w = wd 12 from h 1 (by decide)), if_neg (show ¬ w = wd 13 from h 2 (by decide)), if_neg (show ¬ w = wd 9 from h 3 (by decide)), if_neg (show ¬ w = wd 14 from h 4 (by decide)), if_neg (show ¬ w = wd 0 from h 5 (by decide)), if_neg (show ¬ w = wd 15 from h 6 (by decide)), if_neg (show ¬ w = wd 2 from h 7 (by decide))]
def lWn (i j : Nat) (y : Dy) : Prop := gRX y 28 i 3 = some (29, j) ∧ ∀ t, t < 8 → gRX y 29 j t = some (2, nmW t)
/-- the reader i of laws stands at a, k brackets left -/
def jS (i j : Nat) (T : Nat → Nat) (N k a : Nat) (I : Nat → Nat → Nat → Int32) (y : Dy) : Prop := bS 28 i T N a I y ∧ lWn i j y ∧ I 28 i 4 = nI (6 - k)
section GJS
variable {i j N k k' a a' : Nat} {T : Nat → Nat} {I I' : Nat → Nat → Nat → Int32} {L L' : Nat → Nat → Nat → Int64} {y y' : Dy}
theorem jS.fr (H : jS i j T N k a I y) (f : hF Gt (Mb 28 i) I L y I' L' y') (h2 : I' 28 i 2 = nI a') (h : a' ≤ N) (h4 : I' 28 i 4 = nI (6 - k')) : jS i j T N k' a' I' y' :=
  ⟨H.1.fr f (nGt (by omega)) (fun z => by rcases z with ⟨-, -, z⟩; omega) (fun t z => by have := z.1; omega) h2 h, ⟨(f.2.2.1 28 i 3 (fun g => absurd g (nGt (by omega)))).2.1.trans H.2.1.1, fun t ht => (f.2.2.1 29 j t (fun g => absurd g (nGt (by omega)))).2.1.trans (H.2.1.2 t ht)⟩, h4⟩
theorem jS.at (H : jS i j T N k a I y) (h : a' ≤ N) : jS i j T N k a' (u3 I 28 i 2 (nI a')) y := ⟨H.1.at (by decide) h, H.2.1, (u3_ne3 (by decide)).trans H.2.2⟩
end GJS
/-- what a reading of a tree answers, what it throws -/
def tQ (tree : (Nat → Nat → Nat → Int32) → Dy → Nat → Rf → Cd → Prop) (i : Nat) (R : RR Cd) (I : Nat → Nat → Nat → Int32) (L : Nat → Nat → Nat → Int64) (y : Dy) : List AV → Hp → Prop := fun v h' => ∃ (q : Cd × Nat) (r : Rf) (I' : Nat → Nat → Nat → Int32) (L' : Nat → Nat → Nat → Int64) (y' : Dy), R = .inr q ∧ v = [gR (some r)] ∧ h' = gH I' L' y' ∧ hF Gt (Mb 28 i) I L y I' L' y' ∧ I' 28 i 2 = nI q.2 ∧ I' 28 i 4 = I 28 i 4 ∧ tree I' y' q.1.length r q.1
def tX (i : Nat) (R : RR Cd) (I : Nat → Nat → Nat → Int32) (L : Nat → Nat → Nat → Int64) (y : Dy) : Rf → Hp → Prop := fun z h' => ∃ kp, R = .inl kp ∧ wX Gt (Mb 28 i) kp I L y z h'
def tC (m : GM) (D : Nat) (tree : (Nat → Nat → Nat → Int32) → Dy → Nat → Rf → Cd → Prop) (T : Nat → Nat) (N k : Nat) (R : Nat → RR Cd) : Prop := ∀ (i j a : Nat) (I : Nat → Nat → Nat → Int32) (L : Nat → Nat → Nat → Int64) (y : Dy), jS i j T N k a I y → gTM m D (cst N a (R a)) [gR (some (28, i))] (gH I L y) (tQ tree i (R a) I L y) (tX i (R a) I L y)
def tSub (m : GM) (D : Nat) (tree : (Nat → Nat → Nat → Int32) → Dy → Nat → Rf → Cd → Prop) (T : Nat → Nat) (N k : Nat) (sub : Option (Nat → RR Cd)) : Prop := match sub with
  | none => k = 0
  | some f => ∃ k', k = k' + 1 ∧ rGood N f ∧ tC m D tree T N k' f
theorem tSub.good {m : GM} {D N k : Nat} {tree : (Nat → Nat → Nat → Int32) → Dy → Nat → Rf → Cd → Prop} {T : Nat → Nat} {sub : Option (Nat → RR Cd)} (h : tSub m D tree T N k sub) : ∀ f, sub = some f → rGood N f := by
  intro f e
  subst e
  obtain ⟨k', -, g, -⟩ := h
  exact g
theorem o28_num (d i lo hi : Nat) (hlo : lo < 100) (hhi : hi ≤ 10000) (hx : Int32) (hhx : hx = nI hi - 1) (T : Nat → Nat) (N a : Nat) (I : Nat → Nat → Nat → Int32) (L : Nat → Nat → Nat → Int64) (y : Dy) (H : bS 28 i T N a I y) :
    gTM mX13_number (d + 8) (2, 16) [gR (some (28, i)), gI (nI lo), gI hx, gI (-1)] (gH I L y) (rdQ 28 i (rNum T N lo hi a) I L y) (rdX 28 i (rNum T N lo hi a) I L y) := by
  have k := o28_number d i lo hi none hlo hhi hx hhx (fun v z => by cases z) T N a I L y H
  rw [rNumX_0] at k
  exact k
set_option maxRecDepth 100000 in
theorem o_opens (d i j k b : Nat) (hk : k ≤ 6) (T : Nat → Nat) (N a : Nat) (I : Nat → Nat → Nat → Int32) (L : Nat → Nat → Nat → Int64) (y : Dy) (S : jS i j T N k a I y) :
    gTM mX16_opens (d + 8) (1, 8) [gR (some (28, i)), gI (nI b)] (gH I L y) (fun v h' => ∃ k', k = k' + 1 ∧ v = [] ∧ h' = gH (u3 (u3 I 28 i 4 (nI (6 - k'))) 28 i 2 (nI (a + b))) L y) (fun q h' => k = 0 ∧ wX Gw (Mb 28 i) (3, a) I L y q h') := by
  have at15 : ∀ (g : Bool) (lo' : Lo), (g = true ↔ k ≠ 0) → glle [some (gR (some (28, i))), some (gI (nI b))] lo' → gT mX16_opens (d + 8) (1, 8) (fun v h' => ∃ k', k = k' + 1 ∧ v = [] ∧ h' = gH (u3 (u3 I 28 i 4 (nI (6 - k'))) 28 i 2 (nI (a + b))) L y) (fun q h' => k = 0 ∧ wX Gw (Mb 28 i) (3, a) I L y q h') 15 lo' [gI (gb g), gR (some (28, i))] (gH I L y) (0, 0) := by
    intro g lo' hg hl
    refine gT_lo _ hl ?_
    refine gT_callV (k := (1, 8)) rfl rfl rfl rfl rfl dX16_opens_15 (o28_few d i g T N a I L y S.1) (by decide) (by decide) (fun v h' q => ?_) (fun q h' hq => gTX_out rfl ?_)
    · obtain ⟨g1, rfl, rfl⟩ := q
      have hk0 := hg.mp g1
      obtain ⟨k', rfl⟩ : ∃ k', k = k' + 1 := ⟨k - 1, by omega⟩
      have e4 : I 28 i 4 + 1 = nI (6 - k') := by rw [S.2.2, show 6 - k' = 6 - (k' + 1) + 1 by omega]; exact nI_1 _
      refine gT_go 400 [] kX16_opens ?_
      change gTM _ _ _ _ (gH (u3 I 28 i 4 (I 28 i 4 + 1)) L y) _ _
      rw [e4]
      have S2 : bS 28 i T N a (u3 I 28 i 4 (nI (6 - k'))) y := S.1.fr (hF.rf.put m28' _ : hF Gt (Mb 28 i) I L y (u3 I 28 i 4 (nI (6 - k'))) L y) (nGt (by omega)) (fun z => by rcases z with ⟨-, -, z⟩; omega) (fun t z => by have := z.1; omega) ((u3_ne3 (by decide)).trans S.1.2.2.2.2.1) S.1.2.2.2.2.2.1
      refine gTM_use rfl (o28_skip (d + 6) i b T N a _ L y S2) (fun v h' q => ?_)
      obtain ⟨rfl, rfl⟩ := q
      exact ⟨k', rfl, rfl, rfl⟩
    · have k0 : k = 0 := by
        rcases Nat.eq_zero_or_pos k with q0 | q0
        · exact q0
        · have := hg.mpr (by omega)
          rw [hq.1] at this
          cases this
      exact ⟨k0, hq.2⟩
  refine gEnter 400 [15] kX16_opens rfl rfl ?_
  refine bGe (6 - k) 6 S.2.2 rfl (fun w => ?_) (fun w => ?_)
  · exact at15 false _ ⟨fun z => (by cases z), fun z => (by omega)⟩ (by (repeat' apply And.intro) <;> first | rfl | trivial | exact congrArg Sum.inl (nI_1 _).symm | exact congrArg Sum.inl (nI_1 _).symm)
  · exact at15 true _ ⟨fun _ => (by omega), fun _ => rfl⟩ (by (repeat' apply And.intro) <;> first | rfl | trivial | exact congrArg Sum.inl (nI_1 _).symm | exact congrArg Sum.inl (nI_1 _).symm)
/-! ===== reading a law in the component: a unit ===== -/
theorem rUn_nd {T : Nat → Nat} {N a : Nat} {sub : Option (Nat → RR Cd)} (c : tDg (cAt T N (sk T N a)) = false) : rUn T N sub a = (if cAt T N (sk T N a) = 40 then (match sub with
    | none => .inl (3, sk T N a)
    | some f => rShut T N 41 (f (sk T N a + 1)))
    else match rNmO (rWord T N a) with
    | none => .inl (1, sk T N a)
    | some v => .inr ([(1, v)], wE T N (sk T N a))) := by
  unfold rUn
  rw [if_neg (by rw [c]; decide)]
  cases sub <;> cases rNmO (rWord T N a) <;> rfl
set_option maxRecDepth 100000 in
theorem t_unit (d k : Nat) (hk : k ≤ 6) (T : Nat → Nat) (N : Nat) (sub : Option (Nat → RR Cd)) (hs : tSub mX16_sum (d + 8) cTm T N k sub) : tC mX16_unit (d + 9) cTm T N k (rUn T N sub) := by
  intro i j a I L y S
  obtain ⟨B1, B2, eB⟩ : ∃ B1 B2, cst N a (rUn T N sub a) = (B1, B2) := ⟨_, _, rfl⟩
  rw [eB]
  have ha := S.1.2.2.2.2.2.1
  have hT : ∀ t, t < N → T t < 256 := fun t ht => (S.1.2.2.2.2.2.2 t ht).2
  obtain ⟨k1, k2, k3, k4⟩ := sk_ok (T := T) ha
  have Ss : jS i j T N k (sk T N a) (u3 I 28 i 2 (nI (sk T N a))) y := S.at k2
  obtain ⟨p1, p2⟩ := cst_P eB (fun q e => (rUn_good hs.good a q ha e).2.2)
  have hss := sk_sk (T := T) ha
  refine gEnter 400 [12, 48, 80] kX16_unit rfl rfl ?_
  refine gTM_use rfl (o28_now (d + 7) i T N a I L y S.1) (fun v h' q => ?_)
  obtain ⟨rfl, rfl⟩ := q
  refine gP_use (o28_isDigit (d + 7) i T N (sk T N a) (u3 I 28 i 2 (nI (sk T N a))) L y Ss.1) ?_
  refine bB0 (tDg (cAt T N (sk T N a))) rfl (fun c => ?_) (fun c => ?_)
  · have e0 := rUn_nd (sub := sub) c
    refine gTM_use (av' := [gR (some (28, i)), gR (some (29, j))]) (by rw [← S.2.1.1] <;> rfl) (o28_which (d + 2) i j 8 nmW T N (sk T N a) (u3 I 28 i 2 (nI (sk T N a))) L y Ss.1 rfl (fun t ht => ⟨(nmW_all t ht).1, S.2.1.2 t ht⟩)) (fun v h' q => ?_)
    obtain ⟨⟨o, rfl, o1, o2⟩, q⟩ := q
    rw [hss, u3_u3] at q
    subst q
    rw [rWord_sk ha] at o1 o2
    cases o with
    | none =>
      have hw : rNmO (rWord T N a) = none := nmW_no (o2 rfl)
      have at80 : ∀ (g : Bool) (lo' : Lo), (g = true ↔ cAt T N (sk T N a) = 40) → glle [some (gR (some (28, i))), none, none] lo' → gT mX16_unit (d + 9) (B1, B2) (tQ cTm i (rUn T N sub a) I L y) (tX i (rUn T N sub a) I L y) 80 lo' [gI (gb g), gR (some (28, i))] (gH (u3 I 28 i 2 (nI (sk T N a))) L y) (0, 0) := by
        intro g lo' hg hl
        refine gT_lo _ hl ?_
        refine gT_callV (k := (1, 8)) rfl rfl rfl rfl rfl dX16_unit_80 (o28_right (d + 1) i g T N (sk T N a) (u3 I 28 i 2 (nI (sk T N a))) L y Ss.1) (show 0 + 1 ≤ B1 by omega) (show 0 + 8 ≤ B2 by omega) (fun v h' q => ?_) (fun q h' hq => gTX_out rfl ?_)
        rotate_left
        · have n40 : ¬ cAt T N (sk T N a) = 40 := fun z => by
            have := hg.mpr z
            rw [hq.1] at this
            cases this
          exact ⟨(1, sk T N a), by rw [e0, if_neg n40, hw], hq.2.of hGw (fun _ _ _ z => z) hF.bM⟩
        obtain ⟨g1, rfl, rfl⟩ := q
        have c40 := hg.mp g1
        have hlt : sk T N a < N := cAt_0 (T := T) (by omega)
        refine gT_go 400 [85] kX16_unit ?_
        refine gT_callV (k := (1, 8)) rfl rfl rfl rfl rfl dX16_unit_85 (o_opens d i j k 1 hk T N (sk T N a) (u3 I 28 i 2 (nI (sk T N a))) L y Ss) (show 0 + 1 + 1 ≤ B1 by omega) (show 0 + 8 + 8 ≤ B2 by omega) (fun v h' q => ?_) (fun q h' hq => gTX_out rfl ?_)
        rotate_left
        · obtain ⟨k0, hq⟩ := hq
          refine ⟨(3, sk T N a), ?_, hq.of hGw (fun _ _ _ z => z) hF.bM⟩
          cases sub with
          | none => rw [e0, if_pos c40]
          | some f => obtain ⟨k', e, -⟩ := hs; omega
        obtain ⟨k', ek, rfl, rfl⟩ := q
        cases sub with
        | none => exact absurd (show k = 0 from hs) (by omega)
        | some f =>
          obtain ⟨k'', e2, gf, hf⟩ := hs
          have ekk : k'' = k' := by omega
          subst ekk
          have e1 : rUn T N (some f) a = rShut T N 41 (f (sk T N a + 1)) := by rw [e0, if_pos c40]
          obtain ⟨I2, hI2⟩ : ∃ I2, I2 = u3 (u3 (u3 I 28 i 2 (nI (sk T N a))) 28 i 4 (nI (6 - k''))) 28 i 2 (nI (sk T N a + 1)) := ⟨_, rfl⟩
          rw [← hI2]
          have f2 : hF Gt (Mb 28 i) I L y I2 L y := by rw [hI2]; exact ((hF.rf.put m28 _).put m28' _).put m28 _
          have S2 : jS i j T N k'' (sk T N a + 1) I2 y := S.fr f2 (by rw [hI2]; exact u3_eq) hlt (by rw [hI2]; exact (u3_ne3 (by decide)).trans u3_eq)
          have hc := hf i j (sk T N a + 1) I2 L y S2
          refine gT_go 400 [89] kX16_unit ?_
          cases e3 : f (sk T N a + 1) with
          | inl kp =>
            have e4 : rUn T N (some f) a = .inl kp := by rw [e1, e3] <;> rfl
            obtain ⟨b1, b2⟩ := cst_L eB e4
            rw [e3] at hc
            refine gT_callV rfl rfl rfl rfl rfl dX16_unit_89 hc (show 0 + 1 + 1 + (4 * (N - (sk T N a + 1)) + 4) ≤ B1 by omega) (show 0 + 8 + 8 + (32 * (N - (sk T N a + 1)) + 32) ≤ B2 by omega) (fun v h' q => ?_) (fun q h' hq => gTX_out rfl ?_)
            · obtain ⟨_, _, _, _, _, e, _⟩ := q; cases e
            · obtain ⟨kp', e, w⟩ := hq
              cases e
              exact ⟨kp, e4, w.of (fun _ z => z) (fun _ _ _ z => z) f2⟩
          | inr q1 =>
            obtain ⟨g2, g3, g4⟩ := gf _ q1 hlt e3
            rw [e3] at hc
            have bb : 0 + 1 + 1 + 4 * (q1.2 - (sk T N a + 1)) + 1 ≤ B1 ∧ 0 + 8 + 8 + 32 * (q1.2 - (sk T N a + 1)) + 8 ≤ B2 := by
              cases e5 : rSign T N 41 q1.2 with
              | inl kp =>
                obtain ⟨b1, b2⟩ := cst_L eB (show rUn T N (some f) a = .inl kp by rw [e1, e3]; exact rShut_no e5)
                omega
              | inr u =>
                obtain ⟨w1, w2⟩ := rSign_le (b := u.2) e5
                obtain ⟨b1, b2⟩ := cst_R eB (show rUn T N (some f) a = .inr (q1.1, u.2) by rw [e1, e3]; exact rShut_ye e5)
                have b1' : B1 = 4 * (u.2 - a) := b1
                have b2' : B2 = 32 * (u.2 - a) := b2
                omega
            refine gT_callV rfl rfl rfl rfl rfl dX16_unit_89 hc (show 0 + 1 + 1 + 4 * (q1.2 - (sk T N a + 1)) ≤ B1 by omega) (show 0 + 8 + 8 + 32 * (q1.2 - (sk T N a + 1)) ≤ B2 by omega) (fun v h' q => ?_) (fun q h' hq => gTX_out rfl ?_)
            rotate_left
            · obtain ⟨_, e, _⟩ := hq; cases e
            obtain ⟨q, r, I3, L3, y3, e, rfl, rfl, f3, x2, x4, t3⟩ := q
            cases e
            have S3 : jS i j T N k'' q1.2 I3 y3 := S2.fr f3 x2 g3 (x4.trans S2.2.2)
            refine gT_go 400 [96] kX16_unit ?_
            refine gT_callV (k := (1, 8)) rfl rfl rfl rfl rfl dX16_unit_96 (o28_sign d i 41 (by decide) (by decide) T N q1.2 I3 L3 y3 S3.1) bb.1 bb.2 (fun v h' q => ?_) (fun q h' hq => gTX_out rfl ?_)
            rotate_left
            · obtain ⟨kp, e5, w⟩ := hq
              exact ⟨kp, by rw [e1, e3]; exact rShut_no e5, w.of hGw (fun _ _ _ z => z) (f2.tr f3)⟩
            obtain ⟨b, e5, rfl, rfl⟩ := q
            refine gT_go 400 [] kX16_unit ?_
            have ex : u3 I3 28 i 2 (nI b) 28 i 4 - 1 = I 28 i 4 := by
              rw [u3_ne3 (by decide), x4, S2.2.2, S.2.2]
              exact nI_s1 (by omega)
            refine ⟨(q1.1, b), r, u3 (u3 I3 28 i 2 (nI b)) 28 i 4 (u3 I3 28 i 2 (nI b) 28 i 4 - 1), L3, y3, by rw [e1, e3]; exact rShut_ye e5, rfl, rfl, ((f2.tr f3).put m28 _).put m28' _, (u3_ne3 (by decide)).trans u3_eq, u3_eq.trans ex, ?_⟩
            exact cTm_28 (fun b hb => by rw [u3_ne1 (by omega), u3_ne1 (by omega)]) t3
      refine And.intro (fun _ => ?_) (fun q => absurd rfl q)
      refine gP_use (o28_nowS (d + 7) i T N (sk T N a) (u3 I 28 i 2 (nI (sk T N a))) L y Ss.1 hss) ?_
      refine bAtNe (T := T) (N := N) (s := sk T N a) 40 (by decide) (by decide) hT rfl rfl (fun w => ?_) (fun w => ?_)
      · exact at80 false _ ⟨fun z => (by cases z), fun z => absurd z w⟩ (by (repeat' apply And.intro) <;> first | rfl | trivial | exact congrArg Sum.inl (nI_1 _).symm | exact congrArg Sum.inl (nI_1 _).symm)
      · exact at80 true _ ⟨fun _ => w, fun _ => rfl⟩ (by (repeat' apply And.intro) <;> first | rfl | trivial | exact congrArg Sum.inl (nI_1 _).symm | exact congrArg Sum.inl (nI_1 _).symm)
    | some t =>
      obtain ⟨t8, hw⟩ := o1 t rfl
      obtain ⟨w22, hnm⟩ := nmW_all t t8
      rw [← hw] at hnm
      have hw0 := (rNmO_lt hnm).2
      have hwE := rWord_at hw0
      have n40 : ¬ cAt T N (sk T N a) = 40 := fun z => by
        have hlt : sk T N a < N := cAt_0 (T := T) (by omega)
        have := (wE_ok (T := T) k2).2.2.1 (sk T N a) (Nat.le_refl _) hwE
        rw [cAt_in hlt] at z
        rw [z] at this
        cases this
      have eR : rUn T N sub a = .inr ([(1, t)], wE T N (sk T N a)) := by rw [e0, if_neg n40, hnm]
      have elen := (isW_ok w22 k2).2 hw
      obtain ⟨c1, c2, c3⟩ := gch_all (nmW t) w22
      refine And.intro (fun q => absurd (show nI t = -1 from q) (gOI_ne (by omega))) (fun _ => ?_)
      refine gT_ref S.2.1.1 ?_
      refine gT_go 400 [50] kX16_unit ?_
      refine Exists.intro t (And.intro rfl (And.intro (show t < 8 by omega) ?_))
      refine gT_ref (S.2.1.2 t t8) ?_
      refine gT_go 400 [56] kX16_unit ?_
      refine gP_use (p_length (d + 6) (nmW t) (by rw [gStr_22]; exact w22) _) ?_
      rw [c2]
      refine gTM_use rfl (o28_skip (d + 7) i (gsl (nmW t)) T N (sk T N a) (u3 I 28 i 2 (nI (sk T N a))) L y Ss.1) (fun v h' q => ?_)
      obtain ⟨rfl, rfl⟩ := q
      rw [u3_u3, ← elen]
      refine gT_new 17 (by decide) rfl rfl (by decide) dX16_unit_56 q1152 q1153 q168 (show 0 + 1 ≤ B1 by omega) (show 0 + 1 ≤ B2 by omega) ?_
      rw [gNw_gHn 0 rfl (fun z q => by cases q)]
      refine gT_go 400 [] kX16_unit ?_
      refine gTM_use rfl (o_name (d + 6) (y.2.2.2.2 17) (nI t) (fNw (u3 I 28 i 2 (nI (wE T N (sk T N a)))) 0 17 (y.2.2.2.2 17)) (fNw L 0 17 (y.2.2.2.2 17)) (yNw y 17 0)) (fun v h' q => ?_)
      obtain ⟨rfl, rfl⟩ := q
      refine ⟨([(1, t)], wE T N (sk T N a)), (17, y.2.2.2.2 17), _, _, _, eR, rfl, rfl, ((hF.bM (G := Gt)).nw (gGt (by decide)) 0).putN (gGt (by decide)) (Nat.le_refl _) _, ?_, ?_, ?_⟩
      · rw [u3_ne1 (by decide)]; exact (congrFun (congrFun (fNw_ne (by decide)) i) 2).trans u3_eq
      · rw [u3_ne1 (by decide)]; exact (congrFun (congrFun (fNw_ne (by decide)) i) 4).trans (u3_ne3 (by decide))
      · exact cTm_le (h := 0) (Or.inr ⟨_, t, rfl, rfl, u3_eq, t8⟩) (Nat.zero_le _)
  · have e0 : rUn T N sub a = rbd (rNum T N 0 10000 (sk T N a)) (fun n b => .inr ([(0, n)], b)) := by unfold rUn; rw [if_pos c]
    refine gT_new 16 (by decide) rfl rfl (by decide) dX16_unit_12 q1132 q1133 q167 (show 0 + 1 ≤ B1 by omega) (show 0 + 1 ≤ B2 by omega) ?_
    rw [gNw_gHn 0 rfl (fun z q => by cases q)]
    obtain ⟨I2, hI2⟩ : ∃ I2, I2 = fNw (u3 I 28 i 2 (nI (sk T N a))) 0 16 (y.2.2.2.2 16) := ⟨_, rfl⟩
    rw [show gH (fNw (u3 I 28 i 2 (nI (sk T N a))) 0 16 (y.2.2.2.2 16)) (fNw L 0 16 (y.2.2.2.2 16)) (yNw y 16 0) = gH I2 (fNw L 0 16 (y.2.2.2.2 16)) (yNw y 16 0) by rw [hI2]]
    have f2 : hF Gt (Mb 28 i) I L y I2 (fNw L 0 16 (y.2.2.2.2 16)) (yNw y 16 0) := by rw [hI2]; exact hF.bM.nw (gGt (by decide)) 0
    have i2 : I2 28 i 2 = nI (sk T N a) := by rw [hI2]; exact (congrFun (congrFun (fNw_ne (by decide)) i) 2).trans u3_eq
    have i4 : I2 28 i 4 = I 28 i 4 := by rw [hI2]; exact (congrFun (congrFun (fNw_ne (by decide)) i) 4).trans (u3_ne3 (by decide))
    have S2 : jS i j T N k (sk T N a) I2 (yNw y 16 0) := S.fr f2 i2 k2 (i4.trans S.2.2)
    refine gT_go 400 [22] kX16_unit ?_
    refine gT_callV (k := (2, 16)) rfl rfl rfl rfl rfl dX16_unit_22 (o28_num d i 0 10000 (by decide) (by decide) 9999 (by decide) T N (sk T N a) I2 (fNw L 0 16 (y.2.2.2.2 16)) (yNw y 16 0) S2.1) (show 0 + 1 + 2 ≤ B1 by omega) (show 0 + 1 + 16 ≤ B2 by omega) (fun v h' q => ?_) (fun q h' hq => gTX_out rfl ?_)
    rotate_left
    · obtain ⟨kp, e, w⟩ := hq
      exact ⟨kp, by rw [e0, rbd_l e], w.of hGw (fun _ _ _ z => z) f2⟩
    obtain ⟨n, b, e, rfl, rfl⟩ := q
    obtain ⟨w1, w2, -, w4⟩ := rNum_inr e k2
    refine gT_go 400 [] kX16_unit ?_
    refine gTM_use rfl (o_plain (d + 6) (y.2.2.2.2 16) (nI n) (u3 I2 28 i 2 (nI b)) (fNw L 0 16 (y.2.2.2.2 16)) (yNw y 16 0)) (fun v h' q => ?_)
    obtain ⟨rfl, rfl⟩ := q
    refine ⟨([(0, n)], b), (16, y.2.2.2.2 16), _, _, _, by rw [e0, rbd_r e], rfl, rfl, (f2.put m28 _).putN (gGt (by decide)) (Nat.le_refl _) _, ?_, ?_, ?_⟩
    · rw [u3_ne1 (by decide)]; exact u3_eq
    · rw [u3_ne1 (by decide), u3_ne3 (by decide)]; exact i4
    · exact cTm_le (h := 0) (Or.inl ⟨_, n, rfl, rfl, u3_eq, w4⟩) (Nat.zero_le _)
/-! ===== reading a law in the component: product and sum (printed by gen_trees.py) ===== -/
set_option maxRecDepth 100000 in
theorem t_product (d k : Nat) (T : Nat → Nat) (N : Nat) (one : Nat → RR Cd) (g1 : rGood N one) (h1 : tC mX16_unit (d + 9) cTm T N k one) : tC mX16_product (d + 10) cTm T N k (rOps T N 42 4 47 5 one) := by
  intro i j a I L y S
  obtain ⟨R, hR⟩ : ∃ R, R = rOps T N 42 4 47 5 one a := ⟨_, rfl⟩
  rw [← hR]
  obtain ⟨B1, B2, eB⟩ : ∃ B1 B2, cst N a R = (B1, B2) := ⟨_, _, rfl⟩
  rw [eB]
  have ha := S.1.2.2.2.2.2.1
  have hT : ∀ t, t < N → T t < 256 := fun t ht => (S.1.2.2.2.2.2.2 t ht).2
  have key : ∀ (f : Nat) (C : Cd) (b : Nat) (r : Rf) (I1 : Nat → Nat → Nat → Int32) (L1 : Nat → Nat → Nat → Int64) (y1 : Dy) (lo' : Lo), N < f + b → a ≤ b → b ≤ N → jS i j T N k (sk T N b) I1 y1 → hF Gt (Mb 28 i) I L y I1 L1 y1 → cTm I1 y1 C.length r C → R = rLp T N 42 4 47 5 one f C b → glle [some (gR (some (28, i))), some (gR (some r)), some (gI (bAt T N (sk T N b)))] lo' →
      gT mX16_product (d + 10) (B1, B2) (tQ cTm i R I L y) (tX i R I L y) 10 lo' [] (gH I1 L1 y1) (4 * (b - a), 32 * (b - a)) := by
    intro f
    induction f with
    | zero => intro C b r I1 L1 y1 lo' hf _ hb; exact absurd hf (by omega)
    | succ f ih =>
      intro C b r I1 L1 y1 lo' hf hab hb S1 f1 t1 eR hl
      obtain ⟨k1, k2, k3, k4⟩ := sk_ok (T := T) hb
      refine gT_lo _ hl ?_
      refine gT_valS (fun hv hlv _ => ?_)
      have vr : r.2 < y1.2.2.2.2 r.1 := hlv 1 (gR (some r)) rfl
      have at49 : ¬ (cAt T N (sk T N b) = 42 ∨ cAt T N (sk T N b) = 47) → ∀ lo', glle [none, some (gR (some r)), none] lo' → gT mX16_product (d + 10) (B1, B2) (tQ cTm i R I L y) (tX i R I L y) 49 lo' [] (gH I1 L1 y1) (4 * (b - a), 32 * (b - a)) := by
        intro hn lo' hl
        refine gT_lo _ hl ?_
        refine gT_go 400 [] kX16_product ?_
        exact ⟨(C, sk T N b), r, I1, L1, y1, by rw [eR, rLp, if_neg hn], rfl, rfl, f1, S1.1.2.2.2.2.1, S1.2.2.trans S.2.2.symm, t1⟩
      have at22 : (cAt T N (sk T N b) = 42 ∨ cAt T N (sk T N b) = 47) → ∀ lo', glle [some (gR (some (28, i))), some (gR (some r)), some (gI (bAt T N (sk T N b)))] lo' → gT mX16_product (d + 10) (B1, B2) (tQ cTm i R I L y) (tX i R I L y) 22 lo' [] (gH I1 L1 y1) (4 * (b - a), 32 * (b - a)) := by
        intro hy lo' hl
        have hlt : sk T N b < N := cAt_0 (T := T) (by omega)
        have eL : ∀ kp, one (sk T N b + 1) = .inl kp → R = .inl kp := fun kp e => by rw [eR, rLp, if_pos hy, e]
        have eI : ∀ q1, one (sk T N b + 1) = .inr q1 → R = rLp T N 42 4 47 5 one f (C ++ q1.1 ++ [(if cAt T N (sk T N b) = 42 then 4 else 5, 0)]) q1.2 := fun q1 e => by rw [eR, rLp, if_pos hy, e]
        have bI : ∀ q1, one (sk T N b + 1) = .inr q1 → 4 * (q1.2 - a) ≤ B1 ∧ 32 * (q1.2 - a) ≤ B2 := fun q1 e => by
          obtain ⟨g2, g3, g4⟩ := g1 _ q1 hlt e
          exact cst_G eB (show a ≤ q1.2 by omega) g3 (fun q e2 => (rLp_good g1 (by decide) (by decide) f _ q1.2 q g3 ((eI q1 e).symm.trans e2)).2.1)
        have c34 : 4 * (b - a) + 1 ≤ B1 ∧ 32 * (b - a) + 3 ≤ B2 := by
          cases e1 : one (sk T N b + 1) with
          | inl kp => obtain ⟨b1, b2⟩ := cst_L eB (eL kp e1); omega
          | inr q1 =>
            obtain ⟨b1, b2⟩ := bI q1 e1
            obtain ⟨g2, g3, g4⟩ := g1 _ q1 hlt e1
            omega
        refine gT_lo _ hl ?_
        refine gT_go 400 [27] kX16_product ?_
        refine gTM_use rfl (o28_skip (d + 8) i 1 T N (sk T N b) I1 L1 y1 S1.1) (fun v h' q => ?_)
        obtain ⟨rfl, rfl⟩ := q
        refine gT_new 18 (by decide) rfl rfl (by decide) dX16_product_27 q1162 q1163 q169 c34.1 c34.2 ?_
        rw [gNw_gHn 0 rfl (fun z q => by cases q)]
        obtain ⟨c, hc⟩ : ∃ c, c = y1.2.2.2.2 18 := ⟨_, rfl⟩
        change gT _ _ _ _ _ _ _ [gR (some (18, y1.2.2.2.2 18))] (gH (fNw (u3 I1 28 i 2 (nI (sk T N b + 1))) 0 18 (y1.2.2.2.2 18)) (fNw L1 0 18 (y1.2.2.2.2 18)) (yNw y1 18 0)) _
        rw [← hc]
        obtain ⟨I3, hI3⟩ : ∃ z, z = fNw (u3 I1 28 i 2 (nI (sk T N b + 1))) 0 18 c := ⟨_, rfl⟩
        obtain ⟨L3, hL3⟩ : ∃ z, z = fNw L1 0 18 c := ⟨_, rfl⟩
        obtain ⟨y3, hy3⟩ : ∃ z, z = yNw y1 18 0 := ⟨_, rfl⟩
        rw [← hI3, ← hL3, ← hy3]
        have f3 : hF Gt (Mb 28 i) I1 L1 y1 I3 L3 y3 := by rw [hI3, hL3, hy3, hc]; exact hF.bM.nw (gGt (by decide)) 0
        have i3 : I3 28 i 2 = nI (sk T N b + 1) := by rw [hI3]; exact (congrFun (congrFun (fNw_ne (by decide)) i) 2).trans u3_eq
        have i34 : I3 28 i 4 = nI (6 - k) := by rw [hI3]; exact (congrFun (congrFun (fNw_ne (by decide)) i) 4).trans ((u3_ne3 (by decide)).trans S1.2.2)
        have S3 : jS i j T N k (sk T N b + 1) I3 y3 := S1.fr f3 i3 hlt i34
        have n3 : gRX y3 18 c 1 = none := by rw [hy3, hc]; exact gRX_nwN rfl
        have hcl : y1.2.2.2.2 18 ≤ c := Nat.le_of_eq hc.symm
        have hcl3 : c < y3.2.2.2.2 18 := by rw [hy3, hc]; show _ < gUp y1.2.2.2.2 18 18; rw [gUp_eq]; omega
        refine gT_go 400 [34] kX16_product ?_
        have ho := h1 i j (sk T N b + 1) I3 L3 y3 S3
        cases e1 : one (sk T N b + 1) with
        | inl kp =>
          rw [e1] at ho
          obtain ⟨b1, b2⟩ := cst_L eB (eL kp e1)
          refine gT_callV rfl rfl rfl rfl rfl dX16_product_34 ho (show 4 * (b - a) + 1 + (4 * (N - (sk T N b + 1)) + 4) ≤ B1 by omega) (show 32 * (b - a) + 3 + (32 * (N - (sk T N b + 1)) + 32) ≤ B2 by omega) (fun v h' q => ?_) (fun q h' hq => gTX_out rfl ?_)
          · obtain ⟨_, _, _, _, _, e, _⟩ := q; cases e
          · obtain ⟨kp', e, w⟩ := hq
            cases e
            exact ⟨kp, eL kp e1, w.of (fun _ z => z) (fun _ _ _ z => z) (f1.tr f3)⟩
        | inr q1 =>
          rw [e1] at ho
          obtain ⟨b1, b2⟩ := bI q1 e1
          obtain ⟨g2, g3, g4⟩ := g1 _ q1 hlt e1
          obtain ⟨k5, k6, -, -⟩ := sk_ok (T := T) g3
          refine gT_callV rfl rfl rfl rfl rfl dX16_product_34 ho (show 4 * (b - a) + 1 + 4 * (q1.2 - (sk T N b + 1)) ≤ B1 by omega) (show 32 * (b - a) + 3 + 32 * (q1.2 - (sk T N b + 1)) ≤ B2 by omega) (fun v h' q => ?_) (fun q h' hq => gTX_out rfl ?_)
          rotate_left
          · obtain ⟨_, e, _⟩ := hq; cases e
          obtain ⟨q, r4, I4, L4, y4, e, rfl, rfl, f4, x2, x4, t4⟩ := q
          cases e
          refine gT_go 400 [10] kX16_product ?_
          refine gTM_use rfl (o_two (d + 7) c (bAt T N (sk T N b)) r r4 I4 L4 y4) (fun v h' q => ?_)
          obtain ⟨rfl, rfl⟩ := q
          obtain ⟨I5, hI5⟩ : ∃ z, z = u3 I4 18 c 0 (bAt T N (sk T N b)) := ⟨_, rfl⟩
          obtain ⟨y5, hy5⟩ : ∃ z, z = yR (yR y4 18 c 1 (some r)) 18 c 2 (some r4) := ⟨_, rfl⟩
          rw [← hI5, ← hy5]
          have f5 : hF Gt (Mb 28 i) I1 L1 y1 I5 L4 y5 := by rw [hI5, hy5]; exact (((f3.tr f4).putN (gGt (by decide)) hcl _).refN (gGt (by decide)) hcl rfl _).refN (gGt (by decide)) hcl rfl _
          have S5 : jS i j T N k q1.2 I5 y5 := S1.fr f5 (by rw [hI5, u3_ne1 (by decide)]; exact x2) g3 (by rw [hI5, u3_ne1 (by decide)]; exact x4.trans i34)
          refine gTM_use rfl (o28_now (d + 8) i T N q1.2 I5 L4 y5 S5.1) (fun v h' q => ?_)
          obtain ⟨rfl, rfl⟩ := q
          refine gT_wide (4 * (q1.2 - a), 32 * (q1.2 - a)) (show 4 * (b - a) + 1 + 4 * (q1.2 - (sk T N b + 1)) ≤ 4 * (q1.2 - a) by omega) (show 32 * (b - a) + 3 + 32 * (q1.2 - (sk T N b + 1)) ≤ 32 * (q1.2 - a) by omega) b1 b2 ?_
          have f6 : hF Gt (Mb 28 i) I1 L1 y1 (u3 I5 28 i 2 (nI (sk T N q1.2))) L4 y5 := f5.put m28 _
          refine ih (C ++ q1.1 ++ [(if cAt T N (sk T N b) = 42 then 4 else 5, 0)]) q1.2 (18, c) (u3 I5 28 i 2 (nI (sk T N q1.2))) L4 y5 _ (by omega) (by omega) g3 (S5.at k6) (f1.tr f6) ?_ (eI q1 e1) (by (repeat' apply And.intro) <;> first | rfl | trivial | exact congrArg Sum.inl (nI_1 _).symm | exact congrArg Sum.inl (nI_1 _).symm)
          rw [List.length_append, List.length_append]
          show cTm _ _ (C.length + q1.1.length + 1) _ _
          refine Or.inr ⟨c, r, r4, C, q1.1, if cAt T N (sk T N b) = 42 then 4 else 5, cAt T N (sk T N b), rfl, rfl, ?_, ?_, cTm_le (cTm_old hv f6 nMb vr t1) (by omega), cTm_le (cTm_set (E := fun b' i' => b' = 18 ∧ i' = c) (fun b' i' z => Or.inr ⟨Or.inr (Or.inr z.1), by rw [z.1, z.2]; exact (f4.2.2.1 18 c 1 (fun _ => hcl3)).2.1.trans n3⟩) (fun b' i' k' _ z2 z3 => ?_) t4) (by omega), ?_, sgn1 hy⟩
          · rw [hy5, gRX_yR rfl, u3_ne3 (by decide), gRX_yR rfl]; exact u3_eq
          · rw [hy5, gRX_yR rfl]; exact u3_eq
          · refine ⟨?_, ?_⟩
            · rw [u3_ne1 (by omega), hI5]; exact u3_ne (fun z => z3 ⟨z.1, z.2.1⟩)
            · rw [hy5, gRX_yR rfl, u3_ne (fun z => z3 ⟨z.1, z.2.1⟩), gRX_yR rfl, u3_ne (fun z => z3 ⟨z.1, z.2.1⟩)]
          · rw [u3_ne1 (by decide), hI5, cAt_in hlt]; exact u3_eq.trans (bAt_in hlt)
      refine gT_go 400 [22, 49] kX16_product ?_
      refine bAtEq (T := T) (N := N) (s := sk T N b) 42 (by decide) (by decide) hT rfl rfl (fun w => at22 (Or.inl w) _ (by (repeat' apply And.intro) <;> first | rfl | trivial | exact congrArg Sum.inl (nI_1 _).symm | exact congrArg Sum.inl (nI_1 _).symm)) (fun w => ?_)
      refine bAtNe (T := T) (N := N) (s := sk T N b) 47 (by decide) (by decide) hT rfl rfl (fun w2 => at49 (fun z => z.elim w w2) _ (by (repeat' apply And.intro) <;> first | rfl | trivial | exact congrArg Sum.inl (nI_1 _).symm | exact congrArg Sum.inl (nI_1 _).symm)) (fun w2 => at22 (Or.inr w2) _ (by (repeat' apply And.intro) <;> first | rfl | trivial | exact congrArg Sum.inl (nI_1 _).symm | exact congrArg Sum.inl (nI_1 _).symm))
  refine gEnter 400 [1] kX16_product rfl rfl ?_
  have ho := h1 i j a I L y S
  cases e1 : one a with
  | inl kp =>
    rw [e1] at ho
    have eL : R = .inl kp := by rw [hR]; unfold rOps; rw [e1]
    obtain ⟨b1, b2⟩ := cst_L eB eL
    refine gT_callV rfl rfl rfl rfl rfl dX16_product_1 ho (show 0 + (4 * (N - a) + 4) ≤ B1 by omega) (show 0 + (32 * (N - a) + 32) ≤ B2 by omega) (fun v h' q => ?_) (fun q h' hq => gTX_out rfl ?_)
    · obtain ⟨_, _, _, _, _, e, _⟩ := q; cases e
    · obtain ⟨kp', e, w⟩ := hq
      cases e
      exact ⟨kp, eL, w⟩
  | inr q1 =>
    rw [e1] at ho
    have eI : R = rLp T N 42 4 47 5 one (N + 1) q1.1 q1.2 := by rw [hR]; unfold rOps; rw [e1]
    obtain ⟨g2, g3, g4⟩ := g1 _ q1 ha e1
    obtain ⟨k5, k6, -, -⟩ := sk_ok (T := T) g3
    obtain ⟨b1, b2⟩ := cst_G eB (show a ≤ q1.2 by omega) g3 (fun q e2 => (rLp_good g1 (by decide) (by decide) (N + 1) _ q1.2 q g3 (eI.symm.trans e2)).2.1)
    refine gT_callV rfl rfl rfl rfl rfl dX16_product_1 ho (show 0 + 4 * (q1.2 - a) ≤ B1 by omega) (show 0 + 32 * (q1.2 - a) ≤ B2 by omega) (fun v h' q => ?_) (fun q h' hq => gTX_out rfl ?_)
    rotate_left
    · obtain ⟨_, e, _⟩ := hq; cases e
    obtain ⟨q, r1, I1, L1, y1, e, rfl, rfl, f1, x2, x4, t1⟩ := q
    cases e
    have S1 : jS i j T N k q1.2 I1 y1 := S.fr f1 x2 g3 (x4.trans S.2.2)
    refine gT_go 400 [10] kX16_product ?_
    refine gTM_use rfl (o28_now (d + 8) i T N q1.2 I1 L1 y1 S1.1) (fun v h' q => ?_)
    obtain ⟨rfl, rfl⟩ := q
    refine gT_wide (4 * (q1.2 - a), 32 * (q1.2 - a)) (show 0 + 4 * (q1.2 - a) ≤ 4 * (q1.2 - a) by omega) (show 0 + 32 * (q1.2 - a) ≤ 32 * (q1.2 - a) by omega) b1 b2 ?_
    exact key (N + 1) q1.1 q1.2 r1 (u3 I1 28 i 2 (nI (sk T N q1.2))) L1 y1 _ (by omega) (by omega) g3 (S1.at k6) (f1.put m28 _) (cTm_28 (fun b hb => by rw [u3_ne1 (by omega)]) t1) eI (by (repeat' apply And.intro) <;> first | rfl | trivial | exact congrArg Sum.inl (nI_1 _).symm | exact congrArg Sum.inl (nI_1 _).symm)

set_option maxRecDepth 100000 in
theorem t_sum (d k : Nat) (T : Nat → Nat) (N : Nat) (one : Nat → RR Cd) (g1 : rGood N one) (h1 : tC mX16_product (d + 10) cTm T N k one) : tC mX16_sum (d + 11) cTm T N k (rOps T N 43 2 45 3 one) := by
  intro i j a I L y S
  obtain ⟨R, hR⟩ : ∃ R, R = rOps T N 43 2 45 3 one a := ⟨_, rfl⟩
  rw [← hR]
  obtain ⟨B1, B2, eB⟩ : ∃ B1 B2, cst N a R = (B1, B2) := ⟨_, _, rfl⟩
  rw [eB]
  have ha := S.1.2.2.2.2.2.1
  have hT : ∀ t, t < N → T t < 256 := fun t ht => (S.1.2.2.2.2.2.2 t ht).2
  have key : ∀ (f : Nat) (C : Cd) (b : Nat) (r : Rf) (I1 : Nat → Nat → Nat → Int32) (L1 : Nat → Nat → Nat → Int64) (y1 : Dy) (lo' : Lo), N < f + b → a ≤ b → b ≤ N → jS i j T N k (sk T N b) I1 y1 → hF Gt (Mb 28 i) I L y I1 L1 y1 → cTm I1 y1 C.length r C → R = rLp T N 43 2 45 3 one f C b → glle [some (gR (some (28, i))), some (gR (some r)), some (gI (bAt T N (sk T N b)))] lo' →
      gT mX16_sum (d + 11) (B1, B2) (tQ cTm i R I L y) (tX i R I L y) 10 lo' [] (gH I1 L1 y1) (4 * (b - a), 32 * (b - a)) := by
    intro f
    induction f with
    | zero => intro C b r I1 L1 y1 lo' hf _ hb; exact absurd hf (by omega)
    | succ f ih =>
      intro C b r I1 L1 y1 lo' hf hab hb S1 f1 t1 eR hl
      obtain ⟨k1, k2, k3, k4⟩ := sk_ok (T := T) hb
      refine gT_lo _ hl ?_
      refine gT_valS (fun hv hlv _ => ?_)
      have vr : r.2 < y1.2.2.2.2 r.1 := hlv 1 (gR (some r)) rfl
      have at49 : ¬ (cAt T N (sk T N b) = 43 ∨ cAt T N (sk T N b) = 45) → ∀ lo', glle [none, some (gR (some r)), none] lo' → gT mX16_sum (d + 11) (B1, B2) (tQ cTm i R I L y) (tX i R I L y) 49 lo' [] (gH I1 L1 y1) (4 * (b - a), 32 * (b - a)) := by
        intro hn lo' hl
        refine gT_lo _ hl ?_
        refine gT_go 400 [] kX16_sum ?_
        exact ⟨(C, sk T N b), r, I1, L1, y1, by rw [eR, rLp, if_neg hn], rfl, rfl, f1, S1.1.2.2.2.2.1, S1.2.2.trans S.2.2.symm, t1⟩
      have at22 : (cAt T N (sk T N b) = 43 ∨ cAt T N (sk T N b) = 45) → ∀ lo', glle [some (gR (some (28, i))), some (gR (some r)), some (gI (bAt T N (sk T N b)))] lo' → gT mX16_sum (d + 11) (B1, B2) (tQ cTm i R I L y) (tX i R I L y) 22 lo' [] (gH I1 L1 y1) (4 * (b - a), 32 * (b - a)) := by
        intro hy lo' hl
        have hlt : sk T N b < N := cAt_0 (T := T) (by omega)
        have eL : ∀ kp, one (sk T N b + 1) = .inl kp → R = .inl kp := fun kp e => by rw [eR, rLp, if_pos hy, e]
        have eI : ∀ q1, one (sk T N b + 1) = .inr q1 → R = rLp T N 43 2 45 3 one f (C ++ q1.1 ++ [(if cAt T N (sk T N b) = 43 then 2 else 3, 0)]) q1.2 := fun q1 e => by rw [eR, rLp, if_pos hy, e]
        have bI : ∀ q1, one (sk T N b + 1) = .inr q1 → 4 * (q1.2 - a) ≤ B1 ∧ 32 * (q1.2 - a) ≤ B2 := fun q1 e => by
          obtain ⟨g2, g3, g4⟩ := g1 _ q1 hlt e
          exact cst_G eB (show a ≤ q1.2 by omega) g3 (fun q e2 => (rLp_good g1 (by decide) (by decide) f _ q1.2 q g3 ((eI q1 e).symm.trans e2)).2.1)
        have c34 : 4 * (b - a) + 1 ≤ B1 ∧ 32 * (b - a) + 3 ≤ B2 := by
          cases e1 : one (sk T N b + 1) with
          | inl kp => obtain ⟨b1, b2⟩ := cst_L eB (eL kp e1); omega
          | inr q1 =>
            obtain ⟨b1, b2⟩ := bI q1 e1
            obtain ⟨g2, g3, g4⟩ := g1 _ q1 hlt e1
            omega
        refine gT_lo _ hl ?_
        refine gT_go 400 [27] kX16_sum ?_
        refine gTM_use rfl (o28_skip (d + 9) i 1 T N (sk T N b) I1 L1 y1 S1.1) (fun v h' q => ?_)
        obtain ⟨rfl, rfl⟩ := q
        refine gT_new 18 (by decide) rfl rfl (by decide) dX16_sum_27 q1162 q1163 q169 c34.1 c34.2 ?_
        rw [gNw_gHn 0 rfl (fun z q => by cases q)]
        obtain ⟨c, hc⟩ : ∃ c, c = y1.2.2.2.2 18 := ⟨_, rfl⟩
        change gT _ _ _ _ _ _ _ [gR (some (18, y1.2.2.2.2 18))] (gH (fNw (u3 I1 28 i 2 (nI (sk T N b + 1))) 0 18 (y1.2.2.2.2 18)) (fNw L1 0 18 (y1.2.2.2.2 18)) (yNw y1 18 0)) _
        rw [← hc]
        obtain ⟨I3, hI3⟩ : ∃ z, z = fNw (u3 I1 28 i 2 (nI (sk T N b + 1))) 0 18 c := ⟨_, rfl⟩
        obtain ⟨L3, hL3⟩ : ∃ z, z = fNw L1 0 18 c := ⟨_, rfl⟩
        obtain ⟨y3, hy3⟩ : ∃ z, z = yNw y1 18 0 := ⟨_, rfl⟩
        rw [← hI3, ← hL3, ← hy3]
        have f3 : hF Gt (Mb 28 i) I1 L1 y1 I3 L3 y3 := by rw [hI3, hL3, hy3, hc]; exact hF.bM.nw (gGt (by decide)) 0
        have i3 : I3 28 i 2 = nI (sk T N b + 1) := by rw [hI3]; exact (congrFun (congrFun (fNw_ne (by decide)) i) 2).trans u3_eq
        have i34 : I3 28 i 4 = nI (6 - k) := by rw [hI3]; exact (congrFun (congrFun (fNw_ne (by decide)) i) 4).trans ((u3_ne3 (by decide)).trans S1.2.2)
        have S3 : jS i j T N k (sk T N b + 1) I3 y3 := S1.fr f3 i3 hlt i34
        have n3 : gRX y3 18 c 1 = none := by rw [hy3, hc]; exact gRX_nwN rfl
        have hcl : y1.2.2.2.2 18 ≤ c := Nat.le_of_eq hc.symm
        have hcl3 : c < y3.2.2.2.2 18 := by rw [hy3, hc]; show _ < gUp y1.2.2.2.2 18 18; rw [gUp_eq]; omega
        refine gT_go 400 [34] kX16_sum ?_
        have ho := h1 i j (sk T N b + 1) I3 L3 y3 S3
        cases e1 : one (sk T N b + 1) with
        | inl kp =>
          rw [e1] at ho
          obtain ⟨b1, b2⟩ := cst_L eB (eL kp e1)
          refine gT_callV rfl rfl rfl rfl rfl dX16_sum_34 ho (show 4 * (b - a) + 1 + (4 * (N - (sk T N b + 1)) + 4) ≤ B1 by omega) (show 32 * (b - a) + 3 + (32 * (N - (sk T N b + 1)) + 32) ≤ B2 by omega) (fun v h' q => ?_) (fun q h' hq => gTX_out rfl ?_)
          · obtain ⟨_, _, _, _, _, e, _⟩ := q; cases e
          · obtain ⟨kp', e, w⟩ := hq
            cases e
            exact ⟨kp, eL kp e1, w.of (fun _ z => z) (fun _ _ _ z => z) (f1.tr f3)⟩
        | inr q1 =>
          rw [e1] at ho
          obtain ⟨b1, b2⟩ := bI q1 e1
          obtain ⟨g2, g3, g4⟩ := g1 _ q1 hlt e1
          obtain ⟨k5, k6, -, -⟩ := sk_ok (T := T) g3
          refine gT_callV rfl rfl rfl rfl rfl dX16_sum_34 ho (show 4 * (b - a) + 1 + 4 * (q1.2 - (sk T N b + 1)) ≤ B1 by omega) (show 32 * (b - a) + 3 + 32 * (q1.2 - (sk T N b + 1)) ≤ B2 by omega) (fun v h' q => ?_) (fun q h' hq => gTX_out rfl ?_)
          rotate_left
          · obtain ⟨_, e, _⟩ := hq; cases e
          obtain ⟨q, r4, I4, L4, y4, e, rfl, rfl, f4, x2, x4, t4⟩ := q
          cases e
          refine gT_go 400 [10] kX16_sum ?_
          refine gTM_use rfl (o_two (d + 8) c (bAt T N (sk T N b)) r r4 I4 L4 y4) (fun v h' q => ?_)
          obtain ⟨rfl, rfl⟩ := q
          obtain ⟨I5, hI5⟩ : ∃ z, z = u3 I4 18 c 0 (bAt T N (sk T N b)) := ⟨_, rfl⟩
          obtain ⟨y5, hy5⟩ : ∃ z, z = yR (yR y4 18 c 1 (some r)) 18 c 2 (some r4) := ⟨_, rfl⟩
          rw [← hI5, ← hy5]
          have f5 : hF Gt (Mb 28 i) I1 L1 y1 I5 L4 y5 := by rw [hI5, hy5]; exact (((f3.tr f4).putN (gGt (by decide)) hcl _).refN (gGt (by decide)) hcl rfl _).refN (gGt (by decide)) hcl rfl _
          have S5 : jS i j T N k q1.2 I5 y5 := S1.fr f5 (by rw [hI5, u3_ne1 (by decide)]; exact x2) g3 (by rw [hI5, u3_ne1 (by decide)]; exact x4.trans i34)
          refine gTM_use rfl (o28_now (d + 9) i T N q1.2 I5 L4 y5 S5.1) (fun v h' q => ?_)
          obtain ⟨rfl, rfl⟩ := q
          refine gT_wide (4 * (q1.2 - a), 32 * (q1.2 - a)) (show 4 * (b - a) + 1 + 4 * (q1.2 - (sk T N b + 1)) ≤ 4 * (q1.2 - a) by omega) (show 32 * (b - a) + 3 + 32 * (q1.2 - (sk T N b + 1)) ≤ 32 * (q1.2 - a) by omega) b1 b2 ?_
          have f6 : hF Gt (Mb 28 i) I1 L1 y1 (u3 I5 28 i 2 (nI (sk T N q1.2))) L4 y5 := f5.put m28 _
          refine ih (C ++ q1.1 ++ [(if cAt T N (sk T N b) = 43 then 2 else 3, 0)]) q1.2 (18, c) (u3 I5 28 i 2 (nI (sk T N q1.2))) L4 y5 _ (by omega) (by omega) g3 (S5.at k6) (f1.tr f6) ?_ (eI q1 e1) (by (repeat' apply And.intro) <;> first | rfl | trivial | exact congrArg Sum.inl (nI_1 _).symm | exact congrArg Sum.inl (nI_1 _).symm)
          rw [List.length_append, List.length_append]
          show cTm _ _ (C.length + q1.1.length + 1) _ _
          refine Or.inr ⟨c, r, r4, C, q1.1, if cAt T N (sk T N b) = 43 then 2 else 3, cAt T N (sk T N b), rfl, rfl, ?_, ?_, cTm_le (cTm_old hv f6 nMb vr t1) (by omega), cTm_le (cTm_set (E := fun b' i' => b' = 18 ∧ i' = c) (fun b' i' z => Or.inr ⟨Or.inr (Or.inr z.1), by rw [z.1, z.2]; exact (f4.2.2.1 18 c 1 (fun _ => hcl3)).2.1.trans n3⟩) (fun b' i' k' _ z2 z3 => ?_) t4) (by omega), ?_, sgn2 hy⟩
          · rw [hy5, gRX_yR rfl, u3_ne3 (by decide), gRX_yR rfl]; exact u3_eq
          · rw [hy5, gRX_yR rfl]; exact u3_eq
          · refine ⟨?_, ?_⟩
            · rw [u3_ne1 (by omega), hI5]; exact u3_ne (fun z => z3 ⟨z.1, z.2.1⟩)
            · rw [hy5, gRX_yR rfl, u3_ne (fun z => z3 ⟨z.1, z.2.1⟩), gRX_yR rfl, u3_ne (fun z => z3 ⟨z.1, z.2.1⟩)]
          · rw [u3_ne1 (by decide), hI5, cAt_in hlt]; exact u3_eq.trans (bAt_in hlt)
      refine gT_go 400 [22, 49] kX16_sum ?_
      refine bAtEq (T := T) (N := N) (s := sk T N b) 43 (by decide) (by decide) hT rfl rfl (fun w => at22 (Or.inl w) _ (by (repeat' apply And.intro) <;> first | rfl | trivial | exact congrArg Sum.inl (nI_1 _).symm | exact congrArg Sum.inl (nI_1 _).symm)) (fun w => ?_)
      refine bAtNe (T := T) (N := N) (s := sk T N b) 45 (by decide) (by decide) hT rfl rfl (fun w2 => at49 (fun z => z.elim w w2) _ (by (repeat' apply And.intro) <;> first | rfl | trivial | exact congrArg Sum.inl (nI_1 _).symm | exact congrArg Sum.inl (nI_1 _).symm)) (fun w2 => at22 (Or.inr w2) _ (by (repeat' apply And.intro) <;> first | rfl | trivial | exact congrArg Sum.inl (nI_1 _).symm | exact congrArg Sum.inl (nI_1 _).symm))
  refine gEnter 400 [1] kX16_sum rfl rfl ?_
  have ho := h1 i j a I L y S
  cases e1 : one a with
  | inl kp =>
    rw [e1] at ho
    have eL : R = .inl kp := by rw [hR]; unfold rOps; rw [e1]
    obtain ⟨b1, b2⟩ := cst_L eB eL
    refine gT_callV rfl rfl rfl rfl rfl dX16_sum_1 ho (show 0 + (4 * (N - a) + 4) ≤ B1 by omega) (show 0 + (32 * (N - a) + 32) ≤ B2 by omega) (fun v h' q => ?_) (fun q h' hq => gTX_out rfl ?_)
    · obtain ⟨_, _, _, _, _, e, _⟩ := q; cases e
    · obtain ⟨kp', e, w⟩ := hq
      cases e
      exact ⟨kp, eL, w⟩
  | inr q1 =>
    rw [e1] at ho
    have eI : R = rLp T N 43 2 45 3 one (N + 1) q1.1 q1.2 := by rw [hR]; unfold rOps; rw [e1]
    obtain ⟨g2, g3, g4⟩ := g1 _ q1 ha e1
    obtain ⟨k5, k6, -, -⟩ := sk_ok (T := T) g3
    obtain ⟨b1, b2⟩ := cst_G eB (show a ≤ q1.2 by omega) g3 (fun q e2 => (rLp_good g1 (by decide) (by decide) (N + 1) _ q1.2 q g3 (eI.symm.trans e2)).2.1)
    refine gT_callV rfl rfl rfl rfl rfl dX16_sum_1 ho (show 0 + 4 * (q1.2 - a) ≤ B1 by omega) (show 0 + 32 * (q1.2 - a) ≤ B2 by omega) (fun v h' q => ?_) (fun q h' hq => gTX_out rfl ?_)
    rotate_left
    · obtain ⟨_, e, _⟩ := hq; cases e
    obtain ⟨q, r1, I1, L1, y1, e, rfl, rfl, f1, x2, x4, t1⟩ := q
    cases e
    have S1 : jS i j T N k q1.2 I1 y1 := S.fr f1 x2 g3 (x4.trans S.2.2)
    refine gT_go 400 [10] kX16_sum ?_
    refine gTM_use rfl (o28_now (d + 9) i T N q1.2 I1 L1 y1 S1.1) (fun v h' q => ?_)
    obtain ⟨rfl, rfl⟩ := q
    refine gT_wide (4 * (q1.2 - a), 32 * (q1.2 - a)) (show 0 + 4 * (q1.2 - a) ≤ 4 * (q1.2 - a) by omega) (show 0 + 32 * (q1.2 - a) ≤ 32 * (q1.2 - a) by omega) b1 b2 ?_
    exact key (N + 1) q1.1 q1.2 r1 (u3 I1 28 i 2 (nI (sk T N q1.2))) L1 y1 _ (by omega) (by omega) g3 (S1.at k6) (f1.put m28 _) (cTm_28 (fun b hb => by rw [u3_ne1 (by omega)]) t1) eI (by (repeat' apply And.intro) <;> first | rfl | trivial | exact congrArg Sum.inl (nI_1 _).symm | exact congrArg Sum.inl (nI_1 _).symm)
theorem t_su (T : Nat → Nat) (N : Nat) : ∀ k D, 3 * k ≤ D → k ≤ 6 → tC mX16_sum (D + 11) cTm T N k (rSu T N k) := by
  intro k
  induction k with
  | zero => intro D _ _; exact t_sum D 0 T N _ (rOps_good (rUn_good (fun f h => by cases h)) (by decide) (by decide)) (t_product D 0 T N _ (rUn_good (fun f h => by cases h)) (t_unit D 0 (by decide) T N none rfl))
  | succ k ih =>
    intro D hD hk
    obtain ⟨E, rfl⟩ : ∃ E, D = E + 3 := ⟨D - 3, by omega⟩
    have gu : rGood N (rUn T N (some (rSu T N k))) := rUn_good (fun f h => by cases h; exact rSu_good T N k)
    exact t_sum (E + 3) (k + 1) T N _ (rOps_good gu (by decide) (by decide)) (t_product (E + 3) (k + 1) T N _ gu (t_unit (E + 3) (k + 1) hk T N (some (rSu T N k)) ⟨k, rfl, rSu_good T N k, ih E (by omega) (by omega)⟩))
/-! ===== reading a law in the component: and, or (printed by gen_trees.py) ===== -/
set_option maxRecDepth 100000 in
theorem t_ands (d k : Nat) (T : Nat → Nat) (N : Nat) (one : Nat → RR Cd) (g1 : rGood N one) (h1 : tC mX16_asked (d + 12) cAs T N k one) : tC mX16_ands (d + 13) cAs T N k (rWs T N (wd 20) 10 one) := by
  intro i j a I L y S
  obtain ⟨R, hR⟩ : ∃ R, R = rWs T N (wd 20) 10 one a := ⟨_, rfl⟩
  rw [← hR]
  obtain ⟨B1, B2, eB⟩ : ∃ B1 B2, cst N a R = (B1, B2) := ⟨_, _, rfl⟩
  rw [eB]
  have ha := S.1.2.2.2.2.2.1
  have key : ∀ (f : Nat) (C : Cd) (b : Nat) (r : Rf) (I1 : Nat → Nat → Nat → Int32) (L1 : Nat → Nat → Nat → Int64) (y1 : Dy) (lo' : Lo), N < f + b → a ≤ b → b ≤ N → jS i j T N k b I1 y1 → hF Gt (Mb 28 i) I L y I1 L1 y1 → cAs I1 y1 C.length r C → R = rLw T N (wd 20) 10 one f C b → glle [some (gR (some (28, i))), some (gR (some r))] lo' →
      gT mX16_ands (d + 13) (B1, B2) (tQ cAs i R I L y) (tX i R I L y) 5 lo' [] (gH I1 L1 y1) (4 * (b - a), 32 * (b - a)) := by
    intro f
    induction f with
    | zero => intro C b r I1 L1 y1 lo' hf _ hb; exact absurd hf (by omega)
    | succ f ih =>
      intro C b r I1 L1 y1 lo' hf hab hb S1 f1 t1 eR hl
      obtain ⟨k1, k2, k3, k4⟩ := sk_ok (T := T) hb
      refine gT_lo _ hl ?_
      refine gT_valS (fun hv hlv _ => ?_)
      have vr : r.2 < y1.2.2.2.2 r.1 := hlv 1 (gR (some r)) rfl
      refine gT_go 400 [14] kX16_ands ?_
      refine gTM_use rfl (o28_eats (d + 6) i 20 (by decide) T N b I1 L1 y1 S1.1) (fun v h' q => ?_)
      obtain ⟨rfl, rfl⟩ := q
      refine bB0 (decide (rWord T N b = wd 20)) rfl (fun w => ?_) (fun w => ?_)
      · have hn := of_decide_eq_false w
        exact ⟨(C, sk T N b), r, _, L1, y1, by rw [eR, rLw, if_neg hn], rfl, rfl, f1.put m28 _, u3_eq.trans (by rw [if_neg hn]), (u3_ne3 (by decide)).trans (S1.2.2.trans S.2.2.symm), cAs_28 (fun b hb => by rw [u3_ne1 (by omega)]) t1⟩
      · have hy := of_decide_eq_true w
        have hw0 := rWord_at (show ¬ rWord T N b = 0 by rw [hy]; exact wd_20)
        have hwE := (wE_ok (T := T) k2).2.1
        rw [if_pos hy]
        have eL : ∀ kp, one (wE T N (sk T N b)) = .inl kp → R = .inl kp := fun kp e => by rw [eR, rLw, if_pos hy, e]
        have eI : ∀ q1, one (wE T N (sk T N b)) = .inr q1 → R = rLw T N (wd 20) 10 one f (C ++ q1.1 ++ [(10, 0)]) q1.2 := fun q1 e => by rw [eR, rLw, if_pos hy, e]
        have bI : ∀ q1, one (wE T N (sk T N b)) = .inr q1 → 4 * (q1.2 - a) ≤ B1 ∧ 32 * (q1.2 - a) ≤ B2 := fun q1 e => by
          obtain ⟨g2, g3, g4⟩ := g1 _ q1 hwE e
          exact cst_G eB (show a ≤ q1.2 by omega) g3 (fun q e2 => (rLw_good g1 wd_20 f _ q1.2 q g3 ((eI q1 e).symm.trans e2)).2.1)
        have c34 : 4 * (b - a) + 1 ≤ B1 ∧ 32 * (b - a) + 3 ≤ B2 := by
          cases e1 : one (wE T N (sk T N b)) with
          | inl kp => obtain ⟨b1, b2⟩ := cst_L eB (eL kp e1); omega
          | inr q1 =>
            obtain ⟨b1, b2⟩ := bI q1 e1
            obtain ⟨g2, g3, g4⟩ := g1 _ q1 hwE e1
            omega
        refine gT_new 14 (by decide) rfl rfl (by decide) dX16_ands_14 q1195 q1196 q171 c34.1 c34.2 ?_
        rw [gNw_gHn 0 rfl (fun z q => by cases q)]
        obtain ⟨c, hc⟩ : ∃ c, c = y1.2.2.2.2 14 := ⟨_, rfl⟩
        change gT _ _ _ _ _ _ _ [gR (some (14, y1.2.2.2.2 14))] (gH (fNw (u3 I1 28 i 2 (nI (wE T N (sk T N b)))) 0 14 (y1.2.2.2.2 14)) (fNw L1 0 14 (y1.2.2.2.2 14)) (yNw y1 14 0)) _
        rw [← hc]
        obtain ⟨I3, hI3⟩ : ∃ z, z = fNw (u3 I1 28 i 2 (nI (wE T N (sk T N b)))) 0 14 c := ⟨_, rfl⟩
        obtain ⟨L3, hL3⟩ : ∃ z, z = fNw L1 0 14 c := ⟨_, rfl⟩
        obtain ⟨y3, hy3⟩ : ∃ z, z = yNw y1 14 0 := ⟨_, rfl⟩
        rw [← hI3, ← hL3, ← hy3]
        have f3 : hF Gt (Mb 28 i) I1 L1 y1 I3 L3 y3 := by rw [hI3, hL3, hy3, hc]; exact hF.bM.nw (gGt (by decide)) 0
        have i3 : I3 28 i 2 = nI (wE T N (sk T N b)) := by rw [hI3]; exact (congrFun (congrFun (fNw_ne (by decide)) i) 2).trans u3_eq
        have i34 : I3 28 i 4 = nI (6 - k) := by rw [hI3]; exact (congrFun (congrFun (fNw_ne (by decide)) i) 4).trans ((u3_ne3 (by decide)).trans S1.2.2)
        have S3 : jS i j T N k (wE T N (sk T N b)) I3 y3 := S1.fr f3 i3 hwE i34
        have n3 : gRX y3 14 c 1 = none := by rw [hy3, hc]; exact gRX_nwN rfl
        have hcl : y1.2.2.2.2 14 ≤ c := Nat.le_of_eq hc.symm
        have hcl3 : c < y3.2.2.2.2 14 := by rw [hy3, hc]; show _ < gUp y1.2.2.2.2 14 14; rw [gUp_eq]; omega
        refine gT_go 400 [21] kX16_ands ?_
        have ho := h1 i j (wE T N (sk T N b)) I3 L3 y3 S3
        cases e1 : one (wE T N (sk T N b)) with
        | inl kp =>
          rw [e1] at ho
          obtain ⟨b1, b2⟩ := cst_L eB (eL kp e1)
          refine gT_callV rfl rfl rfl rfl rfl dX16_ands_21 ho (show 4 * (b - a) + 1 + (4 * (N - wE T N (sk T N b)) + 4) ≤ B1 by omega) (show 32 * (b - a) + 3 + (32 * (N - wE T N (sk T N b)) + 32) ≤ B2 by omega) (fun v h' q => ?_) (fun q h' hq => gTX_out rfl ?_)
          · obtain ⟨_, _, _, _, _, e, _⟩ := q; cases e
          · obtain ⟨kp', e, w⟩ := hq
            cases e
            exact ⟨kp, eL kp e1, w.of (fun _ z => z) (fun _ _ _ z => z) (f1.tr f3)⟩
        | inr q1 =>
          rw [e1] at ho
          obtain ⟨b1, b2⟩ := bI q1 e1
          obtain ⟨g2, g3, g4⟩ := g1 _ q1 hwE e1
          refine gT_callV rfl rfl rfl rfl rfl dX16_ands_21 ho (show 4 * (b - a) + 1 + 4 * (q1.2 - wE T N (sk T N b)) ≤ B1 by omega) (show 32 * (b - a) + 3 + 32 * (q1.2 - wE T N (sk T N b)) ≤ B2 by omega) (fun v h' q => ?_) (fun q h' hq => gTX_out rfl ?_)
          rotate_left
          · obtain ⟨_, e, _⟩ := hq; cases e
          obtain ⟨q, r4, I4, L4, y4, e, rfl, rfl, f4, x2, x4, t4⟩ := q
          cases e
          refine gT_go 400 [5] kX16_ands ?_
          refine gTM_use rfl (o_both (d + 10) c true r r4 I4 L4 y4) (fun v h' q => ?_)
          obtain ⟨rfl, rfl⟩ := q
          obtain ⟨I5, hI5⟩ : ∃ z, z = u3 I4 14 c 0 (gb true) := ⟨_, rfl⟩
          obtain ⟨y5, hy5⟩ : ∃ z, z = yR (yR y4 14 c 1 (some r)) 14 c 2 (some r4) := ⟨_, rfl⟩
          rw [← hI5, ← hy5]
          have f5 : hF Gt (Mb 28 i) I1 L1 y1 I5 L4 y5 := by rw [hI5, hy5]; exact (((f3.tr f4).putN (gGt (by decide)) hcl _).refN (gGt (by decide)) hcl rfl _).refN (gGt (by decide)) hcl rfl _
          have S5 : jS i j T N k q1.2 I5 y5 := S1.fr f5 (by rw [hI5, u3_ne1 (by decide)]; exact x2) g3 (by rw [hI5, u3_ne1 (by decide)]; exact x4.trans i34)
          refine gT_wide (4 * (q1.2 - a), 32 * (q1.2 - a)) (show 4 * (b - a) + 1 + 4 * (q1.2 - wE T N (sk T N b)) ≤ 4 * (q1.2 - a) by omega) (show 32 * (b - a) + 3 + 32 * (q1.2 - wE T N (sk T N b)) ≤ 32 * (q1.2 - a) by omega) b1 b2 ?_
          refine ih (C ++ q1.1 ++ [(10, 0)]) q1.2 (14, c) I5 L4 y5 _ (by omega) (by omega) g3 S5 (f1.tr f5) ?_ (eI q1 e1) (by (repeat' apply And.intro) <;> first | rfl | trivial | exact congrArg Sum.inl (nI_1 _).symm | exact congrArg Sum.inl (nI_1 _).symm)
          rw [List.length_append, List.length_append]
          show cAs _ _ (C.length + q1.1.length + 1) _ _
          refine Or.inr (Or.inr ⟨c, r, r4, C, q1.1, true, rfl, rfl, ?_, ?_, cAs_le (cAs_old hv f5 nMb vr t1) (by omega), cAs_le (cAs_set (E := fun b' i' => b' = 14 ∧ i' = c) (fun b' i' z => Or.inr ⟨Or.inl z.1, by rw [z.1, z.2]; exact (f4.2.2.1 14 c 1 (fun _ => hcl3)).2.1.trans n3⟩) (fun b' i' k' _ z2 z3 => ?_) t4) (by omega), ?_⟩)
          · rw [hy5, gRX_yR rfl, u3_ne3 (by decide), gRX_yR rfl]; exact u3_eq
          · rw [hy5, gRX_yR rfl]; exact u3_eq
          · refine ⟨?_, ?_⟩
            · rw [hI5]; exact u3_ne (fun z => z3 ⟨z.1, z.2.1⟩)
            · rw [hy5, gRX_yR rfl, u3_ne (fun z => z3 ⟨z.1, z.2.1⟩), gRX_yR rfl, u3_ne (fun z => z3 ⟨z.1, z.2.1⟩)]
          · rw [hI5]; exact u3_eq
  refine gEnter 400 [1] kX16_ands rfl rfl ?_
  have ho := h1 i j a I L y S
  cases e1 : one a with
  | inl kp =>
    rw [e1] at ho
    have eL : R = .inl kp := by rw [hR]; unfold rWs; rw [e1]
    obtain ⟨b1, b2⟩ := cst_L eB eL
    refine gT_callV rfl rfl rfl rfl rfl dX16_ands_1 ho (show 0 + (4 * (N - a) + 4) ≤ B1 by omega) (show 0 + (32 * (N - a) + 32) ≤ B2 by omega) (fun v h' q => ?_) (fun q h' hq => gTX_out rfl ?_)
    · obtain ⟨_, _, _, _, _, e, _⟩ := q; cases e
    · obtain ⟨kp', e, w⟩ := hq
      cases e
      exact ⟨kp, eL, w⟩
  | inr q1 =>
    rw [e1] at ho
    have eI : R = rLw T N (wd 20) 10 one (N + 1) q1.1 q1.2 := by rw [hR]; unfold rWs; rw [e1]
    obtain ⟨g2, g3, g4⟩ := g1 _ q1 ha e1
    obtain ⟨b1, b2⟩ := cst_G eB (show a ≤ q1.2 by omega) g3 (fun q e2 => (rLw_good g1 wd_20 (N + 1) _ q1.2 q g3 (eI.symm.trans e2)).2.1)
    refine gT_callV rfl rfl rfl rfl rfl dX16_ands_1 ho (show 0 + 4 * (q1.2 - a) ≤ B1 by omega) (show 0 + 32 * (q1.2 - a) ≤ B2 by omega) (fun v h' q => ?_) (fun q h' hq => gTX_out rfl ?_)
    rotate_left
    · obtain ⟨_, e, _⟩ := hq; cases e
    obtain ⟨q, r1, I1, L1, y1, e, rfl, rfl, f1, x2, x4, t1⟩ := q
    cases e
    have S1 : jS i j T N k q1.2 I1 y1 := S.fr f1 x2 g3 (x4.trans S.2.2)
    refine gT_go 400 [5] kX16_ands ?_
    refine gT_wide (4 * (q1.2 - a), 32 * (q1.2 - a)) (show 0 + 4 * (q1.2 - a) ≤ 4 * (q1.2 - a) by omega) (show 0 + 32 * (q1.2 - a) ≤ 32 * (q1.2 - a) by omega) b1 b2 ?_
    exact key (N + 1) q1.1 q1.2 r1 I1 L1 y1 _ (by omega) (by omega) g3 S1 f1 t1 eI (by (repeat' apply And.intro) <;> first | rfl | trivial | exact congrArg Sum.inl (nI_1 _).symm | exact congrArg Sum.inl (nI_1 _).symm)

set_option maxRecDepth 100000 in
theorem t_ors (d k : Nat) (T : Nat → Nat) (N : Nat) (one : Nat → RR Cd) (g1 : rGood N one) (h1 : tC mX16_ands (d + 13) cAs T N k one) : tC mX16_ors (d + 14) cAs T N k (rWs T N (wd 21) 11 one) := by
  intro i j a I L y S
  obtain ⟨R, hR⟩ : ∃ R, R = rWs T N (wd 21) 11 one a := ⟨_, rfl⟩
  rw [← hR]
  obtain ⟨B1, B2, eB⟩ : ∃ B1 B2, cst N a R = (B1, B2) := ⟨_, _, rfl⟩
  rw [eB]
  have ha := S.1.2.2.2.2.2.1
  have key : ∀ (f : Nat) (C : Cd) (b : Nat) (r : Rf) (I1 : Nat → Nat → Nat → Int32) (L1 : Nat → Nat → Nat → Int64) (y1 : Dy) (lo' : Lo), N < f + b → a ≤ b → b ≤ N → jS i j T N k b I1 y1 → hF Gt (Mb 28 i) I L y I1 L1 y1 → cAs I1 y1 C.length r C → R = rLw T N (wd 21) 11 one f C b → glle [some (gR (some (28, i))), some (gR (some r))] lo' →
      gT mX16_ors (d + 14) (B1, B2) (tQ cAs i R I L y) (tX i R I L y) 5 lo' [] (gH I1 L1 y1) (4 * (b - a), 32 * (b - a)) := by
    intro f
    induction f with
    | zero => intro C b r I1 L1 y1 lo' hf _ hb; exact absurd hf (by omega)
    | succ f ih =>
      intro C b r I1 L1 y1 lo' hf hab hb S1 f1 t1 eR hl
      obtain ⟨k1, k2, k3, k4⟩ := sk_ok (T := T) hb
      refine gT_lo _ hl ?_
      refine gT_valS (fun hv hlv _ => ?_)
      have vr : r.2 < y1.2.2.2.2 r.1 := hlv 1 (gR (some r)) rfl
      refine gT_go 400 [14] kX16_ors ?_
      refine gTM_use rfl (o28_eats (d + 7) i 21 (by decide) T N b I1 L1 y1 S1.1) (fun v h' q => ?_)
      obtain ⟨rfl, rfl⟩ := q
      refine bB0 (decide (rWord T N b = wd 21)) rfl (fun w => ?_) (fun w => ?_)
      · have hn := of_decide_eq_false w
        exact ⟨(C, sk T N b), r, _, L1, y1, by rw [eR, rLw, if_neg hn], rfl, rfl, f1.put m28 _, u3_eq.trans (by rw [if_neg hn]), (u3_ne3 (by decide)).trans (S1.2.2.trans S.2.2.symm), cAs_28 (fun b hb => by rw [u3_ne1 (by omega)]) t1⟩
      · have hy := of_decide_eq_true w
        have hw0 := rWord_at (show ¬ rWord T N b = 0 by rw [hy]; exact wd_21)
        have hwE := (wE_ok (T := T) k2).2.1
        rw [if_pos hy]
        have eL : ∀ kp, one (wE T N (sk T N b)) = .inl kp → R = .inl kp := fun kp e => by rw [eR, rLw, if_pos hy, e]
        have eI : ∀ q1, one (wE T N (sk T N b)) = .inr q1 → R = rLw T N (wd 21) 11 one f (C ++ q1.1 ++ [(11, 0)]) q1.2 := fun q1 e => by rw [eR, rLw, if_pos hy, e]
        have bI : ∀ q1, one (wE T N (sk T N b)) = .inr q1 → 4 * (q1.2 - a) ≤ B1 ∧ 32 * (q1.2 - a) ≤ B2 := fun q1 e => by
          obtain ⟨g2, g3, g4⟩ := g1 _ q1 hwE e
          exact cst_G eB (show a ≤ q1.2 by omega) g3 (fun q e2 => (rLw_good g1 wd_21 f _ q1.2 q g3 ((eI q1 e).symm.trans e2)).2.1)
        have c34 : 4 * (b - a) + 1 ≤ B1 ∧ 32 * (b - a) + 3 ≤ B2 := by
          cases e1 : one (wE T N (sk T N b)) with
          | inl kp => obtain ⟨b1, b2⟩ := cst_L eB (eL kp e1); omega
          | inr q1 =>
            obtain ⟨b1, b2⟩ := bI q1 e1
            obtain ⟨g2, g3, g4⟩ := g1 _ q1 hwE e1
            omega
        refine gT_new 14 (by decide) rfl rfl (by decide) dX16_ors_14 q1195 q1196 q171 c34.1 c34.2 ?_
        rw [gNw_gHn 0 rfl (fun z q => by cases q)]
        obtain ⟨c, hc⟩ : ∃ c, c = y1.2.2.2.2 14 := ⟨_, rfl⟩
        change gT _ _ _ _ _ _ _ [gR (some (14, y1.2.2.2.2 14))] (gH (fNw (u3 I1 28 i 2 (nI (wE T N (sk T N b)))) 0 14 (y1.2.2.2.2 14)) (fNw L1 0 14 (y1.2.2.2.2 14)) (yNw y1 14 0)) _
        rw [← hc]
        obtain ⟨I3, hI3⟩ : ∃ z, z = fNw (u3 I1 28 i 2 (nI (wE T N (sk T N b)))) 0 14 c := ⟨_, rfl⟩
        obtain ⟨L3, hL3⟩ : ∃ z, z = fNw L1 0 14 c := ⟨_, rfl⟩
        obtain ⟨y3, hy3⟩ : ∃ z, z = yNw y1 14 0 := ⟨_, rfl⟩
        rw [← hI3, ← hL3, ← hy3]
        have f3 : hF Gt (Mb 28 i) I1 L1 y1 I3 L3 y3 := by rw [hI3, hL3, hy3, hc]; exact hF.bM.nw (gGt (by decide)) 0
        have i3 : I3 28 i 2 = nI (wE T N (sk T N b)) := by rw [hI3]; exact (congrFun (congrFun (fNw_ne (by decide)) i) 2).trans u3_eq
        have i34 : I3 28 i 4 = nI (6 - k) := by rw [hI3]; exact (congrFun (congrFun (fNw_ne (by decide)) i) 4).trans ((u3_ne3 (by decide)).trans S1.2.2)
        have S3 : jS i j T N k (wE T N (sk T N b)) I3 y3 := S1.fr f3 i3 hwE i34
        have n3 : gRX y3 14 c 1 = none := by rw [hy3, hc]; exact gRX_nwN rfl
        have hcl : y1.2.2.2.2 14 ≤ c := Nat.le_of_eq hc.symm
        have hcl3 : c < y3.2.2.2.2 14 := by rw [hy3, hc]; show _ < gUp y1.2.2.2.2 14 14; rw [gUp_eq]; omega
        refine gT_go 400 [21] kX16_ors ?_
        have ho := h1 i j (wE T N (sk T N b)) I3 L3 y3 S3
        cases e1 : one (wE T N (sk T N b)) with
        | inl kp =>
          rw [e1] at ho
          obtain ⟨b1, b2⟩ := cst_L eB (eL kp e1)
          refine gT_callV rfl rfl rfl rfl rfl dX16_ors_21 ho (show 4 * (b - a) + 1 + (4 * (N - wE T N (sk T N b)) + 4) ≤ B1 by omega) (show 32 * (b - a) + 3 + (32 * (N - wE T N (sk T N b)) + 32) ≤ B2 by omega) (fun v h' q => ?_) (fun q h' hq => gTX_out rfl ?_)
          · obtain ⟨_, _, _, _, _, e, _⟩ := q; cases e
          · obtain ⟨kp', e, w⟩ := hq
            cases e
            exact ⟨kp, eL kp e1, w.of (fun _ z => z) (fun _ _ _ z => z) (f1.tr f3)⟩
        | inr q1 =>
          rw [e1] at ho
          obtain ⟨b1, b2⟩ := bI q1 e1
          obtain ⟨g2, g3, g4⟩ := g1 _ q1 hwE e1
          refine gT_callV rfl rfl rfl rfl rfl dX16_ors_21 ho (show 4 * (b - a) + 1 + 4 * (q1.2 - wE T N (sk T N b)) ≤ B1 by omega) (show 32 * (b - a) + 3 + 32 * (q1.2 - wE T N (sk T N b)) ≤ B2 by omega) (fun v h' q => ?_) (fun q h' hq => gTX_out rfl ?_)
          rotate_left
          · obtain ⟨_, e, _⟩ := hq; cases e
          obtain ⟨q, r4, I4, L4, y4, e, rfl, rfl, f4, x2, x4, t4⟩ := q
          cases e
          refine gT_go 400 [5] kX16_ors ?_
          refine gTM_use rfl (o_both (d + 11) c false r r4 I4 L4 y4) (fun v h' q => ?_)
          obtain ⟨rfl, rfl⟩ := q
          obtain ⟨I5, hI5⟩ : ∃ z, z = u3 I4 14 c 0 (gb false) := ⟨_, rfl⟩
          obtain ⟨y5, hy5⟩ : ∃ z, z = yR (yR y4 14 c 1 (some r)) 14 c 2 (some r4) := ⟨_, rfl⟩
          rw [← hI5, ← hy5]
          have f5 : hF Gt (Mb 28 i) I1 L1 y1 I5 L4 y5 := by rw [hI5, hy5]; exact (((f3.tr f4).putN (gGt (by decide)) hcl _).refN (gGt (by decide)) hcl rfl _).refN (gGt (by decide)) hcl rfl _
          have S5 : jS i j T N k q1.2 I5 y5 := S1.fr f5 (by rw [hI5, u3_ne1 (by decide)]; exact x2) g3 (by rw [hI5, u3_ne1 (by decide)]; exact x4.trans i34)
          refine gT_wide (4 * (q1.2 - a), 32 * (q1.2 - a)) (show 4 * (b - a) + 1 + 4 * (q1.2 - wE T N (sk T N b)) ≤ 4 * (q1.2 - a) by omega) (show 32 * (b - a) + 3 + 32 * (q1.2 - wE T N (sk T N b)) ≤ 32 * (q1.2 - a) by omega) b1 b2 ?_
          refine ih (C ++ q1.1 ++ [(11, 0)]) q1.2 (14, c) I5 L4 y5 _ (by omega) (by omega) g3 S5 (f1.tr f5) ?_ (eI q1 e1) (by (repeat' apply And.intro) <;> first | rfl | trivial | exact congrArg Sum.inl (nI_1 _).symm | exact congrArg Sum.inl (nI_1 _).symm)
          rw [List.length_append, List.length_append]
          show cAs _ _ (C.length + q1.1.length + 1) _ _
          refine Or.inr (Or.inr ⟨c, r, r4, C, q1.1, false, rfl, rfl, ?_, ?_, cAs_le (cAs_old hv f5 nMb vr t1) (by omega), cAs_le (cAs_set (E := fun b' i' => b' = 14 ∧ i' = c) (fun b' i' z => Or.inr ⟨Or.inl z.1, by rw [z.1, z.2]; exact (f4.2.2.1 14 c 1 (fun _ => hcl3)).2.1.trans n3⟩) (fun b' i' k' _ z2 z3 => ?_) t4) (by omega), ?_⟩)
          · rw [hy5, gRX_yR rfl, u3_ne3 (by decide), gRX_yR rfl]; exact u3_eq
          · rw [hy5, gRX_yR rfl]; exact u3_eq
          · refine ⟨?_, ?_⟩
            · rw [hI5]; exact u3_ne (fun z => z3 ⟨z.1, z.2.1⟩)
            · rw [hy5, gRX_yR rfl, u3_ne (fun z => z3 ⟨z.1, z.2.1⟩), gRX_yR rfl, u3_ne (fun z => z3 ⟨z.1, z.2.1⟩)]
          · rw [hI5]; exact u3_eq
  refine gEnter 400 [1] kX16_ors rfl rfl ?_
  have ho := h1 i j a I L y S
  cases e1 : one a with
  | inl kp =>
    rw [e1] at ho
    have eL : R = .inl kp := by rw [hR]; unfold rWs; rw [e1]
    obtain ⟨b1, b2⟩ := cst_L eB eL
    refine gT_callV rfl rfl rfl rfl rfl dX16_ors_1 ho (show 0 + (4 * (N - a) + 4) ≤ B1 by omega) (show 0 + (32 * (N - a) + 32) ≤ B2 by omega) (fun v h' q => ?_) (fun q h' hq => gTX_out rfl ?_)
    · obtain ⟨_, _, _, _, _, e, _⟩ := q; cases e
    · obtain ⟨kp', e, w⟩ := hq
      cases e
      exact ⟨kp, eL, w⟩
  | inr q1 =>
    rw [e1] at ho
    have eI : R = rLw T N (wd 21) 11 one (N + 1) q1.1 q1.2 := by rw [hR]; unfold rWs; rw [e1]
    obtain ⟨g2, g3, g4⟩ := g1 _ q1 ha e1
    obtain ⟨b1, b2⟩ := cst_G eB (show a ≤ q1.2 by omega) g3 (fun q e2 => (rLw_good g1 wd_21 (N + 1) _ q1.2 q g3 (eI.symm.trans e2)).2.1)
    refine gT_callV rfl rfl rfl rfl rfl dX16_ors_1 ho (show 0 + 4 * (q1.2 - a) ≤ B1 by omega) (show 0 + 32 * (q1.2 - a) ≤ B2 by omega) (fun v h' q => ?_) (fun q h' hq => gTX_out rfl ?_)
    rotate_left
    · obtain ⟨_, e, _⟩ := hq; cases e
    obtain ⟨q, r1, I1, L1, y1, e, rfl, rfl, f1, x2, x4, t1⟩ := q
    cases e
    have S1 : jS i j T N k q1.2 I1 y1 := S.fr f1 x2 g3 (x4.trans S.2.2)
    refine gT_go 400 [5] kX16_ors ?_
    refine gT_wide (4 * (q1.2 - a), 32 * (q1.2 - a)) (show 0 + 4 * (q1.2 - a) ≤ 4 * (q1.2 - a) by omega) (show 0 + 32 * (q1.2 - a) ≤ 32 * (q1.2 - a) by omega) b1 b2 ?_
    exact key (N + 1) q1.1 q1.2 r1 I1 L1 y1 _ (by omega) (by omega) g3 S1 f1 t1 eI (by (repeat' apply And.intro) <;> first | rfl | trivial | exact congrArg Sum.inl (nI_1 _).symm | exact congrArg Sum.inl (nI_1 _).symm)
/-! ===== reading a law in the component: one condition ===== -/
theorem rWord_91 {T : Nat → Nat} {N a : Nat} (h2 : sk T N a ≤ N) (h : rWord T N a = wd 19) : ¬ cAt T N (sk T N a) = 91 := by
  intro z
  have h3 := rWord_3 h2 h
  have h4 := (wE_ok (T := T) h2).2.1
  have h5 := (wE_ok (T := T) h2).2.2.1 (sk T N a) (Nat.le_refl _) (by omega)
  rw [cAt_in (by omega)] at z
  rw [z] at h5
  cases h5
def tSub1 (D : Nat) (T : Nat → Nat) (N k : Nat) (sub : Option (Nat → RR Cd)) : Prop := match sub with
  | none => k = 0
  | some f => ∃ k', k = k' + 1 ∧ rGood N f ∧ tC mX16_asked D cAs T N k' f ∧ tC mX16_ors D cAs T N k' (rAny T N f)
theorem tSub1.good {D N k : Nat} {T : Nat → Nat} {sub : Option (Nat → RR Cd)} (h : tSub1 D T N k sub) : ∀ f, sub = some f → rGood N f := by
  intro f e
  subst e
  obtain ⟨k', -, g, -⟩ := h
  exact g
set_option maxRecDepth 100000 in
theorem t_asked (d k : Nat) (hk : k ≤ 6) (T : Nat → Nat) (N : Nat) (sm : Nat → RR Cd) (sub : Option (Nat → RR Cd)) (gs : rGood N sm) (hm : tC mX16_sum (d + 11) cTm T N k sm) (hs : tSub1 (d + 11) T N k sub) : tC mX16_asked (d + 12) cAs T N k (rOn T N sm sub) := by
  intro i j a I L y S
  obtain ⟨R, hR⟩ : ∃ R, R = rOn T N sm sub a := ⟨_, rfl⟩
  rw [← hR]
  obtain ⟨B1, B2, eB⟩ : ∃ B1 B2, cst N a R = (B1, B2) := ⟨_, _, rfl⟩
  rw [eB]
  have ha := S.1.2.2.2.2.2.1
  have hT : ∀ t, t < N → T t < 256 := fun t ht => (S.1.2.2.2.2.2.2 t ht).2
  obtain ⟨k1, k2, k3, k4⟩ := sk_ok (T := T) ha
  have Ss : jS i j T N k (sk T N a) (u3 I 28 i 2 (nI (sk T N a))) y := S.at k2
  obtain ⟨p1, p2⟩ := cst_P eB (fun q e => (rOn_good gs hs.good a q ha (hR.symm.trans e)).2.2)
  have hss := sk_sk (T := T) ha
  refine gEnter 400 [11, 49, 76] kX16_asked rfl rfl ?_
  refine gTM_use rfl (o28_isWord (d + 6) i 19 (by decide) T N a I L y S.1) (fun v h' q => ?_)
  obtain ⟨rfl, rfl⟩ := q
  refine bB0 (decide (rWord T N a = wd 19)) rfl (fun c => ?_) (fun c => ?_)
  · have nw := of_decide_eq_false c
    refine gP_use (o28_nowS (d + 10) i T N (sk T N a) (u3 I 28 i 2 (nI (sk T N a))) L y Ss.1 hss) ?_
    refine bAtNe (T := T) (N := N) (s := sk T N a) 91 (by decide) (by decide) hT rfl rfl (fun w => ?_) (fun w => ?_)
    · -- a comparison
      have eR : R = rbd (sm (sk T N a)) (fun C b => if cAt T N (sk T N b) = 60 ∨ cAt T N (sk T N b) = 62 ∨ cAt T N (sk T N b) = 61
        then rbd (sm (sk T N b + 1)) (fun C2 b2 => .inr (C ++ C2 ++ [(if cAt T N (sk T N b) = 60 then 6 else if cAt T N (sk T N b) = 62 then 7 else 8, 0)], b2))
        else .inl (1, sk T N b)) := by rw [hR]; unfold rOn; rw [if_neg w, if_neg nw]
      have ho := hm i j (sk T N a) (u3 I 28 i 2 (nI (sk T N a))) L y Ss
      cases e1 : sm (sk T N a) with
      | inl kp =>
        rw [e1] at ho
        have eL : R = .inl kp := by rw [eR, rbd_l e1]
        obtain ⟨b1, b2⟩ := cst_L eB eL
        refine gT_callV rfl rfl rfl rfl rfl dX16_asked_76 ho (show 0 + (4 * (N - sk T N a) + 4) ≤ B1 by omega) (show 0 + (32 * (N - sk T N a) + 32) ≤ B2 by omega) (fun v h' q => ?_) (fun q h' hq => gTX_out rfl ?_)
        · obtain ⟨_, _, _, _, _, e, _⟩ := q; cases e
        · obtain ⟨kp', e, w⟩ := hq
          cases e
          exact ⟨kp, eL, w.of (fun _ z => z) (fun _ _ _ z => z) hF.bM⟩
      | inr q1 =>
        rw [e1] at ho
        obtain ⟨C, b⟩ := q1
        obtain ⟨g2, g3, g4⟩ := gs _ _ k2 e1
        have g3' : b ≤ N := g3
        have g4' : sk T N a < b := g4
        obtain ⟨k5, k6, -, -⟩ := sk_ok (T := T) g3'
        rw [rbd_r e1] at eR
        have bb : 4 * (b - sk T N a) + 1 ≤ B1 ∧ 32 * (b - sk T N a) + 8 ≤ B2 := by
          by_cases hy : cAt T N (sk T N b) = 60 ∨ cAt T N (sk T N b) = 62 ∨ cAt T N (sk T N b) = 61
          · rw [if_pos hy] at eR
            have hlt : sk T N b < N := cAt_0 (T := T) (by omega)
            cases e2 : sm (sk T N b + 1) with
            | inl kp =>
              rw [rbd_l e2] at eR
              obtain ⟨b1, b2⟩ := cst_L eB eR
              omega
            | inr q2 =>
              obtain ⟨C2, b2'⟩ := q2
              rw [rbd_r e2] at eR
              obtain ⟨j1, j2, j3⟩ := gs _ _ hlt e2
              have j3' : sk T N b + 1 < b2' := j3
              obtain ⟨b1, b2⟩ := cst_R eB eR
              have b1' : B1 = 4 * (b2' - a) := b1
              have b2'' : B2 = 32 * (b2' - a) := b2
              omega
          · rw [if_neg hy] at eR
            obtain ⟨b1, b2⟩ := cst_L eB eR
            omega
        refine gT_callV rfl rfl rfl rfl rfl dX16_asked_76 ho (show 0 + 4 * (b - sk T N a) ≤ B1 by omega) (show 0 + 32 * (b - sk T N a) ≤ B2 by omega) (fun v h' q => ?_) (fun q h' hq => gTX_out rfl ?_)
        rotate_left
        · obtain ⟨_, e, _⟩ := hq; cases e
        obtain ⟨q, r, I1, L1, y1, e, rfl, rfl, f1', x2, x4, t1⟩ := q
        cases e
        have f1 : hF Gt (Mb 28 i) I L y I1 L1 y1 := hF.bM.tr f1'
        have S1 : jS i j T N k b I1 y1 := Ss.fr f1' x2 g3' (x4.trans Ss.2.2)
        refine gT_valS (fun hv _ hst => ?_)
        have vr : r.2 < y1.2.2.2.2 r.1 := hst (gR (some r)) (List.mem_append_left _ List.mem_cons_self)
        refine gT_go 400 [109] kX16_asked ?_
        refine gTM_use rfl (o28_now (d + 10) i T N b I1 L1 y1 S1.1) (fun v h' q => ?_)
        obtain ⟨rfl, rfl⟩ := q
        have S1s := S1.at k6
        have at109 : ∀ (g : Bool) (lo' : Lo), (g = true ↔ (cAt T N (sk T N b) = 60 ∨ cAt T N (sk T N b) = 62 ∨ cAt T N (sk T N b) = 61)) → glle [some (gR (some (28, i))), some (gR (some r)), some (gI (bAt T N (sk T N b)))] lo' → gT mX16_asked (d + 12) (B1, B2) (tQ cAs i R I L y) (tX i R I L y) 109 lo' [gI (gb g), gR (some (28, i))] (gH (u3 I1 28 i 2 (nI (sk T N b))) L1 y1) (0 + 4 * (b - sk T N a), 0 + 32 * (b - sk T N a)) := by
          intro g lo' hg hl
          refine gT_lo _ hl ?_
          refine gT_callV (k := (1, 8)) rfl rfl rfl rfl rfl dX16_asked_109 (o28_right (d + 4) i g T N (sk T N b) (u3 I1 28 i 2 (nI (sk T N b))) L1 y1 S1s.1) (show 0 + 4 * (b - sk T N a) + 1 ≤ B1 by omega) (show 0 + 32 * (b - sk T N a) + 8 ≤ B2 by omega) (fun v h' q => ?_) (fun q h' hq => gTX_out rfl ?_)
          rotate_left
          · have hn : ¬ (cAt T N (sk T N b) = 60 ∨ cAt T N (sk T N b) = 62 ∨ cAt T N (sk T N b) = 61) := fun z => by
              have := hg.mpr z
              rw [hq.1] at this
              cases this
            exact ⟨(1, sk T N b), by rw [eR, if_neg hn], hq.2.of hGw (fun _ _ _ z => z) (f1.put m28 _)⟩
          obtain ⟨gt, rfl, rfl⟩ := q
          have hy := hg.mp gt
          have hlt : sk T N b < N := cAt_0 (T := T) (by omega)
          rw [if_pos hy] at eR
          have bI : ∀ q2, sm (sk T N b + 1) = .inr q2 → B1 = 4 * (q2.2 - a) ∧ B2 = 32 * (q2.2 - a) := fun q2 e2 => by
            obtain ⟨C2, b2⟩ := q2
            rw [rbd_r e2] at eR
            have k := cst_R eB eR
            exact k
          have c34 : 0 + 4 * (b - sk T N a) + 1 + 1 ≤ B1 ∧ 0 + 32 * (b - sk T N a) + 8 + 3 ≤ B2 := by
            cases e2 : sm (sk T N b + 1) with
            | inl kp =>
              rw [rbd_l e2] at eR
              obtain ⟨b1, b2⟩ := cst_L eB eR
              omega
            | inr q2 =>
              obtain ⟨b1, b2⟩ := bI q2 e2
              obtain ⟨j1, j2, j3⟩ := gs _ _ hlt e2
              omega
          refine gT_go 400 [117] kX16_asked ?_
          refine gTM_use rfl (o28_skip (d + 10) i 1 T N (sk T N b) _ L1 y1 S1s.1) (fun v h' q => ?_)
          obtain ⟨rfl, rfl⟩ := q
          rw [u3_u3]
          refine gT_new 15 (by decide) rfl rfl (by decide) dX16_asked_117 q1178 q1179 q170 c34.1 c34.2 ?_
          rw [gNw_gHn 0 rfl (fun z q => by cases q)]
          obtain ⟨c', hc⟩ : ∃ c, c = y1.2.2.2.2 15 := ⟨_, rfl⟩
          change gT _ _ _ _ _ _ _ [gR (some (15, y1.2.2.2.2 15))] (gH (fNw (u3 I1 28 i 2 (nI (sk T N b + 1))) 0 15 (y1.2.2.2.2 15)) (fNw L1 0 15 (y1.2.2.2.2 15)) (yNw y1 15 0)) _
          rw [← hc]
          obtain ⟨I3, hI3⟩ : ∃ z, z = fNw (u3 I1 28 i 2 (nI (sk T N b + 1))) 0 15 c' := ⟨_, rfl⟩
          obtain ⟨L3, hL3⟩ : ∃ z, z = fNw L1 0 15 c' := ⟨_, rfl⟩
          obtain ⟨y3, hy3⟩ : ∃ z, z = yNw y1 15 0 := ⟨_, rfl⟩
          rw [← hI3, ← hL3, ← hy3]
          have f3 : hF Gt (Mb 28 i) I1 L1 y1 I3 L3 y3 := by rw [hI3, hL3, hy3, hc]; exact hF.bM.nw (gGt (by decide)) 0
          have i3 : I3 28 i 2 = nI (sk T N b + 1) := by rw [hI3]; exact (congrFun (congrFun (fNw_ne (by decide)) i) 2).trans u3_eq
          have i34 : I3 28 i 4 = nI (6 - k) := by rw [hI3]; exact (congrFun (congrFun (fNw_ne (by decide)) i) 4).trans ((u3_ne3 (by decide)).trans S1.2.2)
          have S3 : jS i j T N k (sk T N b + 1) I3 y3 := S1.fr f3 i3 hlt i34
          have n3 : gRX y3 15 c' 1 = none := by rw [hy3, hc]; exact gRX_nwN rfl
          have hcl : y1.2.2.2.2 15 ≤ c' := Nat.le_of_eq hc.symm
          refine gT_go 400 [124] kX16_asked ?_
          have ho2 := hm i j (sk T N b + 1) I3 L3 y3 S3
          cases e2 : sm (sk T N b + 1) with
          | inl kp =>
            rw [e2] at ho2
            rw [rbd_l e2] at eR
            obtain ⟨b1, b2⟩ := cst_L eB eR
            refine gT_callV rfl rfl rfl rfl rfl dX16_asked_124 ho2 (show 0 + 4 * (b - sk T N a) + 1 + 1 + (4 * (N - (sk T N b + 1)) + 4) ≤ B1 by omega) (show 0 + 32 * (b - sk T N a) + 8 + 3 + (32 * (N - (sk T N b + 1)) + 32) ≤ B2 by omega) (fun v h' q => ?_) (fun q h' hq => gTX_out rfl ?_)
            · obtain ⟨_, _, _, _, _, e, _⟩ := q; cases e
            · obtain ⟨kp', e, w⟩ := hq
              cases e
              exact ⟨kp, eR, w.of (fun _ z => z) (fun _ _ _ z => z) (f1.tr f3)⟩
          | inr q2 =>
            rw [e2] at ho2
            obtain ⟨b1, b2⟩ := bI q2 e2
            obtain ⟨C2, bq⟩ := q2
            have b1' : B1 = 4 * (bq - a) := b1
            have b2' : B2 = 32 * (bq - a) := b2
            obtain ⟨j1, j2, j3⟩ := gs _ _ hlt e2
            have j3' : sk T N b + 1 < bq := j3
            rw [rbd_r e2] at eR
            refine gT_callV rfl rfl rfl rfl rfl dX16_asked_124 ho2 (show 0 + 4 * (b - sk T N a) + 1 + 1 + 4 * (bq - (sk T N b + 1)) ≤ B1 by omega) (show 0 + 32 * (b - sk T N a) + 8 + 3 + 32 * (bq - (sk T N b + 1)) ≤ B2 by omega) (fun v h' q => ?_) (fun q h' hq => gTX_out rfl ?_)
            rotate_left
            · obtain ⟨_, e, _⟩ := hq; cases e
            obtain ⟨q, r4, I4, L4, y4, e, rfl, rfl, f4, z2, z4, t4⟩ := q
            cases e
            refine gT_go 400 [] kX16_asked ?_
            refine gTM_use rfl (o_cmp (d + 9) c' (bAt T N (sk T N b)) r r4 I4 L4 y4) (fun v h' q => ?_)
            obtain ⟨rfl, rfl⟩ := q
            have f5 : hF Gt (Mb 28 i) I1 L1 y1 (u3 I4 15 c' 0 (bAt T N (sk T N b))) L4 (yR (yR y4 15 c' 1 (some r)) 15 c' 2 (some r4)) := (((f3.tr f4).putN (gGt (by decide)) hcl _).refN (gGt (by decide)) hcl rfl _).refN (gGt (by decide)) hcl rfl _
            refine ⟨(C ++ C2 ++ [(if cAt T N (sk T N b) = 60 then 6 else if cAt T N (sk T N b) = 62 then 7 else 8, 0)], bq), (15, c'), _, L4, _, eR, rfl, rfl, f1.tr f5, ?_, ?_, ?_⟩
            · rw [u3_ne1 (by decide)]; exact z2
            · rw [u3_ne1 (by decide)]; exact z4.trans (i34.trans S.2.2.symm)
            · show cAs _ _ (C ++ C2 ++ [(_, 0)]).length _ _
              rw [List.length_append, List.length_append]
              show cAs _ _ (C.length + C2.length + 1) _ _
              refine Or.inl ⟨c', r, r4, C, C2, if cAt T N (sk T N b) = 60 then 6 else if cAt T N (sk T N b) = 62 then 7 else 8, cAt T N (sk T N b), rfl, rfl, ?_, ?_, cTm_le (cTm_old hv f5 nMb vr t1) (by show C.length ≤ _; omega), cTm_le (cTm_set (E := fun b' i' => b' = 15 ∧ i' = c') (fun b' i' z => Or.inr ⟨Or.inr (Or.inl z.1), by rw [z.1, z.2]; exact (f4.2.2.1 15 c' 1 (fun _ => by rw [hy3, hc]; show _ < gUp y1.2.2.2.2 15 15; rw [gUp_eq]; omega)).2.1.trans n3⟩) (fun b' i' k' _ w2 w3 => ?_) t4) (by show C2.length ≤ _; omega), ?_, sgn3 hy⟩
              · rw [gRX_yR rfl, u3_ne3 (by decide), gRX_yR rfl]; exact u3_eq
              · rw [gRX_yR rfl]; exact u3_eq
              · refine ⟨u3_ne (fun z => w3 ⟨z.1, z.2.1⟩), ?_⟩
                rw [gRX_yR rfl, u3_ne (fun z => w3 ⟨z.1, z.2.1⟩), gRX_yR rfl, u3_ne (fun z => w3 ⟨z.1, z.2.1⟩)]
              · rw [cAt_in hlt]; exact u3_eq.trans (bAt_in hlt)
        refine bAtEq (T := T) (N := N) (s := sk T N b) 60 (by decide) (by decide) hT rfl rfl (fun c => at109 true _ ⟨fun _ => Or.inl c, fun _ => rfl⟩ (by (repeat' apply And.intro) <;> first | rfl | trivial | exact congrArg Sum.inl (nI_1 _).symm | exact congrArg Sum.inl (nI_1 _).symm)) (fun n1 => ?_)
        refine bAtEq (T := T) (N := N) (s := sk T N b) 62 (by decide) (by decide) hT rfl rfl (fun c => at109 true _ ⟨fun _ => Or.inr (Or.inl c), fun _ => rfl⟩ (by (repeat' apply And.intro) <;> first | rfl | trivial | exact congrArg Sum.inl (nI_1 _).symm | exact congrArg Sum.inl (nI_1 _).symm)) (fun n2 => ?_)
        refine bAtNe (T := T) (N := N) (s := sk T N b) 61 (by decide) (by decide) hT rfl rfl (fun n3 => at109 false _ ⟨fun z => (by cases z), fun z => (by omega)⟩ (by (repeat' apply And.intro) <;> first | rfl | trivial | exact congrArg Sum.inl (nI_1 _).symm | exact congrArg Sum.inl (nI_1 _).symm)) (fun c => at109 true _ ⟨fun _ => Or.inr (Or.inr c), fun _ => rfl⟩ (by (repeat' apply And.intro) <;> first | rfl | trivial | exact congrArg Sum.inl (nI_1 _).symm | exact congrArg Sum.inl (nI_1 _).symm))
    · -- brackets
      have hlt : sk T N a < N := cAt_0 (T := T) (by omega)
      refine gT_callV (k := (1, 8)) rfl rfl rfl rfl rfl dX16_asked_49 (o_opens (d + 3) i j k 1 hk T N (sk T N a) (u3 I 28 i 2 (nI (sk T N a))) L y Ss) (show 0 + 1 ≤ B1 by omega) (show 0 + 8 ≤ B2 by omega) (fun v h' q => ?_) (fun q h' hq => gTX_out rfl ?_)
      rotate_left
      · obtain ⟨k0, hq⟩ := hq
        refine ⟨(3, sk T N a), ?_, hq.of hGw (fun _ _ _ z => z) hF.bM⟩
        rw [hR]
        unfold rOn
        rw [if_pos w]
        cases sub with
        | none => rfl
        | some f => obtain ⟨k', e, -⟩ := hs; omega
      obtain ⟨k', ek, rfl, rfl⟩ := q
      cases sub with
      | none => exact absurd (show k = 0 from hs) (by omega)
      | some f =>
        obtain ⟨k'', e2, gf, -, hf⟩ := hs
        have ekk : k'' = k' := by omega
        subst ekk
        have e1 : R = rShut T N 93 (rAny T N f (sk T N a + 1)) := by rw [hR]; unfold rOn; rw [if_pos w]
        obtain ⟨I2, hI2⟩ : ∃ I2, I2 = u3 (u3 (u3 I 28 i 2 (nI (sk T N a))) 28 i 4 (nI (6 - k''))) 28 i 2 (nI (sk T N a + 1)) := ⟨_, rfl⟩
        rw [← hI2]
        have f2 : hF Gt (Mb 28 i) I L y I2 L y := by rw [hI2]; exact ((hF.rf.put m28 _).put m28' _).put m28 _
        have S2 : jS i j T N k'' (sk T N a + 1) I2 y := S.fr f2 (by rw [hI2]; exact u3_eq) hlt (by rw [hI2]; exact (u3_ne3 (by decide)).trans u3_eq)
        have hc := hf i j (sk T N a + 1) I2 L y S2
        refine gT_go 400 [53] kX16_asked ?_
        cases e3 : rAny T N f (sk T N a + 1) with
        | inl kp =>
          have e4 : R = .inl kp := by rw [e1, e3] <;> rfl
          obtain ⟨b1, b2⟩ := cst_L eB e4
          rw [e3] at hc
          refine gT_callV rfl rfl rfl rfl rfl dX16_asked_53 hc (show 0 + 1 + (4 * (N - (sk T N a + 1)) + 4) ≤ B1 by omega) (show 0 + 8 + (32 * (N - (sk T N a + 1)) + 32) ≤ B2 by omega) (fun v h' q => ?_) (fun q h' hq => gTX_out rfl ?_)
          · obtain ⟨_, _, _, _, _, e, _⟩ := q; cases e
          · obtain ⟨kp', e, w⟩ := hq
            cases e
            exact ⟨kp, e4, w.of (fun _ z => z) (fun _ _ _ z => z) f2⟩
        | inr q1 =>
          obtain ⟨g2, g3, g4⟩ := rAny_good gf _ q1 hlt e3
          rw [e3] at hc
          have bb : 0 + 1 + 4 * (q1.2 - (sk T N a + 1)) + 1 ≤ B1 ∧ 0 + 8 + 32 * (q1.2 - (sk T N a + 1)) + 8 ≤ B2 := by
            cases e5 : rSign T N 93 q1.2 with
            | inl kp =>
              obtain ⟨b1, b2⟩ := cst_L eB (show R = .inl kp by rw [e1, e3]; exact rShut_no e5)
              omega
            | inr u =>
              obtain ⟨w1, w2⟩ := rSign_le (b := u.2) e5
              obtain ⟨b1, b2⟩ := cst_R eB (show R = .inr (q1.1, u.2) by rw [e1, e3]; exact rShut_ye e5)
              have b1' : B1 = 4 * (u.2 - a) := b1
              have b2' : B2 = 32 * (u.2 - a) := b2
              omega
          refine gT_callV rfl rfl rfl rfl rfl dX16_asked_53 hc (show 0 + 1 + 4 * (q1.2 - (sk T N a + 1)) ≤ B1 by omega) (show 0 + 8 + 32 * (q1.2 - (sk T N a + 1)) ≤ B2 by omega) (fun v h' q => ?_) (fun q h' hq => gTX_out rfl ?_)
          rotate_left
          · obtain ⟨_, e, _⟩ := hq; cases e
          obtain ⟨q, r, I3, L3, y3, e, rfl, rfl, f3, x2, x4, t3⟩ := q
          cases e
          have S3 : jS i j T N k'' q1.2 I3 y3 := S2.fr f3 x2 g3 (x4.trans S2.2.2)
          refine gT_go 400 [60] kX16_asked ?_
          refine gT_callV (k := (1, 8)) rfl rfl rfl rfl rfl dX16_asked_60 (o28_sign (d + 3) i 93 (by decide) (by decide) T N q1.2 I3 L3 y3 S3.1) bb.1 bb.2 (fun v h' q => ?_) (fun q h' hq => gTX_out rfl ?_)
          rotate_left
          · obtain ⟨kp, e5, w⟩ := hq
            exact ⟨kp, by rw [e1, e3]; exact rShut_no e5, w.of hGw (fun _ _ _ z => z) (f2.tr f3)⟩
          obtain ⟨b, e5, rfl, rfl⟩ := q
          refine gT_go 400 [] kX16_asked ?_
          have ex : u3 I3 28 i 2 (nI b) 28 i 4 - 1 = I 28 i 4 := by
            rw [u3_ne3 (by decide), x4, S2.2.2, S.2.2]
            exact nI_s1 (by omega)
          refine ⟨(q1.1, b), r, u3 (u3 I3 28 i 2 (nI b)) 28 i 4 (u3 I3 28 i 2 (nI b) 28 i 4 - 1), L3, y3, by rw [e1, e3]; exact rShut_ye e5, rfl, rfl, ((f2.tr f3).put m28 _).put m28' _, (u3_ne3 (by decide)).trans u3_eq, u3_eq.trans ex, ?_⟩
          exact cAs_28 (fun b hb => by rw [u3_ne1 (by omega), u3_ne1 (by omega)]) t3
  · have hw := of_decide_eq_true c
    have h91 := rWord_91 k2 hw
    have h3 := rWord_3 k2 hw
    have h4 := (wE_ok (T := T) k2).2.1
    refine gT_callV (k := (1, 8)) rfl rfl rfl rfl rfl dX16_asked_11 (o_opens (d + 3) i j k 3 hk T N (sk T N a) (u3 I 28 i 2 (nI (sk T N a))) L y Ss) (show 0 + 1 ≤ B1 by omega) (show 0 + 8 ≤ B2 by omega) (fun v h' q => ?_) (fun q h' hq => gTX_out rfl ?_)
    rotate_left
    · obtain ⟨k0, hq⟩ := hq
      refine ⟨(3, sk T N a), ?_, hq.of hGw (fun _ _ _ z => z) hF.bM⟩
      rw [hR]
      unfold rOn
      rw [if_neg h91, if_pos hw]
      cases sub with
      | none => rfl
      | some f => obtain ⟨k', e, -⟩ := hs; omega
    obtain ⟨k', ek, rfl, rfl⟩ := q
    cases sub with
    | none => exact absurd (show k = 0 from hs) (by omega)
    | some f =>
      obtain ⟨k'', e2, gf, hf, -⟩ := hs
      have ekk : k'' = k' := by omega
      subst ekk
      have e1 : R = rbd (f (sk T N a + 3)) (fun C b => .inr (C ++ [(9, 0)], b)) := by rw [hR]; unfold rOn; rw [if_neg h91, if_pos hw]
      obtain ⟨c', hc'⟩ : ∃ c, c = y.2.2.2.2 13 := ⟨_, rfl⟩
      refine gT_new 13 (by decide) rfl rfl (by decide) dX16_asked_14 q1100 q1101 q165 (show 0 + 1 + 1 ≤ B1 by omega) (show 0 + 8 + 1 ≤ B2 by omega) ?_
      rw [gNw_gHn 0 rfl (fun z q => by cases q)]
      change gT _ _ _ _ _ _ _ [gR (some (13, y.2.2.2.2 13))] (gH (fNw (u3 (u3 (u3 I 28 i 2 (nI (sk T N a))) 28 i 4 (nI (6 - k''))) 28 i 2 (nI (sk T N a + 3))) 0 13 (y.2.2.2.2 13)) (fNw L 0 13 (y.2.2.2.2 13)) (yNw y 13 0)) _
      rw [← hc']
      obtain ⟨I2, hI2⟩ : ∃ z, z = fNw (u3 (u3 (u3 I 28 i 2 (nI (sk T N a))) 28 i 4 (nI (6 - k''))) 28 i 2 (nI (sk T N a + 3))) 0 13 c' := ⟨_, rfl⟩
      obtain ⟨L2, hL2⟩ : ∃ z, z = fNw L 0 13 c' := ⟨_, rfl⟩
      obtain ⟨y2, hy2⟩ : ∃ z, z = yNw y 13 0 := ⟨_, rfl⟩
      rw [← hI2, ← hL2, ← hy2]
      have f2 : hF Gt (Mb 28 i) I L y I2 L2 y2 := by rw [hI2, hL2, hy2, hc']; exact (((hF.rf.put m28 _).put m28' _).put m28 _).nw (gGt (by decide)) 0
      have i2 : I2 28 i 2 = nI (sk T N a + 3) := by rw [hI2]; exact (congrFun (congrFun (fNw_ne (by decide)) i) 2).trans u3_eq
      have i4 : I2 28 i 4 = nI (6 - k'') := by rw [hI2]; exact (congrFun (congrFun (fNw_ne (by decide)) i) 4).trans ((u3_ne3 (by decide)).trans u3_eq)
      have S2 : jS i j T N k'' (sk T N a + 3) I2 y2 := S.fr f2 i2 (by omega) i4
      have n2 : gRX y2 13 c' 0 = none := by rw [hy2, hc']; exact gRX_nwN rfl
      have hcl : y.2.2.2.2 13 ≤ c' := Nat.le_of_eq hc'.symm
      have hc := hf i j (sk T N a + 3) I2 L2 y2 S2
      refine gT_go 400 [19] kX16_asked ?_
      cases e3 : f (sk T N a + 3) with
      | inl kp =>
        have e4 : R = .inl kp := by rw [e1, rbd_l e3]
        obtain ⟨b1, b2⟩ := cst_L eB e4
        rw [e3] at hc
        refine gT_callV rfl rfl rfl rfl rfl dX16_asked_19 hc (show 0 + 1 + 1 + (4 * (N - (sk T N a + 3)) + 4) ≤ B1 by omega) (show 0 + 8 + 1 + (32 * (N - (sk T N a + 3)) + 32) ≤ B2 by omega) (fun v h' q => ?_) (fun q h' hq => gTX_out rfl ?_)
        · obtain ⟨_, _, _, _, _, e, _⟩ := q; cases e
        · obtain ⟨kp', e, w⟩ := hq
          cases e
          exact ⟨kp, e4, w.of (fun _ z => z) (fun _ _ _ z => z) f2⟩
      | inr q1 =>
        obtain ⟨C, b⟩ := q1
        obtain ⟨g2, g3, g4⟩ := gf _ _ (by omega) e3
        have g4' : sk T N a + 3 < b := g4
        rw [e3] at hc
        have e4 : R = .inr (C ++ [(9, 0)], b) := by rw [e1, rbd_r e3]
        obtain ⟨b1, b2⟩ := cst_R eB e4
        have b1' : B1 = 4 * (b - a) := b1
        have b2' : B2 = 32 * (b - a) := b2
        refine gT_callV rfl rfl rfl rfl rfl dX16_asked_19 hc (show 0 + 1 + 1 + 4 * (b - (sk T N a + 3)) ≤ B1 by omega) (show 0 + 8 + 1 + 32 * (b - (sk T N a + 3)) ≤ B2 by omega) (fun v h' q => ?_) (fun q h' hq => gTX_out rfl ?_)
        rotate_left
        · obtain ⟨_, e, _⟩ := hq; cases e
        obtain ⟨q, r, I3, L3, y3, e, rfl, rfl, f3, x2, x4, t3⟩ := q
        cases e
        refine gT_go 400 [] kX16_asked ?_
        refine gTM_use rfl (o_not (d + 9) c' r I3 L3 y3) (fun v h' q => ?_)
        obtain ⟨rfl, rfl⟩ := q
        have ex : I3 28 i 4 - 1 = I 28 i 4 := by
          rw [x4, i4, S.2.2]
          exact nI_s1 (by omega)
        refine ⟨(C ++ [(9, 0)], b), (13, c'), u3 I3 28 i 4 (I3 28 i 4 - 1), L3, yR y3 13 c' 0 (some r), e4, rfl, rfl, ((f2.tr f3).refN (gGt (by decide)) hcl rfl _).put m28' _, (u3_ne3 (by decide)).trans x2, u3_eq.trans ex, ?_⟩
        show cAs _ _ (C ++ [(9, 0)]).length _ _
        rw [List.length_append]
        show cAs _ _ (C.length + 1) _ _
        refine Or.inr (Or.inl ⟨c', r, C, rfl, rfl, by rw [gRX_yR rfl]; exact u3_eq, ?_⟩)
        refine cAs_28 (fun b hb => by rw [u3_ne1 (by omega)]) (cAs_set (E := fun b' i' => b' = 13 ∧ i' = c') (fun b' i' z => Or.inl ⟨z.1, by rw [z.2]; exact (f3.2.2.1 13 c' 0 (fun _ => by rw [hy2, hc']; show _ < gUp y.2.2.2.2 13 13; rw [gUp_eq]; omega)).2.1.trans n2⟩) (fun b' i' k' _ w2 w3 => ⟨rfl, by rw [gRX_yR rfl, u3_ne (fun z => w3 ⟨z.1, z.2.1⟩)]⟩) t3)
theorem t_o1 (T : Nat → Nat) (N : Nat) : ∀ k D, 3 * k ≤ D → k ≤ 6 → tC mX16_asked (D + 12) cAs T N k (rO1 T N k) := by
  intro k
  induction k with
  | zero => intro D hD _; exact t_asked D 0 (by decide) T N _ none (rSu_good T N 0) (t_su T N 0 D hD (by decide)) rfl
  | succ k ih =>
    intro D hD hk
    have hm := t_su T N (k + 1) D hD hk
    obtain ⟨E, rfl⟩ : ∃ E, D = E + 3 := ⟨D - 3, by omega⟩
    exact t_asked (E + 3) (k + 1) hk T N _ (some (rO1 T N k)) (rSu_good T N (k + 1)) hm ⟨k, rfl, rO1_good T N k, ih (E + 2) (by omega) (by omega), t_ors E k T N _ (rWs_good (rO1_good T N k) wd_20) (t_ands E k T N _ (rO1_good T N k) (ih E (by omega) (by omega)))⟩
theorem t_co (T : Nat → Nat) (N d : Nat) : tC mX16_ors (d + 32) cAs T N 6 (rCo T N) := t_ors (d + 18) 6 T N _ (rWs_good (rO1_good T N 6) wd_20) (t_ands (d + 18) 6 T N _ (rO1_good T N 6) (t_o1 T N 6 (d + 18) (by omega) (by decide)))
