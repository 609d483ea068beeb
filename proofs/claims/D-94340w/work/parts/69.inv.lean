/-! ===== reading a land: what stays true of it (plain law) ===== -/
/-- a land that is being read -/
def gLi (A : Nat → Nat) : Prop := gLd A ∧ 0 < A 3 ∧ 0 < A 4 ∧ (A 6 = 0 ∨ A 6 < A 0) ∧ ∀ w, w < A 1 → A (19 + w) < A 0 ∧ A (43 + w) < A 0
/-- a part of the places gets v: it stays a land -/
theorem gLi_set {A : Nat → Nat} (h : gLi A) (c : Nat → Prop) [dc : DecidablePred c] (v : Nat) (hv : v < 10000)
    (h0 : c 0 → A 0 ≤ v ∧ v ≤ 12) (h1 : ¬ c 1) (h2 : c 2 → v ≤ 5) (h3 : c 3 → 0 < v ∧ v ≤ 24) (h4 : c 4 → 0 < v ∧ v ≤ 12) (h5 : c 5 → v ≤ 99) (h6 : c 6 → v < A 0 ∧ v < 12) (h67 : ∀ k, k < 5 → c (67 + k) → v ≤ 9) (h72 : ∀ j, j < 60 → c (72 + j) → v ≤ 99) (hs : ∀ j, j < 576 → c (132 + j) → v ≤ 16)
    (h19 : ∀ w, w < 24 → ¬ c (19 + w)) (h43 : ∀ w, w < 24 → ¬ c (43 + w)) : gLi (fun q => if c q then v else A q) := by
  obtain ⟨⟨g0, g1, g2, g3, g4, g5, g6, g7, g8, g9, g10, g11⟩, p3, p4, p6, pw⟩ := h
  have e1 : (if c 1 then v else A 1) = A 1 := if_neg h1
  have m0 : A 0 ≤ (if c 0 then v else A 0) := by
    split
    · next q => exact (h0 q).1
    · exact Nat.le_refl _
  unfold gLi gLd
  dsimp only
  refine ⟨⟨?_, by rw [e1]; exact g1, ?_, ?_, ?_, ?_, ?_, ?_, ?_, ?_, ?_, ?_⟩, ?_, ?_, ?_, ?_⟩
  · split
    · next q => exact (h0 q).2
    · exact g0
  · split
    · next q => exact h2 q
    · exact g2
  · split
    · next q => exact (h3 q).2
    · exact g3
  · split
    · next q => exact (h4 q).2
    · exact g4
  · split
    · next q => exact h5 q
    · exact g5
  · split
    · next q => exact (h6 q).2
    · exact g6
  · intro w hw
    rw [if_neg (h19 w hw), if_neg (h43 w hw)]
    exact g7 w hw
  · intro k hk
    split
    · next q => exact h67 k hk q
    · exact g8 k hk
  · intro j hj
    split
    · next q => exact h72 j hj q
    · exact g9 j hj
  · intro j hj
    split
    · next q => exact hs j hj q
    · exact g10 j hj
  · intro j hj
    split
    · exact hv
    · exact g11 j hj
  · split
    · next q => exact (h3 q).1
    · exact p3
  · split
    · next q => exact (h4 q).1
    · exact p4
  · split
    · next q =>
      have := (h6 q).1
      exact Or.inr (by omega)
    · rcases p6 with z | z
      · exact Or.inl z
      · exact Or.inr (by omega)
  · intro w hw
    rw [e1] at hw
    rw [if_neg (h19 w (by omega)), if_neg (h43 w (by omega))]
    have := pw w hw
    omega
theorem gLi_up {A : Nat → Nat} (h : gLi A) (j v : Nat) (hv : v < 10000) (h0 : j = 0 → A 0 ≤ v ∧ v ≤ 12) (h1 : j ≠ 1) (h2 : j = 2 → v ≤ 5) (h3 : j = 3 → 0 < v ∧ v ≤ 24) (h4 : j = 4 → 0 < v ∧ v ≤ 12) (h5 : j = 5 → v ≤ 99) (h6 : j = 6 → v < A 0) (h67 : 67 ≤ j → j < 72 → v ≤ 9) (h72 : 72 ≤ j → j < 132 → v ≤ 99) (hs : 132 ≤ j → v ≤ 16) (h19 : j < 19 ∨ 67 ≤ j) : gLi (aUp A j v) := by
  have g0 := h.1.1
  exact gLi_set h (fun q => q = j) v hv (fun q => h0 q.symm) (fun q => h1 q.symm) (fun q => h2 q.symm) (fun q => h3 q.symm) (fun q => h4 q.symm) (fun q => h5 q.symm) (fun q => ⟨h6 q.symm, by have := h6 q.symm; omega⟩) (fun k hk q => h67 (by omega) (by omega)) (fun k hk q => h72 (by omega) (by omega)) (fun k hk q => hs (by omega)) (fun w hw q => by omega) (fun w hw q => by omega)
theorem gLi_way {A : Nat → Nat} (h : gLi A) (p q : Nat) (hp : p < A 0) (hq : q < A 0) (h1 : A 1 < 24) : gLi (aUp (aUp (aUp A (19 + A 1) p) (43 + A 1) q) 1 (A 1 + 1)) := by
  obtain ⟨⟨g0, g1, g2, g3, g4, g5, g6, g7, g8, g9, g10, g11⟩, p3, p4, p6, pw⟩ := h
  have e : ∀ j, j ≠ 1 → j ≠ 19 + A 1 → j ≠ 43 + A 1 → aUp (aUp (aUp A (19 + A 1) p) (43 + A 1) q) 1 (A 1 + 1) j = A j := fun j a b c => by rw [aUp_ne a, aUp_ne c, aUp_ne b]
  have e19 : aUp (aUp (aUp A (19 + A 1) p) (43 + A 1) q) 1 (A 1 + 1) (19 + A 1) = p := by rw [aUp_ne (by omega), aUp_ne (by omega), aUp_eq]
  have e43 : aUp (aUp (aUp A (19 + A 1) p) (43 + A 1) q) 1 (A 1 + 1) (43 + A 1) = q := by rw [aUp_ne (by omega), aUp_eq]
  have e1 : aUp (aUp (aUp A (19 + A 1) p) (43 + A 1) q) 1 (A 1 + 1) 1 = A 1 + 1 := aUp_eq
  have ew : ∀ w, w < 24 → (aUp (aUp (aUp A (19 + A 1) p) (43 + A 1) q) 1 (A 1 + 1) (19 + w) = if w = A 1 then p else A (19 + w)) ∧ aUp (aUp (aUp A (19 + A 1) p) (43 + A 1) q) 1 (A 1 + 1) (43 + w) = if w = A 1 then q else A (43 + w) := by
    intro w hw
    by_cases z : w = A 1
    · rw [if_pos z, if_pos z, z]; exact ⟨e19, e43⟩
    · rw [if_neg z, if_neg z]; exact ⟨e _ (by omega) (by omega) (by omega), e _ (by omega) (by omega) (by omega)⟩
  refine ⟨⟨by rw [e 0 (by omega) (by omega) (by omega)]; exact g0, by rw [e1]; omega, by rw [e 2 (by omega) (by omega) (by omega)]; exact g2, by rw [e 3 (by omega) (by omega) (by omega)]; exact g3, by rw [e 4 (by omega) (by omega) (by omega)]; exact g4, by rw [e 5 (by omega) (by omega) (by omega)]; exact g5, by rw [e 6 (by omega) (by omega) (by omega)]; exact g6, fun w hw => ?_, fun k hk => by rw [e _ (by omega) (by omega) (by omega)]; exact g8 k hk, fun k hk => by rw [e _ (by omega) (by omega) (by omega)]; exact g9 k hk, fun k hk => by rw [e _ (by omega) (by omega) (by omega)]; exact g10 k hk, fun k hk => ?_⟩, by rw [e 3 (by omega) (by omega) (by omega)]; exact p3, by rw [e 4 (by omega) (by omega) (by omega)]; exact p4, by rw [e 6 (by omega) (by omega) (by omega), e 0 (by omega) (by omega) (by omega)]; exact p6, fun w hw => ?_⟩
  · rw [(ew w hw).1, (ew w hw).2]
    have := g7 w hw
    split <;> omega
  · have := g11 k hk
    unfold aUp
    split
    · omega
    · split
      · omega
      · split <;> omega
  · rw [e1] at hw
    rw [(ew w (by omega)).1, (ew w (by omega)).2, e 0 (by omega) (by omega) (by omega)]
    by_cases z : w = A 1
    · rw [if_pos z, if_pos z]; exact ⟨hp, hq⟩
    · rw [if_neg z, if_neg z]; exact pw w (by omega)
theorem aPut_eq (A : Nat → Nat) (w a n : Nat) : ∀ k j, aPut A w a n k j = if 132 + 24 * w + a ≤ j ∧ j < 132 + 24 * w + a + k then n else A j := by
  intro k
  induction k with
  | zero => intro j; rw [if_neg (by omega)] <;> rfl
  | succ k ih =>
    intro j
    show aUp (aPut A w a n k) (132 + 24 * w + (a + k)) n j = _
    by_cases e : j = 132 + 24 * w + (a + k)
    · rw [e, aUp_eq, if_pos (by omega)]
    · rw [aUp_ne e, ih j]
      by_cases z : 132 + 24 * w + a ≤ j ∧ j < 132 + 24 * w + a + k
      · rw [if_pos z, if_pos (by omega)]
      · rw [if_neg z, if_neg (by omega)]
theorem gLi_put {A : Nat → Nat} (h : gLi A) (w a n k : Nat) (hn : n ≤ 16) : gLi (aPut A w a n k) := by
  have e : aPut A w a n k = fun j => if 132 + 24 * w + a ≤ j ∧ j < 132 + 24 * w + a + k then n else A j := funext (aPut_eq A w a n k)
  rw [e]
  exact gLi_set h (fun j => 132 + 24 * w + a ≤ j ∧ j < 132 + 24 * w + a + k) n (by omega) (fun q => by omega) (fun q => by omega) (fun q => by omega) (fun q => by omega) (fun q => by omega) (fun q => by omega) (fun q => by omega) (fun k hk q => by omega) (fun k hk q => by omega) (fun k hk q => hn) (fun k hk q => by omega) (fun k hk q => by omega)
theorem rbd_inr {α β : Type} {r : RR α} {f : α → Nat → RR β} {z : β × Nat} (h : rbd r f = .inr z) : ∃ x b, r = .inr (x, b) ∧ f x b = .inr z := by
  cases r with
  | inl kp => cases h
  | inr q => exact ⟨q.1, q.2, rfl, h⟩
theorem rCl_ok {T : Nat → Nat} {N : Nat} {A A' : Nat → Nat} {w a b : Nat} (h : gLi A) (hf : rIsF A w = false) (e : rCl T N A w a = .inr (A', b)) : gLi A' := by
  have g := h.1
  have hf' := of_decide_eq_false (show decide _ = false from hf)
  have d01 : wd 0 ≠ wd 1 ∧ wd 0 ≠ wd 3 ∧ wd 1 ≠ wd 3 := by decide +kernel
  unfold rCl at e
  split at e
  · next c =>
    have a0 : A 0 < 12 := by have := g.1; omega
    unfold rPlc at e
    have two : ∀ s, s < 3 → gLi (aUp (aUp A (7 + A 0) s) 0 (A 0 + 1)) := by
      intro s hs
      have h1 : gLi (aUp A (7 + A 0) s) := gLi_up h (7 + A 0) s (by omega) (by omega) (by omega) (by omega) (by omega) (by omega) (by omega) (by omega) (by omega) (by omega) (by omega) (by omega)
      have ez : aUp A (7 + A 0) s 0 = A 0 := aUp_ne (by omega)
      exact gLi_up h1 0 (A 0 + 1) (by omega) (fun _ => by rw [ez]; omega) (by omega) (by omega) (by omega) (by omega) (by omega) (by omega) (by omega) (by omega) (by omega) (by omega)
    split at e
    · cases e; exact two 1 (by omega)
    · split at e
      · cases e; exact two 2 (by omega)
      · cases e; exact two 0 (by omega)
  · split at e
    · next c0 c =>
      have a1 : A 1 < 24 := by have := g.2.1; omega
      obtain ⟨p, b1, e1, e⟩ := rbd_inr e
      obtain ⟨q, b2, e2, e⟩ := rbd_inr e
      have hp := (rNum_lt e1).2
      have hq := (rNum_lt e2).2
      split at e
      · cases e
      · cases e; exact gLi_way h p q hp hq a1
    · split at e
      · obtain ⟨w', b1, e1, e⟩ := rbd_inr e
        obtain ⟨x, b2, e2, e⟩ := rbd_inr e
        obtain ⟨z, b3, e3, e⟩ := rbd_inr e
        obtain ⟨_, b4, e4, e⟩ := rbd_inr e
        obtain ⟨n, b5, e5, e⟩ := rbd_inr e
        have hn := (rNum_lt e5).2
        cases e
        exact gLi_put h _ _ _ _ (by omega)
      · split at e
        · next c3 =>
          have a2 : A 2 < 5 := by have := g.2.2.1; omega
          obtain ⟨c', b1, e1, e⟩ := rbd_inr e
          have hc := (rNum_lt e1).2
          cases e
          have h1 : gLi (aUp A (67 + A 2) c') := gLi_up h (67 + A 2) c' (by omega) (by omega) (by omega) (by omega) (by omega) (by omega) (by omega) (by omega) (by omega) (by omega) (by omega) (by omega)
          exact gLi_up h1 2 (A 2 + 1) (by omega) (by omega) (by omega) (by omega) (by omega) (by omega) (by omega) (by omega) (by omega) (by omega) (by omega) (by omega)
        · split at e
          · obtain ⟨k, b1, e1, e⟩ := rbd_inr e
            obtain ⟨p, b2, e2, e⟩ := rbd_inr e
            obtain ⟨v, b3, e3, e⟩ := rbd_inr e
            have hk := (rNum_lt e1).2
            have hp := (rNum_lt e2).2
            have hv := (rNum_lt e3).2
            have g0 := g.1
            have g2 := g.2.2.1
            cases e
            exact gLi_up h _ v (by omega) (by omega) (by omega) (by omega) (by omega) (by omega) (by omega) (by omega) (by omega) (by omega) (by omega) (by omega)
          · split at e
            · obtain ⟨v, b1, e1, e⟩ := rbd_inr e
              have hv := rNum_lt e1
              cases e
              exact gLi_up h 3 v (by omega) (by omega) (by omega) (by omega) (by omega) (by omega) (by omega) (by omega) (by omega) (by omega) (by omega) (by omega)
            · split at e
              · obtain ⟨v, b1, e1, e⟩ := rbd_inr e
                have hv := rNum_lt e1
                cases e
                exact gLi_up h 4 v (by omega) (by omega) (by omega) (by omega) (by omega) (by omega) (by omega) (by omega) (by omega) (by omega) (by omega) (by omega)
              · split at e
                · obtain ⟨v, b1, e1, e⟩ := rbd_inr e
                  have hv := rNum_lt e1
                  cases e
                  exact gLi_up h 5 v (by omega) (by omega) (by omega) (by omega) (by omega) (by omega) (by omega) (by omega) (by omega) (by omega) (by omega) (by omega)
                · obtain ⟨v, b1, e1, e⟩ := rbd_inr e
                  have hv := rNum_lt e1
                  have g0 := g.1
                  cases e
                  exact gLi_up h 6 v (by omega) (by omega) (by omega) (by omega) (by omega) (by omega) (by omega) (by omega) (by omega) (by omega) (by omega) (by omega)
/-- the clauses of a land -/
def rLandL (T : Nat → Nat) (N : Nat) : Nat → Nat → (Nat → Nat) → Nat → (Nat × Nat) ⊕ (Nat → Nat)
  | 0, _, A, _ => .inr A
  | f + 1, m, A, a => bif Nat.blt (sk T N a) N then
      (bif rIsC (rWord T N a) then
        (bif Nat.beq m 60 || rIsF A (rWord T N a) then .inl (3, sk T N a) else match rCl T N A (rWord T N a) (wE T N (sk T N a)) with
          | .inl kp => .inl kp
          | .inr (A', b) => match rSign T N 59 b with
            | .inl kp => .inl kp
            | .inr (_, c) => rLandL T N f (m + 1) A' c)
      else .inl (1, sk T N a)) else .inr A
def aNew : Nat → Nat := fun j => if j = 3 ∨ j = 4 then 12 else 0
/-- a land out of a text: a fault, or the land -/
def rLand (T : Nat → Nat) (N : Nat) : (Nat × Nat) ⊕ (Nat → Nat) := match rLandL T N 61 0 aNew 0 with
  | .inl kp => .inl kp
  | .inr A => if A 0 = 0 ∨ A 2 = 0 then .inl (4, N) else .inr A
theorem gLi_new : gLi aNew := by
  have e : ∀ j, aNew j ≤ 12 := fun j => by unfold aNew; split <;> omega
  have z : ∀ j, j ≠ 3 → j ≠ 4 → aNew j = 0 := fun j a b => by unfold aNew; rw [if_neg (by omega)]
  have e3 : aNew 3 = 12 := rfl
  have e4 : aNew 4 = 12 := rfl
  refine ⟨⟨by rw [z 0 (by omega) (by omega)]; omega, by rw [z 1 (by omega) (by omega)]; omega, by rw [z 2 (by omega) (by omega)]; omega, by omega, by omega, by rw [z 5 (by omega) (by omega)]; omega, by rw [z 6 (by omega) (by omega)]; omega, fun w hw => by rw [z _ (by omega) (by omega), z _ (by omega) (by omega)]; omega, fun k hk => by rw [z _ (by omega) (by omega)]; omega, fun k hk => by rw [z _ (by omega) (by omega)]; omega, fun k hk => by rw [z _ (by omega) (by omega)]; omega, fun k hk => by have := e k; omega⟩, by omega, by omega, Or.inl (z 6 (by omega) (by omega)), fun w hw => ?_⟩
  rw [z 1 (by omega) (by omega)] at hw
  exact absurd hw (Nat.not_lt_zero _)
theorem rLandL_ok {T : Nat → Nat} {N : Nat} : ∀ f m A a A', gLi A → rLandL T N f m A a = .inr A' → gLi A' := by
  intro f
  induction f with
  | zero => intro m A a A' h e; cases e; exact h
  | succ f ih =>
    intro m A a A' h e
    rw [rLandL] at e
    cases c1 : Nat.blt (sk T N a) N with
    | false => rw [c1] at e; cases e; exact h
    | true =>
      rw [c1, cond_true] at e
      cases c2 : rIsC (rWord T N a) with
      | false => rw [c2] at e; cases e
      | true =>
        rw [c2, cond_true] at e
        cases c3 : (Nat.beq m 60 || rIsF A (rWord T N a)) with
        | true => rw [c3] at e; cases e
        | false =>
          rw [c3, cond_false] at e
          have c4 : rIsF A (rWord T N a) = false := by
            cases q : rIsF A (rWord T N a) with
            | false => rfl
            | true => rw [q, Bool.or_true] at c3; cases c3
          cases hr : rCl T N A (rWord T N a) (wE T N (sk T N a)) with
          | inl kp => rw [hr] at e; cases e
          | inr q =>
            rw [hr] at e
            obtain ⟨A1, b⟩ := q
            dsimp only at e
            cases hs : rSign T N 59 b with
            | inl kp => rw [hs] at e; cases e
            | inr z => rw [hs] at e; exact ih _ _ _ _ (rCl_ok h c4 hr) e
theorem rLand_ok {T : Nat → Nat} {N : Nat} {A : Nat → Nat} (e : rLand T N = .inr A) : gLg A := by
  unfold rLand at e
  cases h : rLandL T N 61 0 aNew 0 with
  | inl kp => rw [h] at e; cases e
  | inr A1 =>
    rw [h] at e
    dsimp only at e
    have g := rLandL_ok _ _ _ _ _ gLi_new h
    split at e
    · cases e
    · next q =>
      cases e
      obtain ⟨g1, g2, g3, g4, g5⟩ := g
      exact ⟨g1, by omega, by omega, g2, g3, by omega, g5⟩
