/-! ===== a land is read ===== -/
theorem sk_sk {T : Nat → Nat} {N a : Nat} (h : a ≤ N) : sk T N (sk T N a) = sk T N a := by
  obtain ⟨h1, h2, h3, h4⟩ := sk_ok (T := T) h
  obtain ⟨g1, g2, g3, g4⟩ := sk_ok (T := T) h2
  rcases Nat.lt_or_ge (sk T N a) (sk T N (sk T N a)) with q | q
  · exact absurd (g3 _ (Nat.le_refl _) q) (h4 (by omega))
  · omega
theorem rWord_sk {T : Nat → Nat} {N a : Nat} (h : a ≤ N) : rWord T N (sk T N a) = rWord T N a := by unfold rWord; rw [sk_sk h]
set_option maxRecDepth 100000 in
theorem p_signE (d : Nat) (e : Option (Nat × Nat)) (T : Nat → Nat) (N a c : Nat) (hc : c < 256) (hc0 : 0 < c) (I : Nat → Nat → Nat → Int32) (L : Nat → Nat → Nat → Int64) (y : Dy) (H : rD T N a I) (E : rEr e I) :
    gTM mX12_sign (d + 2) (0, 0) [gM0, gI (nI c)] (gH I L y) (fun v h' => v = [] ∧ ∃ I', h' = gH I' L y ∧ rFe I I' ∧ rOut T N (rB e (rSign T N c a)) I') (fun _ _ => False) := by
  cases e with
  | none => exact p_sign d T N a c hc hc0 I L y H E
  | some kp =>
    refine gEnter 400 [24] kX12_sign rfl rfl ?_
    refine gP_use (p_fine d (some kp) I L y E) ?_
    refine And.intro (fun _ => ?_) (fun q => absurd rfl q)
    refine gT_go 400 [] kX12_sign ?_
    refine gP_use (p_fine d (some kp) I L y E) ?_
    refine And.intro (fun _ => ?_) (fun q => absurd rfl q)
    exact ⟨rfl, I, rfl, rFe.rf I, E, a, H⟩
def bI (I : Nat → Nat → Nat → Int32) (n : Nat) : Nat → Nat → Nat → Int32 := u3 (u3 (u3 (u3 (u3 (u3 I 100 0 2 0) 100 0 8 (-1)) 100 0 3 (nI n)) 100 0 4 0) 100 0 5 (-1)) 100 0 7 0
set_option maxRecDepth 100000 in
theorem p_begins (d n : Nat) (I : Nat → Nat → Nat → Int32) (L : Nat → Nat → Nat → Int64) (y : Dy) : gTM mX12_begins (d + 1) (0, 0) [gM0, gI (nI n)] (gH I L y) (fun v h' => v = [] ∧ h' = gH (bI I n) L y) (fun _ _ => False) := by
  refine gEnter 400 [] kX12_begins rfl rfl ?_
  exact ⟨rfl, rfl⟩
def sNew (j : Nat) : Int32 := if j = 53 then 1 else if 29 ≤ j ∧ j < 53 then -1 else 0
set_option maxRecDepth 100000 in
theorem p_anew (d : Nat) (I : Nat → Nat → Nat → Int32) (L : Nat → Nat → Nat → Int64) (y : Dy) : gTM mX12_anew (d + 1) (0, 0) [gM0] (gH I L y) (fun v h' => v = [] ∧ ∃ I', h' = gH I' L y ∧ (∀ b, b ≠ 100 → b ≠ 125 → I' b = I b) ∧ (∀ j, j ≠ 28 → I' 100 0 j = I 100 0 j) ∧ I' 100 0 28 = 0 ∧ ∀ j, j < 156 → I' 125 0 j = sNew j) (fun _ _ => False) := by
  refine gEnter 400 [2] kX12_anew rfl rfl ?_
  refine gT_for (σ := Nat → Nat → Nat → Int32) (pc := 2) (lo := fun i _ => [some gM0, some (gI (nI i))]) (hp := fun _ z => gH z L y) (Inv := fun i z => (∀ b, b ≠ 125 → z b = I b) ∧ ∀ j, j < i → z 125 0 j = if 29 ≤ j ∧ j < 53 then -1 else 0) 156 ?_ ?_ 0 I (Nat.zero_le _) ⟨fun _ _ => rfl, fun j hj => absurd hj (Nat.not_lt_zero _)⟩ (by (repeat' apply And.intro) <;> first | rfl | trivial | exact congrArg Sum.inl (nI_1 _).symm | exact congrArg Sum.inl (nI_1 _).symm)
  · intro z ⟨z1, z2⟩
    refine gT_go 400 [2] kX12_anew ?_
    refine bGe 156 156 rfl rfl (fun _ => ?_) (fun q => absurd q (by omega))
    refine Exists.intro (53) (And.intro rfl (And.intro (show _ < 156 by omega) ?_))
    refine And.intro (Or.inl rfl) ?_
    refine ⟨rfl, u3 (u3 z 125 0 53 1) 100 0 28 0, rfl, fun b h1 h2 => (u3_ne1 h1).trans ((u3_ne1 h2).trans (z1 b h2)), fun j hj => (u3_ne3 hj).trans (by rw [u3_ne1 (by decide), z1 100 (by decide)]), u3_eq, fun j hj => ?_⟩
    rw [u3_ne1 (by decide)]
    unfold sNew
    by_cases e : j = 53
    · rw [if_pos e, e]; exact u3_eq
    · rw [if_neg e]; exact (u3_ne3 e).trans (z2 j hj)
  · intro i z hi ⟨z1, z2⟩ hnext
    have at31 : ∀ (x : Int32) (lo' : Lo), x = (if 29 ≤ i ∧ i < 53 then -1 else 0) → glle [some gM0, some (gI (nI i))] lo' →
        gT mX12_anew (d + 1) (0, 0) (fun v h' => v = [] ∧ ∃ I', h' = gH I' L y ∧ (∀ b, b ≠ 100 → b ≠ 125 → I' b = I b) ∧ (∀ j, j ≠ 28 → I' 100 0 j = I 100 0 j) ∧ I' 100 0 28 = 0 ∧ ∀ j, j < 156 → I' 125 0 j = sNew j) (fun _ _ => False) 31 lo' [gI x, gI (nI i), gR (some (125, 0))] (gH z L y) (0, 0) := by
      intro x lo' hx hl'
      refine gT_lo _ hl' ?_
      refine gT_go 400 [2] kX12_anew ?_
      refine Exists.intro (i) (And.intro rfl (And.intro (show _ < 156 by omega) ?_))
      refine hnext _ _ ⟨fun b hb => (u3_ne1 hb).trans (z1 b hb), fun j hj => ?_⟩ (by (repeat' apply And.intro) <;> first | rfl | trivial | exact congrArg Sum.inl (nI_1 _).symm | exact congrArg Sum.inl (nI_1 _).symm)
      by_cases e : j = i
      · rw [e]; exact u3_eq.trans hx
      · exact (u3_ne3 e).trans (z2 j (by omega))
    refine gT_go 400 [2, 31] kX12_anew ?_
    refine bGe i 156 rfl rfl (fun q => absurd q (by omega)) (fun _ => ?_)
    refine bLt i 29 rfl rfl (fun c => ?_) (fun c => ?_)
    · exact at31 0 _ (by rw [if_neg (by omega)]) (by (repeat' apply And.intro) <;> first | rfl | trivial | exact congrArg Sum.inl (nI_1 _).symm | exact congrArg Sum.inl (nI_1 _).symm)
    · refine bGe i 53 rfl rfl (fun c2 => ?_) (fun c2 => ?_)
      · exact at31 0 _ (by rw [if_neg (by omega)]) (by (repeat' apply And.intro) <;> first | rfl | trivial | exact congrArg Sum.inl (nI_1 _).symm | exact congrArg Sum.inl (nI_1 _).symm)
      · exact at31 (-1) _ (by rw [if_pos ⟨c, c2⟩]) (by (repeat' apply And.intro) <;> first | rfl | trivial | exact congrArg Sum.inl (nI_1 _).symm | exact congrArg Sum.inl (nI_1 _).symm)
def rEA (e : Option (Nat × Nat)) (A : Nat → Nat) : (Nat × Nat) ⊕ (Nat → Nat) := match e with
  | none => .inr A
  | some kp => .inl kp
set_option maxRecDepth 100000 in
theorem t_land78 {Qr : List AV → Hp → Prop} {Qx : Rf → Hp → Prop} (d : Nat) (T : Nat → Nat) (N : Nat) (L : Nat → Nat → Nat → Int64) (y : Dy) (I0 : Nat → Nat → Nat → Int32) (R : (Nat × Nat) ⊕ (Nat → Nat))
    (hQ : ∀ (e : Option (Nat × Nat)) (I' : Nat → Nat → Nat → Int32) (A' : Nat → Nat) (a' : Nat) (lo' : Lo), rFz I0 I' → rD T N a' I' → rEr e I' → (e = none → gLr I' A' ∧ gLi A') → R = rEA e A' → glle [some gM0, none, none, none] lo' → gT mX12_land (d + 8) (0, 0) Qr Qx 170 lo' [] (gH I' L y) (0, 0)) :
    ∀ (f m : Nat) (A : Nat → Nat) (a : Nat) (I : Nat → Nat → Nat → Int32) (lo0 : Lo), f + m = 61 → m ≤ 60 → gLi A → rFz I0 I → rD T N a I → rEr none I → gLr I A → rLandL T N f m A a = R → glle [some gM0, none, some (gI (nI m)), none] lo0 → gT mX12_land (d + 8) (0, 0) Qr Qx 78 lo0 [] (gH I L y) (0, 0) := by
  intro f
  induction f with
  | zero => intro m A a I lo0 h1 h2; exact absurd h1 (by omega)
  | succ f ih =>
    intro m A a I lo0 hfm hm hi fz D E hl hR hlo
    have hN := D.2.1
    have ha := D.2.2.2.1
    have dead78 : ∀ (kp : Nat × Nat) (I' : Nat → Nat → Nat → Int32) (a' : Nat) (lo' : Lo), rFz I0 I' → rD T N a' I' → rEr (some kp) I' → R = .inl kp → glle [some gM0, none, none, none] lo' → gT mX12_land (d + 8) (0, 0) Qr Qx 78 lo' [] (gH I' L y) (0, 0) := by
      intro kp I' a' lo' g1 g2 g3 g4 hl'
      refine gT_lo _ hl' ?_
      refine gT_go 400 [170] kX12_land ?_
      refine gP_use (p_fine (d + 6) (some kp) I' L y g3) ?_
      refine And.intro (fun _ => ?_) (fun q => absurd rfl q)
      exact hQ (some kp) I' A a' _ g1 g2 g3 (fun q => by cases q) g4 (by (repeat' apply And.intro) <;> first | rfl | trivial | exact congrArg Sum.inl (nI_1 _).symm | exact congrArg Sum.inl (nI_1 _).symm)
    refine gT_lo _ hlo ?_
    refine gT_go 400 [116, 139, 170] kX12_land ?_
    refine gP_use (p_fine (d + 6) none I L y E) ?_
    refine And.intro (fun q => absurd q (by decide)) (fun _ => ?_)
    refine gTM_use rfl (p_isMore (d + 5) T N a I L y D) (fun v h' q => ?_)
    obtain ⟨rfl, I1, rfl, f1, D1⟩ := q
    have E1 := E.fr f1
    have hl1 := hl.fr f1
    rw [rLandL] at hR
    refine bB0 (Nat.blt (sk T N a) N) rfl (fun c => ?_) (fun c => ?_)
    · rw [c] at hR
      exact hQ none I1 A _ _ (fz.tr f1.fe.fz) D1 E1 (fun _ => ⟨hl1, hi⟩) hR.symm (by (repeat' apply And.intro) <;> first | rfl | trivial | exact congrArg Sum.inl (nI_1 _).symm | exact congrArg Sum.inl (nI_1 _).symm)
    · rw [c, cond_true] at hR
      refine gTM_use rfl (p_word (d + 5) T N (sk T N a) I1 L y D1) (fun v h' q => ?_)
      obtain ⟨rfl, I2, rfl, f2, D2⟩ := q
      rw [sk_sk ha] at D2
      rw [rWord_sk ha]
      obtain ⟨w, hw⟩ : ∃ w, w = rWord T N a := ⟨_, rfl⟩
      have hwl : w < 2 ^ 30 := by rw [hw]; exact rWord_lt D1.2.2.2.1
      rw [← hw] at hR ⊢
      have E2 := E1.fr f2
      have hl2 := hl1.fr f2
      have fz2 := (fz.tr f1.fe.fz).tr f2.fe.fz
      have ep : I2 100 0 4 = nI (sk T N a) := D2.2.2.1
      have at139 : ∀ (e : Option (Nat × Nat)) (I3 : Nat → Nat → Nat → Int32) (lo' : Lo), rFz I0 I3 → rD T N (sk T N a) I3 → rEr e I3 → gLr I3 A → (e = none → rIsC w = true ∧ m ≠ 60 ∧ rIsF A w = false) → (∀ kp, e = some kp → R = .inl kp) → glle [some gM0, none, some (gI (nI m)), some (gI (nI w))] lo' →
          gT mX12_land (d + 8) (0, 0) Qr Qx 139 lo' [] (gH I3 L y) (0, 0) := by
        intro e I3 lo' g1 g2 g3 g4 g5 g6 hl'
        refine gT_lo _ hl' ?_
        refine gT_go 400 [78, 170] kX12_land ?_
        refine gP_use (p_fine (d + 6) e I3 L y g3) ?_
        cases e with
        | some kp =>
          refine And.intro (fun q => absurd rfl q) (fun _ => ?_)
          exact hQ (some kp) I3 A _ _ g1 g2 g3 (fun q => by cases q) (g6 kp rfl) (by (repeat' apply And.intro) <;> first | rfl | trivial | exact congrArg Sum.inl (nI_1 _).symm | exact congrArg Sum.inl (nI_1 _).symm)
        | none =>
          refine And.intro (fun _ => ?_) (fun q => absurd q (by decide))
          obtain ⟨k1, k2, k3⟩ := g5 rfl
          rw [k1, cond_true, gbeqF k2, k3] at hR
          refine gTM_use rfl (p_pass (d + 5) T N (sk T N a) I3 L y g2) (fun v h' q => ?_)
          obtain ⟨rfl, I4, rfl, f4, D4⟩ := q
          have g := hi.1
          refine gTM_use rfl (p_readClause d w hwl T N _ A g.1 g.2.1 g.2.2.1 k3 g.lt I4 L y D4 (g3.fr f4) (g4.fr f4)) (fun v h' q => ?_)
          obtain ⟨rfl, I5, rfl, f5, o5⟩ := q
          have fz5 := (g1.tr f4.fe.fz).tr f5
          cases hr : rCl T N A w (wE T N (sk T N a)) with
          | inl kp =>
            rw [hr] at o5 hR
            obtain ⟨E5, a5, D5⟩ := o5
            refine gTM_use rfl (p_signE (d + 5) (some kp) T N a5 59 (by decide) (by decide) I5 L y D5 E5) (fun v h' q => ?_)
            obtain ⟨rfl, I6, rfl, f6, E6, a6, D6⟩ := q
            exact dead78 kp I6 a6 _ (fz5.tr f6.fz) D6 E6 hR.symm (by (repeat' apply And.intro) <;> first | rfl | trivial | exact congrArg Sum.inl (nI_1 _).symm | exact congrArg Sum.inl (nI_1 _).symm)
          | inr q =>
            obtain ⟨A', b⟩ := q
            rw [hr] at o5 hR
            obtain ⟨E5, D5, l5⟩ := o5
            refine gTM_use rfl (p_signE (d + 5) none T N b 59 (by decide) (by decide) I5 L y D5 E5) (fun v h' q => ?_)
            obtain ⟨rfl, I6, rfl, f6, o6⟩ := q
            have o6' : rOut T N (rSign T N 59 b) I6 := o6
            have hR' : (match rSign T N 59 b with
              | .inl kp => (.inl kp : (Nat × Nat) ⊕ (Nat → Nat))
              | .inr (_, c) => rLandL T N f (m + 1) A' c) = R := hR
            cases hs : rSign T N 59 b with
            | inl kp =>
              rw [hs] at o6' hR'
              obtain ⟨E6, a6, D6⟩ := o6'
              exact dead78 kp I6 a6 _ (fz5.tr f6.fz) D6 E6 hR'.symm (by (repeat' apply And.intro) <;> first | rfl | trivial | exact congrArg Sum.inl (nI_1 _).symm | exact congrArg Sum.inl (nI_1 _).symm)
            | inr z =>
              rw [hs] at o6' hR'
              obtain ⟨E6, D6⟩ := o6'
              exact ih (m + 1) A' z.2 I6 _ (by omega) (by omega) (rCl_ok hi k3 hr) (fz5.tr f6.fz) D6 E6 (l5.fe f6) hR' (by (repeat' apply And.intro) <;> first | rfl | trivial | exact congrArg Sum.inl (nI_1 _).symm | exact congrArg Sum.inl (nI_1 _).symm)
      refine gP_use (p_isClause (d + 1) w hwl (gH I2 L y)) ?_
      refine bB1 (rIsC w) rfl (fun c1 => ?_) (fun c1 => ?_)
      · rw [c1, cond_true] at hR
        have at130 : ∀ lo', (Nat.beq m 60 || rIsF A w) = true → glle [some gM0, none, some (gI (nI m)), some (gI (nI w))] lo' → gT mX12_land (d + 8) (0, 0) Qr Qx 130 lo' [] (gH I2 L y) (0, 0) := by
          intro lo' hc hl'
          refine gT_lo _ hl' ?_
          refine gT_go 400 [139] kX12_land ?_
          refine gTM_use (av' := [gM0, gI (nI 3), gI (nI (sk T N a))]) (by rw [← ep] <;> rfl) (p_wrong (d + 6) none 3 (sk T N a) (by have := D2.2.2.2.1; omega) I2 L y E2) (fun v h' q => ?_)
          obtain ⟨rfl, I3, rfl, f3, e3, E3⟩ := q
          exact at139 (some (3, sk T N a)) I3 _ (fz2.tr f3.fz) (D2.fe f3 (e3.trans D2.2.2.1) D2.2.2.2.1) E3 (hl2.fe f3) (fun q => by cases q) (fun kp q => by cases q; rw [hc] at hR; exact hR.symm) (by (repeat' apply And.intro) <;> first | rfl | trivial | exact congrArg Sum.inl (nI_1 _).symm | exact congrArg Sum.inl (nI_1 _).symm)
        refine gT_go 400 [130, 139] kX12_land ?_
        refine bEq m 60 rfl rfl (fun c2 => ?_) (fun c2 => ?_)
        · exact at130 _ (by rw [gbeqT c2] <;> rfl) (by (repeat' apply And.intro) <;> first | rfl | trivial | exact congrArg Sum.inl (nI_1 _).symm | exact congrArg Sum.inl (nI_1 _).symm)
        · refine gP_use (p_isFull (d + 1) w hwl A hi.1.lt I2 L y hl2) ?_
          refine bB0 (rIsF A w) rfl (fun c3 => ?_) (fun c3 => ?_)
          · exact at139 none I2 _ fz2 D2 E2 hl2 (fun _ => ⟨c1, c2, c3⟩) (fun kp q => by cases q) (by (repeat' apply And.intro) <;> first | rfl | trivial | exact congrArg Sum.inl (nI_1 _).symm | exact congrArg Sum.inl (nI_1 _).symm)
          · exact at130 _ (by rw [c3, Bool.or_true]) (by (repeat' apply And.intro) <;> first | rfl | trivial | exact congrArg Sum.inl (nI_1 _).symm | exact congrArg Sum.inl (nI_1 _).symm)
      · rw [c1] at hR
        refine gTM_use (av' := [gM0, gI (nI 1), gI (nI (sk T N a))]) (by rw [← ep] <;> rfl) (p_wrong (d + 6) none 1 (sk T N a) (by have := D2.2.2.2.1; omega) I2 L y E2) (fun v h' q => ?_)
        obtain ⟨rfl, I3, rfl, f3, e3, E3⟩ := q
        exact at139 (some (1, sk T N a)) I3 _ (fz2.tr f3.fz) (D2.fe f3 (e3.trans D2.2.2.1) D2.2.2.2.1) E3 (hl2.fe f3) (fun q => by cases q) (fun kp q => by cases q; exact hR.symm) (by (repeat' apply And.intro) <;> first | rfl | trivial | exact congrArg Sum.inl (nI_1 _).symm | exact congrArg Sum.inl (nI_1 _).symm)
/-- fields of the outer form after a text was taken -/
def xTx (V : VS) (f : Int32) : VS := (vA V, vL V, vR V, vS V, vI V, vQ V, (0, (vT V).2), f)
def xLd (V : VS) (N : Nat) : Int32 × AV × VS := match rLand (vT V).2 N with
  | .inl kp => (0, gI (nI kp.1 - 10), xTx V (nI kp.2))
  | .inr A => (0, gI (nI (A 0)), (A, true, [], sNew, (0, (vI V).2), vQ V, (0, (vT V).2), -1))
def xLand (V : VS) (x : Int32) : Int32 × AV × VS := bif gWi x 0 (nI (vT V).1) then xLd V (gTo x) else (1, gI 0, xRef V 2)
theorem rLand_s {T : Nat → Nat} {N : Nat} {kp : Nat × Nat} (h : rLandL T N 61 0 aNew 0 = .inl kp) : rLand T N = .inl kp := by unfold rLand; rw [h]
theorem rLand_n {T : Nat → Nat} {N : Nat} {A : Nat → Nat} (h : rLandL T N 61 0 aNew 0 = .inr A) : rLand T N = if A 0 = 0 ∨ A 2 = 0 then .inl (4, N) else .inr A := by unfold rLand; rw [h]
theorem rEr.put8 {e : Option (Nat × Nat)} {I : Nat → Nat → Nat → Int32} (H : rEr e I) (v : Int32) : rEr e (u3 I 100 0 8 v) := by
  unfold rEr at H ⊢
  rw [u3_ne3 (show ¬ 5 = 8 by decide), u3_ne3 (show ¬ 6 = 8 by decide)]
  exact H
/-- what of the outer form a reading leaves as it was -/
def mKeep (I I' : Nat → Nat → Nat → Int32) : Prop := (∀ b, b ≠ 100 → b ≠ 111 → I' b = I b) ∧ (∀ j, j = 12 ∨ j = 13 ∨ j = 27 ∨ j = 28 ∨ j = 32 ∨ j = 33 ∨ j = 34 ∨ j = 35 → I' 100 0 j = I 100 0 j) ∧ I' 100 0 2 = 0
theorem mR_tx {V : VS} {I I' : Nat → Nat → Nat → Int32} {L : Nat → Nat → Nat → Int64} (hm : mR V I L) (k : mKeep I I') {f : Int32} (h8 : I' 100 0 8 = f) : mR (xTx V f) I' L := by
  obtain ⟨k1, k2, k3⟩ := k
  obtain ⟨h1, h2, h3, h4, h5, h6, h7, h8', h9, h10, h11, h12, h13, h14, kn, h15, h16⟩ := hm
  exact ⟨fun j hj => by rw [k1 110 (by decide) (by decide)]; exact h1 j hj, (k2 12 (by decide)).trans h2, gRm_cg (k1 115 (by decide) (by decide)) (k1 116 (by decide) (by decide)) (k1 119 (by decide) (by decide)) (k1 120 (by decide) (by decide)) (k2 13 (by decide)) h3, fun j hj => by rw [k1 125 (by decide) (by decide)]; exact h4 j hj, (k2 27 (by decide)).trans h5, fun k j hk hj => by rw [k1 126 (by decide) (by decide)]; exact h6 k j hk hj, fun j hj => by rw [k1 101 (by decide) (by decide)]; exact h7 j hj, k3, fun j hj => absurd hj (Nat.not_lt_zero _), h8, (k2 32 (by decide)).trans h11, (k2 33 (by decide)).trans h12, (k2 34 (by decide)).trans h13, (k2 35 (by decide)).trans h14, kn, (k2 28 (by decide)).trans h15, fun q => ⟨(h16 q).1, gKn_cg (k1 136 (by decide) (by decide)) (k1 142 (by decide) (by decide)) rfl rfl (h16 q).2⟩⟩
set_option maxRecDepth 100000 in
theorem c_land (V : VS) (hw : gWf V) (x : Int32) : mC mX12_land 8 [gI x] V (xLand V x) := by
  intro d I L y hm
  have hm0 := mR_thr hm 0
  have w6 := hw.2.2.2.2.2.2.1
  have w7 := hw.2.2.2.2.2.2.2.1
  have e2 : u3 I 100 0 0 0 100 0 2 = nI (vT V).1 := hm0.2.2.2.2.2.2.2.1
  have at23 : ∀ (g : Bool) (lo' : Lo), g = gWi x 0 (nI (vT V).1) → glle [some gM0, some (gI x), none, none] lo' →
      gT mX12_land (d + 8) (0, 0) (fun v h' => v = [(xLand V x).2.1] ∧ ∃ I' L', h' = gH I' L' y ∧ mOut I L I' L' ∧ mR (xLand V x).2.2 I' L' ∧ I' 100 0 0 = (xLand V x).1) (fun _ _ => False) 23 lo' [gI (gb g), gM0] (gH (u3 I 100 0 0 0) L y) (0, 0) := by
    intro g lo' hg hl'
    refine gT_lo _ hl' ?_
    refine gT_go 400 [40] kX12_land ?_
    refine gTM_use rfl (p_may (d + 6) V g 1 (by decide) 2 (by decide) (u3 I 100 0 0 0) L y hm0 u3_eq) (fun v h' q => ?_)
    rcases q with ⟨hgt, rfl, rfl⟩ | ⟨hgf, rfl, I', rfl, q1, q2, q3⟩
    rotate_left
    · refine And.intro (fun q => absurd rfl q) (fun _ => ?_)
      exact mGt_no (by unfold xLand; rw [← hg, hgf] <;> rfl) q1 q2 q3
    · refine And.intro (fun _ => ?_) (fun q => absurd q (by decide))
      obtain ⟨n, hx, hn⟩ := gWi_m (N := (vT V).1) rfl (by omega) (hg.symm.trans hgt)
      subst hx
      have hgo : gTo (nI n) = n := gTo_n (by omega)
      have hxl : xLand V (nI n) = xLd V n := by unfold xLand; rw [← hg, hgt, hgo] <;> rfl
      rw [hxl]
      refine gTM_use rfl (p_begins (d + 6) n (u3 I 100 0 0 0) L y) (fun v h' q => ?_)
      obtain ⟨rfl, rfl⟩ := q
      obtain ⟨Ib, hIb⟩ : ∃ Ib, Ib = bI (u3 I 100 0 0 0) n := ⟨_, rfl⟩
      rw [← hIb]
      have b1 : ∀ b, b ≠ 100 → Ib b = I b := fun b hb => by rw [hIb]; unfold bI; rw [u3_ne1 hb, u3_ne1 hb, u3_ne1 hb, u3_ne1 hb, u3_ne1 hb, u3_ne1 hb, u3_ne1 hb]
      have b2 : Ib 100 0 2 = 0 ∧ Ib 100 0 3 = nI n ∧ Ib 100 0 4 = nI 0 ∧ Ib 100 0 5 = -1 ∧ Ib 100 0 0 = 0 := by rw [hIb]; exact ⟨rfl, rfl, rfl, rfl, rfl⟩
      have b3 : ∀ j, j = 12 ∨ j = 13 ∨ j = 27 ∨ j = 28 ∨ j = 32 ∨ j = 33 ∨ j = 34 ∨ j = 35 → Ib 100 0 j = I 100 0 j := fun j hj => by
        rw [hIb]
        unfold bI
        rw [u3_ne3 (by omega), u3_ne3 (by omega), u3_ne3 (by omega), u3_ne3 (by omega), u3_ne3 (by omega), u3_ne3 (by omega), u3_ne3 (by omega)]
      refine gT_for (σ := Nat → Nat → Nat → Int32) (pc := 40) (lo := fun i _ => [some gM0, none, some (gI (nI i)), none]) (hp := fun _ z => gH z L y) (Inv := fun i z => (∀ b, b ≠ 111 → z b = Ib b) ∧ ∀ j, j < i → z 111 0 j = nI 0) 708 ?_ ?_ 0 Ib (Nat.zero_le _) ⟨fun _ _ => rfl, fun j hj => absurd hj (Nat.not_lt_zero _)⟩ (by (repeat' apply And.intro) <;> first | rfl | trivial | exact congrArg Sum.inl (nI_1 _).symm | exact congrArg Sum.inl (nI_1 _).symm)
      · intro z ⟨z1, z2⟩
        refine gT_go 400 [78] kX12_land ?_
        refine bGe 708 708 rfl rfl (fun _ => ?_) (fun q => absurd q (by omega))
        refine Exists.intro (3) (And.intro rfl (And.intro (show _ < 708 by omega) ?_))
        refine Exists.intro (4) (And.intro rfl (And.intro (show _ < 708 by omega) ?_))
        have zI : ∀ b, b ≠ 111 → u3 (u3 z 111 0 3 12) 111 0 4 12 b = Ib b := fun b hb => by rw [u3_ne1 hb, u3_ne1 hb]; exact z1 b hb
        have zl : gLr (u3 (u3 z 111 0 3 12) 111 0 4 12) aNew := by
          intro j hj
          by_cases e4 : j = 4
          · rw [e4]; exact u3_eq
          · refine (u3_ne3 e4).trans ?_
            by_cases e3 : j = 3
            · rw [e3]; exact u3_eq
            · refine (u3_ne3 e3).trans ((z2 j hj).trans ?_)
              unfold aNew
              rw [if_neg (by omega)]
        have zD : rD (vT V).2 n 0 (u3 (u3 z 111 0 3 12) 111 0 4 12) := by
          refine ⟨by rw [zI 100 (by decide)]; exact b2.2.1, by omega, by rw [zI 100 (by decide)]; exact b2.2.2.1, Nat.zero_le _, fun j hj => ⟨?_, w7 j (by omega)⟩⟩
          rw [zI 109 (by decide), b1 109 (by decide)]
          exact hm.2.2.2.2.2.2.2.2.1 j (by omega)
        have zE : rEr none (u3 (u3 z 111 0 3 12) 111 0 4 12) := by show _ = _; rw [zI 100 (by decide)]; exact b2.2.2.2.1
        obtain ⟨Z, hZ⟩ : ∃ Z, Z = u3 (u3 z 111 0 3 12) 111 0 4 12 := ⟨_, rfl⟩
        have keep : ∀ I', rFz Z I' → mKeep I I' ∧ I' 100 0 0 = 0 := by
          intro I' f
          refine ⟨⟨fun b g1 g2 => (f.1 b g1 g2).trans (by rw [hZ, zI b g2]; exact b1 b g1), fun j hj => ?_, ?_⟩, ?_⟩
          · rw [f.2 j (by omega) (by omega) (by omega), hZ, zI 100 (by decide)]; exact b3 j hj
          · rw [f.2 2 (by decide) (by decide) (by decide), hZ, zI 100 (by decide)]; exact b2.1
          · rw [f.2 0 (by decide) (by decide) (by decide), hZ, zI 100 (by decide)]; exact b2.2.2.2.2
        have at204 : ∀ (e : Option (Nat × Nat)) (I' : Nat → Nat → Nat → Int32) (A' : Nat → Nat) (lo' : Lo), rFz Z I' → rEr e I' → (e = none → gLr I' A') → (∀ kp, e = some kp → rLand (vT V).2 n = .inl kp) → (e = none → rLand (vT V).2 n = .inr A') → glle [some gM0, none, none, none] lo' →
            gT mX12_land (d + 8) (0, 0) (fun v h' => v = [(xLd V n).2.1] ∧ ∃ I' L', h' = gH I' L' y ∧ mOut I L I' L' ∧ mR (xLd V n).2.2 I' L' ∧ I' 100 0 0 = (xLd V n).1) (fun _ _ => False) 204 lo' [] (gH I' L y) (0, 0) := by
          intro e I' A' lo' g1 g2 g3 g4 g5 hl'
          obtain ⟨kp1, kp2⟩ := keep I' g1
          have out : ∀ b, (b < 100 ∨ 160 ≤ b) → I' b = I b := fun b hb => kp1.1 b (by omega) (by omega)
          refine gT_lo _ hl' ?_
          refine gT_go 400 [227, 229] kX12_land ?_
          have E8 := g2.put8 (I' 100 0 5)
          refine gP_use (p_fine (d + 6) e (u3 I' 100 0 8 (I' 100 0 5)) L y E8) ?_
          cases e with
          | some kp =>
            refine And.intro (fun q => absurd rfl q) (fun _ => ?_)
            obtain ⟨k, p⟩ := kp
            refine mDone (o2 := (0, gI (nI k - 10), xTx V (nI p))) (by unfold xLd; rw [g4 (k, p) rfl]) ?_ (fun b hb => ⟨(u3_ne1 (by omega)).trans ((out b hb).trans (u3_ne1 (by omega)).symm), rfl⟩) (mR_tx hm ⟨fun b a1 a2 => (u3_ne1 a1).trans (kp1.1 b a1 a2), fun j hj => (u3_ne3 (by omega)).trans (kp1.2.1 j hj), (u3_ne3 (by decide)).trans kp1.2.2⟩ (u3_eq.trans g2.1)) ((u3_ne3 (by decide)).trans kp2)
            have e6 : u3 I' 100 0 8 (I' 100 0 5) 100 0 6 = nI k := (u3_ne3 (by decide)).trans g2.2.1
            exact congrArg (fun z => gI (z - 10)) e6
          | none =>
            refine And.intro (fun _ => ?_) (fun q => absurd q (by decide))
            have l1 := g3 rfl
            refine gT_go 400 [229] kX12_land ?_
            refine gT_for (σ := Nat → Nat → Nat → Int32) (pc := 229) (lo := fun i _ => [some gM0, none, none, some (gI (nI i))]) (hp := fun _ z => gH z L y) (Inv := fun i z => (∀ b, b ≠ 110 → z b = u3 I' 100 0 8 (I' 100 0 5) b) ∧ ∀ j, j < i → z 110 0 j = nI (A' j)) 708 ?_ ?_ 0 (u3 I' 100 0 8 (I' 100 0 5)) (Nat.zero_le _) ⟨fun _ _ => rfl, fun j hj => absurd hj (Nat.not_lt_zero _)⟩ (by (repeat' apply And.intro) <;> first | rfl | trivial | exact congrArg Sum.inl (nI_1 _).symm | exact congrArg Sum.inl (nI_1 _).symm)
            · intro z' ⟨s1, s2⟩
              refine gT_go 400 [] kX12_land ?_
              refine bGe 708 708 rfl rfl (fun _ => ?_) (fun q => absurd q (by omega))
              refine And.intro (Or.inr rfl) ?_
              refine gTM_use rfl (p_anew (d + 6) (u3 (u3 (u3 z' 100 0 12 1) 100 0 27 0) 100 0 13 0) L y) (fun v h' q => ?_)
              obtain ⟨rfl, J, rfl, j1, j2, j3, j4⟩ := q
              refine Exists.intro (0) (And.intro rfl (And.intro (show _ < 708 by omega) ?_))
              have jb : ∀ b, b ≠ 100 → b ≠ 125 → J b = z' b := fun b a1 a2 => (j1 b a1 a2).trans ((u3_ne1 a1).trans ((u3_ne1 a1).trans (u3_ne1 a1)))
              have jb2 : ∀ b, b ≠ 100 → b ≠ 125 → b ≠ 110 → J b = I' b := fun b a1 a2 a3 => (jb b a1 a2).trans ((s1 b a3).trans (u3_ne1 a1))
              have jf : ∀ j, j ≠ 28 → j ≠ 12 → j ≠ 27 → j ≠ 13 → J 100 0 j = u3 I' 100 0 8 (I' 100 0 5) 100 0 j := fun j a1 a2 a3 a4 => (j2 j a1).trans ((u3_ne3 a4).trans ((u3_ne3 a3).trans ((u3_ne3 a2).trans (by rw [s1 100 (by decide)]))))
              have jk : ∀ j, j ≠ 28 → j ≠ 12 → j ≠ 27 → j ≠ 13 → j ≠ 8 → J 100 0 j = I' 100 0 j := fun j a1 a2 a3 a4 a5 => (jf j a1 a2 a3 a4).trans (u3_ne3 a5)
              have j110 : ∀ j, j < 708 → J 110 0 j = nI (A' j) := fun j hj => by rw [jb 110 (by decide) (by decide)]; exact s2 j hj
              refine mDone (o2 := (0, gI (nI (A' 0)), (A', true, [], sNew, (0, (vI V).2), vQ V, (0, (vT V).2), -1))) (by unfold xLd; rw [g5 rfl]) (congrArg gI (j110 0 (by omega))) (fun b hb => ⟨(jb2 b (by omega) (by omega) (by omega)).trans ((out b hb).trans (u3_ne1 (by omega)).symm), rfl⟩) ?_ ((jk 0 (by decide) (by decide) (by decide) (by decide) (by decide)).trans kp2)
              obtain ⟨h1, h2, h3, h4, h5, h6, h7, h8', h9, h10, h11, h12, h13, h14, kn, h15, h16⟩ := hm
              refine ⟨j110, ?_, ⟨?_, Nat.zero_le _, Nat.zero_le _, fun k hk => absurd hk (Nat.not_lt_zero _)⟩, j4, ?_, fun k j hk => absurd hk (Nat.not_lt_zero _), fun j hj => ?_, ?_, fun j hj => absurd hj (Nat.not_lt_zero _), ?_, ?_, ?_, ?_, ?_, false, j3, fun q => by cases q⟩
              · exact (j2 12 (by decide)).trans ((u3_ne3 (by decide)).trans ((u3_ne3 (by decide)).trans u3_eq))
              · exact (j2 13 (by decide)).trans u3_eq
              · exact (j2 27 (by decide)).trans ((u3_ne3 (by decide)).trans u3_eq)
              · rw [jb2 101 (by decide) (by decide) (by decide), kp1.1 101 (by decide) (by decide)]; exact h7 j hj
              · exact (jk 2 (by decide) (by decide) (by decide) (by decide) (by decide)).trans kp1.2.2
              · exact (jf 8 (by decide) (by decide) (by decide) (by decide)).trans (u3_eq.trans g2)
              · exact (jk 32 (by decide) (by decide) (by decide) (by decide) (by decide)).trans ((kp1.2.1 32 (by omega)).trans h11)
              · exact (jk 33 (by decide) (by decide) (by decide) (by decide) (by decide)).trans ((kp1.2.1 33 (by omega)).trans h12)
              · exact (jk 34 (by decide) (by decide) (by decide) (by decide) (by decide)).trans ((kp1.2.1 34 (by omega)).trans h13)
              · exact (jk 35 (by decide) (by decide) (by decide) (by decide) (by decide)).trans ((kp1.2.1 35 (by omega)).trans h14)
            · intro i z' hi ⟨s1, s2⟩ hnext
              refine gT_go 400 [229] kX12_land ?_
              refine bGe i 708 rfl rfl (fun q => absurd q (by omega)) (fun _ => ?_)
              refine Exists.intro (i) (And.intro rfl (And.intro (show _ < 708 by omega) ?_))
              refine Exists.intro (i) (And.intro rfl (And.intro (show _ < 708 by omega) ?_))
              refine hnext _ _ ⟨fun b hb => (u3_ne1 hb).trans (s1 b hb), fun j hj => ?_⟩ (by (repeat' apply And.intro) <;> first | rfl | trivial | exact congrArg Sum.inl (nI_1 _).symm | exact congrArg Sum.inl (nI_1 _).symm)
              by_cases e : j = i
              · rw [e]
                refine u3_eq.trans ?_
                show z' 111 0 i = _
                rw [s1 111 (by decide), u3_ne1 (by decide)]
                exact l1 i hi
              · exact (u3_ne3 e).trans (s2 j (by omega))
        subst hZ
        refine t_land78 d (vT V).2 n L y (u3 (u3 z 111 0 3 12) 111 0 4 12) (rLandL (vT V).2 n 61 0 aNew 0) (fun e I' A' a' lo' f1 D1 E1 k hR hl' => ?_) 61 0 aNew 0 _ _ rfl (by decide) gLi_new (rFz.rf _) zD zE zl rfl (by (repeat' apply And.intro) <;> first | rfl | trivial | exact congrArg Sum.inl (nI_1 _).symm | exact congrArg Sum.inl (nI_1 _).symm)
        refine gT_lo _ hl' ?_
        refine gT_go 400 [195, 204] kX12_land ?_
        refine gP_use (p_fine (d + 6) e I' L y E1) ?_
        cases e with
        | some kp =>
          refine And.intro (fun _ => ?_) (fun q => absurd rfl q)
          exact at204 (some kp) I' A' _ f1 E1 (fun q => by cases q) (fun kp' q => by cases q; exact rLand_s hR) (fun q => by cases q) (by (repeat' apply And.intro) <;> first | rfl | trivial | exact congrArg Sum.inl (nI_1 _).symm | exact congrArg Sum.inl (nI_1 _).symm)
        | none =>
          refine And.intro (fun q => absurd q (by decide)) (fun _ => ?_)
          obtain ⟨lr, li⟩ := k rfl
          have hRn := rLand_n (A := A') hR
          have at195 : ∀ lo', A' 0 = 0 ∨ A' 2 = 0 → glle [some gM0, none, none, none] lo' → gT mX12_land (d + 8) (0, 0) (fun v h' => v = [(xLd V n).2.1] ∧ ∃ I' L', h' = gH I' L' y ∧ mOut I L I' L' ∧ mR (xLd V n).2.2 I' L' ∧ I' 100 0 0 = (xLd V n).1) (fun _ _ => False) 195 lo' [] (gH I' L y) (0, 0) := by
            intro lo' hz hl'
            refine gT_lo _ hl' ?_
            refine gT_go 400 [204] kX12_land ?_
            refine gTM_use (av' := [gM0, gI (nI 4), gI (nI n)]) (by rw [← D1.1] <;> rfl) (p_wrong (d + 6) none 4 n (by omega) I' L y E1) (fun v h' q => ?_)
            obtain ⟨rfl, I2, rfl, f2, e2', E2⟩ := q
            exact at204 (some (4, n)) I2 A' _ (f1.tr f2.fz) E2 (fun q => by cases q) (fun kp' q => by cases q; rw [hRn, if_pos hz]) (fun q => by cases q) (by (repeat' apply And.intro) <;> first | rfl | trivial | exact congrArg Sum.inl (nI_1 _).symm | exact congrArg Sum.inl (nI_1 _).symm)
          have l0 := li.1.1
          have l2 := li.1.2.2.1
          refine Exists.intro (0) (And.intro rfl (And.intro (show _ < 708 by omega) ?_))
          refine bEq (A' 0) 0 (lr 0 (by omega)) rfl (fun c => at195 _ (Or.inl c) (by (repeat' apply And.intro) <;> first | rfl | trivial | exact congrArg Sum.inl (nI_1 _).symm | exact congrArg Sum.inl (nI_1 _).symm)) (fun c => ?_)
          refine Exists.intro (2) (And.intro rfl (And.intro (show _ < 708 by omega) ?_))
          refine bNe (A' 2) 0 (lr 2 (by omega)) rfl (fun c2 => ?_) (fun c2 => at195 _ (Or.inr c2) (by (repeat' apply And.intro) <;> first | rfl | trivial | exact congrArg Sum.inl (nI_1 _).symm | exact congrArg Sum.inl (nI_1 _).symm))
          exact at204 none I' A' _ f1 E1 (fun _ => lr) (fun kp' q => by cases q) (fun _ => by rw [hRn, if_neg (by omega)]) (by (repeat' apply And.intro) <;> first | rfl | trivial | exact congrArg Sum.inl (nI_1 _).symm | exact congrArg Sum.inl (nI_1 _).symm)
      · intro i z hi ⟨z1, z2⟩ hnext
        refine gT_go 400 [40] kX12_land ?_
        refine bGe i 708 rfl rfl (fun q => absurd q (by omega)) (fun _ => ?_)
        refine Exists.intro (i) (And.intro rfl (And.intro (show _ < 708 by omega) ?_))
        refine hnext _ _ ⟨fun b hb => (u3_ne1 hb).trans (z1 b hb), fun j hj => ?_⟩ (by (repeat' apply And.intro) <;> first | rfl | trivial | exact congrArg Sum.inl (nI_1 _).symm | exact congrArg Sum.inl (nI_1 _).symm)
        by_cases e : j = i
        · rw [e]; exact u3_eq
        · exact (u3_ne3 e).trans (z2 j (by omega))
  refine gEnter 400 [22, 23] kX12_land rfl rfl ?_
  have at22 : ∀ lo', gWi x 0 (nI (vT V).1) = false → glle [some gM0, some (gI x), none, none] lo' → gT mX12_land (d + 8) (0, 0) (fun v h' => v = [(xLand V x).2.1] ∧ ∃ I' L', h' = gH I' L' y ∧ mOut I L I' L' ∧ mR (xLand V x).2.2 I' L' ∧ I' 100 0 0 = (xLand V x).1) (fun _ _ => False) 22 lo' [gM0] (gH (u3 I 100 0 0 0) L y) (0, 0) := by
    intro lo' h hl'
    refine gT_lo _ hl' ?_
    refine gT_go 400 [23] kX12_land ?_
    exact at23 false _ h.symm (by (repeat' apply And.intro) <;> first | rfl | trivial | exact congrArg Sum.inl (nI_1 _).symm | exact congrArg Sum.inl (nI_1 _).symm)
  refine And.intro (fun c => ?_) (fun c => ?_)
  · exact at22 _ (by unfold gWi; rw [decide_eq_false (Int32.not_le.mpr c)] <;> rfl) (by (repeat' apply And.intro) <;> first | rfl | trivial | exact congrArg Sum.inl (nI_1 _).symm | exact congrArg Sum.inl (nI_1 _).symm)
  · refine And.intro (fun c2 => ?_) (fun c2 => ?_)
    · have c2' : nI (vT V).1 < x := by rw [← e2]; exact c2
      exact at22 _ (by unfold gWi; rw [decide_eq_false (Int32.not_le.mpr c2'), Bool.and_false]) (by (repeat' apply And.intro) <;> first | rfl | trivial | exact congrArg Sum.inl (nI_1 _).symm | exact congrArg Sum.inl (nI_1 _).symm)
    · have c2' : ¬ nI (vT V).1 < x := by rw [← e2]; exact c2
      exact at23 true _ (by unfold gWi; rw [decide_eq_true (Int32.not_lt.mp c), decide_eq_true (Int32.not_lt.mp c2')] <;> rfl) (by (repeat' apply And.intro) <;> first | rfl | trivial | exact congrArg Sum.inl (nI_1 _).symm | exact congrArg Sum.inl (nI_1 _).symm)
