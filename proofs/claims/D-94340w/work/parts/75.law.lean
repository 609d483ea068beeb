/-! ===== a law is read ===== -/
/-- all steps of rules -/
def lFt : RL → Cd
  | [] => []
  | r :: R => r.2 ++ lFt R
theorem lFt_app : ∀ (R : RL) (r : Bool × Cd), lFt (R ++ [r]) = lFt R ++ r.2 := by
  intro R r
  induction R with
  | nil => exact List.append_nil _
  | cons q R ih => show q.2 ++ lFt (R ++ [r]) = q.2 ++ lFt R ++ r.2; rw [ih, List.append_assoc]
theorem rOf_cons (r : Bool × Cd) (R : RL) : ∀ k, rOf (r :: R) (k + 1) = r.2.length + rOf R k := by
  intro k
  induction k with
  | zero => show 0 + r.2.length = r.2.length + 0; omega
  | succ k ih => show rOf (r :: R) (k + 1) + (rC R k).length = r.2.length + (rOf R k + (rC R k).length); rw [ih]; omega
theorem rOf_len : ∀ R : RL, rOf R R.length = (lFt R).length := by
  intro R
  induction R with
  | nil => rfl
  | cons r R ih => show rOf (r :: R) (R.length + 1) = (r.2 ++ lFt R).length; rw [rOf_cons, ih, List.length_append]
theorem lFt_at : ∀ (R : RL) (k j : Nat) (c : Nat × Nat), (rC R k)[j]? = some c → (lFt R)[rOf R k + j]? = some c := by
  intro R
  induction R with
  | nil => intro k j c h; cases k <;> cases h
  | cons r R ih =>
    intro k j c h
    cases k with
    | zero =>
      have h' : r.2[j]? = some c := h
      have hj : j < r.2.length := (List.getElem?_eq_some_iff.mp h').1
      show (r.2 ++ lFt R)[0 + j]? = some c
      rw [Nat.zero_add, List.getElem?_append_left hj]
      exact h'
    | succ k =>
      have h' := ih k j c h
      rw [rOf_cons]
      show (r.2 ++ lFt R)[r.2.length + rOf R k + j]? = some c
      rw [List.getElem?_append_right (by omega), show r.2.length + rOf R k + j - r.2.length = rOf R k + j by omega]
      exact h'
theorem rG_app {R : RL} {r : Bool × Cd} {k : Nat} (h : k < R.length) : (R ++ [r]).getD k (false, []) = R.getD k (false, []) := by
  rw [List.getD_eq_getElem?_getD, List.getD_eq_getElem?_getD, List.getElem?_append_left h]
theorem rG_end {R : RL} {r : Bool × Cd} : (R ++ [r]).getD R.length (false, []) = r := by
  rw [List.getD_eq_getElem?_getD, List.getElem?_append_right (Nat.le_refl _), Nat.sub_self]
  rfl
theorem rOf_app {R : RL} {r : Bool × Cd} : ∀ k, k ≤ R.length → rOf (R ++ [r]) k = rOf R k := by
  intro k
  induction k with
  | zero => intro _; rfl
  | succ k ih => intro h; show rOf (R ++ [r]) k + (rC (R ++ [r]) k).length = rOf R k + (rC R k).length; rw [ih (by omega)]; unfold rC; rw [rG_app (by omega)]
/-- nothing but place, fault, brackets, the new steps and rules -/
def lFl (I I' : Nat → Nat → Nat → Int32) : Prop := (∀ b, b ≠ 100 → b ≠ 117 → b ≠ 118 → b ≠ 121 → b ≠ 122 → I' b = I b) ∧ ∀ j, j ≠ 4 → j ≠ 5 → j ≠ 6 → j ≠ 7 → j ≠ 14 → I' 100 0 j = I 100 0 j
theorem lFl.rf (I : Nat → Nat → Nat → Int32) : lFl I I := ⟨fun _ _ _ _ _ _ => rfl, fun _ _ _ _ _ _ => rfl⟩
theorem lFl.tr {I I1 I2 : Nat → Nat → Nat → Int32} (a : lFl I I1) (b : lFl I1 I2) : lFl I I2 := ⟨fun q h1 h2 h3 h4 h5 => (b.1 q h1 h2 h3 h4 h5).trans (a.1 q h1 h2 h3 h4 h5), fun j h1 h2 h3 h4 h5 => (b.2 j h1 h2 h3 h4 h5).trans (a.2 j h1 h2 h3 h4 h5)⟩
theorem rFl.lf {I I' : Nat → Nat → Nat → Int32} (f : rFl I I') : lFl I I' := ⟨fun q h1 h2 h3 _ _ => f.1 q h1 h2 h3, f.2⟩
theorem lFl.put (I : Nat → Nat → Nat → Int32) {b : Nat} (hb : b = 121 ∨ b = 122) (j : Nat) (v : Int32) : lFl I (u3 I b 0 j v) := ⟨fun q _ _ _ h4 h5 => u3_ne1 (by omega), fun k _ _ _ _ _ => by rw [u3_ne1 (by omega)]⟩
theorem lS.put {T : Nat → Nat} {N k a : Nat} {C : Cd} {I : Nat → Nat → Nat → Int32} (S : lS T N k C a I) {b : Nat} (hb : b = 121 ∨ b = 122) (j : Nat) (v : Int32) : lS T N k C a (u3 I b 0 j v) := by
  obtain ⟨E, D, ⟨c1, c2⟩, c3⟩ := S
  have e : ∀ q, q ≠ 121 → q ≠ 122 → u3 I b 0 j v q = I q := fun q h1 h2 => u3_ne1 (by omega)
  refine ⟨?_, ⟨?_, D.2.1, ?_, D.2.2.2.1, fun i hi => by rw [e 109 (by decide) (by decide)]; exact D.2.2.2.2 i hi⟩, ⟨?_, fun i c hi => by rw [e 117 (by decide) (by decide), e 118 (by decide) (by decide)]; exact c2 i c hi⟩, ?_⟩
  · show u3 I b 0 j v 100 0 5 = -1; rw [e 100 (by decide) (by decide)]; exact E
  · rw [e 100 (by decide) (by decide)]; exact D.1
  · rw [e 100 (by decide) (by decide)]; exact D.2.2.1
  · rw [e 100 (by decide) (by decide)]; exact c1
  · rw [e 100 (by decide) (by decide)]; exact c3
/-- the new rules -/
def lRu (R : RL) (I : Nat → Nat → Nat → Int32) : Prop := ∀ k, k < R.length → I 121 0 k = gb (rG R k) ∧ I 122 0 (k + 1) = nI (rOf R (k + 1)) ∧ cWf (rC R k)
theorem lRu.eq {R : RL} {I I' : Nat → Nat → Nat → Int32} (h : lRu R I) (h1 : I' 121 = I 121) (h2 : I' 122 = I 122) : lRu R I' := fun k hk => by rw [h1, h2]; exact h k hk
theorem lRu.fl {R : RL} {I I' : Nat → Nat → Nat → Int32} (h : lRu R I) (f : rFl I I') : lRu R I' := h.eq (f.1 121 (by decide) (by decide) (by decide)) (f.1 122 (by decide) (by decide) (by decide))
theorem lRu.put121 {R : RL} {I : Nat → Nat → Nat → Int32} (h : lRu R I) (v : Int32) : lRu R (u3 I 121 0 R.length v) := fun k hk => by rw [u3_ne1 (show ¬ 122 = 121 by decide)]; exact ⟨(u3_ne3 (by omega)).trans (h k hk).1, (h k hk).2⟩
/-- the rules of a law -/
def rRl (T : Nat → Nat) (N : Nat) : Nat → RL → Nat → (Nat × Nat) ⊕ RL
  | 0, R, _ => .inr R
  | f + 1, R, a => if sk T N a < N then
      (if ¬ rWord T N a = wd 16 ∧ ¬ rWord T N a = wd 17 then .inl (1, sk T N a)
      else if R.length = 10 then .inl (3, sk T N a)
      else if ¬ rWord T N (wE T N (sk T N a)) = wd 18 then .inl (1, sk T N (wE T N (sk T N a)))
      else match rCo T N (wE T N (sk T N (wE T N (sk T N a)))) with
        | .inl kp => .inl kp
        | .inr q => match rSign T N 59 q.2 with
          | .inl kp => .inl kp
          | .inr u => rRl T N f (R ++ [(decide (rWord T N a = wd 17), q.1)]) u.2)
    else .inr R
def rLaw (T : Nat → Nat) (N : Nat) : (Nat × Nat) ⊕ RL := rRl T N (N + 1) [] 0
set_option maxRecDepth 100000 in
theorem t_law45 {Qr : List AV → Hp → Prop} {Qx : Rf → Hp → Prop} (d : Nat) (T : Nat → Nat) (N : Nat) (L : Nat → Nat → Nat → Int64) (y : Dy) (I0 : Nat → Nat → Nat → Int32) (RES : (Nat × Nat) ⊕ RL)
    (hQd : ∀ (kp : Nat × Nat) (I' : Nat → Nat → Nat → Int32) (lo' : Lo), lFl I0 I' → rEr (some kp) I' → RES = .inl kp → glle [some gM0, none, none, none] lo' → gT mX12_law (d + 31) (0, 0) Qr Qx 205 lo' [] (gH I' L y) (0, 0))
    (hQn : ∀ (R : RL) (I' : Nat → Nat → Nat → Int32) (a' : Nat) (lo' : Lo), lFl I0 I' → lS T N 6 (lFt R) a' I' → (lFt R).length ≤ a' → lRu R I' → R.length ≤ 10 → RES = .inr R → glle [some gM0, none, some (gI (nI R.length)), none] lo' → gT mX12_law (d + 31) (0, 0) Qr Qx 205 lo' [] (gH I' L y) (0, 0)) :
    ∀ (f : Nat) (R : RL) (a : Nat) (I : Nat → Nat → Nat → Int32) (lo0 : Lo), N < f + a → lFl I0 I → lS T N 6 (lFt R) a I → (lFt R).length ≤ a → lRu R I → R.length ≤ 10 → rRl T N f R a = RES → glle [some gM0, none, some (gI (nI R.length)), none] lo0 → gT mX12_law (d + 31) (0, 0) Qr Qx 45 lo0 [] (gH I L y) (0, 0) := by
  intro f
  induction f with
  | zero => intro R a I lo0 hf _ S; exact absurd S.2.1.2.2.2.1 (by omega)
  | succ f ih =>
    intro R a I lo0 hf fz S hFa hR hR10 hRES hlo
    have hN := S.2.1.2.1
    have ha := S.2.1.2.2.2.1
    have wl := fun k (hk : k < 22) => wd_lt hk
    have wl16 := wl 16 (by decide)
    have wl17 := wl 17 (by decide)
    have wl18 := wl 18 (by decide)
    obtain ⟨k1, k2, k3, k4⟩ := sk_ok (T := T) ha
    have dead45 : ∀ (kp : Nat × Nat) (I' : Nat → Nat → Nat → Int32) (lo' : Lo), lFl I0 I' → rEr (some kp) I' → RES = .inl kp → glle [some gM0, none, none, none] lo' → gT mX12_law (d + 31) (0, 0) Qr Qx 45 lo' [] (gH I' L y) (0, 0) := by
      intro kp I' lo' g1 g3 g4 hl'
      refine gT_lo _ hl' ?_
      refine gT_go 400 [205] kX12_law ?_
      refine gP_use (p_fine (d + 29) (some kp) I' L y g3) ?_
      refine And.intro (fun _ => ?_) (fun q => absurd rfl q)
      exact hQd kp I' _ g1 g3 g4 (by (repeat' apply And.intro) <;> first | rfl | trivial | exact congrArg Sum.inl (nI_1 _).symm | exact congrArg Sum.inl (nI_1 _).symm)
    -- what is behind a fault in a rule
    have dead179 : ∀ (kp : Nat × Nat) (I' : Nat → Nat → Nat → Int32) (a' : Nat) (lo' : Lo), lFl I0 I' → rD T N a' I' → rEr (some kp) I' → I' 100 0 14 = nI (lFt R).length → R.length < 10 → RES = .inl kp → glle [some gM0, none, some (gI (nI R.length)), none] lo' → gT mX12_law (d + 31) (0, 0) Qr Qx 179 lo' [] (gH I' L y) (0, 0) := by
      intro kp I' a' lo' g1 g2 g3 g5 g6 g4 hl'
      refine gT_lo _ hl' ?_
      refine gT_go 400 [45] kX12_law ?_
      refine gTM_use rfl (x_anyOf (d + 26) T N kp a' I' L y g3 g2) (fun v h' q => ?_)
      obtain ⟨rfl, I2, rfl, f2, E2, a2, D2⟩ := q
      refine gTM_use rfl (p_signE (d + 28) (some kp) T N a2 59 (by decide) (by decide) I2 L y D2 E2) (fun v h' q => ?_)
      obtain ⟨rfl, I3, rfl, f3, o3⟩ := q
      obtain ⟨E3, a3, D3⟩ := o3
      refine Exists.intro (R.length + 1) (And.intro (nI_1 R.length) (And.intro (show R.length + 1 < 11 by omega) ?_))
      refine dead45 kp (u3 I3 122 0 (R.length + 1) (I3 100 0 14)) _ (((g1.tr f2.lf).tr f3.fl.lf).tr (lFl.put I3 (Or.inr rfl) _ _)) ?_ g4 (by (repeat' apply And.intro) <;> first | rfl | trivial | exact congrArg Sum.inl (nI_1 _).symm | exact congrArg Sum.inl (nI_1 _).symm)
      unfold rEr
      rw [u3_ne1 (by decide)]
      exact E3
    rw [rRl] at hRES
    refine gT_lo _ hlo ?_
    refine gT_go 400 [96, 111, 205] kX12_law ?_
    refine gP_use (p_fine (d + 29) none I L y S.1) ?_
    refine And.intro (fun q => absurd q (by decide)) (fun _ => ?_)
    refine gTM_use rfl (p_isMore (d + 28) T N a I L y S.2.1) (fun v h' q => ?_)
    obtain ⟨rfl, I1, rfl, f1, D1⟩ := q
    have S1 := S.fr f1 D1
    have hR1 := hR.fl f1.fl
    have fz1 := fz.tr f1.fl.lf
    refine bB0 (Nat.blt (sk T N a) N) rfl (fun c => ?_) (fun c => ?_)
    · have hge : ¬ sk T N a < N := fun q => by rw [nblt_t q] at c; cases c
      rw [if_neg hge] at hRES
      exact hQn R I1 _ _ fz1 S1 (by omega) hR1 hR10 hRES.symm (by (repeat' apply And.intro) <;> first | rfl | trivial | exact congrArg Sum.inl (nI_1 _).symm | exact congrArg Sum.inl (nI_1 _).symm)
    · have hlt : sk T N a < N := Nat.le_of_ble_eq_true c
      rw [if_pos hlt] at hRES
      refine gTM_use rfl (p_word (d + 28) T N (sk T N a) I1 L y D1) (fun v h' q => ?_)
      obtain ⟨rfl, I2, rfl, f2, D2⟩ := q
      rw [sk_sk ha] at D2
      rw [rWord_sk ha]
      have S2 := S1.fr f2 D2
      have hR2 := hR1.fl f2.fl
      have fz2 := fz1.tr f2.fl.lf
      obtain ⟨w, hw⟩ : ∃ w, w = rWord T N a := ⟨_, rfl⟩
      have hwl : w < 2 ^ 30 := by rw [hw]; exact rWord_lt k2
      rw [← hw] at hRES ⊢
      have at111 : ∀ (e : Option (Nat × Nat)) (I3 : Nat → Nat → Nat → Int32) (lo' : Lo), lFl I0 I3 → rEr e I3 → (∀ kp, e = some kp → RES = .inl kp) → (e = none → I3 = I2 ∧ (w = wd 16 ∨ w = wd 17) ∧ R.length < 10) → glle [some gM0, none, some (gI (nI R.length)), some (gI (nI w))] lo' → gT mX12_law (d + 31) (0, 0) Qr Qx 111 lo' [] (gH I3 L y) (0, 0) := by
        intro e I3 lo' g1 g3 g4 g5 hl'
        refine gT_lo _ hl' ?_
        refine gT_go 400 [145, 205] kX12_law ?_
        refine gP_use (p_fine (d + 29) e I3 L y g3) ?_
        cases e with
        | some kp =>
          refine And.intro (fun q => absurd rfl q) (fun _ => ?_)
          exact hQd kp I3 _ g1 g3 (g4 kp rfl) (by (repeat' apply And.intro) <;> first | rfl | trivial | exact congrArg Sum.inl (nI_1 _).symm | exact congrArg Sum.inl (nI_1 _).symm)
        | none =>
          obtain ⟨rfl, hgo, h10⟩ := g5 rfl
          refine And.intro (fun _ => ?_) (fun q => absurd q (by decide))
          rw [if_neg (by omega), if_neg (by omega)] at hRES
          obtain ⟨j1, j2, j3, j4⟩ := wE_ok (T := T) k2
          obtain ⟨m1, m2, m3, m4⟩ := sk_ok (T := T) j2
          obtain ⟨n1, n2, n3, n4⟩ := wE_ok (T := T) m2
          refine gTM_use rfl (p_pass (d + 28) T N (sk T N a) I3 L y D2) (fun v h' q => ?_)
          obtain ⟨rfl, I4, rfl, f4, D4⟩ := q
          have S4 := S2.fr f4 D4
          have hR4 := hR2.fl f4.fl
          have fz4 := fz2.tr f4.fl.lf
          have at168 : ∀ (e : Option (Nat × Nat)) (I6 : Nat → Nat → Nat → Int32) (lo' : Lo), lFl I0 I6 → rEr e I6 → rD T N (sk T N (wE T N (sk T N a))) I6 → I6 100 0 14 = nI (lFt R).length → (∀ kp, e = some kp → RES = .inl kp) → (e = none → lS T N 6 (lFt R) (sk T N (wE T N (sk T N a))) I6 ∧ lRu R I6 ∧ I6 121 0 R.length = gb (decide (w = wd 17)) ∧ rWord T N (wE T N (sk T N a)) = wd 18) → glle [some gM0, none, some (gI (nI R.length)), none] lo' →
              gT mX12_law (d + 31) (0, 0) Qr Qx 168 lo' [] (gH I6 L y) (0, 0) := by
            intro e I6 lo' g1 g3 g2 g14 g4 g5 hl'
            refine gT_lo _ hl' ?_
            refine gT_go 400 [45, 179] kX12_law ?_
            refine gP_use (p_fine (d + 29) e I6 L y g3) ?_
            cases e with
            | some kp =>
              refine And.intro (fun _ => ?_) (fun q => absurd rfl q)
              exact dead179 kp I6 _ _ g1 g2 g3 g14 h10 (g4 kp rfl) (by (repeat' apply And.intro) <;> first | rfl | trivial | exact congrArg Sum.inl (nI_1 _).symm | exact congrArg Sum.inl (nI_1 _).symm)
            | none =>
              obtain ⟨S6, R6, h121, hif⟩ := g5 rfl
              refine And.intro (fun q => absurd q (by decide)) (fun _ => ?_)
              rw [if_neg (fun q => q hif)] at hRES
              refine gTM_use rfl (p_pass (d + 28) T N _ I6 L y g2) (fun v h' q => ?_)
              obtain ⟨rfl, I7, rfl, f7, D7⟩ := q
              have S7 := S6.fr f7 D7
              refine gT_go 400 [45] kX12_law ?_
              refine gTM_use rfl (e_co T N d (lFt R) _ I7 L y S7 (by omega)) (fun v h' q => ?_)
              obtain ⟨rfl, I8, rfl, f8, o8⟩ := q
              have fz8 := (g1.tr f7.fl.lf).tr f8.lf
              have f78 := f7.fl.tr f8
              cases hr : rCo T N (wE T N (sk T N (wE T N (sk T N a)))) with
              | inl kp =>
                rw [hr] at o8 hRES
                obtain ⟨E8, a8, D8⟩ := o8
                refine gTM_use rfl (p_signE (d + 28) (some kp) T N a8 59 (by decide) (by decide) I8 L y D8 E8) (fun v h' q => ?_)
                obtain ⟨rfl, I9, rfl, f9, o9⟩ := q
                obtain ⟨E9, a9, D9⟩ := o9
                refine Exists.intro (R.length + 1) (And.intro (nI_1 R.length) (And.intro (show R.length + 1 < 11 by omega) ?_))
                refine dead45 kp (u3 I9 122 0 (R.length + 1) (I9 100 0 14)) _ ((fz8.tr f9.fl.lf).tr (lFl.put I9 (Or.inr rfl) _ _)) ?_ hRES.symm (by (repeat' apply And.intro) <;> first | rfl | trivial | exact congrArg Sum.inl (nI_1 _).symm | exact congrArg Sum.inl (nI_1 _).symm)
                unfold rEr
                rw [u3_ne1 (by decide)]
                exact E9
              | inr q =>
                rw [hr] at o8 hRES
                obtain ⟨S8, l8, w8⟩ := o8
                have l8' : wE T N (sk T N (wE T N (sk T N a))) + q.1.length ≤ q.2 := l8
                refine gTM_use rfl (p_sign (d + 28) T N q.2 59 (by decide) (by decide) I8 L y S8.2.1 S8.1) (fun v h' z => ?_)
                obtain ⟨rfl, I9, rfl, f9, o9⟩ := z
                refine Exists.intro (R.length + 1) (And.intro (nI_1 R.length) (And.intro (show R.length + 1 < 11 by omega) ?_))
                have fz9 := (fz8.tr f9.fl.lf).tr (lFl.put I9 (Or.inr rfl) (R.length + 1) (I9 100 0 14))
                cases hr2 : rSign T N 59 q.2 with
                | inl kp =>
                  rw [hr2] at o9
                  simp only [hr2] at hRES
                  obtain ⟨E9, a9, D9⟩ := o9
                  refine dead45 kp (u3 I9 122 0 (R.length + 1) (I9 100 0 14)) _ fz9 ?_ hRES.symm (by (repeat' apply And.intro) <;> first | rfl | trivial | exact congrArg Sum.inl (nI_1 _).symm | exact congrArg Sum.inl (nI_1 _).symm)
                  unfold rEr
                  rw [u3_ne1 (by decide)]
                  exact E9
                | inr u =>
                  rw [hr2] at o9
                  simp only [hr2] at hRES
                  have h4 := rSign_at hr2
                  have S9 : lS T N 6 (lFt R ++ q.1) u.2 I9 := S8.fe f9 o9.1 o9.2
                  have f79 := f78.tr f9.fl
                  have eF : lFt (R ++ [(decide (w = wd 17), q.1)]) = lFt R ++ q.1 := lFt_app R _
                  have eL : (R ++ [(decide (w = wd 17), q.1)]).length = R.length + 1 := List.length_append
                  have S10 := S9.put (Or.inr rfl) (R.length + 1) (I9 100 0 14)
                  have hl : (lFt R ++ q.1).length = (lFt R).length + q.1.length := List.length_append
                  refine ih (R ++ [(decide (w = wd 17), q.1)]) u.2 (u3 I9 122 0 (R.length + 1) (I9 100 0 14)) _ (by omega) fz9 (by rw [eF]; exact S10) (by rw [eF, hl]; omega) (fun k hk => ?_) (by rw [eL]; omega) hRES ?_
                  · rw [eL] at hk
                    rw [u3_ne1 (show ¬ 121 = 122 by decide)]
                    rcases Nat.lt_or_ge k R.length with z | z
                    · obtain ⟨z1, z2, z3⟩ := (R6.fl f79) k z
                      unfold rG rC
                      rw [rG_app z, rOf_app (k + 1) (by omega)]
                      exact ⟨z1, (u3_ne3 (by omega)).trans z2, z3⟩
                    · have ek : k = R.length := by omega
                      subst ek
                      unfold rG rC
                      rw [rG_end]
                      refine ⟨?_, ?_, w8⟩
                      · rw [f79.1 121 (by decide) (by decide) (by decide)]; exact h121
                      · refine u3_eq.trans ?_
                        have e1 := rOf_len (R ++ [(decide (w = wd 17), q.1)])
                        rw [eF, eL] at e1
                        rw [e1]
                        exact S9.2.2.1.1
                  · rw [eL]
                    exact (by (repeat' apply And.intro) <;> first | rfl | trivial | exact congrArg Sum.inl (nI_1 _).symm | exact congrArg Sum.inl (nI_1 _).symm)
          have at145 : ∀ (g : Bool) (lo' : Lo), g = decide (w = wd 17) → glle [some gM0, none, some (gI (nI R.length)), some (gI (nI w))] lo' → gT mX12_law (d + 31) (0, 0) Qr Qx 145 lo' [gI (gb g), gI (nI R.length), gR (some (121, 0))] (gH I4 L y) (0, 0) := by
            intro g lo' hg hl'
            refine gT_lo _ hl' ?_
            refine gT_go 400 [168] kX12_law ?_
            refine Exists.intro (R.length) (And.intro rfl (And.intro (show _ < 10 by omega) ?_))
            have S5 := S4.put (Or.inl rfl) R.length (gb g)
            have R5 := hR4.put121 (gb g)
            have fz5 := fz4.tr (lFl.put I4 (Or.inl rfl) R.length (gb g))
            refine gTM_use rfl (p_word (d + 28) T N (wE T N (sk T N a)) (u3 I4 121 0 R.length (gb g)) L y S5.2.1) (fun v h' q => ?_)
            obtain ⟨rfl, I6, rfl, f6, D6⟩ := q
            have S6 := S5.fr f6 D6
            have R6 := R5.fl f6.fl
            have fz6 := fz5.tr f6.fl.lf
            have hw2 : rWord T N (wE T N (sk T N a)) < 2 ^ 30 := rWord_lt m2
            have h121 : I6 121 0 R.length = gb (decide (w = wd 17)) := by rw [f6.1 121 (by decide)]; exact u3_eq.trans (congrArg gb hg)
            refine gP_use (p_of (d + 25) 18 (by decide) (gH I6 L y)) ?_
            refine bEq (rWord T N (wE T N (sk T N a))) (wd 18) rfl rfl (fun c2 => ?_) (fun c2 => ?_)
            · exact at168 none I6 _ fz6 S6.1 D6 S6.2.2.1.1 (fun kp q => by cases q) (fun _ => ⟨S6, R6, h121, c2⟩) (by (repeat' apply And.intro) <;> first | rfl | trivial | exact congrArg Sum.inl (nI_1 _).symm | exact congrArg Sum.inl (nI_1 _).symm)
            · rw [if_pos c2] at hRES
              refine gTM_use (av' := [gM0, gI (nI 1), gI (nI (sk T N (wE T N (sk T N a))))]) (by rw [← D6.2.2.1] <;> rfl) (p_wrong (d + 29) none 1 _ (by omega) I6 L y S6.1) (fun v h' q => ?_)
              obtain ⟨rfl, I7, rfl, f7, e7, E7⟩ := q
              exact at168 (some (1, sk T N (wE T N (sk T N a)))) I7 _ (fz6.tr f7.fl.lf) E7 (D6.fe f7 (e7.trans D6.2.2.1) m2) ((f7.2 14 (by decide) (by decide) (by decide)).trans S6.2.2.1.1) (fun kp q => by cases q; exact hRES.symm) (fun q => by cases q) (by (repeat' apply And.intro) <;> first | rfl | trivial | exact congrArg Sum.inl (nI_1 _).symm | exact congrArg Sum.inl (nI_1 _).symm)
          refine gP_use (p_of (d + 25) 17 (by decide) (gH I4 L y)) ?_
          refine bNe w (wd 17) rfl rfl (fun c2 => ?_) (fun c2 => ?_)
          · exact at145 false _ (decide_eq_false c2).symm (by (repeat' apply And.intro) <;> first | rfl | trivial | exact congrArg Sum.inl (nI_1 _).symm | exact congrArg Sum.inl (nI_1 _).symm)
          · exact at145 true _ (decide_eq_true c2).symm (by (repeat' apply And.intro) <;> first | rfl | trivial | exact congrArg Sum.inl (nI_1 _).symm | exact congrArg Sum.inl (nI_1 _).symm)
      have at96 : ∀ lo', (w = wd 16 ∨ w = wd 17) → glle [some gM0, none, some (gI (nI R.length)), some (gI (nI w))] lo' → gT mX12_law (d + 31) (0, 0) Qr Qx 96 lo' [] (gH I2 L y) (0, 0) := by
        intro lo' hy hl'
        refine gT_lo _ hl' ?_
        refine gT_go 400 [111] kX12_law ?_
        refine bNe R.length 10 rfl rfl (fun c2 => ?_) (fun c2 => ?_)
        · exact at111 none I2 _ fz2 S2.1 (fun kp q => by cases q) (fun _ => ⟨rfl, hy, by omega⟩) (by (repeat' apply And.intro) <;> first | rfl | trivial | exact congrArg Sum.inl (nI_1 _).symm | exact congrArg Sum.inl (nI_1 _).symm)
        · rw [if_neg (by omega), if_pos c2] at hRES
          refine gTM_use (av' := [gM0, gI (nI 3), gI (nI (sk T N a))]) (by rw [← D2.2.2.1] <;> rfl) (p_wrong (d + 29) none 3 _ (by omega) I2 L y S2.1) (fun v h' q => ?_)
          obtain ⟨rfl, I7, rfl, f7, e7, E7⟩ := q
          exact at111 (some (3, sk T N a)) I7 _ (fz2.tr f7.fl.lf) E7 (fun kp q => by cases q; exact hRES.symm) (fun q => by cases q) (by (repeat' apply And.intro) <;> first | rfl | trivial | exact congrArg Sum.inl (nI_1 _).symm | exact congrArg Sum.inl (nI_1 _).symm)
      refine gP_use (p_of (d + 25) 16 (by decide) (gH I2 L y)) ?_
      refine bEq w (wd 16) rfl rfl (fun c2 => at96 _ (Or.inl c2) (by (repeat' apply And.intro) <;> first | rfl | trivial | exact congrArg Sum.inl (nI_1 _).symm | exact congrArg Sum.inl (nI_1 _).symm)) (fun n1 => ?_)
      refine gP_use (p_of (d + 25) 17 (by decide) (gH I2 L y)) ?_
      refine bEq w (wd 17) rfl rfl (fun c2 => at96 _ (Or.inr c2) (by (repeat' apply And.intro) <;> first | rfl | trivial | exact congrArg Sum.inl (nI_1 _).symm | exact congrArg Sum.inl (nI_1 _).symm)) (fun n2 => ?_)
      rw [if_pos ⟨n1, n2⟩] at hRES
      refine gTM_use (av' := [gM0, gI (nI 1), gI (nI (sk T N a))]) (by rw [← D2.2.2.1] <;> rfl) (p_wrong (d + 29) none 1 _ (by omega) I2 L y S2.1) (fun v h' q => ?_)
      obtain ⟨rfl, I7, rfl, f7, e7, E7⟩ := q
      exact at111 (some (1, sk T N a)) I7 _ (fz2.tr f7.fl.lf) E7 (fun kp q => by cases q; exact hRES.symm) (fun q => by cases q) (by (repeat' apply And.intro) <;> first | rfl | trivial | exact congrArg Sum.inl (nI_1 _).symm | exact congrArg Sum.inl (nI_1 _).symm)
def xLw (V : VS) (N : Nat) : Int32 × AV × VS := match rLaw (vT V).2 N with
  | .inl kp => (0, gI (nI kp.1 - 10), xTx V (nI kp.2))
  | .inr R => (0, gI (nI R.length), (vA V, vL V, R, vS V, vI V, vQ V, (0, (vT V).2), -1))
def xLaw (V : VS) (x : Int32) : Int32 × AV × VS := bif gWi x 0 (nI (vT V).1) then xLw V (gTo x) else (1, gI 0, xRef V 2)
set_option maxRecDepth 100000 in
theorem c_law (V : VS) (hw : gWf V) (x : Int32) : mC mX12_law 31 [gI x] V (xLaw V x) := by
  intro d I L y hm
  have hm0 := mR_thr hm 0
  have w6 := hw.2.2.2.2.2.2.1
  have w7 := hw.2.2.2.2.2.2.2.1
  have e2 : u3 I 100 0 0 0 100 0 2 = nI (vT V).1 := hm0.2.2.2.2.2.2.2.1
  have at23 : ∀ (g : Bool) (lo' : Lo), g = gWi x 0 (nI (vT V).1) → glle [some gM0, some (gI x), none, none] lo' →
      gT mX12_law (d + 31) (0, 0) (fun v h' => v = [(xLaw V x).2.1] ∧ ∃ I' L', h' = gH I' L' y ∧ mOut I L I' L' ∧ mR (xLaw V x).2.2 I' L' ∧ I' 100 0 0 = (xLaw V x).1) (fun _ _ => False) 23 lo' [gI (gb g), gM0] (gH (u3 I 100 0 0 0) L y) (0, 0) := by
    intro g lo' hg hl'
    refine gT_lo _ hl' ?_
    refine gT_go 400 [45] kX12_law ?_
    refine gTM_use rfl (p_may (d + 29) V g 1 (by decide) 2 (by decide) (u3 I 100 0 0 0) L y hm0 u3_eq) (fun v h' q => ?_)
    rcases q with ⟨hgt, rfl, rfl⟩ | ⟨hgf, rfl, I', rfl, q1, q2, q3⟩
    rotate_left
    · refine And.intro (fun q => absurd rfl q) (fun _ => ?_)
      exact mGt_no (by unfold xLaw; rw [← hg, hgf] <;> rfl) q1 q2 q3
    · refine And.intro (fun _ => ?_) (fun q => absurd q (by decide))
      obtain ⟨n, hx, hn⟩ := gWi_m (N := (vT V).1) rfl (by omega) (hg.symm.trans hgt)
      subst hx
      have hgo : gTo (nI n) = n := gTo_n (by omega)
      have hxl : xLaw V (nI n) = xLw V n := by unfold xLaw; rw [← hg, hgt, hgo] <;> rfl
      rw [hxl]
      refine gTM_use rfl (p_begins (d + 29) n (u3 I 100 0 0 0) L y) (fun v h' q => ?_)
      obtain ⟨rfl, rfl⟩ := q
      obtain ⟨Ib, hIb⟩ : ∃ Ib, Ib = u3 (bI (u3 I 100 0 0 0) n) 100 0 14 0 := ⟨_, rfl⟩
      have b1 : ∀ b, b ≠ 100 → Ib b = I b := fun b hb => by rw [hIb]; unfold bI; rw [u3_ne1 hb, u3_ne1 hb, u3_ne1 hb, u3_ne1 hb, u3_ne1 hb, u3_ne1 hb, u3_ne1 hb, u3_ne1 hb]
      have b2 : Ib 100 0 2 = 0 ∧ Ib 100 0 3 = nI n ∧ Ib 100 0 4 = nI 0 ∧ Ib 100 0 5 = -1 ∧ Ib 100 0 0 = 0 ∧ Ib 100 0 14 = nI 0 ∧ Ib 100 0 7 = nI 0 := by rw [hIb]; exact ⟨rfl, rfl, rfl, rfl, rfl, rfl, rfl⟩
      have b3 : ∀ j, j = 12 ∨ j = 13 ∨ j = 27 ∨ j = 28 ∨ j = 32 ∨ j = 33 ∨ j = 34 ∨ j = 35 → Ib 100 0 j = I 100 0 j := fun j hj => by
        rw [hIb]
        unfold bI
        rw [u3_ne3 (by omega), u3_ne3 (by omega), u3_ne3 (by omega), u3_ne3 (by omega), u3_ne3 (by omega), u3_ne3 (by omega), u3_ne3 (by omega), u3_ne3 (by omega)]
      have zD : rD (vT V).2 n 0 Ib := by
        refine ⟨b2.2.1, by omega, b2.2.2.1, Nat.zero_le _, fun j hj => ⟨?_, w7 j (by omega)⟩⟩
        rw [b1 109 (by decide)]
        exact hm.2.2.2.2.2.2.2.2.1 j (by omega)
      have zS : lS (vT V).2 n 6 (lFt []) 0 Ib := ⟨b2.2.2.2.1, zD, ⟨b2.2.2.2.2.2.1, fun j c hj => by cases hj⟩, b2.2.2.2.2.2.2⟩
      have keep : ∀ I', lFl Ib I' → (∀ b, b ≠ 100 → b ≠ 117 → b ≠ 118 → b ≠ 121 → b ≠ 122 → I' b = I b) ∧ (∀ j, j = 12 ∨ j = 13 ∨ j = 27 ∨ j = 28 ∨ j = 32 ∨ j = 33 ∨ j = 34 ∨ j = 35 → I' 100 0 j = I 100 0 j) ∧ I' 100 0 2 = 0 ∧ I' 100 0 0 = 0 := by
        intro I' f
        refine ⟨fun b g1 g2 g3 g4 g5 => (f.1 b g1 g2 g3 g4 g5).trans (b1 b g1), fun j hj => ?_, ?_, ?_⟩
        · rw [f.2 j (by omega) (by omega) (by omega) (by omega) (by omega)]; exact b3 j hj
        · rw [f.2 2 (by decide) (by decide) (by decide) (by decide) (by decide)]; exact b2.1
        · rw [f.2 0 (by decide) (by decide) (by decide) (by decide) (by decide)]; exact b2.2.2.2.2.1
      have key45 : ∀ lo', glle [some gM0, none, some (gI (nI 0)), none] lo' → gT mX12_law (d + 31) (0, 0) (fun v h' => v = [(xLw V n).2.1] ∧ ∃ I' L', h' = gH I' L' y ∧ mOut I L I' L' ∧ mR (xLw V n).2.2 I' L' ∧ I' 100 0 0 = (xLw V n).1) (fun _ _ => False) 45 lo' [] (gH Ib L y) (0, 0) := by
        intro lo' hl'
        refine t_law45 d (vT V).2 n L y Ib (rLaw (vT V).2 n) ?_ ?_ (n + 1) [] 0 Ib lo' (by omega) (lFl.rf _) zS (Nat.zero_le _) (fun k hk => absurd hk (Nat.not_lt_zero _)) (by decide) rfl hl'
        · intro kp I' lo' g1 g2 hR hl'
          obtain ⟨kp1, kp2, kp3, kp4⟩ := keep I' g1
          refine gT_lo _ hl' ?_
          refine gT_go 400 [228] kX12_law ?_
          have E8 := g2.put8 (I' 100 0 5)
          refine gP_use (p_fine (d + 29) (some kp) (u3 I' 100 0 8 (I' 100 0 5)) L y E8) ?_
          refine And.intro (fun q => absurd rfl q) (fun _ => ?_)
          obtain ⟨k, p⟩ := kp
          have o8 : ∀ b, b ≠ 100 → b ≠ 117 → b ≠ 118 → b ≠ 121 → b ≠ 122 → u3 I' 100 0 8 (I' 100 0 5) b = I b := fun b h1 h2 h3 h4 h5 => (u3_ne1 h1).trans (kp1 b h1 h2 h3 h4 h5)
          refine mDone (o2 := (0, gI (nI k - 10), xTx V (nI p))) (by unfold xLw; rw [hR]) ?_ (fun b hb => ⟨(o8 b (by omega) (by omega) (by omega) (by omega) (by omega)).trans (u3_ne1 (by omega)).symm, rfl⟩) ?_ ((u3_ne3 (by decide)).trans kp4)
          · have e6 : u3 I' 100 0 8 (I' 100 0 5) 100 0 6 = nI k := (u3_ne3 (by decide)).trans g2.2.1
            exact congrArg (fun z => gI (z - 10)) e6
          · have f8 : ∀ j, j = 12 ∨ j = 13 ∨ j = 27 ∨ j = 28 ∨ j = 32 ∨ j = 33 ∨ j = 34 ∨ j = 35 → u3 I' 100 0 8 (I' 100 0 5) 100 0 j = I 100 0 j := fun j hj => (u3_ne3 (by omega)).trans (kp2 j hj)
            obtain ⟨h1, h2, h3, h4, h5, h6, h7, h8', h9, h10, h11, h12, h13, h14, kn, h15, h16⟩ := hm
            exact ⟨fun j hj => by rw [o8 110 (by decide) (by decide) (by decide) (by decide) (by decide)]; exact h1 j hj, (f8 12 (by decide)).trans h2, gRm_cg (o8 115 (by decide) (by decide) (by decide) (by decide) (by decide)) (o8 116 (by decide) (by decide) (by decide) (by decide) (by decide)) (o8 119 (by decide) (by decide) (by decide) (by decide) (by decide)) (o8 120 (by decide) (by decide) (by decide) (by decide) (by decide)) (f8 13 (by decide)) h3, fun j hj => by rw [o8 125 (by decide) (by decide) (by decide) (by decide) (by decide)]; exact h4 j hj, (f8 27 (by decide)).trans h5, fun k j hk hj => by rw [o8 126 (by decide) (by decide) (by decide) (by decide) (by decide)]; exact h6 k j hk hj, fun j hj => by rw [o8 101 (by decide) (by decide) (by decide) (by decide) (by decide)]; exact h7 j hj, (u3_ne3 (by decide)).trans kp3, fun j hj => absurd hj (Nat.not_lt_zero _), u3_eq.trans g2.1, (f8 32 (by decide)).trans h11, (f8 33 (by decide)).trans h12, (f8 34 (by decide)).trans h13, (f8 35 (by decide)).trans h14, kn, (f8 28 (by decide)).trans h15, fun q => ⟨(h16 q).1, gKn_cg (o8 136 (by decide) (by decide) (by decide) (by decide) (by decide)) (o8 142 (by decide) (by decide) (by decide) (by decide) (by decide)) rfl rfl (h16 q).2⟩⟩
        · intro R I' a' lo' g1 g2 ga g3 g10 hR hl'
          obtain ⟨kp1, kp2, kp3, kp4⟩ := keep I' g1
          have hst := g2.2.2.1.1
          have ha := g2.2.1.2.2.2.1
          refine gT_lo _ hl' ?_
          refine gT_go 400 [235] kX12_law ?_
          have E8 := g2.1.put8 (I' 100 0 5)
          refine gP_use (p_fine (d + 29) none (u3 I' 100 0 8 (I' 100 0 5)) L y E8) ?_
          refine And.intro (fun _ => ?_) (fun q => absurd q (by decide))
          obtain ⟨J, hJ⟩ : ∃ J, J = u3 (u3 I' 100 0 8 (I' 100 0 5)) 100 0 13 (nI R.length) := ⟨_, rfl⟩
          have j1 : ∀ b, b ≠ 100 → J b = I' b := fun b hb => by rw [hJ, u3_ne1 hb, u3_ne1 hb]
          have j2 : ∀ j, j ≠ 8 → j ≠ 13 → J 100 0 j = I' 100 0 j := fun j h1 h2 => by rw [hJ, u3_ne3 h2, u3_ne3 h1]
          have j13 : J 100 0 13 = nI R.length := by rw [hJ]; exact u3_eq
          have j8 : J 100 0 8 = -1 := by rw [hJ, u3_ne3 (show ¬ 8 = 13 by decide)]; exact u3_eq.trans g2.1
          have at235 : ∀ lo', glle [some gM0, none, some (gI (nI R.length)), some (gI (nI 0))] lo' → gT mX12_law (d + 31) (0, 0) (fun v h' => v = [(xLw V n).2.1] ∧ ∃ I' L', h' = gH I' L' y ∧ mOut I L I' L' ∧ mR (xLw V n).2.2 I' L' ∧ I' 100 0 0 = (xLw V n).1) (fun _ _ => False) 235 lo' [] (gH J L y) (0, 0) := by
            intro lo' hl'
            refine gT_for (σ := Nat → Nat → Nat → Int32) (pc := 235) (lo := fun i _ => [some gM0, none, some (gI (nI R.length)), some (gI (nI i))]) (hp := fun _ z => gH z L y) (Inv := fun i z => (∀ b, b ≠ 119 → b ≠ 120 → z b = J b) ∧ ∀ j, j < i → z 119 0 j = gb (rG R j) ∧ z 120 0 (j + 1) = nI (rOf R (j + 1))) R.length ?_ ?_ 0 J (Nat.zero_le _) ⟨fun _ _ _ => rfl, fun j hj => absurd hj (Nat.not_lt_zero _)⟩ hl'
            · intro z ⟨z1, z2⟩
              refine gT_go 400 [276] kX12_law ?_
              refine bGe R.length R.length rfl rfl (fun _ => ?_) (fun q => absurd q (by omega))
              refine gT_for (σ := Nat → Nat → Nat → Int32) (pc := 276) (lo := fun i _ => [some gM0, none, none, some (gI (nI i))]) (hp := fun _ z => gH z L y) (Inv := fun i x => (∀ b, b ≠ 115 → b ≠ 116 → x b = z b) ∧ ∀ j, j < i → x 115 0 j = I' 117 0 j ∧ x 116 0 j = I' 118 0 j) (lFt R).length ?_ ?_ 0 z (Nat.zero_le _) ⟨fun _ _ _ => rfl, fun j hj => absurd hj (Nat.not_lt_zero _)⟩ (by (repeat' apply And.intro) <;> first | rfl | trivial | exact congrArg Sum.inl (nI_1 _).symm | exact congrArg Sum.inl (nI_1 _).symm)
              · intro x ⟨x1, x2⟩
                have x100 : x 100 = J 100 := (x1 100 (by decide) (by decide)).trans (z1 100 (by decide) (by decide))
                refine gT_go 400 [] kX12_law ?_
                refine bGe (lFt R).length (lFt R).length rfl (show x 100 0 14 = _ by rw [x100, j2 14 (by decide) (by decide)]; exact hst) (fun _ => ?_) (fun q => absurd q (by omega))
                refine And.intro (Or.inl rfl) ?_
                have o8 : ∀ b, b ≠ 100 → b ≠ 115 → b ≠ 116 → b ≠ 119 → b ≠ 120 → u3 x 100 0 28 0 b = I' b := fun b h1 h2 h3 h4 h5 => (u3_ne1 h1).trans ((x1 b h2 h3).trans ((z1 b h4 h5).trans (j1 b h1)))
                have o9 : ∀ b, b ≠ 100 → b ≠ 115 → b ≠ 116 → b ≠ 119 → b ≠ 120 → b ≠ 117 → b ≠ 118 → b ≠ 121 → b ≠ 122 → u3 x 100 0 28 0 b = I b := fun b h1 h2 h3 h4 h5 h6 h7 h8 h9 => (o8 b h1 h2 h3 h4 h5).trans (kp1 b h1 h6 h7 h8 h9)
                have of : ∀ j, j ≠ 28 → u3 x 100 0 28 0 100 0 j = J 100 0 j := fun j hj => (u3_ne3 hj).trans (by rw [x100])
                have ok : ∀ j, j = 12 ∨ j = 27 ∨ j = 32 ∨ j = 33 ∨ j = 34 ∨ j = 35 → u3 x 100 0 28 0 100 0 j = I 100 0 j := fun j hj => (of j (by omega)).trans ((j2 j (by omega) (by omega)).trans (kp2 j (by omega)))
                refine mDone (I' := u3 x 100 0 28 0) (o2 := (0, gI (nI R.length), (vA V, vL V, R, vS V, vI V, vQ V, (0, (vT V).2), -1))) (by unfold xLw; rw [hR]) (congrArg gI ((of 13 (by decide)).trans j13)) (fun b hb => ⟨(o9 b (by omega) (by omega) (by omega) (by omega) (by omega) (by omega) (by omega) (by omega) (by omega)).trans (u3_ne1 (by omega)).symm, rfl⟩) ?_ ((of 0 (by decide)).trans ((j2 0 (by decide) (by decide)).trans kp4))
                show mR (vA V, vL V, R, vS V, vI V, vQ V, (0, (vT V).2), -1) (u3 x 100 0 28 0) L
                obtain ⟨h1, h2, h3, h4, h5, h6, h7, h8', h9, h10, h11, h12, h13, h14, kn, h15, h16⟩ := hm
                refine ⟨fun j hj => ?_, (ok 12 (by decide)).trans h2, ⟨(of 13 (by decide)).trans j13, g10, by rw [rOf_len]; exact (show (lFt R).length ≤ 620 by omega), fun k hk => ⟨?_, ?_, fun j c hj => ?_, (g3 k hk).2.2.1 0⟩⟩, fun j hj => ?_, (ok 27 (by decide)).trans h5, fun k j hk hj => ?_, fun j hj => ?_, (of 2 (by decide)).trans ((j2 2 (by decide) (by decide)).trans kp3), fun j hj => absurd hj (Nat.not_lt_zero _), (of 8 (by decide)).trans j8, (ok 32 (by decide)).trans h11, (ok 33 (by decide)).trans h12, (ok 34 (by decide)).trans h13, (ok 35 (by decide)).trans h14, false, u3_eq, fun q => by cases q⟩
                · rw [o9 110 (by decide) (by decide) (by decide) (by decide) (by decide) (by decide) (by decide) (by decide) (by decide)]; exact h1 j hj
                · rw [u3_ne1 (by decide), x1 119 (by decide) (by decide)]; exact (z2 k hk).1
                · rw [u3_ne1 (by decide), x1 120 (by decide) (by decide)]; exact (z2 k hk).2
                · have hF := lFt_at R k j c hj
                  have hlt : rOf R k + j < (lFt R).length := (List.getElem?_eq_some_iff.mp hF).1
                  obtain ⟨e1, e3⟩ := x2 _ hlt
                  obtain ⟨e5, e6⟩ := g2.2.2.1.2 _ c hF
                  have hc := (g3 k hk).2.2.2 c (List.mem_of_getElem? hj)
                  refine ⟨?_, ?_, hc.1, hc.2.1, hc.2.2⟩
                  · rw [u3_ne1 (by decide)]; exact e1.trans e5
                  · rw [u3_ne1 (by decide)]; exact e3.trans e6
                · rw [o9 125 (by decide) (by decide) (by decide) (by decide) (by decide) (by decide) (by decide) (by decide) (by decide)]; exact h4 j hj
                · rw [o9 126 (by decide) (by decide) (by decide) (by decide) (by decide) (by decide) (by decide) (by decide) (by decide)]; exact h6 k j hk hj
                · rw [o9 101 (by decide) (by decide) (by decide) (by decide) (by decide) (by decide) (by decide) (by decide) (by decide)]; exact h7 j hj
              · intro i x hi ⟨x1, x2⟩ hnext
                have x100 : x 100 = J 100 := (x1 100 (by decide) (by decide)).trans (z1 100 (by decide) (by decide))
                have xI : ∀ b, b = 117 ∨ b = 118 → x b = I' b := fun b hb => (x1 b (by omega) (by omega)).trans ((z1 b (by omega) (by omega)).trans (j1 b (by omega)))
                refine gT_go 400 [276] kX12_law ?_
                refine bGe i (lFt R).length rfl (show x 100 0 14 = _ by rw [x100, j2 14 (by decide) (by decide)]; exact hst) (fun q => absurd q (by omega)) (fun _ => ?_)
                refine Exists.intro (i) (And.intro rfl (And.intro (show _ < 620 by omega) ?_))
                refine Exists.intro (i) (And.intro rfl (And.intro (show _ < 620 by omega) ?_))
                refine Exists.intro (i) (And.intro rfl (And.intro (show _ < 620 by omega) ?_))
                refine Exists.intro (i) (And.intro rfl (And.intro (show _ < 620 by omega) ?_))
                refine hnext (u3 (u3 x 115 0 i (x 117 0 i)) 116 0 i (u3 x 115 0 i (x 117 0 i) 118 0 i)) _ ⟨fun b h1 h2 => (u3_ne1 h2).trans ((u3_ne1 h1).trans (x1 b h1 h2)), fun j hj => ?_⟩ (by (repeat' apply And.intro) <;> first | rfl | trivial | exact congrArg Sum.inl (nI_1 _).symm | exact congrArg Sum.inl (nI_1 _).symm)
                by_cases e : j = i
                · subst e
                  refine ⟨by rw [u3_ne1 (by decide)]; exact u3_eq.trans (by rw [xI 117 (Or.inl rfl)]), u3_eq.trans ?_⟩
                  rw [u3_ne1 (by decide), xI 118 (Or.inr rfl)]
                · exact ⟨by rw [u3_ne1 (by decide)]; exact (u3_ne3 e).trans (x2 j (by omega)).1, (u3_ne3 e).trans (by rw [u3_ne1 (by decide)]; exact (x2 j (by omega)).2)⟩
            · intro i z hi ⟨z1, z2⟩ hnext
              have z121 : z 121 = I' 121 := (z1 121 (by decide) (by decide)).trans (j1 121 (by decide))
              have z122 : z 122 = I' 122 := (z1 122 (by decide) (by decide)).trans (j1 122 (by decide))
              obtain ⟨e1, e3, -⟩ := g3 i hi
              refine gT_go 400 [235] kX12_law ?_
              refine bGe i R.length rfl rfl (fun q => absurd q (by omega)) (fun _ => ?_)
              refine Exists.intro (i) (And.intro rfl (And.intro (show _ < 10 by omega) ?_))
              refine Exists.intro (i) (And.intro rfl (And.intro (show _ < 10 by omega) ?_))
              refine Exists.intro (i + 1) (And.intro (nI_1 i) (And.intro (show i + 1 < 11 by omega) ?_))
              refine Exists.intro (i + 1) (And.intro (nI_1 i) (And.intro (show i + 1 < 11 by omega) ?_))
              refine hnext (u3 (u3 z 119 0 i (z 121 0 i)) 120 0 (i + 1) (u3 z 119 0 i (z 121 0 i) 122 0 (i + 1))) _ ⟨fun b h1 h2 => (u3_ne1 h2).trans ((u3_ne1 h1).trans (z1 b h1 h2)), fun j hj => ?_⟩ (by (repeat' apply And.intro) <;> first | rfl | trivial | exact congrArg Sum.inl (nI_1 _).symm | exact congrArg Sum.inl (nI_1 _).symm)
              by_cases e : j = i
              · subst e
                refine ⟨by rw [u3_ne1 (by decide)]; exact u3_eq.trans (by rw [z121]; exact e1), u3_eq.trans ?_⟩
                rw [u3_ne1 (by decide), z122]
                exact e3
              · exact ⟨by rw [u3_ne1 (by decide)]; exact (u3_ne3 e).trans (z2 j (by omega)).1, (u3_ne3 (by omega)).trans (by rw [u3_ne1 (by decide)]; exact (z2 j (by omega)).2)⟩
          subst hJ
          exact at235 _ (by (repeat' apply And.intro) <;> first | rfl | trivial | exact congrArg Sum.inl (nI_1 _).symm | exact congrArg Sum.inl (nI_1 _).symm)
      subst hIb
      exact key45 _ (by (repeat' apply And.intro) <;> first | rfl | trivial | exact congrArg Sum.inl (nI_1 _).symm | exact congrArg Sum.inl (nI_1 _).symm)
  refine gEnter 400 [22, 23] kX12_law rfl rfl ?_
  have at22 : ∀ lo', gWi x 0 (nI (vT V).1) = false → glle [some gM0, some (gI x), none, none] lo' → gT mX12_law (d + 31) (0, 0) (fun v h' => v = [(xLaw V x).2.1] ∧ ∃ I' L', h' = gH I' L' y ∧ mOut I L I' L' ∧ mR (xLaw V x).2.2 I' L' ∧ I' 100 0 0 = (xLaw V x).1) (fun _ _ => False) 22 lo' [gM0] (gH (u3 I 100 0 0 0) L y) (0, 0) := by
    intro lo' h hl'
    refine gT_lo _ hl' ?_
    refine gT_go 400 [23] kX12_law ?_
    exact at23 false _ h.symm (by (repeat' apply And.intro) <;> first | rfl | trivial | exact congrArg Sum.inl (nI_1 _).symm | exact congrArg Sum.inl (nI_1 _).symm)
  refine And.intro (fun c => ?_) (fun c => ?_)
  · exact at22 _ (by unfold gWi; rw [decide_eq_false (Int32.not_le.mpr c)] <;> rfl) (by (repeat' apply And.intro) <;> first | rfl | trivial | exact congrArg Sum.inl (nI_1 _).symm | exact congrArg Sum.inl (nI_1 _).symm)
  · refine And.intro (fun c2 => ?_) (fun c2 => ?_)
    · have c2' : nI (vT V).1 < x := by rw [← e2]; exact c2
      exact at22 _ (by unfold gWi; rw [decide_eq_false (Int32.not_le.mpr c2'), Bool.and_false]) (by (repeat' apply And.intro) <;> first | rfl | trivial | exact congrArg Sum.inl (nI_1 _).symm | exact congrArg Sum.inl (nI_1 _).symm)
    · have c2' : ¬ nI (vT V).1 < x := by rw [← e2]; exact c2
      exact at23 true _ (by unfold gWi; rw [decide_eq_true (Int32.not_lt.mp c), decide_eq_true (Int32.not_lt.mp c2')] <;> rfl) (by (repeat' apply And.intro) <;> first | rfl | trivial | exact congrArg Sum.inl (nI_1 _).symm | exact congrArg Sum.inl (nI_1 _).symm)
