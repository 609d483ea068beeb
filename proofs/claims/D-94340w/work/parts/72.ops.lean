/-! ===== reading a law: product and sum (printed by gen_ops.py) ===== -/
set_option maxRecDepth 100000 in
theorem e_product (d k : Nat) (T : Nat → Nat) (N : Nat) (one : Nat → RR Cd) (h1 : lC mX12_unit (d + 7) T N k one) : lC mX12_product (d + 8) T N k (rOps T N 42 4 47 5 one) := by
  intro C0 a I L y S hC
  have hN := S.2.1.2.1
  have dead : ∀ (kp : Nat × Nat) (I1 : Nat → Nat → Nat → Int32) (a1 : Nat) (lo' : Lo) (Q : Prop), rEr (some kp) I1 → rD T N a1 I1 → (([] : List AV) = [] ∧ Q → True) → ∀ (R : RR Cd), R = .inl kp → rFl I I1 → glle [some gM0, none] lo' →
      gT mX12_product (d + 8) (0, 0) (fun v h' => v = [] ∧ ∃ I', h' = gH I' L y ∧ rFl I I' ∧ lOut T N k C0 a R I') (fun _ _ => False) 4 lo' [] (gH I1 L y) (0, 0) := by
    intro kp I1 a1 lo' _ g1 g2 _ R hR g3 hl'
    refine gT_lo _ hl' ?_
    refine gT_go 400 [] kX12_product ?_
    refine gP_use (p_fine (d + 6) (some kp) I1 L y g1) ?_
    refine And.intro (fun _ => ?_) (fun q => absurd rfl q)
    exact ⟨rfl, I1, rfl, g3, by rw [hR]; exact ⟨g1, a1, g2⟩⟩
  have key : ∀ (f : Nat) (C : Cd) (b : Nat) (I1 : Nat → Nat → Nat → Int32) (lo' : Lo), N < f + b → lS T N k (C0 ++ C) b I1 → a + C.length ≤ b → cWf C → rFl I I1 → glle [some gM0, none] lo' →
      gT mX12_product (d + 8) (0, 0) (fun v h' => v = [] ∧ ∃ I', h' = gH I' L y ∧ rFl I I' ∧ lOut T N k C0 a (rLp T N 42 4 47 5 one f C b) I') (fun _ _ => False) 4 lo' [] (gH I1 L y) (0, 0) := by
    intro f
    induction f with
    | zero => intro C b I1 lo' hf S1; exact absurd S1.2.1.2.2.2.1 (by omega)
    | succ f ih =>
      intro C b I1 lo' hf S1 hb hw fr hl'
      have hbN := S1.2.1.2.2.2.1
      obtain ⟨k1, k2, k3, k4⟩ := sk_ok (T := T) hbN
      have h0 : (C0 ++ C).length ≤ b := by rw [List.length_append]; omega
      have at67 : ∀ (I2 : Nat → Nat → Nat → Int32) (lo' : Lo), ¬ (cAt T N (sk T N b) = 42 ∨ cAt T N (sk T N b) = 47) → lS T N k (C0 ++ C) (sk T N b) I2 → rFl I I2 → glle [some gM0, none] lo' →
          gT mX12_product (d + 8) (0, 0) (fun v h' => v = [] ∧ ∃ I', h' = gH I' L y ∧ rFl I I' ∧ lOut T N k C0 a (rLp T N 42 4 47 5 one (f + 1) C b) I') (fun _ _ => False) 67 lo' [] (gH I2 L y) (0, 0) := by
        intro I2 lo' hn S2 f2 hl'
        refine gT_lo _ hl' ?_
        refine gT_go 400 [] kX12_product ?_
        exact ⟨rfl, I2, rfl, f2, by rw [rLp, if_neg hn]; exact ⟨S2, by show a + C.length ≤ sk T N b; omega, hw⟩⟩
      have at29 : ∀ (I2 : Nat → Nat → Nat → Int32) (lo' : Lo), (cAt T N (sk T N b) = 42 ∨ cAt T N (sk T N b) = 47) → lS T N k (C0 ++ C) (sk T N b) I2 → rFl I I2 → glle [some gM0, none] lo' →
          gT mX12_product (d + 8) (0, 0) (fun v h' => v = [] ∧ ∃ I', h' = gH I' L y ∧ rFl I I' ∧ lOut T N k C0 a (rLp T N 42 4 47 5 one (f + 1) C b) I') (fun _ _ => False) 29 lo' [] (gH I2 L y) (0, 0) := by
        intro I2 lo' hy S2 f2 hl'
        have hlt : sk T N b < N := cAt_0 (T := T) (by omega)
        have hcl := cAt_lt S2.2.1 (sk T N b)
        refine gT_lo _ hl' ?_
        refine gT_go 400 [4, 60] kX12_product ?_
        refine gTM_use rfl (p_here (d + 6) T N (sk T N b) I2 L y S2.2.1) (fun v h' q => ?_)
        obtain ⟨rfl, I3, rfl, f3, D3⟩ := q
        rw [sk_sk hbN] at D3 ⊢
        have S3 := S2.fr f3 D3
        have S4 : lS T N k (C0 ++ C) (sk T N b + 1) (u3 I3 100 0 4 (I3 100 0 4 + 1)) := lS_at S3 hlt (by rw [D3.2.2.1]; exact nI_1 _)
        have f4 : rFl I (u3 I3 100 0 4 (I3 100 0 4 + 1)) := (f2.tr f3.fl).tr (rFr.put I3 _).fl
        refine gTM_use rfl (h1 (C0 ++ C) (sk T N b + 1) _ L y S4 (by omega)) (fun v h' q => ?_)
        obtain ⟨rfl, I5, rfl, f5, o5⟩ := q
        have f15 := f4.tr f5
        have at60 : ∀ (o : Nat) (lo' : Lo), o = (if cAt T N (sk T N b) = 42 then 4 else 5) → glle [some gM0, none] lo' →
            gT mX12_product (d + 8) (0, 0) (fun v h' => v = [] ∧ ∃ I', h' = gH I' L y ∧ rFl I I' ∧ lOut T N k C0 a (rLp T N 42 4 47 5 one (f + 1) C b) I') (fun _ _ => False) 60 lo' [gI (nI o), gM0] (gH I5 L y) (0, 0) := by
          intro o lo' ho hl'
          refine gT_lo _ hl' ?_
          refine gT_go 400 [4] kX12_product ?_
          rw [rLp, if_pos hy]
          cases hr : one (sk T N b + 1) with
          | inl kp =>
            rw [hr] at o5
            obtain ⟨E5, a5, D5⟩ := o5
            refine gTM_use rfl (p_emitD (d + 5) (nI o) 0 kp I5 L y E5) (fun v h' q => ?_)
            obtain ⟨rfl, rfl⟩ := q
            exact dead kp I5 a5 _ True E5 D5 (fun _ => trivial) _ rfl f15 (by (repeat' apply And.intro) <;> first | rfl | trivial | exact congrArg Sum.inl (nI_1 _).symm | exact congrArg Sum.inl (nI_1 _).symm)
          | inr q =>
            rw [hr] at o5
            obtain ⟨S5, l5, w5⟩ := o5
            have hb5 := S5.2.1.2.2.2.1
            have l5' : sk T N b + 1 + q.1.length ≤ q.2 := l5
            refine gTM_use rfl (p_emit (d + 5) o 0 T N k q.2 (C0 ++ C ++ q.1) (by rw [List.length_append]; omega) I5 L y S5) (fun v h' z => ?_)
            obtain ⟨rfl, I6, rfl, f6, S6⟩ := z
            rw [List.append_assoc, List.append_assoc, ← List.append_assoc C, ho] at S6
            exact ih (C ++ q.1 ++ [(if cAt T N (sk T N b) = 42 then 4 else 5, 0)]) q.2 I6 _ (by omega) S6 (by rw [List.length_append, List.length_append]; show a + (C.length + q.1.length + 1) ≤ q.2; omega) (cWf_2 hw w5 (by split <;> omega)) (f15.tr f6) (by (repeat' apply And.intro) <;> first | rfl | trivial | exact congrArg Sum.inl (nI_1 _).symm | exact congrArg Sum.inl (nI_1 _).symm)
        refine bNe (cAt T N (sk T N b)) 42 rfl rfl (fun c => ?_) (fun c => ?_)
        · exact at60 5 _ (by rw [if_neg c]) (by (repeat' apply And.intro) <;> first | rfl | trivial | exact congrArg Sum.inl (nI_1 _).symm | exact congrArg Sum.inl (nI_1 _).symm)
        · exact at60 4 _ (by rw [if_pos c]) (by (repeat' apply And.intro) <;> first | rfl | trivial | exact congrArg Sum.inl (nI_1 _).symm | exact congrArg Sum.inl (nI_1 _).symm)
      refine gT_lo _ hl' ?_
      refine gT_go 400 [29, 67] kX12_product ?_
      refine gP_use (p_fine (d + 6) none I1 L y S1.1) ?_
      refine And.intro (fun q => absurd q (by decide)) (fun _ => ?_)
      refine gTM_use rfl (p_here (d + 6) T N b I1 L y S1.2.1) (fun v h' q => ?_)
      obtain ⟨rfl, I2, rfl, f2, D2⟩ := q
      have S2 := S1.fr f2 D2
      have hcl := cAt_lt S2.2.1 (sk T N b)
      refine bEq (cAt T N (sk T N b)) 42 rfl rfl (fun c => ?_) (fun c => ?_)
      · exact at29 I2 _ (Or.inl c) S2 (fr.tr f2.fl) (by (repeat' apply And.intro) <;> first | rfl | trivial | exact congrArg Sum.inl (nI_1 _).symm | exact congrArg Sum.inl (nI_1 _).symm)
      · refine gTM_use rfl (p_here (d + 6) T N (sk T N b) I2 L y D2) (fun v h' q => ?_)
        obtain ⟨rfl, I3, rfl, f3, D3⟩ := q
        rw [sk_sk hbN] at D3 ⊢
        have S3 := S2.fr f3 D3
        refine bNe (cAt T N (sk T N b)) 47 rfl rfl (fun c2 => ?_) (fun c2 => ?_)
        · exact at67 I3 _ (by omega) S3 ((fr.tr f2.fl).tr f3.fl) (by (repeat' apply And.intro) <;> first | rfl | trivial | exact congrArg Sum.inl (nI_1 _).symm | exact congrArg Sum.inl (nI_1 _).symm)
        · exact at29 I3 _ (Or.inr c2) S3 ((fr.tr f2.fl).tr f3.fl) (by (repeat' apply And.intro) <;> first | rfl | trivial | exact congrArg Sum.inl (nI_1 _).symm | exact congrArg Sum.inl (nI_1 _).symm)
  refine gEnter 400 [4] kX12_product rfl rfl ?_
  refine gTM_use rfl (h1 C0 a I L y S hC) (fun v h' q => ?_)
  obtain ⟨rfl, I1, rfl, f1, o1⟩ := q
  unfold rOps
  cases hr : one a with
  | inl kp =>
    rw [hr] at o1
    obtain ⟨E1, a1, D1⟩ := o1
    exact dead kp I1 a1 _ True E1 D1 (fun _ => trivial) _ rfl f1 (by (repeat' apply And.intro) <;> first | rfl | trivial | exact congrArg Sum.inl (nI_1 _).symm | exact congrArg Sum.inl (nI_1 _).symm)
  | inr q =>
    rw [hr] at o1
    obtain ⟨S1, l1, w1⟩ := o1
    exact key (N + 1) q.1 q.2 I1 _ (by omega) S1 l1 w1 f1 (by (repeat' apply And.intro) <;> first | rfl | trivial | exact congrArg Sum.inl (nI_1 _).symm | exact congrArg Sum.inl (nI_1 _).symm)
set_option maxRecDepth 100000 in
theorem e_sum (d k : Nat) (T : Nat → Nat) (N : Nat) (one : Nat → RR Cd) (h1 : lC mX12_product (d + 8) T N k one) : lC mX12_sum (d + 9) T N k (rOps T N 43 2 45 3 one) := by
  intro C0 a I L y S hC
  have hN := S.2.1.2.1
  have dead : ∀ (kp : Nat × Nat) (I1 : Nat → Nat → Nat → Int32) (a1 : Nat) (lo' : Lo) (Q : Prop), rEr (some kp) I1 → rD T N a1 I1 → (([] : List AV) = [] ∧ Q → True) → ∀ (R : RR Cd), R = .inl kp → rFl I I1 → glle [some gM0, none] lo' →
      gT mX12_sum (d + 9) (0, 0) (fun v h' => v = [] ∧ ∃ I', h' = gH I' L y ∧ rFl I I' ∧ lOut T N k C0 a R I') (fun _ _ => False) 4 lo' [] (gH I1 L y) (0, 0) := by
    intro kp I1 a1 lo' _ g1 g2 _ R hR g3 hl'
    refine gT_lo _ hl' ?_
    refine gT_go 400 [] kX12_sum ?_
    refine gP_use (p_fine (d + 7) (some kp) I1 L y g1) ?_
    refine And.intro (fun _ => ?_) (fun q => absurd rfl q)
    exact ⟨rfl, I1, rfl, g3, by rw [hR]; exact ⟨g1, a1, g2⟩⟩
  have key : ∀ (f : Nat) (C : Cd) (b : Nat) (I1 : Nat → Nat → Nat → Int32) (lo' : Lo), N < f + b → lS T N k (C0 ++ C) b I1 → a + C.length ≤ b → cWf C → rFl I I1 → glle [some gM0, none] lo' →
      gT mX12_sum (d + 9) (0, 0) (fun v h' => v = [] ∧ ∃ I', h' = gH I' L y ∧ rFl I I' ∧ lOut T N k C0 a (rLp T N 43 2 45 3 one f C b) I') (fun _ _ => False) 4 lo' [] (gH I1 L y) (0, 0) := by
    intro f
    induction f with
    | zero => intro C b I1 lo' hf S1; exact absurd S1.2.1.2.2.2.1 (by omega)
    | succ f ih =>
      intro C b I1 lo' hf S1 hb hw fr hl'
      have hbN := S1.2.1.2.2.2.1
      obtain ⟨k1, k2, k3, k4⟩ := sk_ok (T := T) hbN
      have h0 : (C0 ++ C).length ≤ b := by rw [List.length_append]; omega
      have at67 : ∀ (I2 : Nat → Nat → Nat → Int32) (lo' : Lo), ¬ (cAt T N (sk T N b) = 43 ∨ cAt T N (sk T N b) = 45) → lS T N k (C0 ++ C) (sk T N b) I2 → rFl I I2 → glle [some gM0, none] lo' →
          gT mX12_sum (d + 9) (0, 0) (fun v h' => v = [] ∧ ∃ I', h' = gH I' L y ∧ rFl I I' ∧ lOut T N k C0 a (rLp T N 43 2 45 3 one (f + 1) C b) I') (fun _ _ => False) 67 lo' [] (gH I2 L y) (0, 0) := by
        intro I2 lo' hn S2 f2 hl'
        refine gT_lo _ hl' ?_
        refine gT_go 400 [] kX12_sum ?_
        exact ⟨rfl, I2, rfl, f2, by rw [rLp, if_neg hn]; exact ⟨S2, by show a + C.length ≤ sk T N b; omega, hw⟩⟩
      have at29 : ∀ (I2 : Nat → Nat → Nat → Int32) (lo' : Lo), (cAt T N (sk T N b) = 43 ∨ cAt T N (sk T N b) = 45) → lS T N k (C0 ++ C) (sk T N b) I2 → rFl I I2 → glle [some gM0, none] lo' →
          gT mX12_sum (d + 9) (0, 0) (fun v h' => v = [] ∧ ∃ I', h' = gH I' L y ∧ rFl I I' ∧ lOut T N k C0 a (rLp T N 43 2 45 3 one (f + 1) C b) I') (fun _ _ => False) 29 lo' [] (gH I2 L y) (0, 0) := by
        intro I2 lo' hy S2 f2 hl'
        have hlt : sk T N b < N := cAt_0 (T := T) (by omega)
        have hcl := cAt_lt S2.2.1 (sk T N b)
        refine gT_lo _ hl' ?_
        refine gT_go 400 [4, 60] kX12_sum ?_
        refine gTM_use rfl (p_here (d + 7) T N (sk T N b) I2 L y S2.2.1) (fun v h' q => ?_)
        obtain ⟨rfl, I3, rfl, f3, D3⟩ := q
        rw [sk_sk hbN] at D3 ⊢
        have S3 := S2.fr f3 D3
        have S4 : lS T N k (C0 ++ C) (sk T N b + 1) (u3 I3 100 0 4 (I3 100 0 4 + 1)) := lS_at S3 hlt (by rw [D3.2.2.1]; exact nI_1 _)
        have f4 : rFl I (u3 I3 100 0 4 (I3 100 0 4 + 1)) := (f2.tr f3.fl).tr (rFr.put I3 _).fl
        refine gTM_use rfl (h1 (C0 ++ C) (sk T N b + 1) _ L y S4 (by omega)) (fun v h' q => ?_)
        obtain ⟨rfl, I5, rfl, f5, o5⟩ := q
        have f15 := f4.tr f5
        have at60 : ∀ (o : Nat) (lo' : Lo), o = (if cAt T N (sk T N b) = 43 then 2 else 3) → glle [some gM0, none] lo' →
            gT mX12_sum (d + 9) (0, 0) (fun v h' => v = [] ∧ ∃ I', h' = gH I' L y ∧ rFl I I' ∧ lOut T N k C0 a (rLp T N 43 2 45 3 one (f + 1) C b) I') (fun _ _ => False) 60 lo' [gI (nI o), gM0] (gH I5 L y) (0, 0) := by
          intro o lo' ho hl'
          refine gT_lo _ hl' ?_
          refine gT_go 400 [4] kX12_sum ?_
          rw [rLp, if_pos hy]
          cases hr : one (sk T N b + 1) with
          | inl kp =>
            rw [hr] at o5
            obtain ⟨E5, a5, D5⟩ := o5
            refine gTM_use rfl (p_emitD (d + 6) (nI o) 0 kp I5 L y E5) (fun v h' q => ?_)
            obtain ⟨rfl, rfl⟩ := q
            exact dead kp I5 a5 _ True E5 D5 (fun _ => trivial) _ rfl f15 (by (repeat' apply And.intro) <;> first | rfl | trivial | exact congrArg Sum.inl (nI_1 _).symm | exact congrArg Sum.inl (nI_1 _).symm)
          | inr q =>
            rw [hr] at o5
            obtain ⟨S5, l5, w5⟩ := o5
            have hb5 := S5.2.1.2.2.2.1
            have l5' : sk T N b + 1 + q.1.length ≤ q.2 := l5
            refine gTM_use rfl (p_emit (d + 6) o 0 T N k q.2 (C0 ++ C ++ q.1) (by rw [List.length_append]; omega) I5 L y S5) (fun v h' z => ?_)
            obtain ⟨rfl, I6, rfl, f6, S6⟩ := z
            rw [List.append_assoc, List.append_assoc, ← List.append_assoc C, ho] at S6
            exact ih (C ++ q.1 ++ [(if cAt T N (sk T N b) = 43 then 2 else 3, 0)]) q.2 I6 _ (by omega) S6 (by rw [List.length_append, List.length_append]; show a + (C.length + q.1.length + 1) ≤ q.2; omega) (cWf_2 hw w5 (by split <;> omega)) (f15.tr f6) (by (repeat' apply And.intro) <;> first | rfl | trivial | exact congrArg Sum.inl (nI_1 _).symm | exact congrArg Sum.inl (nI_1 _).symm)
        refine bNe (cAt T N (sk T N b)) 43 rfl rfl (fun c => ?_) (fun c => ?_)
        · exact at60 3 _ (by rw [if_neg c]) (by (repeat' apply And.intro) <;> first | rfl | trivial | exact congrArg Sum.inl (nI_1 _).symm | exact congrArg Sum.inl (nI_1 _).symm)
        · exact at60 2 _ (by rw [if_pos c]) (by (repeat' apply And.intro) <;> first | rfl | trivial | exact congrArg Sum.inl (nI_1 _).symm | exact congrArg Sum.inl (nI_1 _).symm)
      refine gT_lo _ hl' ?_
      refine gT_go 400 [29, 67] kX12_sum ?_
      refine gP_use (p_fine (d + 7) none I1 L y S1.1) ?_
      refine And.intro (fun q => absurd q (by decide)) (fun _ => ?_)
      refine gTM_use rfl (p_here (d + 7) T N b I1 L y S1.2.1) (fun v h' q => ?_)
      obtain ⟨rfl, I2, rfl, f2, D2⟩ := q
      have S2 := S1.fr f2 D2
      have hcl := cAt_lt S2.2.1 (sk T N b)
      refine bEq (cAt T N (sk T N b)) 43 rfl rfl (fun c => ?_) (fun c => ?_)
      · exact at29 I2 _ (Or.inl c) S2 (fr.tr f2.fl) (by (repeat' apply And.intro) <;> first | rfl | trivial | exact congrArg Sum.inl (nI_1 _).symm | exact congrArg Sum.inl (nI_1 _).symm)
      · refine gTM_use rfl (p_here (d + 7) T N (sk T N b) I2 L y D2) (fun v h' q => ?_)
        obtain ⟨rfl, I3, rfl, f3, D3⟩ := q
        rw [sk_sk hbN] at D3 ⊢
        have S3 := S2.fr f3 D3
        refine bNe (cAt T N (sk T N b)) 45 rfl rfl (fun c2 => ?_) (fun c2 => ?_)
        · exact at67 I3 _ (by omega) S3 ((fr.tr f2.fl).tr f3.fl) (by (repeat' apply And.intro) <;> first | rfl | trivial | exact congrArg Sum.inl (nI_1 _).symm | exact congrArg Sum.inl (nI_1 _).symm)
        · exact at29 I3 _ (Or.inr c2) S3 ((fr.tr f2.fl).tr f3.fl) (by (repeat' apply And.intro) <;> first | rfl | trivial | exact congrArg Sum.inl (nI_1 _).symm | exact congrArg Sum.inl (nI_1 _).symm)
  refine gEnter 400 [4] kX12_sum rfl rfl ?_
  refine gTM_use rfl (h1 C0 a I L y S hC) (fun v h' q => ?_)
  obtain ⟨rfl, I1, rfl, f1, o1⟩ := q
  unfold rOps
  cases hr : one a with
  | inl kp =>
    rw [hr] at o1
    obtain ⟨E1, a1, D1⟩ := o1
    exact dead kp I1 a1 _ True E1 D1 (fun _ => trivial) _ rfl f1 (by (repeat' apply And.intro) <;> first | rfl | trivial | exact congrArg Sum.inl (nI_1 _).symm | exact congrArg Sum.inl (nI_1 _).symm)
  | inr q =>
    rw [hr] at o1
    obtain ⟨S1, l1, w1⟩ := o1
    exact key (N + 1) q.1 q.2 I1 _ (by omega) S1 l1 w1 f1 (by (repeat' apply And.intro) <;> first | rfl | trivial | exact congrArg Sum.inl (nI_1 _).symm | exact congrArg Sum.inl (nI_1 _).symm)
