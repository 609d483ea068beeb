/-! ===== reading a law: conditions (printed by gen_unit.py) ===== -/
/-- a loop of words -/
def rLw (T : Nat → Nat) (N t o : Nat) (one : Nat → RR Cd) : Nat → Cd → Nat → RR Cd
  | 0, C, a => .inr (C, sk T N a)
  | f + 1, C, a => if rWord T N a = t then (match one (wE T N (sk T N a)) with
      | .inl kp => .inl kp
      | .inr q => rLw T N t o one f (C ++ q.1 ++ [(o, 0)]) q.2) else .inr (C, sk T N a)
def rWs (T : Nat → Nat) (N t o : Nat) (one : Nat → RR Cd) (a : Nat) : RR Cd := match one a with
  | .inl kp => .inl kp
  | .inr q => rLw T N t o one (N + 1) q.1 q.2
/-- the reader of anyOf, of that of oneOf -/
def rAny (T : Nat → Nat) (N : Nat) (one : Nat → RR Cd) : Nat → RR Cd := rWs T N (wd 21) 11 (rWs T N (wd 20) 10 one)
theorem rWord_3 {T : Nat → Nat} {N a : Nat} (h2 : sk T N a ≤ N) (h : rWord T N a = wd 19) : sk T N a + 3 ≤ wE T N (sk T N a) := by
  have hz : 1024 ≤ wd 19 := by decide +kernel
  obtain ⟨k1, k2, k3, k4⟩ := wE_ok (T := T) h2
  rcases Nat.lt_or_ge (wE T N (sk T N a)) (sk T N a + 3) with q | q
  · exfalso
    have h1 := wF_lt (T := T) (s := sk T N a) (wE T N (sk T N a) - sk T N a) (fun j hj => k3 (sk T N a + j) (by omega) (by omega))
    have h3 : 32 ^ (wE T N (sk T N a) - sk T N a) ≤ 32 ^ 2 := Nat.pow_le_pow_right (by decide) (by omega)
    unfold rWord wVal at h
    rw [if_pos (by omega)] at h
    omega
  · exact q
def rOn (T : Nat → Nat) (N : Nat) (sm : Nat → RR Cd) (sub : Option (Nat → RR Cd)) (a : Nat) : RR Cd :=
  if cAt T N (sk T N a) = 91 then (match sub with
    | none => .inl (3, sk T N a)
    | some f => rShut T N 93 (rAny T N f (sk T N a + 1)))
  else if rWord T N a = wd 19 then (match sub with
    | none => .inl (3, sk T N a)
    | some f => rbd (f (sk T N a + 3)) (fun C b => .inr (C ++ [(9, 0)], b)))
  else rbd (sm (sk T N a)) (fun C b => if cAt T N (sk T N b) = 60 ∨ cAt T N (sk T N b) = 62 ∨ cAt T N (sk T N b) = 61
    then rbd (sm (sk T N b + 1)) (fun C2 b2 => .inr (C ++ C2 ++ [(if cAt T N (sk T N b) = 60 then 6 else if cAt T N (sk T N b) = 62 then 7 else 8, 0)], b2))
    else .inl (1, sk T N b))
def hSub1 (D : Nat) (T : Nat → Nat) (N k : Nat) (sub : Option (Nat → RR Cd)) : Prop := match sub with
  | none => k = 0 ∧ lDd mX12_anyOf D T N ∧ lDd mX12_oneOf D T N
  | some f => ∃ j, k = j + 1 ∧ j < 6 ∧ lC mX12_anyOf D T N j (rAny T N f) ∧ lC mX12_oneOf D T N j f
theorem hSub1.any {D : Nat} {T : Nat → Nat} {N k : Nat} {sub : Option (Nat → RR Cd)} (h : hSub1 D T N k sub) : hSub mX12_anyOf D T N k (sub.map (rAny T N)) := by
  cases sub with
  | none => exact ⟨h.1, h.2.1⟩
  | some f => obtain ⟨j, h1, h2, h3, h4⟩ := h; exact ⟨j, h1, h2, h3⟩
theorem hSub1.one {D : Nat} {T : Nat → Nat} {N k : Nat} {sub : Option (Nat → RR Cd)} (h : hSub1 D T N k sub) : hSub mX12_oneOf D T N k sub := by
  cases sub with
  | none => exact ⟨h.1, h.2.2⟩
  | some f => obtain ⟨j, h1, h2, h3, h4⟩ := h; exact ⟨j, h1, h2, h4⟩
set_option maxRecDepth 100000 in
theorem e_oneOf (d k : Nat) (T : Nat → Nat) (N : Nat) (sm : Nat → RR Cd) (sub : Option (Nat → RR Cd)) (hm : lC mX12_sum (d + 9) T N k sm) (hs1 : hSub1 (d + 9) T N k sub) : lC mX12_oneOf (d + 10) T N k (rOn T N sm sub) := by
  intro C a I L y S hC
  have hN := S.2.1.2.1
  have hbN := S.2.1.2.2.2.1
  have wl := wd_lt (show 19 < 22 by decide)
  obtain ⟨k1, k2, k3, k4⟩ := sk_ok (T := T) hbN
  refine gEnter 400 [128] kX12_oneOf rfl rfl ?_
  refine gP_use (p_fine (d + 8) none I L y S.1) ?_
  refine And.intro (fun _ => ?_) (fun q => absurd q (by decide))
  refine gTM_use rfl (p_here (d + 8) T N a I L y S.2.1) (fun v h' q => ?_)
  obtain ⟨rfl, I1, rfl, f1, D1⟩ := q
  have S1 := S.fr f1 D1
  have hcl := cAt_lt D1 (sk T N a)
  refine bNe (cAt T N (sk T N a)) 91 rfl rfl (fun c2 => ?_) (fun c2 => ?_)
  · refine gTM_use rfl (p_word (d + 7) T N (sk T N a) I1 L y D1) (fun v h' q => ?_)
    obtain ⟨rfl, I2, rfl, f2, D2⟩ := q
    rw [sk_sk hbN] at D2
    rw [rWord_sk hbN]
    have hwl : rWord T N a < 2 ^ 30 := rWord_lt k2
    have S2 := S1.fr f2 D2
    have f12 := f1.fl.tr f2.fl
    refine gP_use (p_of (d + 4) 19 (by decide) (gH I2 L y)) ?_
    refine bNe (rWord T N a) (wd 19) rfl rfl (fun c3 => ?_) (fun c3 => ?_)
    · -- a comparison
      have er : rOn T N sm sub a = rbd (sm (sk T N a)) (fun C b => if cAt T N (sk T N b) = 60 ∨ cAt T N (sk T N b) = 62 ∨ cAt T N (sk T N b) = 61
        then rbd (sm (sk T N b + 1)) (fun C2 b2 => .inr (C ++ C2 ++ [(if cAt T N (sk T N b) = 60 then 6 else if cAt T N (sk T N b) = 62 then 7 else 8, 0)], b2))
        else .inl (1, sk T N b)) := by unfold rOn; rw [if_neg c2, if_neg c3]
      refine gTM_use rfl (hm C (sk T N a) I2 L y S2 (by omega)) (fun v h' q => ?_)
      obtain ⟨rfl, I3, rfl, f3, o3⟩ := q
      have f13 := f12.tr f3
      cases hr : sm (sk T N a) with
      | inl kp =>
        rw [hr] at o3
        rw [hr] at er
        obtain ⟨E3, a3, D3⟩ := o3
        refine gP_use (p_fine (d + 8) (some kp) I3 L y E3) ?_
        refine And.intro (fun q => absurd rfl q) (fun _ => ?_)
        refine ⟨rfl, I3, rfl, f13, ?_⟩
        rw [er]
        exact ⟨E3, a3, D3⟩
      | inr q =>
        rw [hr] at o3
        rw [hr] at er
        obtain ⟨S3, l3, w3⟩ := o3
        have l3' : sk T N a + q.1.length ≤ q.2 := l3
        have hq := S3.2.1.2.2.2.1
        obtain ⟨k5, k6, k7, k8⟩ := sk_ok (T := T) hq
        refine gP_use (p_fine (d + 8) none I3 L y S3.1) ?_
        refine And.intro (fun _ => ?_) (fun q => absurd q (by decide))
        refine gTM_use rfl (p_here (d + 8) T N q.2 I3 L y S3.2.1) (fun v h' z => ?_)
        obtain ⟨rfl, I4, rfl, f4, D4⟩ := z
        have S4 := S3.fr f4 D4
        have f14 := f13.tr f4.fl
        have hcl4 := cAt_lt D4 (sk T N q.2)
        obtain ⟨g, hg⟩ : ∃ g, g = cAt T N (sk T N q.2) := ⟨_, rfl⟩
        rw [← hg] at hcl4 ⊢
        have at128 : ∀ lo', (g = 60 ∨ g = 62 ∨ g = 61) → glle [some gM0, some (gI (nI g))] lo' →
            gT mX12_oneOf (d + 10) (0, 0) (fun v h' => v = [] ∧ ∃ I', h' = gH I' L y ∧ rFl I I' ∧ lOut T N k C a (rOn T N sm sub a) I') (fun _ _ => False) 128 lo' [] (gH I4 L y) (0, 0) := by
          intro lo' hy hl'
          have hlt : sk T N q.2 < N := cAt_0 (T := T) (by omega)
          have er2 : rOn T N sm sub a = rbd (sm (sk T N q.2 + 1)) (fun C2 b2 => .inr (q.1 ++ C2 ++ [(if g = 60 then 6 else if g = 62 then 7 else 8, 0)], b2)) := by
            rw [er]
            show (if cAt T N (sk T N q.2) = 60 ∨ cAt T N (sk T N q.2) = 62 ∨ cAt T N (sk T N q.2) = 61 then _ else _) = _
            rw [← hg, if_pos hy]
          refine gT_lo _ hl' ?_
          refine gT_go 400 [167] kX12_oneOf ?_
          have S5 : lS T N k (C ++ q.1) (sk T N q.2 + 1) (u3 I4 100 0 4 (I4 100 0 4 + 1)) := lS_at S4 hlt (by rw [D4.2.2.1]; exact nI_1 _)
          have f5 : rFl I (u3 I4 100 0 4 (I4 100 0 4 + 1)) := f14.tr (rFr.put I4 _).fl
          refine gTM_use rfl (hm (C ++ q.1) (sk T N q.2 + 1) _ L y S5 (by rw [List.length_append]; omega)) (fun v h' z => ?_)
          obtain ⟨rfl, I6, rfl, f6, o6⟩ := z
          have f16 := f5.tr f6
          have at167 : ∀ (o : Nat) (lo' : Lo), o = (if g = 60 then 6 else if g = 62 then 7 else 8) → glle [some gM0, none] lo' →
              gT mX12_oneOf (d + 10) (0, 0) (fun v h' => v = [] ∧ ∃ I', h' = gH I' L y ∧ rFl I I' ∧ lOut T N k C a (rOn T N sm sub a) I') (fun _ _ => False) 167 lo' [gI (nI o), gM0] (gH I6 L y) (0, 0) := by
            intro o lo' ho hl'
            refine gT_lo _ hl' ?_
            refine gT_go 400 [] kX12_oneOf ?_
            rw [er2, ← ho]
            cases hr6 : sm (sk T N q.2 + 1) with
            | inl kp =>
              rw [hr6] at o6
              obtain ⟨E6, a6, D6⟩ := o6
              refine gTM_use rfl (p_emitD (d + 7) (nI o) 0 kp I6 L y E6) (fun v h' q => ?_)
              obtain ⟨rfl, rfl⟩ := q
              exact ⟨rfl, I6, rfl, f16, E6, a6, D6⟩
            | inr u =>
              rw [hr6] at o6
              obtain ⟨S6, l6, w6⟩ := o6
              have hb6 := S6.2.1.2.2.2.1
              have l6' : sk T N q.2 + 1 + u.1.length ≤ u.2 := l6
              refine gTM_use rfl (p_emit (d + 7) o 0 T N k u.2 (C ++ q.1 ++ u.1) (by rw [List.length_append, List.length_append]; omega) I6 L y S6) (fun v h' z => ?_)
              obtain ⟨rfl, I7, rfl, f7, S7⟩ := z
              rw [List.append_assoc C, List.append_assoc C] at S7
              refine ⟨rfl, I7, rfl, f16.tr f7, S7, ?_, cWf_2 w3 w6 (by rw [ho]; split <;> (try split) <;> omega)⟩
              show a + (q.1 ++ u.1 ++ [(o, 0)]).length ≤ u.2
              rw [List.length_append, List.length_append]
              show a + (q.1.length + u.1.length + 1) ≤ u.2
              omega
          refine bNe g 60 rfl rfl (fun c => ?_) (fun c => ?_)
          · refine bNe g 62 rfl rfl (fun c1 => ?_) (fun c1 => ?_)
            · exact at167 8 _ (by rw [if_neg c, if_neg c1]) (by (repeat' apply And.intro) <;> first | rfl | trivial | exact congrArg Sum.inl (nI_1 _).symm | exact congrArg Sum.inl (nI_1 _).symm)
            · exact at167 7 _ (by rw [if_neg c, if_pos c1]) (by (repeat' apply And.intro) <;> first | rfl | trivial | exact congrArg Sum.inl (nI_1 _).symm | exact congrArg Sum.inl (nI_1 _).symm)
          · exact at167 6 _ (by rw [if_pos c]) (by (repeat' apply And.intro) <;> first | rfl | trivial | exact congrArg Sum.inl (nI_1 _).symm | exact congrArg Sum.inl (nI_1 _).symm)
        refine bEq g 60 rfl rfl (fun c => at128 _ (Or.inl c) (by (repeat' apply And.intro) <;> first | rfl | trivial | exact congrArg Sum.inl (nI_1 _).symm | exact congrArg Sum.inl (nI_1 _).symm)) (fun n1 => ?_)
        refine bEq g 62 rfl rfl (fun c => at128 _ (Or.inr (Or.inl c)) (by (repeat' apply And.intro) <;> first | rfl | trivial | exact congrArg Sum.inl (nI_1 _).symm | exact congrArg Sum.inl (nI_1 _).symm)) (fun n2 => ?_)
        refine bEq g 61 rfl rfl (fun c => at128 _ (Or.inr (Or.inr c)) (by (repeat' apply And.intro) <;> first | rfl | trivial | exact congrArg Sum.inl (nI_1 _).symm | exact congrArg Sum.inl (nI_1 _).symm)) (fun n3 => ?_)
        refine gTM_use (av' := [gM0, gI (nI 1), gI (nI (sk T N q.2))]) (by rw [← D4.2.2.1] <;> rfl) (p_wrong (d + 8) none 1 (sk T N q.2) (by omega) I4 L y S4.1) (fun v h' z => ?_)
        obtain ⟨rfl, I5, rfl, f5, e5, E5⟩ := z
        have er2 : rOn T N sm sub a = .inl (1, sk T N q.2) := by
          rw [er]
          show (if cAt T N (sk T N q.2) = 60 ∨ cAt T N (sk T N q.2) = 62 ∨ cAt T N (sk T N q.2) = 61 then _ else _) = _
          rw [← hg, if_neg (by omega)]
        refine ⟨rfl, I5, rfl, f14.tr f5.fl, ?_⟩
        rw [er2]
        exact ⟨E5, _, D4.fe f5 (e5.trans D4.2.2.1) k6⟩
    · have h3 := rWord_3 k2 c3
      have h4 := (wE_ok (T := T) k2).2.1
      have hs := hs1.one
      cases sub with
      | none =>
        obtain ⟨hk, hd⟩ := hs
        subst hk
        have er : rOn T N sm none a = .inl (3, sk T N a) := by unfold rOn; rw [if_neg c2, if_pos c3]
        refine gTM_use rfl (p_opens0 (d + 7) 3 T N (sk T N a) C I2 L y S2) (fun v h' q => ?_)
        obtain ⟨rfl, I3, rfl, f3, E3, a3, D3⟩ := q
        refine gTM_use rfl (hd (3, sk T N a) a3 I3 L y E3 D3) (fun v h' q => ?_)
        obtain ⟨rfl, I4, rfl, f4, E4, a4, D4⟩ := q
        refine gTM_use rfl (p_emitD (d + 7) 9 0 (3, sk T N a) (u3 I4 100 0 7 (I4 100 0 7 - 1)) L y (E4.op _)) (fun v h' q => ?_)
        obtain ⟨rfl, rfl⟩ := q
        refine ⟨rfl, _, rfl, ((f12.tr f3).tr f4).tr (rFl.op I4 _), ?_⟩
        rw [er]
        exact ⟨E4.op _, a4, D4.op _⟩
      | some f =>
        obtain ⟨j, hk, hj, hd⟩ := hs
        subst hk
        have er : rOn T N sm (some f) a = rbd (f (sk T N a + 3)) (fun C b => .inr (C ++ [(9, 0)], b)) := by unfold rOn; rw [if_neg c2, if_pos c3]
        refine gTM_use rfl (p_opens (d + 7) j 3 hj T N (sk T N a) C (by omega) I2 L y S2) (fun v h' q => ?_)
        obtain ⟨rfl, I3, rfl, f3, S3⟩ := q
        refine gTM_use rfl (hd C (sk T N a + 3) I3 L y S3 (by omega)) (fun v h' q => ?_)
        obtain ⟨rfl, I4, rfl, f4, o4⟩ := q
        have f14 := ((f12.tr f3).tr f4).tr (rFl.op I4 (I4 100 0 7 - 1))
        cases hr : f (sk T N a + 3) with
        | inl kp =>
          rw [hr] at o4
          rw [hr] at er
          obtain ⟨E4, a4, D4⟩ := o4
          refine gTM_use rfl (p_emitD (d + 7) 9 0 kp (u3 I4 100 0 7 (I4 100 0 7 - 1)) L y (E4.op _)) (fun v h' q => ?_)
          obtain ⟨rfl, rfl⟩ := q
          refine ⟨rfl, _, rfl, f14, ?_⟩
          rw [er]
          exact ⟨E4.op _, a4, D4.op _⟩
        | inr q =>
          rw [hr] at o4
          rw [hr] at er
          obtain ⟨S4, l4, w4⟩ := o4
          have l4' : sk T N a + 3 + q.1.length ≤ q.2 := l4
          have hb4 := S4.2.1.2.2.2.1
          have S5 : lS T N (j + 1) (C ++ q.1) q.2 (u3 I4 100 0 7 (I4 100 0 7 - 1)) := S4.op (by rw [S4.2.2.2]; exact nI_s1 (by omega))
          refine gTM_use rfl (p_emit (d + 7) 9 0 T N (j + 1) q.2 (C ++ q.1) (by rw [List.length_append]; omega) _ L y S5) (fun v h' z => ?_)
          obtain ⟨rfl, I6, rfl, f6, S6⟩ := z
          rw [List.append_assoc] at S6
          refine ⟨rfl, I6, rfl, f14.tr f6, ?_⟩
          rw [er]
          refine ⟨S6, ?_, cWf_n w4⟩
          show a + (q.1 ++ [(9, 0)]).length ≤ q.2
          rw [List.length_append]
          show a + (q.1.length + 1) ≤ q.2
          omega
  · cases sub with
    | none =>
      obtain ⟨hk, hd⟩ := hs1.any
      subst hk
      have er : rOn T N sm none a = .inl (3, sk T N a) := by
        unfold rOn; rw [if_pos c2]
      refine gTM_use rfl (p_opens0 (d + 7) 1 T N (sk T N a) C I1 L y S1) (fun v h' q => ?_)
      obtain ⟨rfl, I2, rfl, f2, E2, a2, D2⟩ := q
      refine gTM_use rfl (hd (3, sk T N a) a2 I2 L y E2 D2) (fun v h' q => ?_)
      obtain ⟨rfl, I3, rfl, f3, E3, a3, D3⟩ := q
      refine gTM_use rfl (p_signE (d + 7) (some (3, sk T N a)) T N a3 93 (by decide) (by decide) I3 L y D3 E3) (fun v h' q => ?_)
      obtain ⟨rfl, I4, rfl, f4, o4⟩ := q
      obtain ⟨E4, a4, D4⟩ := o4
      refine ⟨rfl, u3 I4 100 0 7 (I4 100 0 7 - 1), rfl, (((f1.fl.tr f2).tr f3).tr f4.fl).tr (rFl.op I4 _), ?_⟩
      rw [er]
      exact ⟨E4.op _, a4, D4.op _⟩
    | some f =>
      obtain ⟨j, hk, hj, hd⟩ := hs1.any
      subst hk
      have er : rOn T N sm (some f) a = rShut T N 93 (rAny T N f (sk T N a + 1)) := by
        unfold rOn; rw [if_pos c2]
      have hlt : sk T N a < N := cAt_0 (T := T) (by omega)
      refine gTM_use rfl (p_opens (d + 7) j 1 hj T N (sk T N a) C hlt I1 L y S1) (fun v h' q => ?_)
      obtain ⟨rfl, I2, rfl, f2, S2⟩ := q
      refine gTM_use rfl (hd C (sk T N a + 1) I2 L y S2 (by omega)) (fun v h' q => ?_)
      obtain ⟨rfl, I3, rfl, f3, o3⟩ := q
      have f13 := (f1.fl.tr f2).tr f3
      cases hr : rAny T N f (sk T N a + 1) with
      | inl kp =>
        rw [hr] at o3
        rw [hr] at er
        obtain ⟨E3, a3, D3⟩ := o3
        refine gTM_use rfl (p_signE (d + 7) (some kp) T N a3 93 (by decide) (by decide) I3 L y D3 E3) (fun v h' q => ?_)
        obtain ⟨rfl, I4, rfl, f4, o4⟩ := q
        obtain ⟨E4, a4, D4⟩ := o4
        refine ⟨rfl, u3 I4 100 0 7 (I4 100 0 7 - 1), rfl, (f13.tr f4.fl).tr (rFl.op I4 _), ?_⟩
        rw [er]
        exact ⟨E4.op _, a4, D4.op _⟩
      | inr q =>
        rw [hr] at o3
        rw [hr] at er
        obtain ⟨S3, l3, w3⟩ := o3
        have l3' : sk T N a + 1 + q.1.length ≤ q.2 := l3
        refine gTM_use rfl (p_sign (d + 7) T N q.2 93 (by decide) (by decide) I3 L y S3.2.1 S3.1) (fun v h' z => ?_)
        obtain ⟨rfl, I4, rfl, f4, o4⟩ := z
        refine ⟨rfl, u3 I4 100 0 7 (I4 100 0 7 - 1), rfl, (f13.tr f4.fl).tr (rFl.op I4 _), ?_⟩
        cases hr2 : rSign T N 93 q.2 with
        | inl kp =>
          rw [hr2] at o4
          obtain ⟨E4, a4, D4⟩ := o4
          rw [er, rShut_no hr2]
          exact ⟨E4.op _, a4, D4.op _⟩
        | inr u =>
          rw [hr2] at o4
          have h4 := rSign_at hr2
          rw [er, rShut_ye hr2]
          have S4 : lS T N j (C ++ q.1) u.2 I4 := S3.fe f4 o4.1 o4.2
          exact ⟨S4.op (by rw [S4.2.2.2]; exact nI_s1 (by omega)), (by show a + q.1.length ≤ u.2; omega), w3⟩
set_option maxRecDepth 100000 in
theorem x_oneOf (d : Nat) (T : Nat → Nat) (N : Nat) : lDd mX12_oneOf (d + 2) T N := by
  intro kp a I L y E D
  refine gEnter 400 [] kX12_oneOf rfl rfl ?_
  refine gP_use (p_fine d (some kp) I L y E) ?_
  refine And.intro (fun q => absurd rfl q) (fun _ => ?_)
  exact ⟨rfl, I, rfl, rFl.rf I, E, a, D⟩
set_option maxRecDepth 100000 in
theorem e_allOf (d k : Nat) (T : Nat → Nat) (N : Nat) (one : Nat → RR Cd) (h1 : lC mX12_oneOf (d + 10) T N k one) : lC mX12_allOf (d + 11) T N k (rWs T N (wd 20) 10 one) := by
  intro C0 a I L y S hC
  have hN := S.2.1.2.1
  have wl := wd_lt (show 20 < 22 by decide)
  have wz : ¬ wd 20 = 0 := by decide +kernel
  have dead : ∀ (kp : Nat × Nat) (I1 : Nat → Nat → Nat → Int32) (a1 : Nat) (lo' : Lo), rEr (some kp) I1 → rD T N a1 I1 → ∀ (R : RR Cd), R = .inl kp → rFl I I1 → glle [some gM0] lo' →
      gT mX12_allOf (d + 11) (0, 0) (fun v h' => v = [] ∧ ∃ I', h' = gH I' L y ∧ rFl I I' ∧ lOut T N k C0 a R I') (fun _ _ => False) 4 lo' [] (gH I1 L y) (0, 0) := by
    intro kp I1 a1 lo' g1 g2 R hR g3 hl'
    refine gT_lo _ hl' ?_
    refine gT_go 400 [] kX12_allOf ?_
    refine gP_use (p_fine (d + 9) (some kp) I1 L y g1) ?_
    refine And.intro (fun _ => ?_) (fun q => absurd rfl q)
    exact ⟨rfl, I1, rfl, g3, by rw [hR]; exact ⟨g1, a1, g2⟩⟩
  have key : ∀ (f : Nat) (C : Cd) (b : Nat) (I1 : Nat → Nat → Nat → Int32) (lo' : Lo), N < f + b → lS T N k (C0 ++ C) b I1 → a + C.length ≤ b → cWf C → rFl I I1 → glle [some gM0] lo' →
      gT mX12_allOf (d + 11) (0, 0) (fun v h' => v = [] ∧ ∃ I', h' = gH I' L y ∧ rFl I I' ∧ lOut T N k C0 a (rLw T N (wd 20) 10 one f C b) I') (fun _ _ => False) 4 lo' [] (gH I1 L y) (0, 0) := by
    intro f
    induction f with
    | zero => intro C b I1 lo' hf S1; exact absurd S1.2.1.2.2.2.1 (by omega)
    | succ f ih =>
      intro C b I1 lo' hf S1 hb hw fr hl'
      have hbN := S1.2.1.2.2.2.1
      obtain ⟨k1, k2, k3, k4⟩ := sk_ok (T := T) hbN
      have hwl : rWord T N b < 2 ^ 30 := rWord_lt k2
      refine gT_lo _ hl' ?_
      refine gT_go 400 [4] kX12_allOf ?_
      refine gP_use (p_fine (d + 9) none I1 L y S1.1) ?_
      refine And.intro (fun q => absurd q (by decide)) (fun _ => ?_)
      refine gTM_use rfl (p_word (d + 8) T N b I1 L y S1.2.1) (fun v h' q => ?_)
      obtain ⟨rfl, I2, rfl, f2, D2⟩ := q
      have S2 := S1.fr f2 D2
      refine gP_use (p_of (d + 5) 20 (by decide) (gH I2 L y)) ?_
      refine bNe (rWord T N b) (wd 20) rfl rfl (fun c => ?_) (fun c => ?_)
      · refine ⟨rfl, I2, rfl, fr.tr f2.fl, ?_⟩
        rw [rLw, if_neg c]
        exact ⟨S2, (by show a + C.length ≤ sk T N b; omega), hw⟩
      · have hw0 := rWord_at (show ¬ rWord T N b = 0 by rw [c]; exact wz)
        refine gTM_use rfl (p_pass (d + 8) T N (sk T N b) I2 L y D2) (fun v h' q => ?_)
        obtain ⟨rfl, I3, rfl, f3, D3⟩ := q
        have S3 := S2.fr f3 D3
        have hC3 : (C0 ++ C).length ≤ wE T N (sk T N b) := by rw [List.length_append]; omega
        refine gTM_use rfl (h1 (C0 ++ C) _ I3 L y S3 hC3) (fun v h' q => ?_)
        obtain ⟨rfl, I5, rfl, f5, o5⟩ := q
        have f15 := ((fr.tr f2.fl).tr f3.fl).tr f5
        rw [rLw, if_pos c]
        cases hr : one (wE T N (sk T N b)) with
        | inl kp =>
          rw [hr] at o5
          obtain ⟨E5, a5, D5⟩ := o5
          refine gTM_use rfl (p_emitD (d + 8) 10 0 kp I5 L y E5) (fun v h' q => ?_)
          obtain ⟨rfl, rfl⟩ := q
          exact dead kp I5 a5 _ E5 D5 _ rfl f15 (by (repeat' apply And.intro) <;> first | rfl | trivial | exact congrArg Sum.inl (nI_1 _).symm | exact congrArg Sum.inl (nI_1 _).symm)
        | inr q =>
          rw [hr] at o5
          obtain ⟨S5, l5, w5⟩ := o5
          have hb5 := S5.2.1.2.2.2.1
          have l5' : wE T N (sk T N b) + q.1.length ≤ q.2 := l5
          refine gTM_use rfl (p_emit (d + 8) 10 0 T N k q.2 (C0 ++ C ++ q.1) (by rw [List.length_append]; omega) I5 L y S5) (fun v h' z => ?_)
          obtain ⟨rfl, I6, rfl, f6, S6⟩ := z
          rw [List.append_assoc, List.append_assoc, ← List.append_assoc C] at S6
          exact ih (C ++ q.1 ++ [(10, 0)]) q.2 I6 _ (by omega) S6 (by rw [List.length_append, List.length_append]; show a + (C.length + q.1.length + 1) ≤ q.2; omega) (cWf_2 hw w5 (by omega)) (f15.tr f6) (by (repeat' apply And.intro) <;> first | rfl | trivial | exact congrArg Sum.inl (nI_1 _).symm | exact congrArg Sum.inl (nI_1 _).symm)
  refine gEnter 400 [4] kX12_allOf rfl rfl ?_
  refine gTM_use rfl (h1 C0 a I L y S hC) (fun v h' q => ?_)
  obtain ⟨rfl, I1, rfl, f1, o1⟩ := q
  unfold rWs
  cases hr : one a with
  | inl kp =>
    rw [hr] at o1
    obtain ⟨E1, a1, D1⟩ := o1
    exact dead kp I1 a1 _ E1 D1 _ rfl f1 (by (repeat' apply And.intro) <;> first | rfl | trivial | exact congrArg Sum.inl (nI_1 _).symm | exact congrArg Sum.inl (nI_1 _).symm)
  | inr q =>
    rw [hr] at o1
    obtain ⟨S1, l1, w1⟩ := o1
    exact key (N + 1) q.1 q.2 I1 _ (by omega) S1 l1 w1 f1 (by (repeat' apply And.intro) <;> first | rfl | trivial | exact congrArg Sum.inl (nI_1 _).symm | exact congrArg Sum.inl (nI_1 _).symm)
set_option maxRecDepth 100000 in
theorem x_allOf (d : Nat) (T : Nat → Nat) (N : Nat) : lDd mX12_allOf (d + 3) T N := by
  intro kp a I L y E D
  refine gEnter 400 [4] kX12_allOf rfl rfl ?_
  refine gTM_use rfl (x_oneOf d T N kp a I L y E D) (fun v h' q => ?_)
  obtain ⟨rfl, I1, rfl, f1, E1, a1, D1⟩ := q
  refine gT_go 400 [] kX12_allOf ?_
  refine gP_use (p_fine (d + 1) (some kp) I1 L y E1) ?_
  refine And.intro (fun _ => ?_) (fun q => absurd rfl q)
  exact ⟨rfl, I1, rfl, f1, E1, a1, D1⟩
set_option maxRecDepth 100000 in
theorem e_anyOf (d k : Nat) (T : Nat → Nat) (N : Nat) (one : Nat → RR Cd) (h1 : lC mX12_allOf (d + 11) T N k one) : lC mX12_anyOf (d + 12) T N k (rWs T N (wd 21) 11 one) := by
  intro C0 a I L y S hC
  have hN := S.2.1.2.1
  have wl := wd_lt (show 21 < 22 by decide)
  have wz : ¬ wd 21 = 0 := by decide +kernel
  have dead : ∀ (kp : Nat × Nat) (I1 : Nat → Nat → Nat → Int32) (a1 : Nat) (lo' : Lo), rEr (some kp) I1 → rD T N a1 I1 → ∀ (R : RR Cd), R = .inl kp → rFl I I1 → glle [some gM0] lo' →
      gT mX12_anyOf (d + 12) (0, 0) (fun v h' => v = [] ∧ ∃ I', h' = gH I' L y ∧ rFl I I' ∧ lOut T N k C0 a R I') (fun _ _ => False) 4 lo' [] (gH I1 L y) (0, 0) := by
    intro kp I1 a1 lo' g1 g2 R hR g3 hl'
    refine gT_lo _ hl' ?_
    refine gT_go 400 [] kX12_anyOf ?_
    refine gP_use (p_fine (d + 10) (some kp) I1 L y g1) ?_
    refine And.intro (fun _ => ?_) (fun q => absurd rfl q)
    exact ⟨rfl, I1, rfl, g3, by rw [hR]; exact ⟨g1, a1, g2⟩⟩
  have key : ∀ (f : Nat) (C : Cd) (b : Nat) (I1 : Nat → Nat → Nat → Int32) (lo' : Lo), N < f + b → lS T N k (C0 ++ C) b I1 → a + C.length ≤ b → cWf C → rFl I I1 → glle [some gM0] lo' →
      gT mX12_anyOf (d + 12) (0, 0) (fun v h' => v = [] ∧ ∃ I', h' = gH I' L y ∧ rFl I I' ∧ lOut T N k C0 a (rLw T N (wd 21) 11 one f C b) I') (fun _ _ => False) 4 lo' [] (gH I1 L y) (0, 0) := by
    intro f
    induction f with
    | zero => intro C b I1 lo' hf S1; exact absurd S1.2.1.2.2.2.1 (by omega)
    | succ f ih =>
      intro C b I1 lo' hf S1 hb hw fr hl'
      have hbN := S1.2.1.2.2.2.1
      obtain ⟨k1, k2, k3, k4⟩ := sk_ok (T := T) hbN
      have hwl : rWord T N b < 2 ^ 30 := rWord_lt k2
      refine gT_lo _ hl' ?_
      refine gT_go 400 [4] kX12_anyOf ?_
      refine gP_use (p_fine (d + 10) none I1 L y S1.1) ?_
      refine And.intro (fun q => absurd q (by decide)) (fun _ => ?_)
      refine gTM_use rfl (p_word (d + 9) T N b I1 L y S1.2.1) (fun v h' q => ?_)
      obtain ⟨rfl, I2, rfl, f2, D2⟩ := q
      have S2 := S1.fr f2 D2
      refine gP_use (p_of (d + 6) 21 (by decide) (gH I2 L y)) ?_
      refine bNe (rWord T N b) (wd 21) rfl rfl (fun c => ?_) (fun c => ?_)
      · refine ⟨rfl, I2, rfl, fr.tr f2.fl, ?_⟩
        rw [rLw, if_neg c]
        exact ⟨S2, (by show a + C.length ≤ sk T N b; omega), hw⟩
      · have hw0 := rWord_at (show ¬ rWord T N b = 0 by rw [c]; exact wz)
        refine gTM_use rfl (p_pass (d + 9) T N (sk T N b) I2 L y D2) (fun v h' q => ?_)
        obtain ⟨rfl, I3, rfl, f3, D3⟩ := q
        have S3 := S2.fr f3 D3
        have hC3 : (C0 ++ C).length ≤ wE T N (sk T N b) := by rw [List.length_append]; omega
        refine gTM_use rfl (h1 (C0 ++ C) _ I3 L y S3 hC3) (fun v h' q => ?_)
        obtain ⟨rfl, I5, rfl, f5, o5⟩ := q
        have f15 := ((fr.tr f2.fl).tr f3.fl).tr f5
        rw [rLw, if_pos c]
        cases hr : one (wE T N (sk T N b)) with
        | inl kp =>
          rw [hr] at o5
          obtain ⟨E5, a5, D5⟩ := o5
          refine gTM_use rfl (p_emitD (d + 9) 11 0 kp I5 L y E5) (fun v h' q => ?_)
          obtain ⟨rfl, rfl⟩ := q
          exact dead kp I5 a5 _ E5 D5 _ rfl f15 (by (repeat' apply And.intro) <;> first | rfl | trivial | exact congrArg Sum.inl (nI_1 _).symm | exact congrArg Sum.inl (nI_1 _).symm)
        | inr q =>
          rw [hr] at o5
          obtain ⟨S5, l5, w5⟩ := o5
          have hb5 := S5.2.1.2.2.2.1
          have l5' : wE T N (sk T N b) + q.1.length ≤ q.2 := l5
          refine gTM_use rfl (p_emit (d + 9) 11 0 T N k q.2 (C0 ++ C ++ q.1) (by rw [List.length_append]; omega) I5 L y S5) (fun v h' z => ?_)
          obtain ⟨rfl, I6, rfl, f6, S6⟩ := z
          rw [List.append_assoc, List.append_assoc, ← List.append_assoc C] at S6
          exact ih (C ++ q.1 ++ [(11, 0)]) q.2 I6 _ (by omega) S6 (by rw [List.length_append, List.length_append]; show a + (C.length + q.1.length + 1) ≤ q.2; omega) (cWf_2 hw w5 (by omega)) (f15.tr f6) (by (repeat' apply And.intro) <;> first | rfl | trivial | exact congrArg Sum.inl (nI_1 _).symm | exact congrArg Sum.inl (nI_1 _).symm)
  refine gEnter 400 [4] kX12_anyOf rfl rfl ?_
  refine gTM_use rfl (h1 C0 a I L y S hC) (fun v h' q => ?_)
  obtain ⟨rfl, I1, rfl, f1, o1⟩ := q
  unfold rWs
  cases hr : one a with
  | inl kp =>
    rw [hr] at o1
    obtain ⟨E1, a1, D1⟩ := o1
    exact dead kp I1 a1 _ E1 D1 _ rfl f1 (by (repeat' apply And.intro) <;> first | rfl | trivial | exact congrArg Sum.inl (nI_1 _).symm | exact congrArg Sum.inl (nI_1 _).symm)
  | inr q =>
    rw [hr] at o1
    obtain ⟨S1, l1, w1⟩ := o1
    exact key (N + 1) q.1 q.2 I1 _ (by omega) S1 l1 w1 f1 (by (repeat' apply And.intro) <;> first | rfl | trivial | exact congrArg Sum.inl (nI_1 _).symm | exact congrArg Sum.inl (nI_1 _).symm)
set_option maxRecDepth 100000 in
theorem x_anyOf (d : Nat) (T : Nat → Nat) (N : Nat) : lDd mX12_anyOf (d + 4) T N := by
  intro kp a I L y E D
  refine gEnter 400 [4] kX12_anyOf rfl rfl ?_
  refine gTM_use rfl (x_allOf d T N kp a I L y E D) (fun v h' q => ?_)
  obtain ⟨rfl, I1, rfl, f1, E1, a1, D1⟩ := q
  refine gT_go 400 [] kX12_anyOf ?_
  refine gP_use (p_fine (d + 2) (some kp) I1 L y E1) ?_
  refine And.intro (fun _ => ?_) (fun q => absurd rfl q)
  exact ⟨rfl, I1, rfl, f1, E1, a1, D1⟩
/-- the reader of one condition, k brackets left -/
def rO1 (T : Nat → Nat) (N : Nat) : Nat → Nat → RR Cd
  | 0 => rOn T N (rSu T N 0) none
  | k + 1 => rOn T N (rSu T N (k + 1)) (some (rO1 T N k))
theorem e_o1 (T : Nat → Nat) (N : Nat) : ∀ k D, 3 * k ≤ D → k ≤ 6 → lC mX12_oneOf (D + 10) T N k (rO1 T N k) := by
  intro k
  induction k with
  | zero => intro D hD _; exact e_oneOf D 0 T N _ none (e_su T N 0 D hD (by decide)) ⟨rfl, x_anyOf (D + 5) T N, x_oneOf (D + 7) T N⟩
  | succ k ih =>
    intro D hD hk
    have hm := e_su T N (k + 1) D hD hk
    obtain ⟨E, rfl⟩ : ∃ E, D = E + 3 := ⟨D - 3, by omega⟩
    exact e_oneOf (E + 3) (k + 1) T N _ (some (rO1 T N k)) hm ⟨k, rfl, by omega, e_anyOf E k T N _ (e_allOf E k T N _ (ih E (by omega) (by omega))), ih (E + 2) (by omega) (by omega)⟩
/-- the reader of a condition -/
def rCo (T : Nat → Nat) (N : Nat) : Nat → RR Cd := rAny T N (rO1 T N 6)
theorem e_co (T : Nat → Nat) (N d : Nat) : lC mX12_anyOf (d + 30) T N 6 (rCo T N) := e_anyOf (d + 18) 6 T N _ (e_allOf (d + 18) 6 T N _ (e_o1 T N 6 (d + 18) (by omega) (by decide)))
