/-! ===== reading a law: names, brackets, units (printed by gen_unit.py) ===== -/
def rNmO (w : Nat) : Option Nat := if w = wd 11 then some 0 else if w = wd 12 then some 1 else if w = wd 13 then some 2 else if w = wd 9 then some 3 else if w = wd 14 then some 4 else if w = wd 0 then some 5 else if w = wd 15 then some 6 else if w = wd 2 then some 7 else none
def oN (o : Option Nat) : Int32 := match o with
  | none => -1
  | some v => nI v
set_option maxRecDepth 100000 in
theorem p_nameOf (d w : Nat) (hw : w < 2 ^ 30) (H : Hp) : gP mX12_nameOf (d + 6) [gI (nI w)] H (gI (oN (rNmO w))) := by
  have b11 := wd_lt (show 11 < 22 by decide)
  have b12 := wd_lt (show 12 < 22 by decide)
  have b13 := wd_lt (show 13 < 22 by decide)
  have b9 := wd_lt (show 9 < 22 by decide)
  have b14 := wd_lt (show 14 < 22 by decide)
  have b0 := wd_lt (show 0 < 22 by decide)
  have b15 := wd_lt (show 15 < 22 by decide)
  have b2 := wd_lt (show 2 < 22 by decide)
  refine gEnter 400 [] kX12_nameOf rfl rfl ?_
  refine gP_use (p_of d 11 (by decide) H) ?_
  refine bNe w (wd 11) rfl rfl (fun c11 => ?_) (fun c => ⟨by unfold rNmO; rw [if_pos c]; rfl, rfl⟩)
  refine gP_use (p_of d 12 (by decide) H) ?_
  refine bNe w (wd 12) rfl rfl (fun c12 => ?_) (fun c => ⟨by unfold rNmO; rw [if_neg c11, if_pos c]; rfl, rfl⟩)
  refine gP_use (p_of d 13 (by decide) H) ?_
  refine bNe w (wd 13) rfl rfl (fun c13 => ?_) (fun c => ⟨by unfold rNmO; rw [if_neg c11, if_neg c12, if_pos c]; rfl, rfl⟩)
  refine gP_use (p_of d 9 (by decide) H) ?_
  refine bNe w (wd 9) rfl rfl (fun c9 => ?_) (fun c => ⟨by unfold rNmO; rw [if_neg c11, if_neg c12, if_neg c13, if_pos c]; rfl, rfl⟩)
  refine gP_use (p_of d 14 (by decide) H) ?_
  refine bNe w (wd 14) rfl rfl (fun c14 => ?_) (fun c => ⟨by unfold rNmO; rw [if_neg c11, if_neg c12, if_neg c13, if_neg c9, if_pos c]; rfl, rfl⟩)
  refine gP_use (p_of d 0 (by decide) H) ?_
  refine bNe w (wd 0) rfl rfl (fun c0 => ?_) (fun c => ⟨by unfold rNmO; rw [if_neg c11, if_neg c12, if_neg c13, if_neg c9, if_neg c14, if_pos c]; rfl, rfl⟩)
  refine gP_use (p_of d 15 (by decide) H) ?_
  refine bNe w (wd 15) rfl rfl (fun c15 => ?_) (fun c => ⟨by unfold rNmO; rw [if_neg c11, if_neg c12, if_neg c13, if_neg c9, if_neg c14, if_neg c0, if_pos c]; rfl, rfl⟩)
  refine gP_use (p_of d 2 (by decide) H) ?_
  refine bNe w (wd 2) rfl rfl (fun c2 => ?_) (fun c => ⟨by unfold rNmO; rw [if_neg c11, if_neg c12, if_neg c13, if_neg c9, if_neg c14, if_neg c0, if_neg c15, if_pos c]; rfl, rfl⟩)
  exact ⟨by unfold rNmO; rw [if_neg c11, if_neg c12, if_neg c13, if_neg c9, if_neg c14, if_neg c0, if_neg c15, if_neg c2]; rfl, rfl⟩
theorem rNmO_lt {w v : Nat} (h : rNmO w = some v) : v < 8 ∧ ¬ w = 0 := by
  have z : ∀ k, k < 22 → ¬ wd k = 0 := by decide +kernel
  unfold rNmO at h
  by_cases c11 : w = wd 11
  · rw [if_pos c11] at h; cases h; exact ⟨by decide, fun e => z 11 (by decide) (c11.symm.trans e)⟩
  rw [if_neg c11] at h
  by_cases c12 : w = wd 12
  · rw [if_pos c12] at h; cases h; exact ⟨by decide, fun e => z 12 (by decide) (c12.symm.trans e)⟩
  rw [if_neg c12] at h
  by_cases c13 : w = wd 13
  · rw [if_pos c13] at h; cases h; exact ⟨by decide, fun e => z 13 (by decide) (c13.symm.trans e)⟩
  rw [if_neg c13] at h
  by_cases c9 : w = wd 9
  · rw [if_pos c9] at h; cases h; exact ⟨by decide, fun e => z 9 (by decide) (c9.symm.trans e)⟩
  rw [if_neg c9] at h
  by_cases c14 : w = wd 14
  · rw [if_pos c14] at h; cases h; exact ⟨by decide, fun e => z 14 (by decide) (c14.symm.trans e)⟩
  rw [if_neg c14] at h
  by_cases c0 : w = wd 0
  · rw [if_pos c0] at h; cases h; exact ⟨by decide, fun e => z 0 (by decide) (c0.symm.trans e)⟩
  rw [if_neg c0] at h
  by_cases c15 : w = wd 15
  · rw [if_pos c15] at h; cases h; exact ⟨by decide, fun e => z 15 (by decide) (c15.symm.trans e)⟩
  rw [if_neg c15] at h
  by_cases c2 : w = wd 2
  · rw [if_pos c2] at h; cases h; exact ⟨by decide, fun e => z 2 (by decide) (c2.symm.trans e)⟩
  rw [if_neg c2] at h
  cases h
theorem nI_s1 {n : Nat} {m : Nat} (h : n = m + 1) : nI n - gic 1 = nI m := by rw [h, ← nI_1]; exact Int32.add_sub_cancel _ _
theorem rFl.op (I : Nat → Nat → Nat → Int32) (v : Int32) : rFl I (u3 I 100 0 7 v) := ⟨fun q h _ _ => u3_ne1 h, fun j _ _ _ h _ => u3_ne3 h⟩
theorem rEr.op {e : Option (Nat × Nat)} {I : Nat → Nat → Nat → Int32} (H : rEr e I) (v : Int32) : rEr e (u3 I 100 0 7 v) := by
  unfold rEr at H ⊢
  rw [u3_ne3 (by decide), u3_ne3 (by decide)]
  exact H
theorem rD.op {T : Nat → Nat} {N a : Nat} {I : Nat → Nat → Nat → Int32} (H : rD T N a I) (v : Int32) : rD T N a (u3 I 100 0 7 v) :=
  ⟨(u3_ne3 (by decide)).trans H.1, H.2.1, (u3_ne3 (by decide)).trans H.2.2.1, H.2.2.2.1, fun j hj => by rw [u3_ne1 (by decide)]; exact H.2.2.2.2 j hj⟩
theorem lS.op {T : Nat → Nat} {N k k' a : Nat} {C : Cd} {I : Nat → Nat → Nat → Int32} (S : lS T N k C a I) {v : Int32} (h : v = nI (6 - k')) : lS T N k' C a (u3 I 100 0 7 v) :=
  ⟨S.1.op v, S.2.1.op v, ⟨(u3_ne3 (by decide)).trans S.2.2.1.1, fun j c hj => by rw [u3_ne1 (by decide), u3_ne1 (by decide)]; exact S.2.2.1.2 j c hj⟩, u3_eq.trans h⟩
set_option maxRecDepth 100000 in
theorem p_opens (d k b : Nat) (hk : k < 6) (T : Nat → Nat) (N a : Nat) (C : Cd) (hb : a + b ≤ N) (I : Nat → Nat → Nat → Int32) (L : Nat → Nat → Nat → Int64) (y : Dy) (S : lS T N (k + 1) C a I) :
    gTM mX12_opensOne (d + 2) (0, 0) [gM0, gI (nI b)] (gH I L y) (fun v h' => v = [] ∧ ∃ I', h' = gH I' L y ∧ rFl I I' ∧ lS T N k C (a + b) I') (fun _ _ => False) := by
  refine gEnter 400 [] kX12_opensOne rfl rfl ?_
  refine gP_use (p_fine d none I L y S.1) ?_
  refine And.intro (fun q => absurd q (by decide)) (fun _ => ?_)
  refine bNe (6 - (k + 1)) 6 S.2.2.2 rfl (fun _ => ?_) (fun q => absurd q (by omega))
  refine gP_use (p_fine d none I L y S.1) ?_
  refine And.intro (fun q => absurd q (by decide)) (fun _ => ?_)
  have S1 : lS T N (k + 1) C (a + b) (u3 I 100 0 4 (I 100 0 4 + nI b)) := lS_at S hb (by rw [S.2.1.2.2.1]; exact nI_add a b)
  refine ⟨rfl, u3 (u3 I 100 0 4 (I 100 0 4 + nI b)) 100 0 7 (u3 I 100 0 4 (I 100 0 4 + nI b) 100 0 7 + 1), rfl, (rFr.put I _).fl.tr (rFl.op _ _), S1.op ?_⟩
  rw [S1.2.2.2, show 6 - k = 6 - (k + 1) + 1 by omega]
  exact nI_1 _
set_option maxRecDepth 100000 in
theorem p_opens0 (d b : Nat) (T : Nat → Nat) (N a : Nat) (C : Cd) (I : Nat → Nat → Nat → Int32) (L : Nat → Nat → Nat → Int64) (y : Dy) (S : lS T N 0 C a I) :
    gTM mX12_opensOne (d + 2) (0, 0) [gM0, gI (nI b)] (gH I L y) (fun v h' => v = [] ∧ ∃ I', h' = gH I' L y ∧ rFl I I' ∧ rEr (some (3, a)) I' ∧ ∃ a', rD T N a' I') (fun _ _ => False) := by
  have hN := S.2.1.2.1
  have ha := S.2.1.2.2.2.1
  refine gEnter 400 [] kX12_opensOne rfl rfl ?_
  refine gP_use (p_fine d none I L y S.1) ?_
  refine And.intro (fun q => absurd q (by decide)) (fun _ => ?_)
  refine bNe 6 6 S.2.2.2 rfl (fun q => absurd rfl q) (fun _ => ?_)
  refine gTM_use (av' := [gM0, gI (nI 3), gI (nI a)]) (by rw [← S.2.1.2.2.1] <;> rfl) (p_wrong d none 3 a (by omega) I L y S.1) (fun v h' q => ?_)
  obtain ⟨rfl, I1, rfl, f1, e1, E1⟩ := q
  refine gP_use (p_fine d (some (3, a)) I1 L y E1) ?_
  refine And.intro (fun _ => ?_) (fun q => absurd rfl q)
  exact ⟨rfl, u3 I1 100 0 7 (I1 100 0 7 + 1), rfl, f1.fl.tr (rFl.op _ _), E1.op _, a, (S.2.1.fe f1 (e1.trans S.2.1.2.2.1) ha).op _⟩
theorem rSign_at {T : Nat → Nat} {N c a : Nat} {u : Unit × Nat} (h : rSign T N c a = .inr u) : a < u.2 := by
  unfold rSign at h
  cases q : (Nat.blt (sk T N a) N && Nat.beq (T (sk T N a)) c) with
  | false => rw [q] at h; cases h
  | true =>
    rw [q] at h
    cases h
    have := (rn_spec (fun i => Nat.beq (T i) 32) (N - a) a).1
    show a < sk T N a + 1
    unfold sk
    omega
theorem rNum_at {T : Nat → Nat} {N lo hi a : Nat} {q : Nat × Nat} (h : rNum T N lo hi a = .inr q) : sk T N a < q.2 := by
  unfold rNum at h
  cases q1 : Nat.blt (sk T N a) (dE T N (sk T N a)) with
  | false => rw [q1] at h; cases h
  | true =>
    rw [q1] at h
    cases q2 : (Nat.ble lo (nV T (sk T N a) (dE T N (sk T N a) - sk T N a)) && Nat.blt (nV T (sk T N a) (dE T N (sk T N a) - sk T N a)) hi) with
    | false => rw [cond_true, q2] at h; cases h
    | true =>
      rw [cond_true, q2] at h
      cases h
      exact Nat.le_of_ble_eq_true q1
theorem rWord_at {T : Nat → Nat} {N a : Nat} (h : ¬ rWord T N a = 0) : sk T N a < wE T N (sk T N a) := by
  rcases Nat.lt_or_ge (sk T N a) (wE T N (sk T N a)) with q | q
  · exact q
  · refine absurd ?_ h
    unfold rWord
    rw [show wE T N (sk T N a) - sk T N a = 0 by omega]
    rfl
/-- behind a bracket that closes -/
def rShut (T : Nat → Nat) (N c : Nat) (r : RR Cd) : RR Cd := rbd r (fun C b => rbd (rSign T N c b) (fun _ b' => .inr (C, b')))
theorem rShut_no {T : Nat → Nat} {N c : Nat} {q : Cd × Nat} {kp : Nat × Nat} (h : rSign T N c q.2 = .inl kp) : rShut T N c (.inr q) = .inl kp := by
  unfold rShut
  simp only [rbd, h]
theorem rShut_ye {T : Nat → Nat} {N c : Nat} {q : Cd × Nat} {u : Unit × Nat} (h : rSign T N c q.2 = .inr u) : rShut T N c (.inr q) = .inr (q.1, u.2) := by
  unfold rShut
  simp only [rbd, h]
def rUn (T : Nat → Nat) (N : Nat) (sub : Option (Nat → RR Cd)) (a : Nat) : RR Cd :=
  if tDg (cAt T N (sk T N a)) = true then rbd (rNum T N 0 10000 (sk T N a)) (fun n b => .inr ([(0, n)], b))
  else if cAt T N (sk T N a) = 40 then (match sub with
    | none => .inl (3, sk T N a)
    | some f => rShut T N 41 (f (sk T N a + 1)))
  else match rNmO (rWord T N a) with
    | none => .inl (1, sk T N a)
    | some v => .inr ([(1, v)], wE T N (sk T N a))
def hSub (m : GM) (D : Nat) (T : Nat → Nat) (N k : Nat) (sub : Option (Nat → RR Cd)) : Prop := match sub with
  | none => k = 0 ∧ lDd m D T N
  | some f => ∃ j, k = j + 1 ∧ j < 6 ∧ lC m D T N j f
set_option maxRecDepth 100000 in
theorem e_unit (d k : Nat) (T : Nat → Nat) (N : Nat) (sub : Option (Nat → RR Cd)) (hs : hSub mX12_sum (d + 6) T N k sub) : lC mX12_unit (d + 7) T N k (rUn T N sub) := by
  intro C a I L y S hC
  have hN := S.2.1.2.1
  have hbN := S.2.1.2.2.2.1
  obtain ⟨k1, k2, k3, k4⟩ := sk_ok (T := T) hbN
  refine gEnter 400 [] kX12_unit rfl rfl ?_
  refine gP_use (p_fine (d + 5) none I L y S.1) ?_
  refine And.intro (fun _ => ?_) (fun q => absurd q (by decide))
  refine gTM_use rfl (p_here (d + 5) T N a I L y S.2.1) (fun v h' q => ?_)
  obtain ⟨rfl, I1, rfl, f1, D1⟩ := q
  have S1 := S.fr f1 D1
  have hcl := cAt_lt D1 (sk T N a)
  refine gP_use (p_isDigit (d + 5) (cAt T N (sk T N a)) hcl (gH I1 L y)) ?_
  refine bB0 (tDg (cAt T N (sk T N a))) rfl (fun c => ?_) (fun c => ?_)
  · refine bNe (cAt T N (sk T N a)) 40 rfl rfl (fun c2 => ?_) (fun c2 => ?_)
    · have er : rUn T N sub a = (match rNmO (rWord T N a) with
        | none => .inl (1, sk T N a)
        | some v => .inr ([(1, v)], wE T N (sk T N a))) := by unfold rUn; rw [if_neg (by rw [c]; decide), if_neg c2]
      refine gTM_use rfl (p_word (d + 4) T N (sk T N a) I1 L y D1) (fun v h' q => ?_)
      obtain ⟨rfl, I2, rfl, f2, D2⟩ := q
      rw [sk_sk hbN] at D2
      rw [rWord_sk hbN]
      have hwl : rWord T N a < 2 ^ 30 := rWord_lt k2
      have S2 := S1.fr f2 D2
      refine gP_use (p_nameOf d (rWord T N a) hwl (gH I2 L y)) ?_
      cases hr : rNmO (rWord T N a) with
      | none =>
        rw [hr] at er
        refine And.intro (fun q => absurd rfl q) (fun _ => ?_)
        refine gTM_use (av' := [gM0, gI (nI 1), gI (nI (sk T N a))]) (by rw [← D2.2.2.1] <;> rfl) (p_wrong (d + 5) none 1 (sk T N a) (by omega) I2 L y S2.1) (fun v h' q => ?_)
        obtain ⟨rfl, I3, rfl, f3, e3, E3⟩ := q
        refine ⟨rfl, I3, rfl, (f1.fl.tr f2.fl).tr f3.fl, ?_⟩
        rw [er]
        exact ⟨E3, _, D2.fe f3 (e3.trans D2.2.2.1) k2⟩
      | some v =>
        rw [hr] at er
        obtain ⟨v8, w0⟩ := rNmO_lt hr
        have hw0 := rWord_at w0
        refine And.intro (fun _ => ?_) (fun q => absurd (show nI v = -1 from q) (gOI_ne (by omega)))
        refine gTM_use rfl (p_pass (d + 4) T N (sk T N a) I2 L y D2) (fun v h' q => ?_)
        obtain ⟨rfl, I3, rfl, f3, D3⟩ := q
        have S3 := S2.fr f3 D3
        refine gTM_use rfl (p_emit (d + 4) 1 v T N k _ C (by omega) I3 L y S3) (fun v h' q => ?_)
        obtain ⟨rfl, I4, rfl, f4, S4⟩ := q
        refine ⟨rfl, I4, rfl, ((f1.fl.tr f2.fl).tr f3.fl).tr f4, ?_⟩
        rw [er]
        exact ⟨S4, (by show a + 1 ≤ wE T N (sk T N a); omega), cWf_1 (Or.inr rfl) ⟨(by show 1 ≤ 11; decide), (by show v < 10000; omega), fun _ => v8⟩⟩
    · cases sub with
      | none =>
        obtain ⟨hk, hd⟩ := hs
        subst hk
        have er : rUn T N none a = .inl (3, sk T N a) := by
          unfold rUn; rw [if_neg (by rw [c]; decide), if_pos c2]
        refine gTM_use rfl (p_opens0 (d + 4) 1 T N (sk T N a) C I1 L y S1) (fun v h' q => ?_)
        obtain ⟨rfl, I2, rfl, f2, E2, a2, D2⟩ := q
        refine gTM_use rfl (hd (3, sk T N a) a2 I2 L y E2 D2) (fun v h' q => ?_)
        obtain ⟨rfl, I3, rfl, f3, E3, a3, D3⟩ := q
        refine gTM_use rfl (p_signE (d + 4) (some (3, sk T N a)) T N a3 41 (by decide) (by decide) I3 L y D3 E3) (fun v h' q => ?_)
        obtain ⟨rfl, I4, rfl, f4, o4⟩ := q
        obtain ⟨E4, a4, D4⟩ := o4
        refine ⟨rfl, u3 I4 100 0 7 (I4 100 0 7 - 1), rfl, (((f1.fl.tr f2).tr f3).tr f4.fl).tr (rFl.op I4 _), ?_⟩
        rw [er]
        exact ⟨E4.op _, a4, D4.op _⟩
      | some f =>
        obtain ⟨j, hk, hj, hd⟩ := hs
        subst hk
        have er : rUn T N (some f) a = rShut T N 41 (f (sk T N a + 1)) := by
          unfold rUn; rw [if_neg (by rw [c]; decide), if_pos c2]
        have hlt : sk T N a < N := cAt_0 (T := T) (by omega)
        refine gTM_use rfl (p_opens (d + 4) j 1 hj T N (sk T N a) C hlt I1 L y S1) (fun v h' q => ?_)
        obtain ⟨rfl, I2, rfl, f2, S2⟩ := q
        refine gTM_use rfl (hd C (sk T N a + 1) I2 L y S2 (by omega)) (fun v h' q => ?_)
        obtain ⟨rfl, I3, rfl, f3, o3⟩ := q
        have f13 := (f1.fl.tr f2).tr f3
        cases hr : f (sk T N a + 1) with
        | inl kp =>
          rw [hr] at o3
          rw [hr] at er
          obtain ⟨E3, a3, D3⟩ := o3
          refine gTM_use rfl (p_signE (d + 4) (some kp) T N a3 41 (by decide) (by decide) I3 L y D3 E3) (fun v h' q => ?_)
          obtain ⟨rfl, I4, rfl, f4, o4⟩ := q
          obtain ⟨E4, a4, D4⟩ := o4
          refine ⟨rfl, u3 I4 100 0 7 (I4 100 0 7 - 1), rfl, (f13.tr f4.fl).tr (rFl.op I4 _), ?_⟩
          rw [er]
          exact ⟨E4.op _, a4, D4.op _⟩
        | inr q =>
          rw [hr] at o3
          rw [hr] at er
          obtain ⟨S3, l3, w3⟩ := o3
          have l3' : sk T N a + 1 + q.1.length ≤ q.2 := l3
          refine gTM_use rfl (p_sign (d + 4) T N q.2 41 (by decide) (by decide) I3 L y S3.2.1 S3.1) (fun v h' z => ?_)
          obtain ⟨rfl, I4, rfl, f4, o4⟩ := z
          refine ⟨rfl, u3 I4 100 0 7 (I4 100 0 7 - 1), rfl, (f13.tr f4.fl).tr (rFl.op I4 _), ?_⟩
          cases hr2 : rSign T N 41 q.2 with
          | inl kp =>
            rw [hr2] at o4
            obtain ⟨E4, a4, D4⟩ := o4
            rw [er, rShut_no hr2]
            exact ⟨E4.op _, a4, D4.op _⟩
          | inr u =>
            rw [hr2] at o4
            have h4 := rSign_at hr2
            rw [er, rShut_ye hr2]
            have S4 : lS T N j (C ++ q.1) u.2 I4 := S3.fe f4 o4.1 o4.2
            exact ⟨S4.op (by rw [S4.2.2.2]; exact nI_s1 (by omega)), (by show a + q.1.length ≤ u.2; omega), w3⟩
  · have er : rUn T N sub a = rbd (rNum T N 0 10000 (sk T N a)) (fun n b => .inr ([(0, n)], b)) := by unfold rUn; rw [if_pos c]
    refine gTM_use rfl (p_readNumber (d + 4) T N (sk T N a) 0 10000 (by decide) (by decide) 9999 (by decide) I1 L y D1 S1.1) (fun v h' q => ?_)
    obtain ⟨rfl, I2, rfl, f2, o2⟩ := q
    cases hr : rNum T N 0 10000 (sk T N a) with
    | inl kp =>
      rw [hr] at o2
      rw [hr] at er
      obtain ⟨E2, a2, D2⟩ := o2
      refine gTM_use rfl (p_emitD (d + 4) 0 0 kp I2 L y E2) (fun v h' q => ?_)
      obtain ⟨rfl, rfl⟩ := q
      refine ⟨rfl, I2, rfl, f1.fl.tr f2.fl, ?_⟩
      rw [er]
      exact ⟨E2, a2, D2⟩
    | inr q =>
      rw [hr] at o2
      rw [hr] at er
      have h2 := rNum_at hr
      have h3 := (rNum_lt (n := q.1) (b := q.2) hr).2
      rw [sk_sk hbN] at h2
      have S2 : lS T N k C q.2 I2 := S1.fe f2 o2.1 o2.2
      refine gTM_use rfl (p_emit (d + 4) 0 q.1 T N k q.2 C (by omega) I2 L y S2) (fun v h' z => ?_)
      obtain ⟨rfl, I3, rfl, f3, S3⟩ := z
      refine ⟨rfl, I3, rfl, (f1.fl.tr f2.fl).tr f3, ?_⟩
      rw [er]
      exact ⟨S3, (by show a + 1 ≤ q.2; omega), cWf_1 (Or.inl rfl) ⟨(by show 0 ≤ 11; decide), h3, fun e => absurd (show 0 = 1 from e) (by decide)⟩⟩
set_option maxRecDepth 100000 in
theorem x_unit (d : Nat) (T : Nat → Nat) (N : Nat) : lDd mX12_unit (d + 2) T N := by
  intro kp a I L y E D
  refine gEnter 400 [] kX12_unit rfl rfl ?_
  refine gP_use (p_fine d (some kp) I L y E) ?_
  refine And.intro (fun q => absurd rfl q) (fun _ => ?_)
  exact ⟨rfl, I, rfl, rFl.rf I, E, a, D⟩
set_option maxRecDepth 100000 in
theorem x_product (d : Nat) (T : Nat → Nat) (N : Nat) : lDd mX12_product (d + 3) T N := by
  intro kp a I L y E D
  refine gEnter 400 [4] kX12_product rfl rfl ?_
  refine gTM_use rfl (x_unit d T N kp a I L y E D) (fun v h' q => ?_)
  obtain ⟨rfl, I1, rfl, f1, E1, a1, D1⟩ := q
  refine gT_go 400 [] kX12_product ?_
  refine gP_use (p_fine (d + 1) (some kp) I1 L y E1) ?_
  refine And.intro (fun _ => ?_) (fun q => absurd rfl q)
  exact ⟨rfl, I1, rfl, f1, E1, a1, D1⟩
set_option maxRecDepth 100000 in
theorem x_sum (d : Nat) (T : Nat → Nat) (N : Nat) : lDd mX12_sum (d + 4) T N := by
  intro kp a I L y E D
  refine gEnter 400 [4] kX12_sum rfl rfl ?_
  refine gTM_use rfl (x_product d T N kp a I L y E D) (fun v h' q => ?_)
  obtain ⟨rfl, I1, rfl, f1, E1, a1, D1⟩ := q
  refine gT_go 400 [] kX12_sum ?_
  refine gP_use (p_fine (d + 2) (some kp) I1 L y E1) ?_
  refine And.intro (fun _ => ?_) (fun q => absurd rfl q)
  exact ⟨rfl, I1, rfl, f1, E1, a1, D1⟩
/-- the reader of sums, k brackets left -/
def rSu (T : Nat → Nat) (N : Nat) : Nat → Nat → RR Cd
  | 0 => rOps T N 43 2 45 3 (rOps T N 42 4 47 5 (rUn T N none))
  | k + 1 => rOps T N 43 2 45 3 (rOps T N 42 4 47 5 (rUn T N (some (rSu T N k))))
theorem e_su (T : Nat → Nat) (N : Nat) : ∀ k D, 3 * k ≤ D → k ≤ 6 → lC mX12_sum (D + 9) T N k (rSu T N k) := by
  intro k
  induction k with
  | zero => intro D _ _; exact e_sum D 0 T N _ (e_product D 0 T N _ (e_unit D 0 T N none ⟨rfl, x_sum (D + 2) T N⟩))
  | succ k ih =>
    intro D hD hk
    obtain ⟨E, rfl⟩ : ∃ E, D = E + 3 := ⟨D - 3, by omega⟩
    exact e_sum (E + 3) (k + 1) T N _ (e_product (E + 3) (k + 1) T N _ (e_unit (E + 3) (k + 1) T N (some (rSu T N k)) ⟨k, rfl, by omega, ih E (by omega) (by omega)⟩))
