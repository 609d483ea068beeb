/-! ===== reading a land: clauses ===== -/
theorem gInc {x : Int32} {n : Nat} (h : x = nI n) : x + gic 1 = nI (n + 1) := by rw [h]; exact nI_1 n
theorem gIdx2 (c k w z : Nat) : nI c + nI k * nI w + nI z = nI (c + k * w + z) := by rw [pk_mul, nI_add, nI_add]
theorem nI_addr {x : Int32} {a : Nat} (c : Nat) (h : x = nI a) : nI c + x = nI (c + a) := by rw [h]; exact nI_add c a
def aUp (A : Nat → Nat) (j v : Nat) : Nat → Nat := fun q => if q = j then v else A q
theorem aUp_eq {A : Nat → Nat} {j v : Nat} : aUp A j v j = v := if_pos rfl
theorem aUp_ne {A : Nat → Nat} {j v q : Nat} (h : q ≠ j) : aUp A j v q = A q := if_neg h
/-- the land that is being read -/
def gLr (I : Nat → Nat → Nat → Int32) (A : Nat → Nat) : Prop := ∀ j, j < 708 → I 111 0 j = nI (A j)
theorem gLr.put {I : Nat → Nat → Nat → Int32} {A : Nat → Nat} (h : gLr I A) (j v : Nat) {x : Int32} (hx : x = nI v) : gLr (u3 I 111 0 j x) (aUp A j v) := by
  intro q hq
  by_cases e : q = j
  · subst e; rw [aUp_eq]; exact u3_eq.trans hx
  · rw [aUp_ne e]; exact (u3_ne3 e).trans (h q hq)
theorem gLr.fe {I I' : Nat → Nat → Nat → Int32} {A : Nat → Nat} (h : gLr I A) (f : rFe I I') : gLr I' A := fun j hj => by rw [f.1 111 (by decide)]; exact h j hj
theorem gLr.fr {I I' : Nat → Nat → Nat → Int32} {A : Nat → Nat} (h : gLr I A) (f : rFr I I') : gLr I' A := h.fe f.fe
/-- nothing but place, fault and the land that is being read -/
def rFz (I I' : Nat → Nat → Nat → Int32) : Prop := (∀ b, b ≠ 100 → b ≠ 111 → I' b = I b) ∧ ∀ j, j ≠ 4 → j ≠ 5 → j ≠ 6 → I' 100 0 j = I 100 0 j
theorem rFz.rf (I : Nat → Nat → Nat → Int32) : rFz I I := ⟨fun _ _ _ => rfl, fun _ _ _ _ => rfl⟩
theorem rFz.tr {I I1 I2 : Nat → Nat → Nat → Int32} (a : rFz I I1) (b : rFz I1 I2) : rFz I I2 := ⟨fun q h1 h2 => (b.1 q h1 h2).trans (a.1 q h1 h2), fun j h1 h2 h3 => (b.2 j h1 h2 h3).trans (a.2 j h1 h2 h3)⟩
theorem rFe.fz {I I' : Nat → Nat → Nat → Int32} (f : rFe I I') : rFz I I' := ⟨fun q h _ => f.1 q h, f.2⟩
theorem rFz.put (I : Nat → Nat → Nat → Int32) (j : Nat) (v : Int32) : rFz I (u3 I 111 0 j v) := ⟨fun q _ h2 => u3_ne1 h2, fun k _ _ _ => by rw [u3_ne1 (by decide)]⟩
theorem rD.fz {T : Nat → Nat} {N a : Nat} {I I' : Nat → Nat → Nat → Int32} (H : rD T N a I) (f : rFz I I') (h : I' 100 0 4 = I 100 0 4) : rD T N a I' :=
  ⟨(f.2 3 (by decide) (by decide) (by decide)).trans H.1, H.2.1, h.trans H.2.2.1, H.2.2.2.1, fun j hj => by rw [f.1 109 (by decide) (by decide)]; exact H.2.2.2.2 j hj⟩
theorem rD.put {T : Nat → Nat} {N a : Nat} {I : Nat → Nat → Nat → Int32} (H : rD T N a I) (j : Nat) (v : Int32) : rD T N a (u3 I 111 0 j v) := H.fz (rFz.put I j v) (by rw [u3_ne1 (by decide)])
theorem rEr.put {e : Option (Nat × Nat)} {I : Nat → Nat → Nat → Int32} (H : rEr e I) (j : Nat) (v : Int32) : rEr e (u3 I 111 0 j v) := by
  unfold rEr at H ⊢
  rw [u3_ne1 (by decide)]
  exact H
/-- what a reading of a land comes to -/
def rOutA (T : Nat → Nat) (N : Nat) (r : RR (Nat → Nat)) (I : Nat → Nat → Nat → Int32) : Prop := match r with
  | .inl kp => rEr (some kp) I ∧ ∃ a', rD T N a' I
  | .inr xa => rEr none I ∧ rD T N xa.2 I ∧ gLr I xa.1
/-- a reading behind a fault -/
def rB {α : Type} (e : Option (Nat × Nat)) (r : RR α) : RR α := match e with
  | none => r
  | some kp => .inl kp
/-- fault and place behind a reading -/
def rSq {α : Type} (r : RR α) (e : Option (Nat × Nat)) (a : Nat) : Prop := match r with
  | .inl kp => e = some kp
  | .inr q => e = none ∧ a = q.2
def rbd {α β : Type} (r : RR α) (f : α → Nat → RR β) : RR β := match r with
  | .inl kp => .inl kp
  | .inr q => f q.1 q.2
theorem rbd_st {β : Type} {r : RR Nat} {e : Option (Nat × Nat)} {a : Nat} (s : rSq r e a) (f : Nat → Nat → RR β) : rbd r f = rB e (f (rVl r) a) := by
  cases r with
  | inl kp =>
    have h : e = some kp := s
    subst h
    rfl
  | inr q =>
    obtain ⟨h1, h2⟩ := (s : e = none ∧ a = q.2)
    subst h1
    subst h2
    rfl
theorem rbd_st2 {β : Type} {e1 : Option (Nat × Nat)} {r : RR Nat} {e : Option (Nat × Nat)} {a : Nat} (s : rSq (rB e1 r) e a) (f : Nat → Nat → RR β) : rB e1 (rbd r f) = rB e (f (rVl (rB e1 r)) a) := by
  cases e1 with
  | none => exact rbd_st s f
  | some kp =>
    have h : e = some kp := s
    subst h
    rfl
theorem rOut_st {α : Type} {T : Nat → Nat} {N : Nat} {r : RR α} {I : Nat → Nat → Nat → Int32} (h : rOut T N r I) : ∃ e a, rD T N a I ∧ rEr e I ∧ rSq r e a := by
  cases r with
  | inl kp => obtain ⟨h1, a, h2⟩ := h; exact ⟨some kp, a, h2, h1, rfl⟩
  | inr q => exact ⟨none, q.2, h.2, h.1, rfl, rfl⟩
set_option maxRecDepth 100000 in
theorem p_number (d : Nat) (e : Option (Nat × Nat)) (T : Nat → Nat) (N a lo hi : Nat) (hlo : lo < 100) (hhi : hi ≤ 10000) (hx : Int32) (hhx : hx = nI hi - 1) (I : Nat → Nat → Nat → Int32) (L : Nat → Nat → Nat → Int64) (y : Dy) (H : rD T N a I) (E : rEr e I) :
    gTM mX12_readNumber (d + 2) (0, 0) [gM0, gI (nI lo), gI hx] (gH I L y) (fun v h' => v = [gI (nI (rVl (rB e (rNum T N lo hi a))))] ∧ ∃ I', h' = gH I' L y ∧ rFe I I' ∧ rOut T N (rB e (rNum T N lo hi a)) I') (fun _ _ => False) := by
  cases e with
  | none => exact p_readNumber d T N a lo hi hlo hhi hx hhx I L y H E
  | some kp =>
    refine gEnter 400 [] kX12_readNumber rfl rfl ?_
    refine gP_use (p_fine d (some kp) I L y E) ?_
    refine And.intro (fun q => absurd rfl q) (fun _ => ?_)
    exact ⟨rfl, I, rfl, rFe.rf I, E, a, H⟩
set_option maxRecDepth 100000 in
theorem p_readIn (d w : Nat) (hw : w < 7) (e : Option (Nat × Nat)) (T : Nat → Nat) (N a : Nat) (A : Nat → Nat) (hA : A w ≤ 10000) (I : Nat → Nat → Nat → Int32) (L : Nat → Nat → Nat → Int64) (y : Dy) (H : rD T N a I) (E : rEr e I) (hl : gLr I A) :
    gTM mX12_readIn (d + 3) (0, 0) [gM0, gI (nI w)] (gH I L y) (fun v h' => v = [gI (nI (rVl (rB e (rNum T N 0 (A w) a))))] ∧ ∃ I', h' = gH I' L y ∧ rFe I I' ∧ rOut T N (rB e (rNum T N 0 (A w) a)) I') (fun _ _ => False) := by
  refine gEnter 400 [] kX12_readIn rfl rfl ?_
  refine Exists.intro (w) (And.intro rfl (And.intro (show _ < 708 by omega) ?_))
  refine gTM_use rfl (p_number d e T N a 0 (A w) (by decide) hA (I 111 0 w - 1) (by rw [hl w (by omega)]) I L y H E) (fun v h' q => ?_)
  obtain ⟨rfl, I1, rfl, f1, o1⟩ := q
  exact ⟨rfl, I1, rfl, f1, o1⟩
def rWay (T : Nat → Nat) (N : Nat) (A : Nat → Nat) (a : Nat) : RR (Nat → Nat) :=
  rbd (rNum T N 0 (A 0) a) (fun p b => rbd (rNum T N 0 (A 0) (sk T N b)) (fun q c => if p = q then .inl (2, sk T N b) else .inr (aUp (aUp (aUp A (19 + A 1) p) (43 + A 1) q) 1 (A 1 + 1), c)))
theorem rNum_lt {T : Nat → Nat} {N lo hi a n b : Nat} (h : rNum T N lo hi a = .inr (n, b)) : lo ≤ n ∧ n < hi := by
  unfold rNum at h
  cases q : Nat.blt (sk T N a) (dE T N (sk T N a)) with
  | false => rw [q] at h; cases h
  | true =>
    rw [q] at h
    cases q2 : (Nat.ble lo (nV T (sk T N a) (dE T N (sk T N a) - sk T N a)) && Nat.blt (nV T (sk T N a) (dE T N (sk T N a) - sk T N a)) hi) with
    | false => rw [cond_true, q2] at h; cases h
    | true =>
      rw [cond_true, q2] at h
      cases h
      have := (Bool.and_eq_true _ _).mp q2
      exact ⟨Nat.le_of_ble_eq_true this.1, Nat.le_of_ble_eq_true this.2⟩
theorem rVl_lt {e : Option (Nat × Nat)} {T : Nat → Nat} {N lo hi a : Nat} (h0 : 0 < hi) : rVl (rB e (rNum T N lo hi a)) < hi := by
  cases e with
  | some kp => exact h0
  | none =>
    show rVl (rNum T N lo hi a) < hi
    cases h : rNum T N lo hi a with
    | inl kp => exact h0
    | inr q => exact (rNum_lt (n := q.1) (b := q.2) h).2
theorem rVl_le {e : Option (Nat × Nat)} {T : Nat → Nat} {N lo hi a : Nat} : rVl (rB e (rNum T N lo hi a)) ≤ hi := by
  rcases Nat.eq_zero_or_pos hi with h | h
  · subst h
    cases e with
    | some kp => exact Nat.le_refl _
    | none =>
      show rVl (rNum T N lo 0 a) ≤ 0
      cases h : rNum T N lo 0 a with
      | inl kp => exact Nat.le_refl _
      | inr q => exact absurd (rNum_lt (n := q.1) (b := q.2) h).2 (Nat.not_lt_zero _)
  · exact Nat.le_of_lt (rVl_lt h)
theorem isNone_f {α : Type} {e : Option α} (h : e.isNone = false) : ∃ x, e = some x := by
  cases e with
  | none => cases h
  | some x => exact ⟨x, rfl⟩
theorem isNone_t {α : Type} {e : Option α} (h : e.isNone = true) : e = none := by
  cases e with
  | none => rfl
  | some x => cases h
set_option maxRecDepth 100000 in
theorem p_readWay (d : Nat) (T : Nat → Nat) (N a : Nat) (A : Nat → Nat) (h0 : A 0 ≤ 12) (h1 : A 1 < 24) (I : Nat → Nat → Nat → Int32) (L : Nat → Nat → Nat → Int64) (y : Dy) (H : rD T N a I) (E : rEr none I) (hl : gLr I A) :
    gTM mX12_readWay (d + 4) (0, 0) [gM0] (gH I L y) (fun v h' => v = [] ∧ ∃ I', h' = gH I' L y ∧ rFz I I' ∧ rOutA T N (rWay T N A a) I') (fun _ _ => False) := by
  have hN := H.2.1
  refine gEnter 400 [40] kX12_readWay rfl rfl ?_
  refine gTM_use rfl (p_readIn d 0 (by decide) none T N a A (by omega) I L y H E hl) (fun v h' q => ?_)
  obtain ⟨rfl, I1, rfl, f1, o1⟩ := q
  obtain ⟨e1, a1, D1, E1, s1⟩ := rOut_st o1
  refine gTM_use rfl (p_here (d + 2) T N a1 I1 L y D1) (fun v h' q => ?_)
  obtain ⟨rfl, I2, rfl, f2, D2⟩ := q
  have E2 := E1.fr f2
  have hl2 : gLr I2 A := (hl.fe f1).fr f2
  refine gTM_use rfl (p_readIn d 0 (by decide) e1 T N _ A (by omega) I2 L y D2 E2 hl2) (fun v h' q => ?_)
  obtain ⟨rfl, I3, rfl, f3, o3⟩ := q
  obtain ⟨e3, a3, D3, E3, s3⟩ := rOut_st o3
  have f13 := (f1.tr f2.fe).tr f3
  have b1 := rVl_le (e := none) (T := T) (N := N) (lo := 0) (hi := A 0) (a := a)
  have b2 := rVl_le (e := e1) (T := T) (N := N) (lo := 0) (hi := A 0) (a := sk T N a1)
  have ep : I2 100 0 4 = nI (sk T N a1) := D2.2.2.1
  have at40 : ∀ (e4 : Option (Nat × Nat)) (I4 : Nat → Nat → Nat → Int32) (lo' : Lo), rFe I I4 → rD T N a3 I4 → rEr e4 I4 → rWay T N A a = rB e4 (.inr (aUp (aUp (aUp A (19 + A 1) (rVl (rB none (rNum T N 0 (A 0) a)))) (43 + A 1) (rVl (rB e1 (rNum T N 0 (A 0) (sk T N a1))))) 1 (A 1 + 1), a3)) → glle [some gM0, some (gI (nI (rVl (rB none (rNum T N 0 (A 0) a))))), none, some (gI (nI (rVl (rB e1 (rNum T N 0 (A 0) (sk T N a1))))))] lo' →
      gT mX12_readWay (d + 4) (0, 0) (fun v h' => v = [] ∧ ∃ I', h' = gH I' L y ∧ rFz I I' ∧ rOutA T N (rWay T N A a) I') (fun _ _ => False) 40 lo' [] (gH I4 L y) (0, 0) := by
    intro e4 I4 lo' g1 g2 g3 g4 hl'
    refine gT_lo _ hl' ?_
    refine gT_go 400 [] kX12_readWay ?_
    refine gP_use (p_fine (d + 2) e4 I4 L y g3) ?_
    have hl4 := hl.fe g1
    cases e4 with
    | some kp =>
      refine And.intro (fun q => absurd rfl q) (fun _ => ?_)
      exact ⟨rfl, I4, rfl, g1.fz, by rw [g4]; exact ⟨g3, _, g2⟩⟩
    | none =>
      refine And.intro (fun _ => ?_) (fun q => absurd q (by decide))
      refine Exists.intro (1) (And.intro rfl (And.intro (show _ < 708 by omega) ?_))
      refine Exists.intro (19 + A 1) (And.intro (nI_addr 19 (hl4 1 (by omega))) (And.intro (show 19 + A 1 < 708 by omega) ?_))
      refine Exists.intro (1) (And.intro rfl (And.intro (show _ < 708 by omega) ?_))
      have e1' : u3 I4 111 0 (19 + A 1) (nI (rVl (rB none (rNum T N 0 (A 0) a)))) 111 0 1 = nI (A 1) := (u3_ne3 (by omega)).trans (hl4 1 (by omega))
      refine Exists.intro (43 + A 1) (And.intro (nI_addr 43 e1') (And.intro (show 43 + A 1 < 708 by omega) ?_))
      refine Exists.intro (1) (And.intro rfl (And.intro (show _ < 708 by omega) ?_))
      refine Exists.intro (1) (And.intro rfl (And.intro (show _ < 708 by omega) ?_))
      refine ⟨rfl, _, rfl, (((g1.fz.tr (rFz.put I4 _ _)).tr (rFz.put _ _ _)).tr (rFz.put _ _ _)), ?_⟩
      rw [g4]
      refine ⟨((g3.put _ _).put _ _).put _ _, ((g2.put _ _).put _ _).put _ _, ((hl4.put _ _ rfl).put _ _ rfl).put _ _ ?_⟩
      exact gInc ((u3_ne3 (by omega)).trans e1')
  refine gP_use (p_fine (d + 2) e3 I3 L y E3) ?_
  have hw : rWay T N A a = rB e3 (if rVl (rB none (rNum T N 0 (A 0) a)) = rVl (rB e1 (rNum T N 0 (A 0) (sk T N a1))) then .inl (2, sk T N a1) else .inr (aUp (aUp (aUp A (19 + A 1) (rVl (rB none (rNum T N 0 (A 0) a)))) (43 + A 1) (rVl (rB e1 (rNum T N 0 (A 0) (sk T N a1))))) 1 (A 1 + 1), a3)) := by
    unfold rWay
    rw [rbd_st (r := rNum T N 0 (A 0) a) s1, rbd_st2 s3]
    rfl
  cases e3 with
  | some kp =>
    refine And.intro (fun _ => ?_) (fun q => absurd rfl q)
    exact at40 (some kp) I3 _ f13 D3 E3 hw (by (repeat' apply And.intro) <;> first | rfl | trivial | exact congrArg Sum.inl (nI_1 _).symm | exact congrArg Sum.inl (nI_1 _).symm)
  | none =>
    refine And.intro (fun q => absurd q (by decide)) (fun _ => ?_)
    refine bNe _ _ rfl rfl (fun c => ?_) (fun c => ?_)
    · exact at40 none I3 _ f13 D3 E3 (hw.trans (if_neg c)) (by (repeat' apply And.intro) <;> first | rfl | trivial | exact congrArg Sum.inl (nI_1 _).symm | exact congrArg Sum.inl (nI_1 _).symm)
    · refine gTM_use (av' := [gM0, gI (nI 2), gI (nI (sk T N a1))]) (by rw [← ep] <;> rfl) (p_wrong (d + 2) none 2 (sk T N a1) (by have := D2.2.2.2.1; omega) I3 L y E3) (fun v h' q => ?_)
      obtain ⟨rfl, I4, rfl, f4, e4, E4⟩ := q
      exact at40 (some (2, sk T N a1)) I4 _ (f13.tr f4) (D3.fe f4 (e4.trans D3.2.2.1) D3.2.2.2.1) E4 (hw.trans (if_pos c)) (by (repeat' apply And.intro) <;> first | rfl | trivial | exact congrArg Sum.inl (nI_1 _).symm | exact congrArg Sum.inl (nI_1 _).symm)
def rOneA (T : Nat → Nat) (N : Nat) (A : Nat → Nat) (j lo hi a : Nat) : RR (Nat → Nat) := rbd (rNum T N lo hi a) (fun v b => .inr (aUp A j v, b))
set_option maxRecDepth 100000 in
theorem p_readOne (d j lo hi : Nat) (hj : j < 708) (hlo : lo < 100) (hhi : hi ≤ 10000) (hx : Int32) (hhx : hx = nI hi - 1) (T : Nat → Nat) (N a : Nat) (A : Nat → Nat) (I : Nat → Nat → Nat → Int32) (L : Nat → Nat → Nat → Int64) (y : Dy) (H : rD T N a I) (E : rEr none I) (hl : gLr I A) :
    gTM mX12_readOne (d + 3) (0, 0) [gM0, gI (nI j), gI (nI lo), gI hx] (gH I L y) (fun v h' => v = [] ∧ ∃ I', h' = gH I' L y ∧ rFz I I' ∧ rOutA T N (rOneA T N A j lo hi a) I') (fun _ _ => False) := by
  refine gEnter 400 [] kX12_readOne rfl rfl ?_
  refine gTM_use rfl (p_number d none T N a lo hi hlo hhi hx hhx I L y H E) (fun v h' q => ?_)
  obtain ⟨rfl, I1, rfl, f1, o1⟩ := q
  obtain ⟨e1, a1, D1, E1, s1⟩ := rOut_st o1
  have hw : rOneA T N A j lo hi a = rB e1 (.inr (aUp A j (rVl (rB none (rNum T N lo hi a))), a1)) := by
    unfold rOneA
    rw [rbd_st (r := rNum T N lo hi a) s1]
    rfl
  refine gP_use (p_fine (d + 1) e1 I1 L y E1) ?_
  cases e1 with
  | some kp =>
    refine And.intro (fun _ => ?_) (fun q => absurd rfl q)
    exact ⟨rfl, I1, rfl, f1.fz, by rw [hw]; exact ⟨E1, _, D1⟩⟩
  | none =>
    refine And.intro (fun q => absurd q (by decide)) (fun _ => ?_)
    refine Exists.intro (j) (And.intro rfl (And.intro (show _ < 708 by omega) ?_))
    exact ⟨rfl, _, rfl, f1.fz.tr (rFz.put _ _ _), by rw [hw]; exact ⟨E1.put _ _, D1.put _ _, (hl.fe f1).put _ _ rfl⟩⟩
def rWants (T : Nat → Nat) (N : Nat) (A : Nat → Nat) (a : Nat) : RR (Nat → Nat) :=
  rbd (rNum T N 0 (A 2) a) (fun k b => rbd (rNum T N 0 (A 0) b) (fun p c => rbd (rNum T N 0 100 c) (fun v e => .inr (aUp A (72 + 12 * k + p) v, e))))
set_option maxRecDepth 100000 in
theorem p_readWants (d : Nat) (T : Nat → Nat) (N a : Nat) (A : Nat → Nat) (h0 : A 0 ≤ 12) (h2 : A 2 ≤ 5) (I : Nat → Nat → Nat → Int32) (L : Nat → Nat → Nat → Int64) (y : Dy) (H : rD T N a I) (E : rEr none I) (hl : gLr I A) :
    gTM mX12_readWants (d + 4) (0, 0) [gM0] (gH I L y) (fun v h' => v = [] ∧ ∃ I', h' = gH I' L y ∧ rFz I I' ∧ rOutA T N (rWants T N A a) I') (fun _ _ => False) := by
  refine gEnter 400 [] kX12_readWants rfl rfl ?_
  refine gTM_use rfl (p_readIn d 2 (by decide) none T N a A (by omega) I L y H E hl) (fun v h' q => ?_)
  obtain ⟨rfl, I1, rfl, f1, o1⟩ := q
  obtain ⟨e1, a1, D1, E1, s1⟩ := rOut_st o1
  refine gTM_use rfl (p_readIn d 0 (by decide) e1 T N a1 A (by omega) I1 L y D1 E1 (hl.fe f1)) (fun v h' q => ?_)
  obtain ⟨rfl, I2, rfl, f2, o2⟩ := q
  obtain ⟨e2, a2, D2, E2, s2⟩ := rOut_st o2
  refine gTM_use rfl (p_number (d + 1) e2 T N a2 0 100 (by decide) (by decide) 99 rfl I2 L y D2 E2) (fun v h' q => ?_)
  obtain ⟨rfl, I3, rfl, f3, o3⟩ := q
  obtain ⟨e3, a3, D3, E3, s3⟩ := rOut_st o3
  have hw : rWants T N A a = rB e3 (.inr (aUp A (72 + 12 * rVl (rB none (rNum T N 0 (A 2) a)) + rVl (rB e1 (rNum T N 0 (A 0) a1))) (rVl (rB e2 (rNum T N 0 100 a2))), a3)) := by
    unfold rWants
    rw [rbd_st (r := rNum T N 0 (A 2) a) s1, rbd_st2 s2, rbd_st2 s3]
    rfl
  have f13 := (f1.tr f2).tr f3
  refine gP_use (p_fine (d + 2) e3 I3 L y E3) ?_
  cases e3 with
  | some kp =>
    refine And.intro (fun _ => ?_) (fun q => absurd rfl q)
    exact ⟨rfl, I3, rfl, f13.fz, by rw [hw]; exact ⟨E3, _, D3⟩⟩
  | none =>
    refine And.intro (fun q => absurd q (by decide)) (fun _ => ?_)
    have b1 : rVl (rB none (rNum T N 0 (A 2) a)) ≤ A 2 := rVl_le
    have b2 : rVl (rB e1 (rNum T N 0 (A 0) a1)) ≤ A 0 := rVl_le
    refine Exists.intro (72 + 12 * rVl (rB none (rNum T N 0 (A 2) a)) + rVl (rB e1 (rNum T N 0 (A 0) a1))) (And.intro (by rw [← nI_add, ← nI_add, ← pk_mul] <;> rfl) (And.intro (show 72 + 12 * rVl (rB none (rNum T N 0 (A 2) a)) + rVl (rB e1 (rNum T N 0 (A 0) a1)) < 708 by omega) ?_))
    exact ⟨rfl, _, rfl, f13.fz.tr (rFz.put _ _ _), by rw [hw]; exact ⟨E3.put _ _, D3.put _ _, (hl.fe f13).put _ _ rfl⟩⟩
/-- whether an hour has snow on some of the first w ways -/
def aSnw (A : Nat → Nat) (h : Nat) : Nat → Bool
  | 0 => false
  | w + 1 => aSnw A h w || Nat.blt 0 (A (132 + 24 * w + h))
theorem aSnw_t {A : Nat → Nat} {h w : Nat} (q : 0 < A (132 + 24 * w + h)) : ∀ k, w < k → aSnw A h k = true := by
  intro k
  induction k with
  | zero => intro z; exact absurd z (Nat.not_lt_zero _)
  | succ k ih =>
    intro z
    rw [aSnw]
    by_cases e : w = k
    · subst e; rw [nblt_t q, Bool.or_true]
    · rw [ih (by omega), Bool.true_or]
theorem aSnw_f {A : Nat → Nat} {h : Nat} : ∀ k, (∀ w, w < k → A (132 + 24 * w + h) = 0) → aSnw A h k = false := by
  intro k
  induction k with
  | zero => intro _; rfl
  | succ k ih =>
    intro z
    rw [aSnw, ih (fun w hw => z w (by omega)), z k (by omega)]
    rfl
set_option maxRecDepth 100000 in
theorem p_isSnowy (d h : Nat) (hh : h < 24) (A : Nat → Nat) (I : Nat → Nat → Nat → Int32) (L : Nat → Nat → Nat → Int64) (y : Dy) (hl : gLr I A) (hA : ∀ j, j < 708 → A j < 10000) :
    gP mX12_isSnowy (d + 1) [gM0, gI (nI h)] (gH I L y) (gI (gb (aSnw A h 24))) := by
  refine gEnter 400 [2] kX12_isSnowy rfl rfl ?_
  refine gT_for (σ := Unit) (pc := 2) (lo := fun i _ => [some gM0, some (gI (nI h)), some (gI (nI i))]) (hp := fun _ _ => gH I L y) (Inv := fun i _ => ∀ w, w < i → A (132 + 24 * w + h) = 0) 24 ?_ ?_ 0 () (Nat.zero_le _) (fun w hw => absurd hw (Nat.not_lt_zero _)) (by (repeat' apply And.intro) <;> first | rfl | trivial | exact congrArg Sum.inl (nI_1 _).symm | exact congrArg Sum.inl (nI_1 _).symm)
  · intro _ hi
    refine gT_go 400 [2] kX12_isSnowy ?_
    refine bGe 24 24 rfl rfl (fun _ => ?_) (fun q => absurd q (by omega))
    exact ⟨Or.inl rfl, by rw [aSnw_f 24 hi]; rfl, rfl⟩
  · intro i _ hi hv hnext
    refine gT_go 400 [2] kX12_isSnowy ?_
    refine bGe i 24 rfl rfl (fun q => absurd q (by omega)) (fun _ => ?_)
    refine Exists.intro (132 + 24 * i + h) (And.intro (by simp only [gic, gbc, gsc, litI, pk_mul, nI_add]) (And.intro (show _ < 708 by omega) ?_))
    have ha := hA (132 + 24 * i + h) (by omega)
    refine bLe (A (132 + 24 * i + h)) 0 (hl _ (by omega)) rfl (fun c => ?_) (fun c => ?_)
    · refine hnext () _ (fun w hw => ?_) (by (repeat' apply And.intro) <;> first | rfl | trivial | exact congrArg Sum.inl (nI_1 _).symm | exact congrArg Sum.inl (nI_1 _).symm)
      rcases Nat.lt_or_ge w i with q | q
      · exact hv w q
      · have : w = i := by omega
        subst this; omega
    · exact ⟨Or.inr rfl, by rw [aSnw_t c 24 hi]; rfl, rfl⟩
/-- hours with snow, of the first h, with those from a to b beside -/
def aCnt (A : Nat → Nat) (a b : Nat) : Nat → Nat
  | 0 => 0
  | h + 1 => bif aSnw A h 24 || (Nat.ble a h && Nat.ble h b) then aCnt A a b h + 1 else aCnt A a b h
theorem aCnt_le (A : Nat → Nat) (a b : Nat) : ∀ h, aCnt A a b h ≤ h := by
  intro h
  induction h with
  | zero => exact Nat.le_refl _
  | succ h ih =>
    rw [aCnt]
    cases (aSnw A h 24 || (Nat.ble a h && Nat.ble h b)) with
    | true => show aCnt A a b h + 1 ≤ h + 1; omega
    | false => show aCnt A a b h ≤ h + 1; omega
/-- snow of a way, k hours from a on -/
def aPut (A : Nat → Nat) (w a n : Nat) : Nat → Nat → Nat
  | 0 => A
  | k + 1 => aUp (aPut A w a n k) (132 + 24 * w + (a + k)) n
def rSnow (T : Nat → Nat) (N : Nat) (A : Nat → Nat) (a : Nat) : RR (Nat → Nat) :=
  rbd (rNum T N 0 (A 1) a) (fun w b => rbd (rNum T N 0 24 b) (fun x c => rbd (rNum T N x 24 (sk T N c)) (fun z e => rbd (if 10 < aCnt A x z 24 then (.inl (2, sk T N c) : RR Nat) else .inr (0, e)) (fun _ e => rbd (rNum T N 1 17 e) (fun n g => .inr (aPut A w x n (z + 1 - x), g))))))
set_option maxRecDepth 100000 in
theorem t_snow121 {Qr : List AV → Hp → Prop} {Qx : Rf → Hp → Prop} (d w x z n : Nat) (hw : w < 24) (hxz : x ≤ z) (hz : z < 24) (T : Nat → Nat) (N a : Nat) (A : Nat → Nat) (L : Nat → Nat → Nat → Int64) (y : Dy) (I : Nat → Nat → Nat → Int32) (H : rD T N a I) (E : rEr none I) (hl : gLr I A)
    (hQ : ∀ I', rFz I I' → rD T N a I' → rEr none I' → gLr I' (aPut A w x n (z + 1 - x)) → Qr [] (gH I' L y)) {lo0 : Lo} (h0 : glle [some gM0, some (gI (nI w)), some (gI (nI x)), none, some (gI (nI z)), none, some (gI (nI n)), none] lo0) :
    gT mX12_readSnow (d + 1) (0, 0) Qr Qx 121 lo0 [] (gH I L y) (0, 0) := by
  refine gT_lo _ h0 ?_
  refine gT_go 400 [124] kX12_readSnow ?_
  refine gT_for (σ := Nat → Nat → Nat → Int32) (pc := 124) (lo := fun i _ => [some gM0, some (gI (nI w)), some (gI (nI x)), none, some (gI (nI z)), none, some (gI (nI n)), some (gI (nI (x + i)))]) (hp := fun _ s => gH s L y)
    (Inv := fun i s => rFz I s ∧ rD T N a s ∧ rEr none s ∧ gLr s (aPut A w x n i)) (z + 1 - x) ?_ ?_ 0 I (Nat.zero_le _) ⟨rFz.rf I, H, E, hl⟩ (by (repeat' apply And.intro) <;> first | rfl | trivial | exact congrArg Sum.inl (nI_1 _).symm | exact congrArg Sum.inl (nI_1 _).symm)
  · intro s ⟨s1, s2, s3, s4⟩
    refine gT_go 400 [124] kX12_readSnow ?_
    refine bGt (x + (z + 1 - x)) z rfl rfl (fun _ => hQ s s1 s2 s3 s4) (fun q => absurd q (by omega))
  · intro i s hi ⟨s1, s2, s3, s4⟩ hnext
    refine gT_go 400 [124] kX12_readSnow ?_
    refine bGt (x + i) z rfl rfl (fun q => absurd q (by omega)) (fun _ => ?_)
    refine Exists.intro (132 + 24 * w + (x + i)) (And.intro (gIdx2 132 24 w (x + i)) (And.intro (show 132 + 24 * w + (x + i) < 708 by omega) ?_))
    refine hnext _ _ ⟨s1.tr (rFz.put _ _ _), s2.put _ _, s3.put _ _, s4.put _ _ rfl⟩ ?_
    rw [← Nat.add_assoc, ← nI_1 (x + i)]
    exact (by (repeat' apply And.intro) <;> first | rfl | trivial | exact congrArg Sum.inl (nI_1 _).symm | exact congrArg Sum.inl (nI_1 _).symm)
set_option maxRecDepth 100000 in
theorem p_readSnow (d : Nat) (T : Nat → Nat) (N a : Nat) (A : Nat → Nat) (h1 : A 1 ≤ 24) (hA : ∀ j, j < 708 → A j < 10000) (I : Nat → Nat → Nat → Int32) (L : Nat → Nat → Nat → Int64) (y : Dy) (H : rD T N a I) (E : rEr none I) (hl : gLr I A) :
    gTM mX12_readSnow (d + 4) (0, 0) [gM0] (gH I L y) (fun v h' => v = [] ∧ ∃ I', h' = gH I' L y ∧ rFz I I' ∧ rOutA T N (rSnow T N A a) I') (fun _ _ => False) := by
  have hN := H.2.1
  refine gEnter 400 [39] kX12_readSnow rfl rfl ?_
  refine gTM_use rfl (p_readIn d 1 (by decide) none T N a A (by omega) I L y H E hl) (fun v h' q => ?_)
  obtain ⟨rfl, I1, rfl, f1, o1⟩ := q
  obtain ⟨e1, a1, D1, E1, s1⟩ := rOut_st o1
  refine gTM_use rfl (p_number (d + 1) e1 T N a1 0 24 (by decide) (by decide) 23 rfl I1 L y D1 E1) (fun v h' q => ?_)
  obtain ⟨rfl, I2, rfl, f2, o2⟩ := q
  obtain ⟨e2, a2, D2, E2, s2⟩ := rOut_st o2
  refine gTM_use rfl (p_here (d + 2) T N a2 I2 L y D2) (fun v h' q => ?_)
  obtain ⟨rfl, I3, rfl, f3, D3⟩ := q
  have E3 := E2.fr f3
  have b1 : rVl (rB none (rNum T N 0 (A 1) a)) ≤ A 1 := rVl_le
  have b2 : rVl (rB e1 (rNum T N 0 24 a1)) < 24 := rVl_lt (by decide)
  have ep : I3 100 0 4 = nI (sk T N a2) := D3.2.2.1
  refine gTM_use rfl (p_number (d + 1) e2 T N _ (rVl (rB e1 (rNum T N 0 24 a1))) 24 (by omega) (by decide) 23 rfl I3 L y D3 E3) (fun v h' q => ?_)
  obtain ⟨rfl, I4, rfl, f4, o4⟩ := q
  obtain ⟨e4, a4, D4, E4, s4⟩ := rOut_st o4
  have f14 := ((f1.tr f2).tr f3.fe).tr f4
  have hl4 := hl.fe f14
  obtain ⟨w, hw⟩ : ∃ w, w = rVl (rB none (rNum T N 0 (A 1) a)) := ⟨_, rfl⟩
  obtain ⟨x, hx⟩ : ∃ x, x = rVl (rB e1 (rNum T N 0 24 a1)) := ⟨_, rfl⟩
  rw [← hw] at b1
  rw [← hx] at b2
  rw [← hx] at s4
  obtain ⟨z, hz⟩ : ∃ z, z = rVl (rB e2 (rNum T N x 24 (sk T N a2))) := ⟨_, rfl⟩
  have b3 : z < 24 := by rw [hz]; exact rVl_lt (by decide)
  have hsp : rSnow T N A a = rB e4 (rbd (if 10 < aCnt A x z 24 then (.inl (2, sk T N a2) : RR Nat) else .inr (0, a4)) (fun _ e => rbd (rNum T N 1 17 e) (fun n g => .inr (aPut A w x n (z + 1 - x), g)))) := by
    unfold rSnow
    rw [rbd_st (r := rNum T N 0 (A 1) a) s1, rbd_st2 s2]
    show rB e2 (rbd (rNum T N (rVl (rB e1 (rNum T N 0 24 a1))) 24 (sk T N a2)) _) = _
    rw [← hx, rbd_st2 s4, ← hz, show rVl (rNum T N 0 (A 1) a) = w from hw.symm]
  have hxz : e4 = none → x ≤ z ∧ w < A 1 := by
    intro q
    subst q
    have q2 : e2 = none := by
      cases e2 with
      | none => rfl
      | some kp => cases (s4 : (none : Option (Nat × Nat)) = some kp)
    subst q2
    have q1 : e1 = none := by
      cases e1 with
      | none => rfl
      | some kp => cases (s2 : (none : Option (Nat × Nat)) = some kp)
    subst q1
    constructor
    · rw [hz]
      have s4' : rSq (rNum T N x 24 (sk T N a2)) none a4 := s4
      show x ≤ rVl (rNum T N x 24 (sk T N a2))
      cases h : rNum T N x 24 (sk T N a2) with
      | inl kp => rw [h] at s4'; cases (s4' : (none : Option (Nat × Nat)) = some kp)
      | inr q => exact (rNum_lt (n := q.1) (b := q.2) h).1
    · rw [hw]
      have s1' : rSq (rNum T N 0 (A 1) a) none a1 := s1
      show rVl (rNum T N 0 (A 1) a) < A 1
      cases h : rNum T N 0 (A 1) a with
      | inl kp => rw [h] at s1'; cases (s1' : (none : Option (Nat × Nat)) = some kp)
      | inr q => exact (rNum_lt (n := q.1) (b := q.2) h).2
  refine gT_for (σ := Unit) (pc := 39) (lo := fun i _ => [some gM0, some (gI (nI w)), some (gI (nI x)), some (gI (nI (sk T N a2))), some (gI (nI z)), some (gI (nI (aCnt A x z i))), some (gI (nI i)), none]) (hp := fun _ _ => gH I4 L y) (Inv := fun _ _ => True) 24 ?_ ?_ 0 () (Nat.zero_le _) trivial (by (repeat' apply And.intro) <;> first | rfl | trivial | exact congrArg (fun q => (Sum.inl (nI q) : AV)) hw | exact congrArg (fun q => (Sum.inl (nI q) : AV)) hx | exact congrArg (fun q => (Sum.inl (nI q) : AV)) (hz.trans (by rw [hx])) | exact congrArg (fun q => (Sum.inl q : AV)) ep.symm)
  · intro _ _
    have b4 := aCnt_le A x z 24
    have at104 : ∀ (e5 : Option (Nat × Nat)) (I5 : Nat → Nat → Nat → Int32) (lo' : Lo), rFe I I5 → rD T N a4 I5 → rEr e5 I5 → rSnow T N A a = rB e5 (rbd (rNum T N 1 17 a4) (fun n g => .inr (aPut A w x n (z + 1 - x), g))) → (e5 = none → e4 = none) → glle [some gM0, some (gI (nI w)), some (gI (nI x)), none, some (gI (nI z)), none, none, none] lo' →
        gT mX12_readSnow (d + 4) (0, 0) (fun v h' => v = [] ∧ ∃ I', h' = gH I' L y ∧ rFz I I' ∧ rOutA T N (rSnow T N A a) I') (fun _ _ => False) 104 lo' [] (gH I5 L y) (0, 0) := by
      intro e5 I5 lo' g1 g2 g3 g4 g5 hl'
      refine gT_lo _ hl' ?_
      refine gT_go 400 [121] kX12_readSnow ?_
      refine gTM_use rfl (p_number (d + 1) e5 T N a4 1 17 (by decide) (by decide) 16 rfl I5 L y g2 g3) (fun v h' q => ?_)
      obtain ⟨rfl, I6, rfl, f6, o6⟩ := q
      obtain ⟨e6, a6, D6, E6, s6⟩ := rOut_st o6
      rw [rbd_st2 s6] at g4
      refine gP_use (p_fine (d + 2) e6 I6 L y E6) ?_
      cases e6 with
      | some kp =>
        refine And.intro (fun q => absurd rfl q) (fun _ => ?_)
        exact ⟨rfl, I6, rfl, (g1.tr f6).fz, by rw [g4]; exact ⟨E6, _, D6⟩⟩
      | none =>
        refine And.intro (fun _ => ?_) (fun q => absurd q (by decide))
        have e5n : e5 = none := by
          cases e5 with
          | none => rfl
          | some kp => cases (s6 : (none : Option (Nat × Nat)) = some kp)
        obtain ⟨z1, z2⟩ := hxz (g5 e5n)
        refine t_snow121 (d + 3) w x z _ (by omega) z1 b3 T N a6 A L y I6 D6 E6 (hl.fe (g1.tr f6)) (fun I7 k1 k2 k3 k4 => ?_) (by (repeat' apply And.intro) <;> first | rfl | trivial | exact congrArg Sum.inl (nI_1 _).symm | exact congrArg Sum.inl (nI_1 _).symm)
        exact ⟨rfl, I7, rfl, (g1.tr f6).fz.tr k1, by rw [g4]; exact ⟨k3, k2, k4⟩⟩
    refine gT_go 400 [39, 104] kX12_readSnow ?_
    refine bGe 24 24 rfl rfl (fun _ => ?_) (fun q => absurd q (by omega))
    refine gP_use (p_fine (d + 2) e4 I4 L y E4) ?_
    cases e4 with
    | some kp =>
      refine And.intro (fun _ => ?_) (fun q => absurd rfl q)
      exact at104 (some kp) I4 _ f14 D4 E4 hsp (fun q => q) (by (repeat' apply And.intro) <;> first | rfl | trivial | exact congrArg Sum.inl (nI_1 _).symm | exact congrArg Sum.inl (nI_1 _).symm)
    | none =>
      refine And.intro (fun q => absurd q (by decide)) (fun _ => ?_)
      refine bLe (aCnt A x z 24) 10 rfl rfl (fun c => ?_) (fun c => ?_)
      · exact at104 none I4 _ f14 D4 E4 (by rw [hsp, if_neg (by omega)] <;> rfl) (fun _ => rfl) (by (repeat' apply And.intro) <;> first | rfl | trivial | exact congrArg Sum.inl (nI_1 _).symm | exact congrArg Sum.inl (nI_1 _).symm)
      · refine gTM_use rfl (p_wrong (d + 2) none 2 (sk T N a2) (by have := D3.2.2.2.1; omega) I4 L y E4) (fun v h' q => ?_)
        obtain ⟨rfl, I5, rfl, f5, e5, E5⟩ := q
        exact at104 (some (2, sk T N a2)) I5 _ (f14.tr f5) (D4.fe f5 (e5.trans D4.2.2.1) D4.2.2.2.1) E5 (by rw [hsp, if_pos c] <;> rfl) (fun q => by cases q) (by (repeat' apply And.intro) <;> first | rfl | trivial | exact congrArg Sum.inl (nI_1 _).symm | exact congrArg Sum.inl (nI_1 _).symm)
  · intro i _ hi _ hnext
    have hs := p_isSnowy (d + 2) i (by omega) A I4 L y hl4 hA
    have step : ∀ (b : Bool) (lo' : Lo), b = (aSnw A i 24 || (Nat.ble x i && Nat.ble i z)) → glle [some gM0, some (gI (nI w)), some (gI (nI x)), some (gI (nI (sk T N a2))), some (gI (nI z)), some (gI (nI (aCnt A x z i))), some (gI (nI i)), none] lo' →
        gT mX12_readSnow (d + 4) (0, 0) (fun v h' => v = [] ∧ ∃ I', h' = gH I' L y ∧ rFz I I' ∧ rOutA T N (rSnow T N A a) I') (fun _ _ => False) 75 lo' [gI (gb b), gI (nI (aCnt A x z i))] (gH I4 L y) (0, 0) := by
      intro b lo' hb hl'
      refine gT_lo _ hl' ?_
      refine gT_go 400 [39] kX12_readSnow ?_
      refine hnext () _ trivial ?_
      rw [aCnt, ← hb]
      cases b with
      | true => rw [cond_true, ← nI_1 (aCnt A x z i)]; exact (by (repeat' apply And.intro) <;> first | rfl | trivial | exact congrArg Sum.inl (nI_1 _).symm | exact congrArg Sum.inl (nI_1 _).symm)
      | false =>
        have ez : nI (aCnt A x z i) + gb false = nI (aCnt A x z i) := Int32.add_zero _
        rw [ez]
        exact (by (repeat' apply And.intro) <;> first | rfl | trivial | exact congrArg Sum.inl (nI_1 _).symm | exact congrArg Sum.inl (nI_1 _).symm)
    refine gT_go 400 [39, 75] kX12_readSnow ?_
    refine bGe i 24 rfl rfl (fun q => absurd q (by omega)) (fun _ => ?_)
    refine gP_use (hs) ?_
    refine bB1 (aSnw A i 24) rfl (fun c => ?_) (fun c => ?_)
    · exact step true _ (by rw [c] <;> rfl) (by (repeat' apply And.intro) <;> first | rfl | trivial | exact congrArg Sum.inl (nI_1 _).symm | exact congrArg Sum.inl (nI_1 _).symm)
    · refine bLt i x rfl rfl (fun c1 => ?_) (fun c1 => ?_)
      · exact step false _ (by rw [c, nble_f c1] <;> rfl) (by (repeat' apply And.intro) <;> first | rfl | trivial | exact congrArg Sum.inl (nI_1 _).symm | exact congrArg Sum.inl (nI_1 _).symm)
      · refine bGt i z rfl rfl (fun c2 => ?_) (fun c2 => ?_)
        · exact step false _ (by rw [c, nble_f c2, Bool.and_false] <;> rfl) (by (repeat' apply And.intro) <;> first | rfl | trivial | exact congrArg Sum.inl (nI_1 _).symm | exact congrArg Sum.inl (nI_1 _).symm)
        · exact step true _ (by rw [c, Nat.ble_eq_true_of_le c1, Nat.ble_eq_true_of_le c2] <;> rfl) (by (repeat' apply And.intro) <;> first | rfl | trivial | exact congrArg Sum.inl (nI_1 _).symm | exact congrArg Sum.inl (nI_1 _).symm)
