/-! ===== reading a law: steps ===== -/
/-- nothing but place, fault, brackets, steps -/
def rFl (I I' : Nat → Nat → Nat → Int32) : Prop := (∀ b, b ≠ 100 → b ≠ 117 → b ≠ 118 → I' b = I b) ∧ ∀ j, j ≠ 4 → j ≠ 5 → j ≠ 6 → j ≠ 7 → j ≠ 14 → I' 100 0 j = I 100 0 j
theorem rFl.rf (I : Nat → Nat → Nat → Int32) : rFl I I := ⟨fun _ _ _ _ => rfl, fun _ _ _ _ _ _ => rfl⟩
theorem rFl.tr {I I1 I2 : Nat → Nat → Nat → Int32} (a : rFl I I1) (b : rFl I1 I2) : rFl I I2 := ⟨fun q h1 h2 h3 => (b.1 q h1 h2 h3).trans (a.1 q h1 h2 h3), fun j h1 h2 h3 h4 h5 => (b.2 j h1 h2 h3 h4 h5).trans (a.2 j h1 h2 h3 h4 h5)⟩
theorem rFe.fl {I I' : Nat → Nat → Nat → Int32} (f : rFe I I') : rFl I I' := ⟨fun q h _ _ => f.1 q h, fun j h1 h2 h3 _ _ => f.2 j h1 h2 h3⟩
theorem rFr.fl {I I' : Nat → Nat → Nat → Int32} (f : rFr I I') : rFl I I' := f.fe.fl
/-- the steps so far -/
def lCo (C : Cd) (I : Nat → Nat → Nat → Int32) : Prop := I 100 0 14 = nI C.length ∧ ∀ j c, C[j]? = some c → I 117 0 j = nI c.1 ∧ I 118 0 j = nI c.2
/-- no fault, the reader at a, k brackets left, the steps C -/
def lS (T : Nat → Nat) (N k : Nat) (C : Cd) (a : Nat) (I : Nat → Nat → Nat → Int32) : Prop := rEr none I ∧ rD T N a I ∧ lCo C I ∧ I 100 0 7 = nI (6 - k)
theorem lS.fe {T : Nat → Nat} {N k a a' : Nat} {C : Cd} {I I' : Nat → Nat → Nat → Int32} (h : lS T N k C a I) (f : rFe I I') (e : rEr none I') (D : rD T N a' I') : lS T N k C a' I' :=
  ⟨e, D, ⟨(f.2 14 (by decide) (by decide) (by decide)).trans h.2.2.1.1, fun j c hj => by rw [f.1 117 (by decide), f.1 118 (by decide)]; exact h.2.2.1.2 j c hj⟩, (f.2 7 (by decide) (by decide) (by decide)).trans h.2.2.2⟩
theorem lS.fr {T : Nat → Nat} {N k a a' : Nat} {C : Cd} {I I' : Nat → Nat → Nat → Int32} (h : lS T N k C a I) (f : rFr I I') (D : rD T N a' I') : lS T N k C a' I' := h.fe f.fe (h.1.fr f) D
/-- steps that leave one value -/
def cOk (c : Nat × Nat) : Prop := c.1 ≤ 11 ∧ c.2 < 10000 ∧ (c.1 = 1 → c.2 < 8)
def cWf (C : Cd) : Prop := (∀ n, rHt n C = some (n + 1)) ∧ ∀ c ∈ C, cOk c
theorem rHt_app : ∀ (a b : Cd) (n m : Nat), rHt n a = some m → rHt n (a ++ b) = rHt m b := by
  intro a
  induction a with
  | nil => intro b n m h; cases h; rfl
  | cons c r ih =>
    intro b n m h
    obtain ⟨o, w⟩ := c
    match o, n, h with
    | 0, n, h => exact ih b (n + 1) m h
    | 1, n, h => exact ih b (n + 1) m h
    | 9, 0, h => cases h
    | 9, n + 1, h => exact ih b (n + 1) m h
    | 2, 0, h => cases h
    | 2, 1, h => cases h
    | 2, n + 2, h => exact ih b (n + 1) m h
    | 3, 0, h => cases h
    | 3, 1, h => cases h
    | 3, n + 2, h => exact ih b (n + 1) m h
    | 4, 0, h => cases h
    | 4, 1, h => cases h
    | 4, n + 2, h => exact ih b (n + 1) m h
    | 5, 0, h => cases h
    | 5, 1, h => cases h
    | 5, n + 2, h => exact ih b (n + 1) m h
    | 6, 0, h => cases h
    | 6, 1, h => cases h
    | 6, n + 2, h => exact ih b (n + 1) m h
    | 7, 0, h => cases h
    | 7, 1, h => cases h
    | 7, n + 2, h => exact ih b (n + 1) m h
    | 8, 0, h => cases h
    | 8, 1, h => cases h
    | 8, n + 2, h => exact ih b (n + 1) m h
    | o + 10, 0, h => cases h
    | o + 10, 1, h => cases h
    | o + 10, n + 2, h => exact ih b (n + 1) m h
theorem cWf_1 {o v : Nat} (ho : o = 0 ∨ o = 1) (h : cOk (o, v)) : cWf [(o, v)] := by
  refine ⟨fun n => ?_, fun c hc => by cases List.mem_singleton.mp hc; exact h⟩
  rcases ho with rfl | rfl <;> rfl
theorem cWf_2 {C1 C2 : Cd} {o : Nat} (h1 : cWf C1) (h2 : cWf C2) (ho : o = 2 ∨ o = 3 ∨ o = 4 ∨ o = 5 ∨ o = 6 ∨ o = 7 ∨ o = 8 ∨ o = 10 ∨ o = 11) : cWf (C1 ++ C2 ++ [(o, 0)]) := by
  refine ⟨fun n => ?_, fun c hc => ?_⟩
  · rw [rHt_app (C1 ++ C2) [(o, 0)] n (n + 2) (by rw [rHt_app C1 C2 n (n + 1) (h1.1 n)]; exact h2.1 (n + 1))]
    rcases ho with rfl | rfl | rfl | rfl | rfl | rfl | rfl | rfl | rfl <;> rfl
  · rcases List.mem_append.mp hc with q | q
    · rcases List.mem_append.mp q with q | q
      · exact h1.2 c q
      · exact h2.2 c q
    · cases List.mem_singleton.mp q
      refine ⟨?_, Nat.zero_lt_succ _, ?_⟩
      · show o ≤ 11; omega
      · intro e; exact absurd (show o = 1 from e) (by omega)
theorem cWf_n {C1 : Cd} (h1 : cWf C1) : cWf (C1 ++ [(9, 0)]) := by
  refine ⟨fun n => ?_, fun c hc => ?_⟩
  · rw [rHt_app C1 [(9, 0)] n (n + 1) (h1.1 n)] <;> rfl
  · rcases List.mem_append.mp hc with q | q
    · exact h1.2 c q
    · cases List.mem_singleton.mp q
      exact ⟨by decide, by decide, fun e => absurd e (by decide)⟩
/-- what a reading of steps comes to -/
def lOut (T : Nat → Nat) (N k : Nat) (C : Cd) (a : Nat) (r : RR Cd) (I : Nat → Nat → Nat → Int32) : Prop := match r with
  | .inl kp => rEr (some kp) I ∧ ∃ a', rD T N a' I
  | .inr q => lS T N k (C ++ q.1) q.2 I ∧ a + q.1.length ≤ q.2 ∧ cWf q.1
/-- a method that reads steps -/
def lC (m : GM) (D : Nat) (T : Nat → Nat) (N k : Nat) (r : Nat → RR Cd) : Prop := ∀ (C : Cd) (a : Nat) (I : Nat → Nat → Nat → Int32) (L : Nat → Nat → Nat → Int64) (y : Dy), lS T N k C a I → C.length ≤ a →
  gTM m D (0, 0) [gM0] (gH I L y) (fun v h' => v = [] ∧ ∃ I', h' = gH I' L y ∧ rFl I I' ∧ lOut T N k C a (r a) I') (fun _ _ => False)
/-- the same behind a fault -/
def lDd (m : GM) (D : Nat) (T : Nat → Nat) (N : Nat) : Prop := ∀ (kp : Nat × Nat) (a : Nat) (I : Nat → Nat → Nat → Int32) (L : Nat → Nat → Nat → Int64) (y : Dy), rEr (some kp) I → rD T N a I →
  gTM m D (0, 0) [gM0] (gH I L y) (fun v h' => v = [] ∧ ∃ I', h' = gH I' L y ∧ rFl I I' ∧ rEr (some kp) I' ∧ ∃ a', rD T N a' I') (fun _ _ => False)
set_option maxRecDepth 100000 in
theorem p_emit (d o v : Nat) (T : Nat → Nat) (N k a : Nat) (C : Cd) (hC : C.length < 620) (I : Nat → Nat → Nat → Int32) (L : Nat → Nat → Nat → Int64) (y : Dy) (S : lS T N k C a I) :
    gTM mX12_emit (d + 2) (0, 0) [gM0, gI (nI o), gI (nI v)] (gH I L y) (fun w h' => w = [] ∧ ∃ I', h' = gH I' L y ∧ rFl I I' ∧ lS T N k (C ++ [(o, v)]) a I') (fun _ _ => False) := by
  obtain ⟨E, D, ⟨c1, c2⟩, c3⟩ := S
  refine gEnter 400 [] kX12_emit rfl rfl ?_
  refine gP_use (p_fine d none I L y E) ?_
  refine And.intro (fun _ => ?_) (fun q => absurd q (by decide))
  refine Exists.intro (C.length) (And.intro (c1) (And.intro (show C.length < 620 by omega) ?_))
  have e14 : u3 I 117 0 C.length (nI o) 100 0 14 = nI C.length := by rw [u3_ne1 (by decide)]; exact c1
  refine Exists.intro (C.length) (And.intro (e14) (And.intro (show C.length < 620 by omega) ?_))
  have f : rFl I (u3 (u3 (u3 I 117 0 C.length (nI o)) 118 0 C.length (nI v)) 100 0 14 (I 100 0 14 + 1)) := ⟨fun b h1 h2 h3 => (u3_ne1 h1).trans ((u3_ne1 h3).trans (u3_ne1 h2)), fun j _ _ _ _ h => (u3_ne3 h).trans (by rw [u3_ne1 (by decide), u3_ne1 (by decide)])⟩
  refine ⟨rfl, u3 (u3 (u3 I 117 0 C.length (nI o)) 118 0 C.length (nI v)) 100 0 14 (I 100 0 14 + 1), rfl, f, ?_, ⟨(f.2 3 (by decide) (by decide) (by decide) (by decide) (by decide)).trans D.1, D.2.1, ?_, D.2.2.2.1, fun j hj => by rw [f.1 109 (by decide) (by decide) (by decide)]; exact D.2.2.2.2 j hj⟩, ⟨?_, fun j c hj => ?_⟩, ?_⟩
  · show u3 (u3 (u3 I 117 0 C.length (nI o)) 118 0 C.length (nI v)) 100 0 14 (I 100 0 14 + 1) 100 0 5 = -1
    rw [u3_ne3 (by decide), u3_ne1 (by decide), u3_ne1 (by decide)]; exact E
  · rw [u3_ne3 (by decide), u3_ne1 (by decide), u3_ne1 (by decide)]; exact D.2.2.1
  · rw [List.length_append]
    exact u3_eq.trans (by rw [c1]; exact nI_1 _)
  · rw [u3_ne1 (by decide), u3_ne1 (by decide)]
    rcases Nat.lt_or_ge j C.length with q | q
    · rw [List.getElem?_append_left q] at hj
      rw [u3_ne3 (by omega), u3_ne1 (by decide), u3_ne3 (by omega)]
      exact c2 j c hj
    · rw [List.getElem?_append_right q] at hj
      have hz : j - C.length < 1 := (List.getElem?_eq_some_iff.mp hj).1
      have ej : j = C.length := by omega
      subst ej
      rw [Nat.sub_self] at hj
      cases hj
      exact ⟨u3_eq, u3_eq⟩
  · rw [u3_ne3 (by decide), u3_ne1 (by decide), u3_ne1 (by decide)]; exact c3
set_option maxRecDepth 100000 in
theorem p_emitD (d : Nat) (x z : Int32) (kp : Nat × Nat) (I : Nat → Nat → Nat → Int32) (L : Nat → Nat → Nat → Int64) (y : Dy) (E : rEr (some kp) I) :
    gTM mX12_emit (d + 2) (0, 0) [gM0, gI x, gI z] (gH I L y) (fun w h' => w = [] ∧ h' = gH I L y) (fun _ _ => False) := by
  refine gEnter 400 [] kX12_emit rfl rfl ?_
  refine gP_use (p_fine d (some kp) I L y E) ?_
  refine And.intro (fun q => absurd rfl q) (fun _ => ?_)
  exact ⟨rfl, rfl⟩
theorem lS_at {T : Nat → Nat} {N k a : Nat} {C : Cd} {I : Nat → Nat → Nat → Int32} (S : lS T N k C a I) {a' : Nat} (h : a' ≤ N) {v : Int32} (hv : v = nI a') : lS T N k C a' (u3 I 100 0 4 v) :=
  S.fr (rFr.put I v) (S.2.1.fr (rFr.put I v) (u3_eq.trans hv) h)
/-- a loop of signs -/
def rLp (T : Nat → Nat) (N c1 o1 c2 o2 : Nat) (one : Nat → RR Cd) : Nat → Cd → Nat → RR Cd
  | 0, C, a => .inr (C, sk T N a)
  | f + 1, C, a => if cAt T N (sk T N a) = c1 ∨ cAt T N (sk T N a) = c2 then (match one (sk T N a + 1) with
      | .inl kp => .inl kp
      | .inr q => rLp T N c1 o1 c2 o2 one f (C ++ q.1 ++ [(if cAt T N (sk T N a) = c1 then o1 else o2, 0)]) q.2) else .inr (C, sk T N a)
def rOps (T : Nat → Nat) (N c1 o1 c2 o2 : Nat) (one : Nat → RR Cd) (a : Nat) : RR Cd := match one a with
  | .inl kp => .inl kp
  | .inr q => rLp T N c1 o1 c2 o2 one (N + 1) q.1 q.2
theorem cAt_0 {T : Nat → Nat} {N a : Nat} (h : ¬ cAt T N a = 0) : a < N := by
  rcases Nat.lt_or_ge a N with q | q
  · exact q
  · exact absurd (cAt_out q) h
