/-! ===== refusals of the plain form ===== -/
def gWi (v lo hi : Int32) : Bool := decide (lo ≤ v) && decide (v ≤ hi)
theorem gWi_n {v : Int32} {hi : Int32} {N : Nat} (hN : hi = nI N - 1) (hb : N < 2 ^ 31) (h : gWi v 0 hi = true) : ∃ j, v = nI j ∧ j < N := by
  unfold gWi at h
  rw [Bool.and_eq_true, decide_eq_true_eq, decide_eq_true_eq] at h
  obtain ⟨j, hj, e⟩ := nI_of (x := v) (by rw [Int32.not_lt]; exact h.1)
  subst e
  refine ⟨j, rfl, ?_⟩
  have h2 := h.2
  subst hN
  rcases Nat.eq_zero_or_pos N with q | q
  · subst q
    exact absurd (Int32.le_trans h.1 h2) (by decide)
  · rw [show nI N - 1 = nI (N - 1) from pk_sub (b := 1) q, nI_leI hj (by omega)] at h2
    omega
theorem gWi_m {v : Int32} {hi : Int32} {N : Nat} (hN : hi = nI N) (hb : N < 2 ^ 31) (h : gWi v 0 hi = true) : ∃ j, v = nI j ∧ j ≤ N := by
  unfold gWi at h
  rw [Bool.and_eq_true, decide_eq_true_eq, decide_eq_true_eq] at h
  obtain ⟨j, hj, e⟩ := nI_of (x := v) (by rw [Int32.not_lt]; exact h.1)
  subst e
  refine ⟨j, rfl, ?_⟩
  have h2 := h.2
  subst hN
  exact (nI_leI hj hb).mp h2
set_option maxRecDepth 100000 in
theorem p_within (d : Nat) (v lo hi : Int32) (H : Hp) : gP mX12_within (d + 1) [gI v, gI lo, gI hi] H (gI (gb (gWi v lo hi))) := by
  refine gEnter 400 [] kX12_within rfl rfl ?_
  refine And.intro (fun c => ?_) (fun c => ?_)
  · have e : gWi v lo hi = false := by unfold gWi; rw [decide_eq_false (by rw [Int32.not_le]; exact c)] <;> rfl
    exact ⟨Or.inl rfl, by rw [e]; rfl, rfl⟩
  · have e1 : lo ≤ v := Int32.not_lt.mp c
    refine And.intro (fun c2 => ?_) (fun c2 => ?_)
    · have e : gWi v lo hi = false := by unfold gWi; rw [decide_eq_true e1, decide_eq_false (by rw [Int32.not_le]; exact c2)] <;> rfl
      exact ⟨Or.inl rfl, by rw [e]; rfl, rfl⟩
    · have e2 : v ≤ hi := Int32.not_lt.mp c2
      have e : gWi v lo hi = true := by unfold gWi; rw [decide_eq_true e1, decide_eq_true e2] <;> rfl
      exact ⟨Or.inr rfl, by rw [e]; rfl, rfl⟩
set_option maxRecDepth 100000 in
theorem p_isHour (d : Nat) (v : Int32) (H : Hp) : gP mX12_isHour (d + 2) [gI v] H (gI (gb (gWi v 0 23))) := by
  refine gEnter 400 [] kX12_isHour rfl rfl ?_
  refine gP_use (p_within d v 0 23 H) ?_
  refine ⟨?_, rfl, rfl⟩
  cases gWi v 0 23
  · exact Or.inl rfl
  · exact Or.inr rfl
/-- one more refusal of a kind -/
def xRef (V : VS) (k : Nat) : VS := (vA V, vL V, vR V, vS V, vI V, (fun j => if j = k then vQ V j + 1 else vQ V j), vT V, vF V)
theorem mR_ref {V : VS} {I : Nat → Nat → Nat → Int32} {L : Nat → Nat → Nat → Int64} (H : mR V I L) (c : Int32) (k : Nat) : mR (xRef V k) (u3 (u3 I 100 0 0 c) 101 0 k (I 101 0 k + 1)) L := by
  obtain ⟨h1, h2, h3, h4, h5, h6, h7, h8, h9, h10, h11, h12, h13, h14, kn, h15, h16⟩ := H
  have e : ∀ b, b ≠ 100 → b ≠ 101 → u3 (u3 I 100 0 0 c) 101 0 k (I 101 0 k + 1) b = I b := fun b g1 g2 => (u3_ne1 g2).trans (u3_ne1 g1)
  have f : ∀ j, j ≠ 0 → u3 (u3 I 100 0 0 c) 101 0 k (I 101 0 k + 1) 100 0 j = I 100 0 j := fun j g => by rw [u3_ne1 (by decide)]; exact u3_ne3 g
  refine ⟨fun j hj => by rw [e 110 (by decide) (by decide)]; exact h1 j hj, (f 12 (by decide)).trans h2, gRm_cg (e 115 (by decide) (by decide)) (e 116 (by decide) (by decide)) (e 119 (by decide) (by decide)) (e 120 (by decide) (by decide)) (f 13 (by decide)) h3, fun j hj => by rw [e 125 (by decide) (by decide)]; exact h4 j hj, (f 27 (by decide)).trans h5, fun k j hk hj => by rw [e 126 (by decide) (by decide)]; exact h6 k j hk hj, fun j hj => ?_, (f 2 (by decide)).trans h8, fun j hj => by rw [e 109 (by decide) (by decide)]; exact h9 j hj, (f 8 (by decide)).trans h10, (f 32 (by decide)).trans h11, (f 33 (by decide)).trans h12, (f 34 (by decide)).trans h13, (f 35 (by decide)).trans h14, kn, (f 28 (by decide)).trans h15, fun q => ⟨(h16 q).1, gKn_cg (e 136 (by decide) (by decide)) (e 142 (by decide) (by decide)) rfl rfl (h16 q).2⟩⟩
  show _ = if j = k then vQ V j + 1 else vQ V j
  by_cases q : j = k
  · subst q
    rw [if_pos rfl, ← h7 j hj]
    exact u3_eq
  · rw [if_neg q, ← h7 j hj]
    exact (u3_ne3 q).trans (congrFun (congrFun (u3_ne1 (by decide)) 0) j)
theorem mR_thr {V : VS} {I : Nat → Nat → Nat → Int32} {L : Nat → Nat → Nat → Int64} (H : mR V I L) (c : Int32) : mR V (u3 I 100 0 0 c) L := by
  refine mR_cg ⟨?_, ?_, ?_, ?_, ?_, ?_, ?_, ?_, ?_, ?_, ?_, rfl, rfl, fun k hk => u3_ne3 (by omega)⟩ H <;> exact u3_ne1 (by decide)
theorem mO_thr (I : Nat → Nat → Nat → Int32) (L : Nat → Nat → Nat → Int64) (c : Int32) : mOut I L (u3 I 100 0 0 c) L := fun b hb => ⟨u3_ne1 (by omega), rfl⟩
/-- what stands behind a test that may refuse -/
def mGt (V : VS) (I : Nat → Nat → Nat → Int32) (L : Nat → Nat → Nat → Int64) (y : Dy) (g : Bool) (c : Int32) (k : Nat) : List AV → Hp → Prop := fun v h' =>
  (g = true ∧ v = [gI 1] ∧ h' = gH I L y) ∨ (g = false ∧ v = [gI 0] ∧ ∃ I', h' = gH I' L y ∧ mOut I L I' L ∧ mR (xRef V k) I' L ∧ I' 100 0 0 = c)
set_option maxRecDepth 100000 in
theorem p_may (d : Nat) (V : VS) (g : Bool) (c : Int32) (hc : ¬ c = 0) (k : Nat) (hk : k < 4) (I : Nat → Nat → Nat → Int32) (L : Nat → Nat → Nat → Int64) (y : Dy) (hm : mR V I L) (h0 : I 100 0 0 = 0) :
    gTM mX12_may (d + 1) (0, 0) [gM0, gI (gb g), gI c, gI (nI k)] (gH I L y) (mGt V I L y g c k) (fun _ _ => False) := by
  refine gEnter 400 [] kX12_may rfl rfl ?_
  refine bB1 g rfl (fun e => ?_) (fun e => ?_)
  · refine And.intro (fun q => absurd h0 q) (fun _ => ?_)
    exact ⟨Or.inr rfl, Or.inl ⟨e, rfl, rfl⟩⟩
  · refine And.intro (fun q => absurd h0 q) (fun _ => ?_)
    refine Exists.intro (k) (And.intro rfl (And.intro (show _ < 4 by omega) ?_))
    refine Exists.intro (k) (And.intro rfl (And.intro (show _ < 4 by omega) ?_))
    refine And.intro (fun _ => ?_) (fun q => absurd q hc)
    exact ⟨Or.inl rfl, Or.inr ⟨e, rfl, _, rfl, fun b hb => ⟨(u3_ne1 (by omega)).trans (u3_ne1 (by omega)), rfl⟩, mR_ref hm c k, rfl⟩⟩
set_option maxRecDepth 100000 in
theorem p_isHere (d : Nat) (V : VS) (c : Int32) (hc : ¬ c = 0) (I : Nat → Nat → Nat → Int32) (L : Nat → Nat → Nat → Int64) (y : Dy) (hm : mR V I L) (h0 : I 100 0 0 = 0) :
    gTM mX12_isHere (d + 2) (0, 0) [gM0, gI c] (gH I L y) (mGt V I L y (vL V) c 3) (fun _ _ => False) := by
  refine gEnter 400 [] kX12_isHere rfl rfl ?_
  refine gTM_use (by rw [← hm.2.1] <;> rfl) (p_may d V (vL V) c hc 3 (by decide) I L y hm h0) (fun v h' q => ?_)
  rcases q with ⟨g, rfl, rfl⟩ | ⟨g, rfl, I', rfl, q⟩
  · exact ⟨Or.inr rfl, Or.inl ⟨g, rfl, rfl⟩⟩
  · exact ⟨Or.inl rfl, Or.inr ⟨g, rfl, I', rfl, q⟩⟩
set_option maxRecDepth 100000 in
theorem p_isPerson (d : Nat) (V : VS) (x c : Int32) (hc : ¬ c = 0) (I : Nat → Nat → Nat → Int32) (L : Nat → Nat → Nat → Int64) (y : Dy) (hm : mR V I L) (h0 : I 100 0 0 = 0) :
    gTM mX12_isPerson (d + 2) (0, 0) [gM0, gI x, gI c] (gH I L y) (mGt V I L y (gWi x 0 (nI (vA V 2) - 1)) c 0) (fun _ _ => False) := by
  refine gEnter 400 [] kX12_isPerson rfl rfl ?_
  refine Exists.intro (2) (And.intro rfl (And.intro (show _ < 708 by omega) ?_))
  refine gP_use (gP_eq (by rw [← hm.1 2 (by omega)] <;> rfl) (p_within d x 0 (nI (vA V 2) - 1) (gH I L y))) ?_
  refine gTM_use rfl (p_may d V _ c hc 0 (by decide) I L y hm h0) (fun v h' q => ?_)
  rcases q with ⟨g, rfl, rfl⟩ | ⟨g, rfl, I', rfl, q⟩
  · exact ⟨Or.inr rfl, Or.inl ⟨g, rfl, rfl⟩⟩
  · exact ⟨Or.inl rfl, Or.inr ⟨g, rfl, I', rfl, q⟩⟩
def gOne (A : Nat → Nat) (x : Int32) : Bool := decide (x = -1) || gWi x 0 (nI (A 2) - 1)
set_option maxRecDepth 100000 in
theorem p_isPersonOrNone (d : Nat) (V : VS) (x c : Int32) (hc : ¬ c = 0) (I : Nat → Nat → Nat → Int32) (L : Nat → Nat → Nat → Int64) (y : Dy) (hm : mR V I L) (h0 : I 100 0 0 = 0) :
    gTM mX12_isPersonOrNone (d + 3) (0, 0) [gM0, gI x, gI c] (gH I L y) (mGt V I L y (gOne (vA V) x) c 0) (fun _ _ => False) := by
  refine gEnter 400 [] kX12_isPersonOrNone rfl rfl ?_
  refine And.intro (fun e => ?_) (fun e => ?_)
  · exact ⟨Or.inr rfl, Or.inl ⟨by unfold gOne; rw [decide_eq_true (show x = -1 from e)]; rfl, rfl, rfl⟩⟩
  · have e1 : gOne (vA V) x = gWi x 0 (nI (vA V 2) - 1) := by unfold gOne; rw [decide_eq_false (show ¬ x = -1 from e)] <;> rfl
    refine gTM_use rfl (p_isPerson d V x c hc I L y hm h0) (fun v h' q => ?_)
    rcases q with ⟨g, rfl, rfl⟩ | ⟨g, rfl, I', rfl, q⟩
    · refine And.intro (fun q => absurd q (by decide)) (fun _ => ?_)
      exact ⟨Or.inr rfl, Or.inl ⟨e1.trans g, rfl, rfl⟩⟩
    · refine And.intro (fun _ => ?_) (fun q => absurd rfl q)
      exact ⟨Or.inl rfl, Or.inr ⟨e1.trans g, rfl, I', rfl, q⟩⟩
def gIsS (A : Nat → Nat) (p h n : Int32) : Bool := gWi p 0 (nI (A 0) - 1) && (gWi h 0 (nI (A 3)) && gWi n 0 (nI (A 4)))
set_option maxRecDepth 100000 in
theorem p_isState (d : Nat) (V : VS) (p h n : Int32) (I : Nat → Nat → Nat → Int32) (L : Nat → Nat → Nat → Int64) (y : Dy) (hm : mR V I L) : gP mX12_isState (d + 2) [gM0, gI p, gI h, gI n] (gH I L y) (gI (gb (gIsS (vA V) p h n))) := by
  refine gEnter 400 [] kX12_isState rfl rfl ?_
  refine Exists.intro (0) (And.intro rfl (And.intro (show _ < 708 by omega) ?_))
  refine gP_use (gP_eq (by rw [← hm.1 0 (by omega)] <;> rfl) (p_within d p 0 (nI (vA V 0) - 1) (gH I L y))) ?_
  unfold gIsS
  refine bB0 _ rfl (fun c => ?_) (fun c => ?_)
  · exact ⟨Or.inl rfl, by rw [c]; rfl, rfl⟩
  · refine Exists.intro (3) (And.intro rfl (And.intro (show _ < 708 by omega) ?_))
    refine gP_use (gP_eq (by rw [← hm.1 3 (by omega)] <;> rfl) (p_within d h 0 (nI (vA V 3)) (gH I L y))) ?_
    refine bB0 _ rfl (fun c2 => ?_) (fun c2 => ?_)
    · exact ⟨Or.inl rfl, by rw [c, c2]; rfl, rfl⟩
    · refine Exists.intro (4) (And.intro rfl (And.intro (show _ < 708 by omega) ?_))
      refine gP_use (gP_eq (by rw [← hm.1 4 (by omega)] <;> rfl) (p_within d n 0 (nI (vA V 4)) (gH I L y))) ?_
      refine bB0 _ rfl (fun c3 => ?_) (fun c3 => ?_)
      · exact ⟨Or.inl rfl, by rw [c, c2, c3]; rfl, rfl⟩
      · exact ⟨Or.inr rfl, by rw [c, c2, c3]; rfl, rfl⟩
/-- a public method of the plain form: code of refusal, answer, what it stands for then -/
def mC (m : GM) (D : Nat) (av : List AV) (V : VS) (o : Int32 × AV × VS) : Prop :=
  ∀ (d : Nat) (I : Nat → Nat → Nat → Int32) (L : Nat → Nat → Nat → Int64) (y : Dy), mR V I L → gTM m (d + D) (0, 0) (gM0 :: av) (gH I L y) (fun v h' => v = [o.2.1] ∧ ∃ I' L', h' = gH I' L' y ∧ mOut I L I' L' ∧ mR o.2.2 I' L' ∧ I' 100 0 0 = o.1) (fun _ _ => False)
/-- refused -/
theorem mGt_no {V : VS} {I I' : Nat → Nat → Nat → Int32} {L : Nat → Nat → Nat → Int64} {y : Dy} {c : Int32} {r : AV} {o : Int32 × AV × VS} (ho : o = (c, r, V)) (h1 : mOut (u3 I 100 0 0 0) L I' L) (h2 : mR V I' L) (h3 : I' 100 0 0 = c) :
    [r] = [o.2.1] ∧ ∃ I'' L', gH I' L y = gH I'' L' y ∧ mOut I L I'' L' ∧ mR o.2.2 I'' L' ∧ I'' 100 0 0 = o.1 := by
  subst ho
  exact ⟨rfl, I', L, rfl, (mO_thr I L 0).tr h1, h2, h3⟩
