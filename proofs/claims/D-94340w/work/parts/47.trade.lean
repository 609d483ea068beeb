/-! ===== hours given and traded ===== -/
def gLed (P : PP) (h k : Nat) : PP := ((fun j => if j = h then k else P.1 j), P.2)
theorem gLed_id (P : PP) (h : Nat) : gLed P h (P.1 h) = P := by
  obtain ⟨l, r⟩ := P
  unfold gLed
  refine Prod.ext (funext fun j => ?_) rfl
  show (if j = h then l h else l j) = l j
  by_cases q : j = h
  · rw [if_pos q, q]
  · rw [if_neg q]
theorem gLed_2 (P : PP) (h k k' : Nat) : gLed (gLed P h k') h k = gLed P h k := by
  unfold gLed
  refine Prod.ext (funext fun j => ?_) rfl
  show (if j = h then k else if j = h then k' else P.1 j) = if j = h then k else P.1 j
  by_cases q : j = h
  · rw [if_pos q, if_pos q]
  · rw [if_neg q, if_neg q, if_neg q]
theorem mU_led {V : VS} {S : Nat} {om : Option Nat} {P : PP} {I : Nat → Nat → Nat → Int32} {L : Nat → Nat → Nat → Int64} {h k : Nat} (hk : k < vA V 2) (H : mU V S om P I L) : mU V S om (gLed P h k) (u3 I 129 0 h (nI k)) L := by
  obtain ⟨u1, u2, P1, P2, P3, P4, P5⟩ := H
  have e : ∀ b, b ≠ 129 → u3 I 129 0 h (nI k) b = I b := fun b hb => u3_ne1 hb
  refine ⟨by rw [e 100 (by decide)]; exact u1, gKn_cg (e 136 (by decide)) (e 142 (by decide)) rfl rfl u2, fun j hj => ?_, by rw [e 130 (by decide)]; exact P2, by rw [e 100 (by decide)]; exact P3, by rw [e 100 (by decide)]; exact P4, by rw [e 125 (by decide)]; exact P5⟩
  show u3 I 129 0 h (nI k) 129 0 j = nI (if j = h then k else P.1 j) ∧ (if j = h then k else P.1 j) < vA V 2
  by_cases q : j = h
  · subst q; rw [if_pos rfl]; exact ⟨u3_eq, hk⟩
  · rw [if_neg q]; exact ⟨(u3_ne3 q).trans (P1 j hj).1, (P1 j hj).2⟩
theorem mR_led {V : VS} {I : Nat → Nat → Nat → Int32} {L : Nat → Nat → Nat → Int64} (H : mR V I L) (h : Nat) (v : Int32) : mR V (u3 I 129 0 h v) L := by
  refine mR_cg ⟨?_, ?_, ?_, ?_, ?_, ?_, ?_, ?_, ?_, ?_, ?_, rfl, rfl, fun k hk => by rw [u3_ne1 (by decide)]⟩ H <;> exact u3_ne1 (by decide)
/-- in a method that compares plays: the state for a play P, what all have as it is, no refusal -/
def mK (V : VS) (P : PP) (I0 : Nat → Nat → Nat → Int32) (L0 : Nat → Nat → Nat → Int64) (I : Nat → Nat → Nat → Int32) (L : Nat → Nat → Nat → Int64) : Prop :=
  mOut I0 L0 I L ∧ mR V I L ∧ mU V (vA V 4) none P I L ∧ (∀ k, k < vA V 2 → L 147 0 k = wS V (vA V 4) none (gP0 V) k) ∧ I 100 0 0 = 0
theorem mK.led {V : VS} {P : PP} {I0 I : Nat → Nat → Nat → Int32} {L0 L : Nat → Nat → Nat → Int64} (H : mK V P I0 L0 I L) (h : Nat) {k : Nat} (hk : k < vA V 2) : mK V (gLed P h k) I0 L0 (u3 I 129 0 h (nI k)) L :=
  ⟨mO_u H.1 (by decide), mR_led H.2.1 _ _, mU_led hk H.2.2.1, H.2.2.2.1, by rw [u3_ne1 (by decide)]; exact H.2.2.2.2⟩
theorem mK.fr {V : VS} {P : PP} {I0 I I' : Nat → Nat → Nat → Int32} {L0 L L' : Nat → Nat → Nat → Int64} (H : mK V P I0 L0 I L) (f : mFr I L I' L') : mK V P I0 L0 I' L' :=
  ⟨H.1.tr f.out, f.mR H.2.1, f.mU H.2.2.1, fun k hk => by rw [f.2 147 (by decide) (by decide)]; exact H.2.2.2.1 k hk, by rw [f.1 100 (by decide) (by decide)]; exact H.2.2.2.2⟩
set_option maxRecDepth 100000 in
theorem p_keeps (d : Nat) (V : VS) (hw : gWf V) (hL : vL V = true) (I : Nat → Nat → Nat → Int32) (L : Nat → Nat → Nat → Int64) (y : Dy) (hm : mR V I L) (h0 : I 100 0 0 = 0) :
    gTM mX12_keeps (d + 9) (0, 0) [gM0] (gH I L y) (fun v h' => v = [] ∧ ∃ I' L', h' = gH I' L' y ∧ mK V (gP0 V) I L I' L' ∧ mP V (vA V 4) none (gP0 V) I' L') (fun _ _ => False) := by
  have a2 := hw.1.2.2.1
  have a4 := hw.1.2.2.2.2.1
  have hA := hw.2.1 hL
  refine gEnter 400 [6] kX12_keeps rfl rfl ?_
  refine gTM_use rfl (p_asItIs d V hw hL I L y hm) (fun v h' q => ?_)
  obtain ⟨rfl, I1, L1, rfl, o1, m1, u1, hp, t1, k1⟩ := q
  refine gT_for (σ := Nat → Nat → Nat → Int64) (pc := 6) (lo := fun i _ => [some gM0, some (gI (nI i))]) (hp := fun _ x => gH I1 x y) (Inv := fun i x => (∀ b, b ≠ 147 → x b = L1 b) ∧ ∀ k, k < i → x 147 0 k = wS V (vA V 4) none (gP0 V) k) (vA V 2) ?_ ?_ 0 L1 (Nat.zero_le _) ⟨fun _ _ => rfl, fun k hk => absurd hk (Nat.not_lt_zero _)⟩ (by (repeat' apply And.intro) <;> first | rfl | trivial | exact congrArg Sum.inl (nI_1 _).symm | exact congrArg Sum.inl (nI_1 _).symm)
  · intro x ⟨x1, x2⟩
    refine gT_go 400 [6] kX12_keeps ?_
    refine Exists.intro (2) (And.intro rfl (And.intro (show _ < 708 by omega) ?_))
    refine bGe (vA V 2) (vA V 2) rfl (m1.1 2 (by omega)) (fun c => ?_) (fun c => absurd c (by omega))
    refine ⟨rfl, I1, x, rfl, ⟨fun b hb => ⟨(o1 b hb).1, (x1 b (by omega)).trans (o1 b hb).2⟩, ?_, ⟨u1.1, gKn_cg rfl rfl (x1 138 (by decide)) (x1 140 (by decide)) u1.2.1, u1.2.2⟩, x2, t1.trans h0⟩, mP_cg rfl rfl rfl (x1 139 (by decide)) (x1 140 (by decide)) (x1 141 (by decide)) hp⟩
    exact mR_cg ⟨rfl, rfl, rfl, rfl, rfl, rfl, rfl, rfl, rfl, rfl, rfl, x1 138 (by decide), x1 140 (by decide), fun _ _ => rfl⟩ m1
  · intro i x hi ⟨x1, x2⟩ hnext
    refine gT_go 400 [6] kX12_keeps ?_
    refine Exists.intro (2) (And.intro rfl (And.intro (show _ < 708 by omega) ?_))
    refine bGe i (vA V 2) rfl (m1.1 2 (by omega)) (fun c => absurd c (by omega)) (fun c => ?_)
    refine gP_use (p_now (d + 5) V hA (vA V 4) (by omega) none (gP0 V) u1.2.2.ok i hi I1 x y (mP_cg rfl rfl rfl (x1 139 (by decide)) (x1 140 (by decide)) (x1 141 (by decide)) hp)) ?_
    refine Exists.intro (i) (And.intro rfl (And.intro (show _ < 5 by omega) ?_))
    refine hnext _ _ ⟨fun b hb => (u3_ne1 hb).trans (x1 b hb), fun k hk => ?_⟩ (by (repeat' apply And.intro) <;> first | rfl | trivial | exact congrArg Sum.inl (nI_1 _).symm | exact congrArg Sum.inl (nI_1 _).symm)
    by_cases q : k = i
    · subst q; exact u3_eq
    · exact (u3_ne3 q).trans (x2 k (by omega))
set_option maxRecDepth 100000 in
theorem p_ledBy (d : Nat) (V : VS) (hw : gWf V) (P : PP) (h k : Nat) (hh : h < 24) (hk : k < vA V 2) (I0 I : Nat → Nat → Nat → Int32) (L0 L : Nat → Nat → Nat → Int64) (y : Dy) (H : mK V P I0 L0 I L) :
    gTM mX12_ledBy (d + 8) (0, 0) [gM0, gI (nI h), gI (nI k)] (gH I L y) (fun v h' => v = [] ∧ ∃ I' L', h' = gH I' L' y ∧ mK V (gLed P h k) I0 L0 I' L' ∧ mP V (vA V 4) none (gLed P h k) I' L') (fun _ _ => False) := by
  have a4 := hw.1.2.2.2.2.1
  have H' := H.led h hk
  refine gEnter 400 [] kX12_ledBy rfl rfl ?_
  refine Exists.intro (h) (And.intro rfl (And.intro (show _ < 24 by omega) ?_))
  refine gTM_use rfl (p_playsU d V hw (vA V 4) (by omega) none (gLed P h k) _ L y H'.2.1.1 H'.2.2.1) (fun v h' q => ?_)
  obtain ⟨rfl, I2, L2, rfl, f, hp⟩ := q
  exact ⟨rfl, I2, L2, rfl, H'.fr f, hp⟩
set_option maxRecDepth 100000 in
theorem p_isLed (d : Nat) (V : VS) (x : Int32) (I : Nat → Nat → Nat → Int32) (L : Nat → Nat → Nat → Int64) (y : Dy) (hm : mR V I L) : gP mX12_isLed (d + 2) [gM0, gI x] (gH I L y) (gI (gb (gWi x 0 (nI (vA V 3) - 1)))) := by
  refine gEnter 400 [] kX12_isLed rfl rfl ?_
  refine Exists.intro (3) (And.intro rfl (And.intro (show _ < 708 by omega) ?_))
  refine gP_use (gP_eq (by rw [← hm.1 3 (by omega)] <;> rfl) (p_within d x 0 (nI (vA V 3) - 1) (gH I L y))) ?_
  refine ⟨?_, rfl, rfl⟩
  cases gWi x 0 (nI (vA V 3) - 1)
  · exact Or.inl rfl
  · exact Or.inr rfl
/-- worth to k of a play, at the stores of the land -/
noncomputable abbrev wV (V : VS) (P : PP) (k : Nat) : Int64 := wS V (vA V 4) none P k
noncomputable def xHour (V : VS) (a b : Int32) : Int32 × AV × VS :=
  bif vL V then (bif gWi a 0 (nI (vA V 2) - 1) then (bif gWi b 0 (nI (vA V 3) - 1) then (0, gL (wV V (gLed (gP0 V) (gTo b) (gTo a)) (gTo a) - wV V (gP0 V) (gTo a)), V) else (2, gL 0, xRef V 2)) else (1, gL 0, xRef V 0)) else (3, gL 0, xRef V 3)
set_option maxRecDepth 100000 in
theorem c_hour (V : VS) (hw : gWf V) (a b : Int32) : mC mX12_hour 10 [gI a, gI b] V (xHour V a b) := by
  intro d I L y hm
  have hm0 := mR_thr hm 0
  have a2 := hw.1.2.2.1
  have a3 := hw.1.2.2.2.1
  have a4 := hw.1.2.2.2.2.1
  refine gEnter 400 [] kX12_hour rfl rfl ?_
  refine gTM_use rfl (p_isHere (d + 7) V 3 (by decide) _ L y hm0 u3_eq) (fun v h' q => ?_)
  rcases q with ⟨g1, rfl, rfl⟩ | ⟨g1, rfl, I', rfl, q1, q2, q3⟩
  rotate_left
  · refine And.intro (fun _ => ?_) (fun q => absurd rfl q)
    exact mGt_no (by unfold xHour; simp only [g1, cond_true, cond_false] <;> rfl) q1 q2 q3
  refine And.intro (fun q => absurd q (by decide)) (fun _ => ?_)
  refine gTM_use rfl (p_isPerson (d + 7) V a 1 (by decide) _ L y hm0 u3_eq) (fun v h' q => ?_)
  rcases q with ⟨g2, rfl, rfl⟩ | ⟨g2, rfl, I', rfl, q1, q2, q3⟩
  rotate_left
  · refine And.intro (fun _ => ?_) (fun q => absurd rfl q)
    exact mGt_no (by unfold xHour; simp only [g1,g2, cond_true, cond_false] <;> rfl) q1 q2 q3
  refine And.intro (fun q => absurd q (by decide)) (fun _ => ?_)
  refine gP_use (p_isLed (d + 7) V b _ L y hm0) ?_
  refine gTM_use rfl (p_may (d + 8) V _ 2 (by decide) 2 (by decide) _ L y hm0 u3_eq) (fun v h' q => ?_)
  rcases q with ⟨g3, rfl, rfl⟩ | ⟨g3, rfl, I', rfl, q1, q2, q3⟩
  rotate_left
  · refine And.intro (fun q => absurd rfl q) (fun _ => ?_)
    exact mGt_no (by unfold xHour; simp only [g1,g2,g3, cond_true, cond_false] <;> rfl) q1 q2 q3
  refine And.intro (fun _ => ?_) (fun q => absurd q (by decide))
  obtain ⟨k, rfl, hk⟩ := gWi_n rfl (by omega) g2
  obtain ⟨h, rfl, hh⟩ := gWi_n rfl (by omega) g3
  have ek : gTo (nI k) = k := gTo_n (by omega)
  have eh : gTo (nI h) = h := gTo_n (by omega)
  have hA := hw.2.1 g1
  refine gTM_use rfl (p_keeps d V hw g1 _ L y hm0 u3_eq) (fun v h' q => ?_)
  obtain ⟨rfl, I1, L1, rfl, K1, hp1⟩ := q
  refine gTM_use rfl (p_ledBy (d + 1) V hw (gP0 V) h k (by omega) hk _ I1 L L1 y K1) (fun v h' q => ?_)
  obtain ⟨rfl, I2, L2, rfl, K2, hp2⟩ := q
  refine gP_use (p_now (d + 6) V hA (vA V 4) (by omega) none _ K2.2.2.1.2.2.ok k hk I2 L2 y hp2) ?_
  refine Exists.intro (k) (And.intro rfl (And.intro (show _ < 5 by omega) ?_))
  refine mDone (o2 := (0, gL (wV V (gLed (gP0 V) h k) k - wV V (gP0 V) k), V)) (by unfold xHour; simp only [g1, g2, g3, cond_true]; rw [ek, eh]) ?_ K2.1 K2.2.1 K2.2.2.2.2
  exact congrArg (fun z => gL (wV V (gLed (gP0 V) h k) k - z)) (K2.2.2.2.1 k hk)
noncomputable def xPrice (V : VS) (a b : Int32) : Int32 × AV × VS :=
  bif vL V then (bif gWi b 0 (nI (vA V 2) - 1) then (bif gWi a 0 (nI (vA V 3) - 1) then (0, gL (wV V (gLed (gP0 V) (gTo a) (gTo b)) (gTo b) - wV V (gP0 V) (gTo b) - (wV V (gP0 V) ((gP0 V).1 (gTo a)) - wV V (gLed (gP0 V) (gTo a) (gTo b)) ((gP0 V).1 (gTo a)))), V) else (2, gL 0, xRef V 2)) else (1, gL 0, xRef V 0)) else (3, gL 0, xRef V 3)
set_option maxRecDepth 100000 in
theorem c_price (V : VS) (hw : gWf V) (a b : Int32) : mC mX12_price 10 [gI a, gI b] V (xPrice V a b) := by
  intro d I L y hm
  have hm0 := mR_thr hm 0
  have a2 := hw.1.2.2.1
  have a3 := hw.1.2.2.2.1
  have a4 := hw.1.2.2.2.2.1
  refine gEnter 400 [] kX12_price rfl rfl ?_
  refine gTM_use rfl (p_isHere (d + 7) V 3 (by decide) _ L y hm0 u3_eq) (fun v h' q => ?_)
  rcases q with ⟨g1, rfl, rfl⟩ | ⟨g1, rfl, I', rfl, q1, q2, q3⟩
  rotate_left
  · refine And.intro (fun _ => ?_) (fun q => absurd rfl q)
    exact mGt_no (by unfold xPrice; simp only [g1, cond_true, cond_false] <;> rfl) q1 q2 q3
  refine And.intro (fun q => absurd q (by decide)) (fun _ => ?_)
  refine gTM_use rfl (p_isPerson (d + 7) V b 1 (by decide) _ L y hm0 u3_eq) (fun v h' q => ?_)
  rcases q with ⟨g2, rfl, rfl⟩ | ⟨g2, rfl, I', rfl, q1, q2, q3⟩
  rotate_left
  · refine And.intro (fun _ => ?_) (fun q => absurd rfl q)
    exact mGt_no (by unfold xPrice; simp only [g1,g2, cond_true, cond_false] <;> rfl) q1 q2 q3
  refine And.intro (fun q => absurd q (by decide)) (fun _ => ?_)
  refine gP_use (p_isLed (d + 7) V a _ L y hm0) ?_
  refine gTM_use rfl (p_may (d + 8) V _ 2 (by decide) 2 (by decide) _ L y hm0 u3_eq) (fun v h' q => ?_)
  rcases q with ⟨g3, rfl, rfl⟩ | ⟨g3, rfl, I', rfl, q1, q2, q3⟩
  rotate_left
  · refine And.intro (fun q => absurd rfl q) (fun _ => ?_)
    exact mGt_no (by unfold xPrice; simp only [g1,g2,g3, cond_true, cond_false] <;> rfl) q1 q2 q3
  refine And.intro (fun _ => ?_) (fun q => absurd q (by decide))
  obtain ⟨k, rfl, hk⟩ := gWi_n rfl (by omega) g2
  obtain ⟨h, rfl, hh⟩ := gWi_n rfl (by omega) g3
  have ek : gTo (nI k) = k := gTo_n (by omega)
  have eh : gTo (nI h) = h := gTo_n (by omega)
  have hA := hw.2.1 g1
  refine gTM_use rfl (p_keeps d V hw g1 _ L y hm0 u3_eq) (fun v h' q => ?_)
  obtain ⟨rfl, I1, L1, rfl, K1, hp1⟩ := q
  obtain ⟨l1, l2⟩ := K1.2.2.1.2.2.1 h hh
  refine Exists.intro (h) (And.intro rfl (And.intro (show _ < 24 by omega) ?_))
  refine gTM_use rfl (p_ledBy (d + 1) V hw (gP0 V) h k (by omega) hk _ I1 L L1 y K1) (fun v h' q => ?_)
  obtain ⟨rfl, I2, L2, rfl, K2, hp2⟩ := q
  refine gP_use (p_now (d + 6) V hA (vA V 4) (by omega) none _ K2.2.2.1.2.2.ok k hk I2 L2 y hp2) ?_
  refine Exists.intro (k) (And.intro rfl (And.intro (show _ < 5 by omega) ?_))
  refine Exists.intro ((gP0 V).1 h) (And.intro (l1) (And.intro (show (gP0 V).1 h < 5 by omega) ?_))
  refine gP_use (gP_eq (by rw [← l1] <;> rfl) (p_now (d + 6) V hA (vA V 4) (by omega) none _ K2.2.2.1.2.2.ok _ l2 I2 L2 y hp2)) ?_
  refine mDone (o2 := (0, gL (wV V (gLed (gP0 V) h k) k - wV V (gP0 V) k - (wV V (gP0 V) ((gP0 V).1 h) - wV V (gLed (gP0 V) h k) ((gP0 V).1 h))), V)) (by unfold xPrice; simp only [g1, g2, g3, cond_true]; rw [ek, eh]) ?_ K2.1 K2.2.1 K2.2.2.2.2
  have b1 : L2 147 0 k = wV V (gP0 V) k := K2.2.2.2.1 k hk
  have b2 : L2 147 0 ((gP0 V).1 h) = wV V (gP0 V) ((gP0 V).1 h) := K2.2.2.2.1 _ l2
  show gL (wS V (vA V 4) none (gLed (gP0 V) h k) k - L2 147 0 k - (L2 147 0 ((gP0 V).1 h) - wS V (vA V 4) none (gLed (gP0 V) h k) ((gP0 V).1 h))) = _
  rw [b1, b2]
/-- the first of n -/
def gFst (c : Nat → Bool) : Nat → Option Nat
  | 0 => none
  | n + 1 => match gFst c n with
    | some j => some j
    | none => bif c n then some n else none
theorem gFst_none {c : Nat → Bool} : ∀ n, (∀ j, j < n → c j = false) → gFst c n = none := by
  intro n
  induction n with
  | zero => intro _; rfl
  | succ n ih => intro h; rw [gFst, ih (fun j hj => h j (Nat.lt_succ_of_lt hj)), h n (Nat.lt_succ_self n)] <;> rfl
theorem gFst_some {c : Nat → Bool} {i : Nat} (hi : c i = true) (hb : ∀ j, j < i → c j = false) : ∀ n, i < n → gFst c n = some i := by
  intro n
  induction n with
  | zero => intro h; exact absurd h (Nat.not_lt_zero _)
  | succ n ih =>
    intro h
    rcases Nat.lt_or_ge i n with q | q
    · rw [gFst, ih q]
    · have : n = i := by omega
      subst this
      rw [gFst, gFst_none n hb, hi] <;> rfl
def gF2 (N1 N2 : Nat) (c : Nat → Nat → Bool) (r : Nat → Nat → Nat) : Int32 := match gFst (fun a => (gFst (c a) N2).isSome) N1 with
  | none => -1
  | some a => nI (r a ((gFst (c a) N2).getD 0))
theorem gF2_none {N1 N2 : Nat} {c : Nat → Nat → Bool} {r : Nat → Nat → Nat} (h : ∀ a b, a < N1 → b < N2 → c a b = false) : gF2 N1 N2 c r = -1 := by
  unfold gF2
  rw [gFst_none N1 (fun a ha => by rw [gFst_none N2 (fun b hb => h a b ha hb)] <;> rfl)]
theorem gF2_some {N1 N2 : Nat} {c : Nat → Nat → Bool} {r : Nat → Nat → Nat} {a b : Nat} (ha : a < N1) (hb : b < N2) (h : c a b = true) (h1 : ∀ a' b', a' < a → b' < N2 → c a' b' = false) (h2 : ∀ b', b' < b → c a b' = false) : gF2 N1 N2 c r = nI (r a b) := by
  have e := gFst_some h h2 N2 hb
  unfold gF2
  rw [gFst_some (i := a) (by rw [e] <;> rfl) (fun a' ha' => by rw [gFst_none N2 (fun b' hb' => h1 a' b' ha' hb')] <;> rfl) N1 ha]
  show nI (r a ((gFst (c a) N2).getD 0)) = _
  rw [e]
  rfl
noncomputable def cGive (V : VS) (h k : Nat) : Bool :=
  decide (k ≠ (gP0 V).1 h) && (decide (wV V (gP0 V) k < wV V (gLed (gP0 V) h k) k) && decide (wV V (gP0 V) ((gP0 V).1 h) < wV V (gLed (gP0 V) h k) ((gP0 V).1 h)))
noncomputable def xGive (V : VS) : Int32 × AV × VS := bif vL V then (0, gI (gF2 (vA V 3) (vA V 2) (cGive V) (fun h k => 10 * h + k)), V) else (1, gI 0, xRef V 3)
set_option maxRecDepth 100000 in
theorem c_give (V : VS) (hw : gWf V) : mC mX12_give 10 [] V (xGive V) := by
  intro d I L y hm
  have hm0 := mR_thr hm 0
  have a2 := hw.1.2.2.1
  have a3 := hw.1.2.2.2.1
  have a4 := hw.1.2.2.2.2.1
  refine gEnter 400 [21] kX12_give rfl rfl ?_
  refine gTM_use rfl (p_isHere (d + 7) V 1 (by decide) _ L y hm0 u3_eq) (fun v h' q => ?_)
  rcases q with ⟨g1, rfl, rfl⟩ | ⟨g1, rfl, I', rfl, q1, q2, q3⟩
  rotate_left
  · refine And.intro (fun q => absurd rfl q) (fun _ => ?_)
    exact mGt_no (by unfold xGive; simp only [g1, cond_true, cond_false] <;> rfl) q1 q2 q3
  refine And.intro (fun _ => ?_) (fun q => absurd q (by decide))
  have hA := hw.2.1 g1
  refine gTM_use rfl (p_keeps d V hw g1 _ L y hm0 u3_eq) (fun v h' q => ?_)
  obtain ⟨rfl, I1, L1, rfl, K1, hp1⟩ := q
  refine gT_for (σ := (Nat → Nat → Nat → Int32) × (Nat → Nat → Nat → Int64)) (pc := 21) (lo := fun i _ => [some gM0, some (gI (nI i)), none, none]) (hp := fun _ x => gH x.1 x.2 y)
    (Inv := fun i x => mK V (gP0 V) (u3 I 100 0 0 0) L x.1 x.2 ∧ ∀ h k, h < i → k < vA V 2 → cGive V h k = false) (vA V 3) ?_ ?_ 0 (I1, L1) (Nat.zero_le _) ⟨K1, fun h k hh _ => absurd hh (Nat.not_lt_zero _)⟩ (by (repeat' apply And.intro) <;> first | rfl | trivial | exact congrArg Sum.inl (nI_1 _).symm | exact congrArg Sum.inl (nI_1 _).symm)
  · intro x ⟨K, x2⟩
    refine gT_go 400 [21] kX12_give ?_
    refine Exists.intro (3) (And.intro rfl (And.intro (show _ < 708 by omega) ?_))
    refine bGe (vA V 3) (vA V 3) rfl (K.2.1.1 3 (by omega)) (fun c => ?_) (fun c => absurd c (by omega))
    exact mDone (o2 := (0, gI (-1), V)) (by unfold xGive; rw [g1, gF2_none x2] <;> rfl) rfl K.1 K.2.1 K.2.2.2.2
  · intro h x hh ⟨K, x2⟩ hnexth
    obtain ⟨l1, l2⟩ := K.2.2.1.2.2.1 h hh
    refine gT_go 400 [21, 40] kX12_give ?_
    refine Exists.intro (3) (And.intro rfl (And.intro (show _ < 708 by omega) ?_))
    refine bGe h (vA V 3) rfl (K.2.1.1 3 (by omega)) (fun c => absurd c (by omega)) (fun c => ?_)
    refine Exists.intro (h) (And.intro rfl (And.intro (show _ < 24 by omega) ?_))
    refine gT_for (σ := (Nat → Nat → Nat → Int32) × (Nat → Nat → Nat → Int64) × Nat) (pc := 40) (lo := fun i _ => [some gM0, some (gI (nI h)), some (gI (nI ((gP0 V).1 h))), some (gI (nI i))]) (hp := fun _ x => gH x.1 x.2.1 y)
      (Inv := fun i x => mK V (gLed (gP0 V) h x.2.2) (u3 I 100 0 0 0) L x.1 x.2.1 ∧ ∀ k, k < i → cGive V h k = false) (vA V 2) ?_ ?_ 0 (x.1, x.2, (gP0 V).1 h) (Nat.zero_le _) ⟨by rw [gLed_id]; exact K, fun k hk => absurd hk (Nat.not_lt_zero _)⟩ (by rw [← l1]; exact (by (repeat' apply And.intro) <;> first | rfl | trivial | exact congrArg Sum.inl (nI_1 _).symm | exact congrArg Sum.inl (nI_1 _).symm))
    · intro x ⟨K, x3⟩
      refine gT_go 400 [21, 40] kX12_give ?_
      refine Exists.intro (2) (And.intro rfl (And.intro (show _ < 708 by omega) ?_))
      refine bGe (vA V 2) (vA V 2) rfl (K.2.1.1 2 (by omega)) (fun c => ?_) (fun c => absurd c (by omega))
      refine Exists.intro (h) (And.intro rfl (And.intro (show _ < 24 by omega) ?_))
      have K' := K.led h l2
      rw [gLed_2, gLed_id] at K'
      refine hnexth (_, x.2.1) _ ⟨K', fun h' k hh' hk => ?_⟩ (by (repeat' apply And.intro) <;> first | rfl | trivial | exact congrArg Sum.inl (nI_1 _).symm | exact congrArg Sum.inl (nI_1 _).symm)
      rcases Nat.lt_or_ge h' h with q | q
      · exact x2 h' k q hk
      · have : h' = h := by omega
        subst this; exact x3 k hk
    · intro k x hk ⟨K, x3⟩ hnextk
      have ext : ∀ (x' : (Nat → Nat → Nat → Int32) × (Nat → Nat → Nat → Int64) × Nat), mK V (gLed (gP0 V) h x'.2.2) (u3 I 100 0 0 0) L x'.1 x'.2.1 → cGive V h k = false → mK V (gLed (gP0 V) h x'.2.2) (u3 I 100 0 0 0) L x'.1 x'.2.1 ∧ ∀ j, j < k + 1 → cGive V h j = false := fun x' K' e => ⟨K', fun j hj => by
        rcases Nat.lt_or_ge j k with q | q
        · exact x3 j q
        · have : j = k := by omega
          subst this; exact e⟩
      refine gT_go 400 [40] kX12_give ?_
      refine Exists.intro (2) (And.intro rfl (And.intro (show _ < 708 by omega) ?_))
      refine bGe k (vA V 2) rfl (K.2.1.1 2 (by omega)) (fun c => absurd c (by omega)) (fun c => ?_)
      refine bNe k ((gP0 V).1 h) rfl rfl (fun c1 => ?_) (fun c1 => ?_)
      · refine gTM_use rfl (p_ledBy (d + 1) V hw _ h k (by omega) hk _ x.1 L x.2.1 y K) (fun v h' q => ?_)
        obtain ⟨rfl, I2, L2, rfl, K2, hp2⟩ := q
        rw [gLed_2] at K2 hp2
        have ok := K2.2.2.1.2.2.ok
        refine gP_use (p_now (d + 6) V hA (vA V 4) (by omega) none _ ok k hk I2 L2 y hp2) ?_
        refine Exists.intro (k) (And.intro rfl (And.intro (show _ < 5 by omega) ?_))
        have eb : L2 147 0 k = wV V (gP0 V) k := K2.2.2.2.1 k hk
        have eb2 : L2 147 0 ((gP0 V).1 h) = wV V (gP0 V) ((gP0 V).1 h) := K2.2.2.2.1 _ l2
        refine bcLe (fun c2 => ?_) (fun c2 => ?_)
        · have c2' : ¬ wV V (gP0 V) k < wV V (gLed (gP0 V) h k) k := by rw [← eb]; exact c2
          exact hnextk (I2, L2, k) _ (ext _ K2 (by unfold cGive; rw [decide_eq_false c2']; simp)) (by (repeat' apply And.intro) <;> first | rfl | trivial | exact congrArg Sum.inl (nI_1 _).symm | exact congrArg Sum.inl (nI_1 _).symm)
        · have c2' : wV V (gP0 V) k < wV V (gLed (gP0 V) h k) k := by rw [← eb]; exact c2
          refine gP_use (p_now (d + 6) V hA (vA V 4) (by omega) none _ ok _ l2 I2 L2 y hp2) ?_
          refine Exists.intro ((gP0 V).1 h) (And.intro rfl (And.intro (show _ < 5 by omega) ?_))
          refine bcLe (fun c3 => ?_) (fun c3 => ?_)
          · have c3' : ¬ wV V (gP0 V) ((gP0 V).1 h) < wV V (gLed (gP0 V) h k) ((gP0 V).1 h) := by rw [← eb2]; exact c3
            exact hnextk (I2, L2, k) _ (ext _ K2 (by unfold cGive; rw [decide_eq_false c3']; simp)) (by (repeat' apply And.intro) <;> first | rfl | trivial | exact congrArg Sum.inl (nI_1 _).symm | exact congrArg Sum.inl (nI_1 _).symm)
          · have c3' : wV V (gP0 V) ((gP0 V).1 h) < wV V (gLed (gP0 V) h k) ((gP0 V).1 h) := by rw [← eb2]; exact c3
            have ok2 : cGive V h k = true := by unfold cGive; rw [decide_eq_true c1, decide_eq_true c2', decide_eq_true c3'] <;> rfl
            refine mDone (o2 := (0, gI (nI (10 * h + k)), V)) (by unfold xGive; rw [g1, gF2_some hh hk ok2 x2 x3] <;> rfl) ?_ K2.1 K2.2.1 K2.2.2.2.2
            rw [← nI_add, ← pk_mul] <;> rfl
      · exact hnextk x _ (ext x K (by unfold cGive; rw [decide_eq_false (fun q => q c1)] <;> rfl)) (by (repeat' apply And.intro) <;> first | rfl | trivial | exact congrArg Sum.inl (nI_1 _).symm | exact congrArg Sum.inl (nI_1 _).symm)
