/-! ===== chances of coming somewhere ===== -/
def sNn (f : Nat → Int64) : Nat → Int64
  | 0 => 0
  | n + 1 => sNn f n + f n
/-- sums over places, and over stores up to N - 1 -/
def sP (f : Nat → Nat → Int64) (N : Nat) : Nat → Int64
  | 0 => 0
  | p + 1 => sP f N p + sNn (f p) N
def ePt (A : Nat → Nat) (h : Nat) : Nat := bif gSn A h then 16 else 1
/-- what a state that is v heavy gives to another one of the next hour -/
def mC1 (A : Nat → Nat) (S : Nat) (T : Nat → Nat → Nat → Nat) (v : Int64) (h p n t j : Nat) : Int64 :=
  if aEnd A h p n = 0 then (if t = p ∧ j = aNx A S n p then v * lN (eSn A (T h p n) h) else 0) + (if t = gGo A (T h p n) p ∧ j = aNx A S n (gGo A (T h p n) p) then v * lN (ePt A h - eSn A (T h p n) h) else 0) else 0
def mFl (A : Nat → Nat) (S : Nat) (T : Nat → Nat → Nat → Nat) : Nat → Nat → Nat → Int64
  | 0, p, n => if p = A 6 ∧ n = S then 1 else 0
  | h + 1, t, j => sP (fun p n => mC1 A S T (mFl A S T h p n) h p n t j) (S + 1) (A 0)
theorem eSn_pt {A : Nat → Nat} (hA : gLd A) {m h : Nat} (hm : m ≤ A 1) (hh : h < A 3) : eSn A m h ≤ ePt A h ∧ eSn A m h ≤ 16 := by
  have a1 := hA.2.1
  have a3 := hA.2.2.2.1
  have h16 : eSn A m h ≤ 16 := by
    unfold eSn
    by_cases q : m = 0
    · rw [if_pos q]; omega
    · rw [if_neg q]
      have w := hA.2.2.2.2.2.2.2.2.2.2.1 (24 * (m - 1) + h) (by omega)
      rw [show 132 + (24 * (m - 1) + h) = 132 + 24 * (m - 1) + h by omega] at w
      exact w
  refine ⟨?_, h16⟩
  unfold ePt
  cases hs : gSn A h with
  | true => exact h16
  | false =>
    have : eSn A m h = 0 := by
      unfold eSn
      by_cases q : m = 0
      · rw [if_pos q]
      · rw [if_neg q]
        unfold gSn at hs
        rw [decide_eq_true hh, Bool.true_and] at hs
        unfold gSnw at hs
        rw [List.any_eq_false] at hs
        have w := hs (m - 1) (List.mem_range.mpr (by omega))
        have w2 : ¬ 0 < A (132 + 24 * (m - 1) + h) := fun z => w (decide_eq_true z)
        show A (132 + 24 * (m - 1) + h) = 0
        omega
    rw [this]; exact Nat.zero_le _
/-- the table of masses up to the hour h, with Q behind it -/
def fT (A : Nat → Nat) (S : Nat) (T : Nat → Nat → Nat → Nat) (x : Nat → Nat → Nat → Int64) (h : Nat) (Q : Nat → Nat → Int64) : Prop :=
  ∀ h' t j, h' ≤ A 3 → t < A 0 → j ≤ S → x 152 0 (sN h' t j) = if h' ≤ h then mFl A S T h' t j else if h' = h + 1 then Q t j else 0
theorem fT_cg {A : Nat → Nat} {S : Nat} {T : Nat → Nat → Nat → Nat} {x : Nat → Nat → Nat → Int64} {h : Nat} {Q Q' : Nat → Nat → Int64} (e : ∀ t j, Q t j = Q' t j) (H : fT A S T x h Q) : fT A S T x h Q' := by
  have : Q = Q' := funext (fun t => funext (fun j => e t j))
  rw [← this]; exact H
theorem fT_add {A : Nat → Nat} (hA : gLd A) {S : Nat} (hS : S < 13) {T : Nat → Nat → Nat → Nat} {x : Nat → Nat → Nat → Int64} {h : Nat} {Q : Nat → Nat → Int64} {t0 j0 : Nat} (hh : h + 1 ≤ A 3) (ht : t0 < A 0) (hj : j0 ≤ S) (w : Int64) (H : fT A S T x h Q) :
    fT A S T (u3 x 152 0 (sN (h + 1) t0 j0) (x 152 0 (sN (h + 1) t0 j0) + w)) h (fun t j => Q t j + if t = t0 ∧ j = j0 then w else 0) := by
  have a0 := hA.1
  intro h' t j a b c
  by_cases e : sN h' t j = sN (h + 1) t0 j0
  · obtain ⟨r1, r2, r3⟩ := sN_inj (h := h') (h' := h + 1) (by omega) (by omega) (by omega) (by omega) e
    subst r1 r2 r3
    refine u3_eq.trans ?_
    rw [H (h + 1) t j a b c, if_neg (by omega), if_pos rfl, if_neg (by omega), if_pos rfl]
    show Q t j + w = Q t j + if t = t ∧ j = j then w else 0
    rw [if_pos ⟨rfl, rfl⟩]
  · refine (u3_ne3 e).trans ((H h' t j a b c).trans ?_)
    by_cases q : h' ≤ h
    · rw [if_pos q, if_pos q]
    · rw [if_neg q, if_neg q]
      by_cases q2 : h' = h + 1
      · rw [if_pos q2, if_pos q2]
        show Q t j = Q t j + if t = t0 ∧ j = j0 then w else 0
        rw [if_neg (fun w => e (by rw [q2, w.1, w.2]))]
        exact (Int64.add_zero _).symm
      · rw [if_neg q2, if_neg q2]
theorem fT_next {A : Nat → Nat} {S : Nat} {T : Nat → Nat → Nat → Nat} {x : Nat → Nat → Nat → Int64} {h : Nat} (H : fT A S T x h (mFl A S T (h + 1))) : fT A S T x (h + 1) (fun _ _ => 0) := by
  intro h' t j a b c
  rw [H h' t j a b c]
  by_cases q : h' ≤ h
  · rw [if_pos q, if_pos (by omega)]
  · rw [if_neg q]
    by_cases q2 : h' = h + 1
    · rw [if_pos q2, if_pos (by omega), q2]
    · rw [if_neg q2, if_neg (show ¬ h' ≤ h + 1 by omega)]
      show (0 : Int64) = if h' = h + 1 + 1 then 0 else 0
      rw [ite_self]
/-- the next hour's masses, of the states before (p, n) -/
def fQ (A : Nat → Nat) (S : Nat) (T : Nat → Nat → Nat → Nat) (h p n t j : Nat) : Int64 :=
  sP (fun p n => mC1 A S T (mFl A S T h p n) h p n t j) (S + 1) p + sNn (fun n => mC1 A S T (mFl A S T h p n) h p n t j) n
theorem fQ_st (A : Nat → Nat) (S : Nat) (T : Nat → Nat → Nat → Nat) (h p n t j : Nat) : fQ A S T h p n t j + mC1 A S T (mFl A S T h p n) h p n t j = fQ A S T h p (n + 1) t j := by
  unfold fQ
  rw [Int64.add_assoc]
  rfl
theorem fQ_row (A : Nat → Nat) (S : Nat) (T : Nat → Nat → Nat → Nat) (h p t j : Nat) : fQ A S T h p (S + 1) t j = fQ A S T h (p + 1) 0 t j := by
  unfold fQ
  exact (Int64.add_zero _).symm
theorem fQ_beg (A : Nat → Nat) (S : Nat) (T : Nat → Nat → Nat → Nat) (h t j : Nat) : 0 = fQ A S T h 0 0 t j := rfl
theorem fQ_end (A : Nat → Nat) (S : Nat) (T : Nat → Nat → Nat → Nat) (h t j : Nat) : fQ A S T h (A 0) 0 t j = mFl A S T (h + 1) t j := by
  unfold fQ
  exact Int64.add_zero _
theorem mC1_0 {A : Nat → Nat} {S : Nat} {T : Nat → Nat → Nat → Nat} {v : Int64} {h p n t j : Nat} (e : v = 0 ∨ ¬ aEnd A h p n = 0) : mC1 A S T v h p n t j = 0 := by
  unfold mC1
  by_cases q : aEnd A h p n = 0
  · rw [if_pos q]
    rcases e with e | e
    · subst e
      rw [Int64.zero_mul, Int64.zero_mul, ite_self, ite_self]
      rfl
    · exact absurd q e
  · rw [if_neg q]
set_option maxRecDepth 100000 in
theorem p_flows (d : Nat) (V : VS) (hA : gLg (vA V)) (S : Nat) (hS : S < 13) (P : PP) (I : Nat → Nat → Nat → Int32) (L : Nat → Nat → Nat → Int64) (y : Dy) (hU : mU V S none P I L) (hP : mP V S none P I L) :
    gTM mX12_flows (d + 4) (0, 0) [gM0] (gH I L y) (fun v h' => v = [] ∧ ∃ L', h' = gH I L' y ∧ (∀ b, b ≠ 152 → L' b = L b) ∧ ∀ h t j, h ≤ vA V 3 → t < vA V 0 → j ≤ S → L' 152 0 (sN h t j) = mFl (vA V) S (wM (vA V) S (gMw (vA V) (vR V) none) P) h t j) (fun _ _ => False) := by
  have a0 := hA.1.1
  have a1 := hA.1.2.1
  have a2 := hA.1.2.2.1
  have a3 := hA.1.2.2.2.1
  have h6 := hA.2.2.2.2.2.1
  have hl := hP.1
  have ok := hU.2.2.ok
  have hs0 := sN_lt (h := 0) (p := vA V 6) (n := S) (by omega) (by omega) (by omega)
  have hT := fun (h p n : Nat) (q1 : h ≤ vA V 3) (q2 : p < vA V 0) (q3 : n ≤ S) (q4 : aEnd (vA V) h p n = 0) => mP_m hA ok hP q1 q2 q3 q4
  generalize wM (vA V) S (gMw (vA V) (vR V) none) P = T at hT ⊢
  refine gEnter 400 [2] kX12_flows rfl rfl ?_
  refine gT_for (σ := Nat → Nat → Nat → Int64) (pc := 2) (lo := fun i _ => [some gM0, some (gI (nI i)), none, none, none, none, none, none, none]) (hp := fun _ z => gH I z y) (Inv := fun i z => (∀ b, b ≠ 152 → z b = L b) ∧ ∀ j, j < i → z 152 0 j = 0) 3900 ?_ ?_ 0 L (Nat.zero_le _) ⟨fun _ _ => rfl, fun j hj => absurd hj (Nat.not_lt_zero _)⟩ (by (repeat' apply And.intro) <;> first | rfl | trivial | exact congrArg Sum.inl (nI_1 _).symm | exact congrArg Sum.inl (nI_1 _).symm)
  rotate_left
  · intro i z hi ⟨z1, z2⟩ hnext
    refine gT_go 400 [2] kX12_flows ?_
    refine bGe i 3900 rfl rfl (fun q => absurd q (by omega)) (fun _ => ?_)
    refine Exists.intro (i) (And.intro rfl (And.intro (show _ < 3900 by omega) ?_))
    refine hnext (u3 z 152 0 i 0) _ ⟨fun b hb => (u3_ne1 hb).trans (z1 b hb), fun j hj => ?_⟩ (by (repeat' apply And.intro) <;> first | rfl | trivial | exact congrArg Sum.inl (nI_1 _).symm | exact congrArg Sum.inl (nI_1 _).symm)
    by_cases q : j = i
    · subst q; exact u3_eq
    · exact (u3_ne3 q).trans (z2 j (by omega))
  intro z ⟨z1, z2⟩
  refine gT_go 400 [34] kX12_flows ?_
  refine bGe 3900 3900 rfl rfl (fun _ => ?_) (fun q => absurd q (by omega))
  refine gP_use (p_start (d + 1) (vA V) S I hl hU.1 z y) ?_
  refine Exists.intro (sN 0 (vA V 6) S) (And.intro rfl (And.intro (show _ < 3900 by omega) ?_))
  refine gT_for (σ := Nat → Nat → Nat → Int64) (pc := 34) (lo := fun i _ => [some gM0, some (gI (nI i)), none, none, none, none, none, none, none]) (hp := fun _ z => gH I z y)
    (Inv := fun i z => (∀ b, b ≠ 152 → z b = L b) ∧ fT (vA V) S T z i (fun _ _ => 0)) (vA V 3) ?_ ?_ 0 (u3 z 152 0 (sN 0 (vA V 6) S) 1) (Nat.zero_le _) ⟨fun b hb => (u3_ne1 hb).trans (z1 b hb), ?_⟩ (by (repeat' apply And.intro) <;> first | rfl | trivial | exact congrArg Sum.inl (nI_1 _).symm | exact congrArg Sum.inl (nI_1 _).symm)
  · intro z ⟨z1, z2⟩
    refine gT_go 400 [34] kX12_flows ?_
    refine Exists.intro (3) (And.intro rfl (And.intro (show _ < 708 by omega) ?_))
    refine bGe (vA V 3) (vA V 3) rfl (hl 3 (by omega)) (fun _ => ?_) (fun q => absurd q (by omega))
    exact ⟨rfl, z, rfl, z1, fun h t j r1 r2 r3 => (z2 h t j r1 r2 r3).trans (if_pos r1)⟩
  · intro h z hh ⟨z1, z2⟩ hnexth
    refine gT_go 400 [34, 46] kX12_flows ?_
    refine Exists.intro (3) (And.intro rfl (And.intro (show _ < 708 by omega) ?_))
    refine bGe h (vA V 3) rfl (hl 3 (by omega)) (fun q => absurd q (by omega)) (fun _ => ?_)
    refine gT_for (σ := Nat → Nat → Nat → Int64) (pc := 46) (lo := fun p _ => [some gM0, some (gI (nI h)), some (gI (nI p)), none, none, none, none, none, none]) (hp := fun _ z => gH I z y)
      (Inv := fun p z => (∀ b, b ≠ 152 → z b = L b) ∧ fT (vA V) S T z h (fQ (vA V) S T h p 0)) (vA V 0) ?_ ?_ 0 z (Nat.zero_le _) ⟨z1, fT_cg (fQ_beg _ _ _ _) z2⟩ (by (repeat' apply And.intro) <;> first | rfl | trivial | exact congrArg Sum.inl (nI_1 _).symm | exact congrArg Sum.inl (nI_1 _).symm)
    · intro z ⟨z1, z2⟩
      refine gT_go 400 [34, 46] kX12_flows ?_
      refine Exists.intro (0) (And.intro rfl (And.intro (show _ < 708 by omega) ?_))
      refine bGe (vA V 0) (vA V 0) rfl (hl 0 (by omega)) (fun _ => ?_) (fun q => absurd q (by omega))
      exact hnexth z _ ⟨z1, fT_next (fT_cg (fQ_end _ _ _ _) z2)⟩ (by (repeat' apply And.intro) <;> first | rfl | trivial | exact congrArg Sum.inl (nI_1 _).symm | exact congrArg Sum.inl (nI_1 _).symm)
    · intro p z hp ⟨z1, z2⟩ hnextp
      refine gT_go 400 [46, 58] kX12_flows ?_
      refine Exists.intro (0) (And.intro rfl (And.intro (show _ < 708 by omega) ?_))
      refine bGe p (vA V 0) rfl (hl 0 (by omega)) (fun q => absurd q (by omega)) (fun _ => ?_)
      refine gT_for (σ := Nat → Nat → Nat → Int64) (pc := 58) (lo := fun n _ => [some gM0, some (gI (nI h)), some (gI (nI p)), some (gI (nI n)), none, none, none, none, none]) (hp := fun _ z => gH I z y)
        (Inv := fun n z => (∀ b, b ≠ 152 → z b = L b) ∧ fT (vA V) S T z h (fQ (vA V) S T h p n)) (S + 1) ?_ ?_ 0 z (Nat.zero_le _) ⟨z1, z2⟩ (by (repeat' apply And.intro) <;> first | rfl | trivial | exact congrArg Sum.inl (nI_1 _).symm | exact congrArg Sum.inl (nI_1 _).symm)
      · intro z ⟨z1, z2⟩
        refine gT_go 400 [46, 58] kX12_flows ?_
        refine bGt (S + 1) S rfl hU.1 (fun _ => ?_) (fun q => absurd q (by omega))
        exact hnextp z _ ⟨z1, fT_cg (fQ_row _ _ _ _ _) z2⟩ (by (repeat' apply And.intro) <;> first | rfl | trivial | exact congrArg Sum.inl (nI_1 _).symm | exact congrArg Sum.inl (nI_1 _).symm)
      · intro n z hn ⟨z1, z2⟩ hnextn
        have hs := sN_lt (h := h) (p := p) (n := n) (by omega) (by omega) (by omega)
        have ev : z 152 0 (sN h p n) = mFl (vA V) S T h p n := (z2 h p n (by omega) hp (by omega)).trans (if_pos (Nat.le_refl _))
        have skip : (mFl (vA V) S T h p n = 0 ∨ ¬ aEnd (vA V) h p n = 0) → fT (vA V) S T z h (fQ (vA V) S T h p (n + 1)) := fun e => fT_cg (fun t j => by rw [← fQ_st, mC1_0 e]; exact (Int64.add_zero _).symm) z2
        refine gT_go 400 [58, 139, 156] kX12_flows ?_
        refine bGt n S rfl hU.1 (fun q => absurd q (by omega)) (fun _ => ?_)
        refine gP_use (p_state (d + 2) h p n _) ?_
        refine Exists.intro (sN h p n) (And.intro rfl (And.intro (show _ < 3900 by omega) ?_))
        rw [show hL (gH I z y) 152 0 (sN h p n) = mFl (vA V) S T h p n from ev]
        refine And.intro (fun q => ?_) (fun q => ?_)
        · exact hnextn z _ ⟨z1, skip (Or.inl ((gcmp_eq _ _).mp q))⟩ (by (repeat' apply And.intro) <;> first | rfl | trivial | exact congrArg Sum.inl (nI_1 _).symm | exact congrArg Sum.inl (nI_1 _).symm)
        · refine gP_use (p_ended (d + 2) h p n (by omega) (by omega) (by omega) (vA V) I hl hA.1.lt z y) ?_
          refine bEq (aEnd (vA V) h p n) 0 rfl rfl (fun c0 => ?_) (fun c0 => ?_) (by have := aEnd_lt (vA V) h p n; omega) (by decide)
          · have hn0 := (aEnd_0 c0).1
            obtain ⟨T1, T2⟩ := hT h p n (by omega) hp (by omega) c0
            obtain ⟨e1, e2⟩ := eSn_pt hA.1 T2 hh
            have hsn : I 142 0 h = gb (gSn (vA V) h) := hU.2.1.2.1 h (by omega)
            have beh := fun (z : Nat → Nat → Nat → Int64) (t : Nat) (ht : t < vA V 0) => p_behind (d + 1) h p n t (by omega) hn0 (vA V) I hl hA.1.lt S hU.1 z y
            have hgl := gGo_lt hA hp T2
            have hx1 := aNx_le (A := vA V) (t := p) (show n ≤ S by omega)
            have hx2 := aNx_le (A := vA V) (t := gGo (vA V) (T h p n) p) (show n ≤ S by omega)
            have hs1 := sN_lt (h := h + 1) (p := p) (n := aNx (vA V) S n p) (by omega) (by omega) (by omega)
            have hs2 := sN_lt (h := h + 1) (p := gGo (vA V) (T h p n) p) (n := aNx (vA V) S n (gGo (vA V) (T h p n) p)) (by omega) (by omega) (by omega)
            have step : ∀ t j, fQ (vA V) S T h p n t j + (if t = p ∧ j = aNx (vA V) S n p then mFl (vA V) S T h p n * lN (eSn (vA V) (T h p n) h) else 0) + (if t = gGo (vA V) (T h p n) p ∧ j = aNx (vA V) S n (gGo (vA V) (T h p n) p) then mFl (vA V) S T h p n * lN (ePt (vA V) h - eSn (vA V) (T h p n) h) else 0) = fQ (vA V) S T h p (n + 1) t j := by
              intro t j
              rw [← fQ_st, mC1, if_pos c0, Int64.add_assoc]
            have at156 : ∀ (sn : Nat) (lo' : Lo), sn = eSn (vA V) (T h p n) h → glle [some gM0, some (gI (nI h)), some (gI (nI p)), some (gI (nI n)), some (gL (mFl (vA V) S T h p n)), none, some (gI (nI (T h p n))), some (gI (nI sn)), none] lo' →
                gT mX12_flows (d + 4) (0, 0) (fun v h' => v = [] ∧ ∃ L', h' = gH I L' y ∧ (∀ b, b ≠ 152 → L' b = L b) ∧ ∀ h t j, h ≤ vA V 3 → t < vA V 0 → j ≤ S → L' 152 0 (sN h t j) = mFl (vA V) S T h t j) (fun _ _ => False) 156 lo' [gI (nI (ePt (vA V) h))] (gH I z y) (0, 0) := by
              intro sn lo' hsn' hl'
              subst hsn'
              refine gT_lo _ hl' ?_
              refine gT_go 400 [58] kX12_flows ?_
              refine bNe (T h p n) 0 rfl rfl (fun c1 => ?_) (fun c1 => ?_)
              · have eg : gGo (vA V) (T h p n) p = aOth (vA V) (T h p n - 1) p := by unfold gGo; rw [if_neg c1]
                refine gP_use (beh z p hp) ?_
                refine Exists.intro (sN (h + 1) p (aNx (vA V) S n p)) (And.intro rfl (And.intro (show _ < 3900 by omega) ?_))
                refine Exists.intro (sN (h + 1) p (aNx (vA V) S n p)) (And.intro rfl (And.intro (show _ < 3900 by omega) ?_))
                rw [nI_l (show eSn (vA V) (T h p n) h < 2 ^ 31 by omega)]
                have y1 := fT_add hA.1 hS (by omega) hp hx1 (mFl (vA V) S T h p n * lN (eSn (vA V) (T h p n) h)) z2
                refine gP_use (gP_eq (by rw [← pk_sub (b := 1) (show 1 ≤ T h p n by omega)] <;> rfl) (p_otherEnd (d + 2) (T h p n - 1) p (by omega) (by omega) (vA V) I hl hA.1.lt _ y)) ?_
                rw [← eg]
                refine gP_use (beh _ (gGo (vA V) (T h p n) p) hgl) ?_
                refine Exists.intro (sN (h + 1) (gGo (vA V) (T h p n) p) (aNx (vA V) S n (gGo (vA V) (T h p n) p))) (And.intro rfl (And.intro (show _ < 3900 by omega) ?_))
                refine Exists.intro (sN (h + 1) (gGo (vA V) (T h p n) p) (aNx (vA V) S n (gGo (vA V) (T h p n) p))) (And.intro rfl (And.intro (show _ < 3900 by omega) ?_))
                rw [pk_sub e1, nI_l (show ePt (vA V) h - eSn (vA V) (T h p n) h < 2 ^ 31 by have : ePt (vA V) h ≤ 16 := (by unfold ePt; cases gSn (vA V) h <;> decide); omega)]
                have y2 := fT_add hA.1 hS (by omega) hgl hx2 (mFl (vA V) S T h p n * lN (ePt (vA V) h - eSn (vA V) (T h p n) h)) y1
                exact hnextn _ _ ⟨fun b hb => (u3_ne1 hb).trans ((u3_ne1 hb).trans (z1 b hb)), fT_cg step y2⟩ (by (repeat' apply And.intro) <;> first | rfl | trivial | exact congrArg Sum.inl (nI_1 _).symm | exact congrArg Sum.inl (nI_1 _).symm)
              · have eg : gGo (vA V) (T h p n) p = p := by unfold gGo; rw [if_pos c1]
                have es : eSn (vA V) (T h p n) h = 0 := by unfold eSn; rw [if_pos c1]
                refine gP_use (beh z p hp) ?_
                refine Exists.intro (sN (h + 1) p (aNx (vA V) S n p)) (And.intro rfl (And.intro (show _ < 3900 by omega) ?_))
                refine Exists.intro (sN (h + 1) p (aNx (vA V) S n p)) (And.intro rfl (And.intro (show _ < 3900 by omega) ?_))
                rw [nI_l (show ePt (vA V) h < 2 ^ 31 by have : ePt (vA V) h ≤ 16 := (by unfold ePt; cases gSn (vA V) h <;> decide); omega)]
                have y1 := fT_add hA.1 hS (by omega) hp hx1 (mFl (vA V) S T h p n * lN (ePt (vA V) h)) z2
                refine hnextn _ _ ⟨fun b hb => (u3_ne1 hb).trans (z1 b hb), fT_cg (fun t j => ?_) y1⟩ (by (repeat' apply And.intro) <;> first | rfl | trivial | exact congrArg Sum.inl (nI_1 _).symm | exact congrArg Sum.inl (nI_1 _).symm)
                rw [← step, es, eg, Nat.sub_zero, show lN 0 = 0 from rfl, Int64.mul_zero, ite_self, Int64.add_zero]
            have at139 : ∀ (sn : Nat) (lo' : Lo), sn = eSn (vA V) (T h p n) h → glle [some gM0, some (gI (nI h)), some (gI (nI p)), some (gI (nI n)), some (gL (mFl (vA V) S T h p n)), none, some (gI (nI (T h p n))), none, none] lo' →
                gT mX12_flows (d + 4) (0, 0) (fun v h' => v = [] ∧ ∃ L', h' = gH I L' y ∧ (∀ b, b ≠ 152 → L' b = L b) ∧ ∀ h t j, h ≤ vA V 3 → t < vA V 0 → j ≤ S → L' 152 0 (sN h t j) = mFl (vA V) S T h t j) (fun _ _ => False) 139 lo' [gI (nI sn)] (gH I z y) (0, 0) := by
              intro sn lo' hsn' hl'
              refine gT_lo _ hl' ?_
              refine gT_go 400 [156] kX12_flows ?_
              refine Exists.intro (h) (And.intro rfl (And.intro (show _ < 25 by omega) ?_))
              have e16 : ∀ b, gSn (vA V) h = b → nI (ePt (vA V) h) = (bif b then 16 else 1) := fun b hb => by unfold ePt; rw [hb]; cases b <;> rfl
              refine bB0 _ hsn (fun c => ?_) (fun c => ?_)
              · have := at156 sn [some gM0, some (gI (nI h)), some (gI (nI p)), some (gI (nI n)), some (gL (mFl (vA V) S T h p n)), none, some (gI (nI (T h p n))), some (gI (nI sn)), none] hsn' (by (repeat' apply And.intro) <;> first | rfl | trivial | exact congrArg Sum.inl (nI_1 _).symm | exact congrArg Sum.inl (nI_1 _).symm)
                rw [e16 _ c] at this
                exact this
              · have := at156 sn [some gM0, some (gI (nI h)), some (gI (nI p)), some (gI (nI n)), some (gL (mFl (vA V) S T h p n)), none, some (gI (nI (T h p n))), some (gI (nI sn)), none] hsn' (by (repeat' apply And.intro) <;> first | rfl | trivial | exact congrArg Sum.inl (nI_1 _).symm | exact congrArg Sum.inl (nI_1 _).symm)
                rw [e16 _ c] at this
                exact this
            refine gP_use (p_state (d + 2) h p n _) ?_
            refine Exists.intro (sN h p n) (And.intro rfl (And.intro (show _ < 3900 by omega) ?_))
            rw [show hI (gH I z y) 137 0 (sN h p n) = nI (T h p n) from T1]
            refine bNe (T h p n) 0 rfl rfl (fun c1 => ?_) (fun c1 => ?_)
            · refine Exists.intro (132 + 24 * (T h p n - 1) + h) (And.intro (by rw [← nI_add (132 + 24 * (T h p n - 1)) h, ← nI_add 132 (24 * (T h p n - 1)), ← pk_mul 24 (T h p n - 1), ← pk_sub (b := 1) (show 1 ≤ T h p n by omega)] <;> rfl) (And.intro (show 132 + 24 * (T h p n - 1) + h < 708 by omega) ?_))
              have es : eSn (vA V) (T h p n) h = gSnA (vA V) (T h p n - 1) h := by unfold eSn; rw [if_neg c1]
              have := at139 (eSn (vA V) (T h p n) h) [some gM0, some (gI (nI h)), some (gI (nI p)), some (gI (nI n)), some (gL (mFl (vA V) S T h p n)), none, some (gI (nI (T h p n))), none, none] rfl (by (repeat' apply And.intro) <;> first | rfl | trivial | exact congrArg Sum.inl (nI_1 _).symm | exact congrArg Sum.inl (nI_1 _).symm)
              rw [es, show nI (gSnA (vA V) (T h p n - 1) h) = I 110 0 (132 + 24 * (T h p n - 1) + h) from (hl _ (by omega)).symm] at this
              exact this
            · exact at139 0 _ (by unfold eSn; rw [if_pos c1]) (by (repeat' apply And.intro) <;> first | rfl | trivial | exact congrArg Sum.inl (nI_1 _).symm | exact congrArg Sum.inl (nI_1 _).symm)
          · exact hnextn z _ ⟨z1, skip (Or.inr c0)⟩ (by (repeat' apply And.intro) <;> first | rfl | trivial | exact congrArg Sum.inl (nI_1 _).symm | exact congrArg Sum.inl (nI_1 _).symm)
  · intro h' t j r1 r2 r3
    by_cases e : sN h' t j = sN 0 (vA V 6) S
    · obtain ⟨w1, w2, w3⟩ := sN_inj (h := h') (h' := 0) (by omega) (by omega) (by omega) (by omega) e
      rw [e, if_pos (by omega)]
      subst w1 w2 w3
      refine u3_eq.trans ?_
      show (1 : Int64) = if vA V 6 = vA V 6 ∧ j = j then 1 else 0
      rw [if_pos ⟨rfl, rfl⟩]
    · have hs3 := sN_lt (h := h') (p := t) (n := j) (by omega) (by omega) (by omega)
      refine (u3_ne3 e).trans ((z2 _ hs3).trans ?_)
      by_cases q : h' ≤ 0
      · have h0 : h' = 0 := by omega
        subst h0
        rw [if_pos q]
        show (0 : Int64) = if t = vA V 6 ∧ j = S then 1 else 0
        rw [if_neg (fun w => e (by rw [w.1, w.2]))]
      · rw [if_neg q, ite_self]
