/-! ===== rows judged; a proof ===== -/
def gGo (A : Nat → Nat) (m p : Nat) : Nat := if m = 0 then p else aOth A (m - 1) p
theorem gGo_lt {A : Nat → Nat} (hA : gLg A) {m p : Nat} (hp : p < A 0) (hm : m ≤ A 1) : gGo A m p < A 0 := by
  unfold gGo
  by_cases c : m = 0
  · rw [if_pos c]; exact hp
  · rw [if_neg c]; exact aOth_ltR hA (by omega)
/-- where a way by rows has come -/
def gAtP (I : Nat → Nat → Nat → Int32) (h p n : Nat) : Prop := I 100 0 44 = nI p ∧ I 100 0 45 = nI h ∧ I 100 0 46 = nI n
/-- nothing but where a way by rows has come -/
def gAtF (I I' : Nat → Nat → Nat → Int32) : Prop := (∀ b, b ≠ 100 → I' b = I b) ∧ ∀ j, j < 44 → I' 100 0 j = I 100 0 j
theorem gAtF.rf (I : Nat → Nat → Nat → Int32) : gAtF I I := ⟨fun _ _ => rfl, fun _ _ => rfl⟩
theorem gAtF.tr {I I1 I2 : Nat → Nat → Nat → Int32} (a : gAtF I I1) (b : gAtF I1 I2) : gAtF I I2 := ⟨fun q h => (b.1 q h).trans (a.1 q h), fun j h => (b.2 j h).trans (a.2 j h)⟩
theorem gAtF.out {I I' : Nat → Nat → Nat → Int32} (L : Nat → Nat → Nat → Int64) (f : gAtF I I') : mOut I L I' L := fun b hb => ⟨f.1 b (by omega), rfl⟩
theorem gAtF.mR {V : VS} {I I' : Nat → Nat → Nat → Int32} {L : Nat → Nat → Nat → Int64} (f : gAtF I I') (H : mR V I L) : mR V I' L := by
  refine mR_cg ⟨?_, ?_, ?_, ?_, ?_, ?_, ?_, ?_, ?_, ?_, ?_, rfl, rfl, fun k hk => f.2 k (by omega)⟩ H
  all_goals exact f.1 _ (by decide)
theorem gAtF.mU {V : VS} {S : Nat} {om : Option Nat} {P : PP} {I I' : Nat → Nat → Nat → Int32} {L : Nat → Nat → Nat → Int64} (f : gAtF I I') (H : mU V S om P I L) : mU V S om P I' L :=
  ⟨(f.2 31 (by decide)).trans H.1, gKn_cg (f.1 136 (by decide)) (f.1 142 (by decide)) rfl rfl H.2.1, gPf_cg (f.1 129 (by decide)) (f.1 130 (by decide)) (f.2 33 (by decide)) (f.2 34 (by decide)) (f.2 35 (by decide)) (f.1 125 (by decide)) H.2.2⟩
set_option maxRecDepth 100000 in
theorem p_begin (d : Nat) (A : Nat → Nat) (S : Nat) (I : Nat → Nat → Nat → Int32) (hl : gLx I A) (hS : I 100 0 31 = nI S) (L : Nat → Nat → Nat → Int64) (y : Dy) :
    gTM mX12_begin (d + 1) (0, 0) [gM0] (gH I L y) (fun v h' => v = [] ∧ ∃ I', h' = gH I' L y ∧ gAtF I I' ∧ gAtP I' 0 (A 6) S) (fun _ _ => False) := by
  have e6 : I 110 0 6 = nI (A 6) := hl 6 (by omega)
  refine gEnter 400 [] kX12_begin rfl rfl ?_
  refine Exists.intro (6) (And.intro rfl (And.intro (show _ < 708 by omega) ?_))
  exact ⟨rfl, u3 (u3 (u3 I 100 0 44 (I 110 0 6)) 100 0 45 0) 100 0 46 (I 100 0 31), rfl, ⟨fun b hb => (u3_ne1 hb).trans ((u3_ne1 hb).trans (u3_ne1 hb)), fun j hj => (u3_ne3 (by omega)).trans ((u3_ne3 (by omega)).trans (u3_ne3 (by omega)))⟩, e6, rfl, hS⟩
set_option maxRecDepth 100000 in
theorem p_goes (d : Nat) (A : Nat → Nat) (hA : gLg A) (S h p n m : Nat) (hp : p < A 0) (hn : 0 < n) (hm : m ≤ A 1) (I : Nat → Nat → Nat → Int32) (hl : gLx I A) (hS : I 100 0 31 = nI S) (hat : gAtP I h p n) (L : Nat → Nat → Nat → Int64) (y : Dy) :
    gTM mX12_goes (d + 2) (0, 0) [gM0, gI (nI m)] (gH I L y) (fun v h' => v = [] ∧ ∃ I', h' = gH I' L y ∧ gAtF I I' ∧ gAtP I' (h + 1) (gGo A m p) (aNx A S n (gGo A m p))) (fun _ _ => False) := by
  have a0 := hA.1.1
  have a1 := hA.1.2.1
  obtain ⟨t1, t2, t3⟩ := hat
  have hg := gGo_lt hA hp hm
  refine gEnter 400 [19] kX12_goes rfl rfl ?_
  have rest : ∀ (I1 : Nat → Nat → Nat → Int32) (lo : Lo), gAtF I I1 → I1 100 0 44 = nI (gGo A m p) → I1 100 0 45 = nI h → I1 100 0 46 = nI n → glle [some gM0, some (gI (nI m))] lo → gT mX12_goes (d + 2) (0, 0) (fun v h' => v = [] ∧ ∃ I', h' = gH I' L y ∧ gAtF I I' ∧ gAtP I' (h + 1) (gGo A m p) (aNx A S n (gGo A m p))) (fun _ _ => False) 19 lo [] (gH I1 L y) (0, 0) := by
    intro I1 lo f s1 s2 s3 hl'
    have hl1 : gLx I1 A := fun j hj => by rw [f.1 110 (by decide)]; exact hl j hj
    have hS1 : I1 100 0 31 = nI S := (f.2 31 (by decide)).trans hS
    refine gT_lo _ hl' ?_
    refine gT_go 400 [] kX12_goes ?_
    refine Exists.intro (7 + gGo A m p) (And.intro (by rw [← nI_add, ← s1] <;> rfl) (And.intro (show 7 + gGo A m p < 708 by omega) ?_))
    have e7 : I1 110 0 (7 + gGo A m p) = nI (A (7 + gGo A m p)) := hl1 _ (by omega)
    have l7 := hA.1.lt (7 + gGo A m p) (by omega)
    refine bNe (A (7 + gGo A m p)) 1 e7 rfl (fun c => ?_) (fun c => ?_)
    · have ea : aNx A S n (gGo A m p) = n - 1 := by unfold aNx; rw [if_neg c]
      rw [ea]
      refine ⟨rfl, u3 (u3 I1 100 0 46 (I1 100 0 46 - 1)) 100 0 45 (I1 100 0 45 + 1), rfl, ⟨fun b hb => (u3_ne1 hb).trans ((u3_ne1 hb).trans (f.1 b hb)), fun j hj => (u3_ne3 (by omega)).trans ((u3_ne3 (by omega)).trans (f.2 j hj))⟩, s1, ?_, ?_⟩
      · show I1 100 0 45 + 1 = nI (h + 1)
        rw [s2]; exact nI_1 h
      · show I1 100 0 46 - 1 = nI (n - 1)
        rw [s3]; exact pk_sub (b := 1) hn
    · have ea : aNx A S n (gGo A m p) = S := by unfold aNx; rw [if_pos c]
      rw [ea]
      refine ⟨rfl, u3 (u3 I1 100 0 46 (I1 100 0 31)) 100 0 45 (I1 100 0 45 + 1), rfl, ⟨fun b hb => (u3_ne1 hb).trans ((u3_ne1 hb).trans (f.1 b hb)), fun j hj => (u3_ne3 (by omega)).trans ((u3_ne3 (by omega)).trans (f.2 j hj))⟩, s1, ?_, hS1⟩
      show I1 100 0 45 + 1 = nI (h + 1)
      rw [s2]; exact nI_1 h
  refine bLe m 0 rfl rfl (fun c => ?_) (fun c => ?_)
  · exact rest I _ (gAtF.rf I) (by unfold gGo; rw [if_pos (by omega)]; exact t1) t2 t3 (by (repeat' apply And.intro) <;> first | rfl | trivial | exact congrArg Sum.inl (nI_1 _).symm | exact congrArg Sum.inl (nI_1 _).symm)
  · refine gP_use (gP_eq (by rw [← pk_sub (b := 1) c, ← t1] <;> rfl) (p_otherEnd d (m - 1) p (by omega) (by omega) A I hl hA.1.lt L y)) ?_
    exact rest _ _ ⟨fun b hb => u3_ne1 hb, fun j hj => u3_ne3 (by omega)⟩ (by unfold gGo; rw [if_neg (by omega)] <;> rfl) t2 t3 (by (repeat' apply And.intro) <;> first | rfl | trivial | exact congrArg Sum.inl (nI_1 _).symm | exact congrArg Sum.inl (nI_1 _).symm)
/-- the first row that can't be, of N -/
def jJu (A : Nat → Nat) (S : Nat) (may : Nat → Nat → Nat → Nat) (row : Nat → Nat) : Nat → Nat → Nat → Nat → Int32
  | 0, _, _, _ => -1
  | f + 1, k, p, n => if aEnd A k p n = 0 then (bif (may k p n).testBit (row k) then jJu A S may row f (k + 1) (gGo A (row k) p) (aNx A S n (gGo A (row k) p)) else nI (10 * k + 1)) else nI (10 * k + 2)
def sRow (s : Nat → Int32) (k : Nat) : Nat := gTo (s (55 + k))
def xJudge (V : VS) : Int32 × AV × VS :=
  bif vL V then (0, gI (jJu (vA V) (vA V 4) (xMay V (gP0 V)) (sRow (vS V)) (gTo (vS V 54)) 0 (vA V 6) (vA V 4)), V) else (1, gI 0, xRef V 3)
set_option maxRecDepth 100000 in
theorem t_judge {Qr : List AV → Hp → Prop} {Qx : Rf → Hp → Prop} (d : Nat) (V : VS) (hA : gLg (vA V)) (N : Nat) (hN : N ≤ 24) (I1 : Nat → Nat → Nat → Int32) (L : Nat → Nat → Nat → Int64) (y : Dy) (h54 : I1 125 0 54 = nI N) (hrow : ∀ k, k < N → I1 125 0 (55 + k) = nI (sRow (vS V) k) ∧ sRow (vS V) k ≤ vA V 1)
    (hm : mR V I1 L) (hU : mU V (vA V 4) none (gP0 V) I1 L) (R : Int32) (hQ : ∀ z, gAtF I1 z → Qr [gI R] (gH z L y)) :
    ∀ (f k p n : Nat) (z : Nat → Nat → Nat → Int32) (lo0 : Lo), k + f = N → k ≤ vA V 3 → p < vA V 0 → n ≤ vA V 4 → gAtF I1 z → gAtP z k p n → jJu (vA V) (vA V 4) (xMay V (gP0 V)) (sRow (vS V)) f k p n = R →
      glle [some gM0, some (gI (nI k)), none] lo0 → gT mX12_judge (d + 8) (0, 0) Qr Qx 25 lo0 [] (gH z L y) (0, 0) := by
  have a0 := hA.1.1
  have a1 := hA.1.2.1
  have a2 := hA.1.2.2.1
  have a3 := hA.1.2.2.2.1
  have a4 := hA.1.2.2.2.2.1
  intro f
  induction f with
  | zero =>
    intro k p n z lo0 q1 q2 q3 q4 z1 z2 hR hlo
    have z54 : z 125 0 54 = nI N := by rw [z1.1 125 (by decide)]; exact h54
    refine gT_lo _ hlo ?_
    refine gT_go 400 [25] kX12_judge ?_
    refine Exists.intro (54) (And.intro rfl (And.intro (show _ < 156 by omega) ?_))
    refine bGe k N rfl z54 (fun _ => ?_) (fun q => absurd q (by omega))
    rw [← show (-1 : Int32) = R from hR] at hQ
    exact hQ z z1
  | succ f ih =>
    intro k p n z lo0 q1 q2 q3 q4 z1 z2 hR hlo
    have z54 : z 125 0 54 = nI N := by rw [z1.1 125 (by decide)]; exact h54
    obtain ⟨r1, r2⟩ := hrow k (by omega)
    have zr : z 125 0 (55 + k) = nI (sRow (vS V) k) := by rw [z1.1 125 (by decide)]; exact r1
    have zm := z1.mR hm
    have zU := z1.mU hU
    obtain ⟨t1, t2, t3⟩ := id z2
    refine gT_lo _ hlo ?_
    refine gT_go 400 [25] kX12_judge ?_
    refine Exists.intro (54) (And.intro rfl (And.intro (show _ < 156 by omega) ?_))
    refine bGe k N rfl z54 (fun q => absurd q (by omega)) (fun _ => ?_)
    refine gP_use (gP_eq (by rw [← t1, ← t2, ← t3] <;> rfl) (p_ended (d + 6) k p n (by omega) (by omega) (by omega) (vA V) z zm.1 hA.1.lt L y)) ?_
    rw [jJu] at hR
    refine bEq (aEnd (vA V) k p n) 0 rfl rfl (fun c => ?_) (fun c => ?_) (by have := aEnd_lt (vA V) k p n; omega) (by decide)
    · have hk3 : k < vA V 3 := by have := (aEnd_0 c).2; omega
      obtain ⟨l1, l2, l3, l4, -⟩ := mU_moves zU hk3 q3 q4 c
      have hs := sN_lt (h := k) (p := p) (n := n) (by omega) (by omega) (by omega)
      rw [if_pos c] at hR
      refine Exists.intro (55 + k) (And.intro (nI_add 55 k) (And.intro (show 55 + k < 156 by omega) ?_))
      refine Exists.intro (k) (And.intro (t2) (And.intro (show k < 24 by omega) ?_))
      refine gP_use (gP_eq (by rw [← t1, ← t2, ← t3] <;> rfl) (p_state (d + 6) k p n _)) ?_
      refine gP_use (gP_eq (by rw [← l1] <;> rfl) (p_moves (d + 6) ((gP0 V).1 k) (sN k p n) _ (by omega) (by omega) z L y l3)) ?_
      have ebt : (nI (xMay V (gP0 V) k p n) >>> (z 125 0 (55 + k) &&& 31)) &&& 1 = gb ((xMay V (gP0 V) k p n).testBit (sRow (vS V) k)) := by rw [zr]; exact gbit (gMv_lt l4) (by omega)
      refine bB1 _ ebt (fun b => ?_) (fun b => ?_)
      · rw [b] at hR
        refine gTM_use (by rw [← zr] <;> rfl) (p_goes (d + 5) (vA V) hA (vA V 4) k p n (sRow (vS V) k) q3 (aEnd_0 c).1 r2 z zm.1 zU.1 z2 L y) (fun v h' q => ?_)
        obtain ⟨rfl, z', rfl, f1, f2⟩ := q
        exact ih (k + 1) _ _ z' _ (by omega) (by omega) (gGo_lt hA q3 r2) (aNx_le q4) (z1.tr f1) f2 hR (by (repeat' apply And.intro) <;> first | rfl | trivial | exact congrArg Sum.inl (nI_1 _).symm | exact congrArg Sum.inl (nI_1 _).symm)
      · rw [b] at hR
        have hq := hQ z z1
        rw [← hR, show (bif false then jJu (vA V) (vA V 4) (xMay V (gP0 V)) (sRow (vS V)) f (k + 1) (gGo (vA V) (sRow (vS V) k) p) (aNx (vA V) (vA V 4) n (gGo (vA V) (sRow (vS V) k) p)) else nI (10 * k + 1)) = nI 10 * nI k + nI 1 by rw [pk_mul, nI_add]; rfl] at hq
        exact hq
    · rw [if_neg c] at hR
      have hq := hQ z z1
      rw [← hR, ← nI_add, ← pk_mul] at hq
      exact hq
set_option maxRecDepth 100000 in
theorem c_judge (V : VS) (hw : gWf V) : mC mX12_judge 8 [] V (xJudge V) := by
  intro d I L y hm
  have hm0 := mR_thr hm 0
  have a4 := hw.1.2.2.2.2.1
  obtain ⟨N, w1, w2, w3⟩ := hw.2.2.2.1.2.2.2.2.2.2
  refine gEnter 400 [25] kX12_judge rfl rfl ?_
  refine gTM_use rfl (p_isHere (d + 5) V 1 (by decide) _ L y hm0 u3_eq) (fun v h' q => ?_)
  rcases q with ⟨g1, rfl, rfl⟩ | ⟨g1, rfl, I', rfl, q1, q2, q3⟩
  rotate_left
  · refine And.intro (fun q => absurd rfl q) (fun _ => ?_)
    exact mGt_no (by unfold xJudge; simp only [g1, cond_true, cond_false] <;> rfl) q1 q2 q3
  refine And.intro (fun _ => ?_) (fun q => absurd q (by decide))
  have hA := hw.2.1 g1
  refine gTM_use rfl (p_setUp d V hw g1 _ L y hm0) (fun v h' q => ?_)
  obtain ⟨rfl, I1, L1, rfl, o1, m1, u1, t1, k1⟩ := q
  refine gTM_use rfl (p_begin (d + 6) (vA V) (vA V 4) I1 m1.1 u1.1 L1 y) (fun v h' q => ?_)
  obtain ⟨rfl, I2, rfl, f1, f2⟩ := q
  refine t_judge d V hA N w2 I2 L1 y ((f1.mR m1).2.2.2.1 54 (by omega) |>.trans w1) (fun k hk => ?_) (f1.mR m1) (f1.mU u1) _ (fun z z1 => ?_) N 0 (vA V 6) (vA V 4) I2 _ (by omega) (Nat.zero_le _) hA.2.2.2.2.2.1 (Nat.le_refl _) (gAtF.rf _) f2 rfl (by (repeat' apply And.intro) <;> first | rfl | trivial | exact congrArg Sum.inl (nI_1 _).symm | exact congrArg Sum.inl (nI_1 _).symm)
  · obtain ⟨m, e1, e2⟩ := w3 k hk
    have a1 := hw.1.2.1
    have em : sRow (vS V) k = m := by unfold sRow; rw [e1]; exact gTo_n (by omega)
    rw [em]
    exact ⟨((f1.mR m1).2.2.2.1 (55 + k) (by omega)).trans e1, e2⟩
  · refine mDone (o2 := (0, gI (jJu (vA V) (vA V 4) (xMay V (gP0 V)) (sRow (vS V)) (gTo (vS V 54)) 0 (vA V 6) (vA V 4)), V)) (by unfold xJudge; rw [g1] <;> rfl) ?_ (o1.tr ((f1.tr z1).out L1)) ((f1.tr z1).mR m1) (((f1.tr z1).2 0 (by decide)).trans (t1.trans u3_eq))
    rw [w1, gTo_n (show N < 2 ^ 31 by omega)]
