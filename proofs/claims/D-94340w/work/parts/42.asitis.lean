/-! ===== the play as it is; what it is worth ===== -/
/-- a play touches nothing else -/
def mFr (I : Nat → Nat → Nat → Int32) (L : Nat → Nat → Nat → Int64) (I' : Nat → Nat → Nat → Int32) (L' : Nat → Nat → Nat → Int64) : Prop :=
  (∀ b, b ≠ 137 → b ≠ 143 → I' b = I b) ∧ ∀ b, b ≠ 139 → b ≠ 141 → L' b = L b
theorem mFr.rf (I : Nat → Nat → Nat → Int32) (L : Nat → Nat → Nat → Int64) : mFr I L I L := ⟨fun _ _ _ => rfl, fun _ _ _ => rfl⟩
theorem mFr.tr {I1 I2 I3 : Nat → Nat → Nat → Int32} {L1 L2 L3 : Nat → Nat → Nat → Int64} (a : mFr I1 L1 I2 L2) (b : mFr I2 L2 I3 L3) : mFr I1 L1 I3 L3 := ⟨fun q h1 h2 => (b.1 q h1 h2).trans (a.1 q h1 h2), fun q h1 h2 => (b.2 q h1 h2).trans (a.2 q h1 h2)⟩
theorem mFr.out {I I' : Nat → Nat → Nat → Int32} {L L' : Nat → Nat → Nat → Int64} (f : mFr I L I' L') : mOut I L I' L' := fun b hb => ⟨f.1 b (by omega) (by omega), f.2 b (by omega) (by omega)⟩
theorem mFr.mR {V : VS} {I I' : Nat → Nat → Nat → Int32} {L L' : Nat → Nat → Nat → Int64} (f : mFr I L I' L') (H : mR V I L) : mR V I' L' := by
  refine mR_cg ⟨?_, ?_, ?_, ?_, ?_, ?_, ?_, ?_, ?_, ?_, ?_, ?_, ?_, fun k hk => by rw [f.1 100 (by decide) (by decide)]⟩ H
  all_goals first | exact f.1 _ (by decide) (by decide) | exact f.2 _ (by decide) (by decide)
theorem gPf_cg {A : Nat → Nat} {P : PP} {I I' : Nat → Nat → Nat → Int32} (h1 : I' 129 = I 129) (h2 : I' 130 = I 130) (h3 : I' 100 0 33 = I 100 0 33) (h4 : I' 100 0 34 = I 100 0 34) (h5 : I' 100 0 35 = I 100 0 35) (h6 : I' 125 = I 125) (H : gPf A P I) : gPf A P I' := by
  unfold gPf at H ⊢
  rw [h1, h2, h3, h4, h5, h6]
  exact H
theorem mFr.mU {V : VS} {S : Nat} {om : Option Nat} {P : PP} {I I' : Nat → Nat → Nat → Int32} {L L' : Nat → Nat → Nat → Int64} (f : mFr I L I' L') (H : mU V S om P I L) : mU V S om P I' L' := by
  have e := f.1 100 (by decide) (by decide)
  exact ⟨by rw [e]; exact H.1, gKn_cg (f.1 136 (by decide) (by decide)) (f.1 142 (by decide) (by decide)) (f.2 138 (by decide) (by decide)) (f.2 140 (by decide) (by decide)) H.2.1, gPf_cg (f.1 129 (by decide) (by decide)) (f.1 130 (by decide) (by decide)) (by rw [e]) (by rw [e]) (by rw [e]) (f.1 125 (by decide) (by decide)) H.2.2⟩
theorem gPx_sc {A : Nat → Nat} {S : Nat} {sn : Nat → Bool} {sc sc' : Nat → Int64} {P : PP} {M : Nat → Nat → Nat → Nat → Nat} {rA rB : Nat → Int64} {T : Nat → Int32} {W : Nat → Int64} {h p n : Nat} (hs : sc h = sc' h) (H : gPx A S sn sc P M rA rB T W h p n) : gPx A S sn sc' P M rA rB T W h p n := by
  refine ⟨H.1, fun k hk => (H.2 k hk).trans ?_⟩
  unfold gPr
  rw [gEn_cg hs]
/-- what has been played lies in the tables -/
def mP (V : VS) (S : Nat) (om : Option Nat) (P : PP) (I : Nat → Nat → Nat → Int32) (L : Nat → Nat → Nat → Int64) : Prop :=
  gLx I (vA V) ∧ I 100 0 31 = nI S ∧ gPlay (vA V) S (gMw (vA V) (vR V) om) P (I 137 0) (L 139 0) (L 140 0) (L 141 0)
theorem mP_cg {V : VS} {S : Nat} {om : Option Nat} {P : PP} {I I' : Nat → Nat → Nat → Int32} {L L' : Nat → Nat → Nat → Int64} (h1 : I' 110 = I 110) (h2 : I' 100 0 31 = I 100 0 31) (h3 : I' 137 = I 137) (h4 : L' 139 = L 139) (h5 : L' 140 = L 140) (h6 : L' 141 = L 141) (H : mP V S om P I L) : mP V S om P I' L' := by
  unfold mP gLx at H ⊢
  rw [h1, h2, h3, h4, h5, h6]
  exact H
theorem p_playsU (d : Nat) (V : VS) (hw : gWf V) (S : Nat) (hS : S < 13) (om : Option Nat) (P : PP) (I : Nat → Nat → Nat → Int32) (L : Nat → Nat → Nat → Int64) (y : Dy) (hl : gLx I (vA V)) (hU : mU V S om P I L) :
    gTM mX12_plays (d + 7) (0, 0) [gM0] (gH I L y) (fun v h' => v = [] ∧ ∃ I' L', h' = gH I' L' y ∧ mFr I L I' L' ∧ mP V S om P I' L') (fun _ _ => False) := by
  obtain ⟨u1, ⟨u2, u3, u4, u5⟩, u6⟩ := hU
  refine gTM_mono (p_plays d (vA V) I hl hw.1 S u1 hS (gSn (vA V)) (fun h hh => u3 h (by omega)) (gMw (vA V) (vR V) om) u2 P u6 L y) (fun v h' q => ?_) (fun _ _ q => q)
  obtain ⟨rfl, I', L', rfl, f1, f2, f3, f4⟩ := q
  refine ⟨rfl, I', L', rfl, ⟨f1, f2⟩, fun j hj => by rw [f1 110 (by decide) (by decide)]; exact hl j hj, by rw [f1 100 (by decide) (by decide)]; exact u1, ?_, ?_, ?_⟩
  · rw [f2 140 (by decide) (by decide)]; exact u5
  · exact fun k hk e h p n g1 g2 g3 => gSf_sc (u4 h g1) (f3 k hk e h p n g1 g2 g3)
  · rw [f2 140 (by decide) (by decide)]
    exact fun h p n g1 g2 g3 => gPx_sc (u4 h g1) (f4 h p n g1 g2 g3)
/-- what a play is worth at the beginning: to one, to all -/
noncomputable def wS (V : VS) (S : Nat) (om : Option Nat) (P : PP) (k : Nat) : Int64 := wW (vA V) S (gMw (vA V) (vR V) om) P k 0 (vA V 6) S
noncomputable def wSum (V : VS) (S : Nat) (om : Option Nat) (P : PP) : Int64 := gSu none (wS V S om P) (vA V 2)
noncomputable def wTo (V : VS) (S : Nat) (om : Option Nat) (P : PP) : Option Nat → Int64
  | none => wSum V S om P
  | some k => wS V S om P k
/-- a play that can be -/
def gPok (A : Nat → Nat) (P : PP) : Prop := (∀ h, h < A 3 → P.1 h < A 2) ∧ ∀ h, h < A 3 → P.2.2.2.2 h ≤ A 1
theorem gPf.ok {A : Nat → Nat} {P : PP} {I : Nat → Nat → Nat → Int32} (h : gPf A P I) : gPok A P := ⟨fun q hq => (h.1 q hq).2, fun q hq => (h.2.2.2.2 q hq).2⟩
theorem mP_w {V : VS} {S : Nat} {om : Option Nat} {P : PP} {I : Nat → Nat → Nat → Int32} {L : Nat → Nat → Nat → Int64} (hA : gLg (vA V)) (hP : gPok (vA V) P) (H : mP V S om P I L) {h p n : Nat} (q2 : h ≤ vA V 3) (q3 : p < vA V 0) (q4 : n ≤ S) :
    I 137 0 (sN h p n) = wT (vA V) S (gMw (vA V) (vR V) om) P h p n ∧ ∀ k, k < vA V 2 → L 139 0 (k * 3900 + sN h p n) = wW (vA V) S (gMw (vA V) (vR V) om) P k h p n :=
  gPlay_w hA hP.1 hP.2 H.2.2 q2 q3 q4
set_option maxRecDepth 100000 in
theorem p_start (d : Nat) (A : Nat → Nat) (S : Nat) (I : Nat → Nat → Nat → Int32) (hl : gLx I A) (hS : I 100 0 31 = nI S) (L : Nat → Nat → Nat → Int64) (y : Dy) : gP mX12_start (d + 2) [gM0] (gH I L y) (gI (nI (sN 0 (A 6) S))) := by
  refine gEnter 400 [] kX12_start rfl rfl ?_
  refine Exists.intro (6) (And.intro rfl (And.intro (show _ < 708 by omega) ?_))
  refine gP_use (gP_eq (by rw [← hl 6 (by omega), ← hS] <;> rfl) (p_state d 0 (A 6) S (gH I L y))) ?_
  exact ⟨rfl, rfl⟩
set_option maxRecDepth 100000 in
theorem p_now (d : Nat) (V : VS) (hA : gLg (vA V)) (S : Nat) (hS : S < 13) (om : Option Nat) (P : PP) (hP : gPok (vA V) P) (k : Nat) (hk : k < vA V 2) (I : Nat → Nat → Nat → Int32) (L : Nat → Nat → Nat → Int64) (y : Dy) (H : mP V S om P I L) :
    gP mX12_now (d + 3) [gM0, gI (nI k)] (gH I L y) (gL (wS V S om P k)) := by
  have a2 := hA.1.2.2.1
  have a6 := hA.1.2.2.2.2.2.2.1
  have hs := sN_lt (h := 0) (p := vA V 6) (n := S) (by omega) (by omega) (by omega)
  refine gEnter 400 [] kX12_now rfl rfl ?_
  refine gP_use (p_start d (vA V) S I H.1 H.2.1 L y) ?_
  refine Exists.intro (k * 3900 + sN 0 (vA V 6) S) (And.intro (by rw [← nI_add, ← pk_mul] <;> rfl) (And.intro (show k * 3900 + sN 0 (vA V 6) S < 19500 by omega) ?_))
  exact ⟨congrArg (fun z => [gL z]) ((mP_w hA hP H (Nat.zero_le _) hA.2.2.2.2.2.1 (Nat.le_refl _)).2 k hk), rfl⟩
set_option maxRecDepth 100000 in
theorem p_nowAll (d : Nat) (V : VS) (hA : gLg (vA V)) (S : Nat) (hS : S < 13) (om : Option Nat) (P : PP) (hP : gPok (vA V) P) (I : Nat → Nat → Nat → Int32) (L : Nat → Nat → Nat → Int64) (y : Dy) (H : mP V S om P I L) :
    gP mX12_nowAll (d + 4) [gM0] (gH I L y) (gL (wSum V S om P)) := by
  have a2 := hA.1.2.2.1
  refine gEnter 400 [4] kX12_nowAll rfl rfl ?_
  refine gT_for (σ := Unit) (pc := 4) (lo := fun i _ => [some gM0, some (gL (gSu none (wS V S om P) i)), none, some (gI (nI i))]) (hp := fun _ _ => gH I L y) (Inv := fun _ _ => True) (vA V 2) ?_ ?_ 0 () (Nat.zero_le _) trivial (by (repeat' apply And.intro) <;> first | rfl | trivial | exact congrArg Sum.inl (nI_1 _).symm | exact congrArg Sum.inl (nI_1 _).symm)
  · intro _ _
    refine gT_go 400 [4] kX12_nowAll ?_
    refine Exists.intro (2) (And.intro rfl (And.intro (show _ < 708 by omega) ?_))
    refine bGe (vA V 2) (vA V 2) rfl (H.1 2 (by omega)) (fun c => ⟨rfl, rfl⟩) (fun c => absurd c (by omega))
  · intro i _ hi _ hnext
    refine gT_go 400 [4] kX12_nowAll ?_
    refine Exists.intro (2) (And.intro rfl (And.intro (show _ < 708 by omega) ?_))
    refine bGe i (vA V 2) rfl (H.1 2 (by omega)) (fun c => absurd c (by omega)) (fun c => ?_)
    refine gP_use (p_now d V hA S hS om P hP i hi I L y H) ?_
    refine hnext () _ trivial ?_
    rw [gSu_t (show gIn none i = true from rfl)]
    exact (by (repeat' apply And.intro) <;> first | rfl | trivial | exact congrArg Sum.inl (nI_1 _).symm | exact congrArg Sum.inl (nI_1 _).symm)
set_option maxRecDepth 100000 in
theorem p_nowTo (d : Nat) (V : VS) (hA : gLg (vA V)) (S : Nat) (hS : S < 13) (om : Option Nat) (P : PP) (hP : gPok (vA V) P) (k : Option Nat) (hk : ∀ j, k = some j → j < vA V 2) (I : Nat → Nat → Nat → Int32) (L : Nat → Nat → Nat → Int64) (y : Dy) (H : mP V S om P I L) :
    gP mX12_nowTo (d + 5) [gM0, gI (gOI k)] (gH I L y) (gL (wTo V S om P k)) := by
  have a2 := hA.1.2.2.1
  refine gEnter 400 [] kX12_nowTo rfl rfl ?_
  cases k with
  | none =>
    refine And.intro (fun c => absurd rfl c) (fun _ => ?_)
    refine gP_use (p_nowAll d V hA S hS om P hP I L y H) ?_
    exact ⟨rfl, rfl⟩
  | some k =>
    have h2 := hk k rfl
    refine And.intro (fun _ => ?_) (fun c => absurd c (gOI_ne (by omega)))
    refine gP_use (p_now (d + 1) V hA S hS om P hP k h2 I L y H) ?_
    exact ⟨rfl, rfl⟩
set_option maxRecDepth 100000 in
theorem p_asItIs (d : Nat) (V : VS) (hw : gWf V) (hL : vL V = true) (I : Nat → Nat → Nat → Int32) (L : Nat → Nat → Nat → Int64) (y : Dy) (hm : mR V I L) :
    gTM mX12_asItIs (d + 8) (0, 0) [gM0] (gH I L y) (fun v h' => v = [] ∧ ∃ I' L', h' = gH I' L' y ∧ mOut I L I' L' ∧ mR V I' L' ∧ mU V (vA V 4) none (gP0 V) I' L' ∧ mP V (vA V 4) none (gP0 V) I' L' ∧ I' 100 0 0 = I 100 0 0 ∧ I' 100 0 28 = 1) (fun _ _ => False) := by
  have a4 := hw.1.2.2.2.2.1
  refine gEnter 400 [] kX12_asItIs rfl rfl ?_
  refine gTM_use rfl (p_setUp d V hw hL I L y hm) (fun v h' q => ?_)
  obtain ⟨rfl, I1, L1, rfl, o1, m1, u1, t1, k1⟩ := q
  refine gTM_use rfl (p_playsU d V hw (vA V 4) (by omega) none (gP0 V) I1 L1 y m1.1 u1) (fun v h' q => ?_)
  obtain ⟨rfl, I2, L2, rfl, f, hp⟩ := q
  have e := f.1 100 (by decide) (by decide)
  exact ⟨rfl, I2, L2, rfl, o1.tr f.out, f.mR m1, f.mU u1, hp, by rw [e]; exact t1, by rw [e]; exact k1⟩
