/-! ===== what is there, arrives, is visited; stores that are needed ===== -/
/-- how heavy it is that one ends at an hour, so -/
def fEn (A : Nat → Nat) (S : Nat) (mf : Nat → Nat → Nat → Int64) (h w : Nat) : Int64 := sP (fun p n => if aEnd A h p n = w then mf h p n * gSc A h else 0) (S + 1) (A 0)
def fAl (A : Nat → Nat) (S : Nat) (mf : Nat → Nat → Nat → Int64) (w : Nat) : Nat → Int64
  | 0 => 0
  | h + 1 => fAl A S mf w h + fEn A S mf h w
def fVi (A : Nat → Nat) (S : Nat) (mf : Nat → Nat → Nat → Int64) (p : Nat) : Nat → Int64
  | 0 => 0
  | h + 1 => fVi A S mf p h + sNn (fun n => mf h p n * gSc A h) (S + 1)
/-- masses lie in their table -/
def mFT (V : VS) (S : Nat) (mf : Nat → Nat → Nat → Int64) (L : Nat → Nat → Nat → Int64) : Prop := ∀ h t j, h ≤ vA V 3 → t < vA V 0 → j ≤ S → L 152 0 (sN h t j) = mf h t j
set_option maxRecDepth 100000 in
theorem p_endedAt (d : Nat) (V : VS) (hA : gLg (vA V)) (S : Nat) (hS : S < 13) (mf : Nat → Nat → Nat → Int64) (h w : Nat) (hh : h ≤ vA V 3) (hw : w < 4) (I : Nat → Nat → Nat → Int32) (L : Nat → Nat → Nat → Int64) (y : Dy) (hl : gLx I (vA V)) (h31 : I 100 0 31 = nI S) (hsc : L 138 0 h = gSc (vA V) h) (hm : mFT V S mf L) :
    gP mX12_endedAt (d + 2) [gM0, gI (nI h), gI (nI w)] (gH I L y) (gL (fEn (vA V) S mf h w)) := by
  have a0 := hA.1.1
  have a3 := hA.1.2.2.2.1
  refine gEnter 400 [5] kX12_endedAt rfl rfl ?_
  refine gT_for (σ := Unit) (pc := 5) (lo := fun p _ => [some gM0, some (gI (nI h)), some (gI (nI w)), some (gL (sP (fun p n => if aEnd (vA V) h p n = w then mf h p n * gSc (vA V) h else 0) (S + 1) p)), none, some (gI (nI p)), none]) (hp := fun _ _ => gH I L y) (Inv := fun _ _ => True) (vA V 0) ?_ ?_ 0 () (Nat.zero_le _) trivial (by (repeat' apply And.intro) <;> first | rfl | trivial | exact congrArg Sum.inl (nI_1 _).symm | exact congrArg Sum.inl (nI_1 _).symm)
  · intro _ _
    refine gT_go 400 [5] kX12_endedAt ?_
    refine Exists.intro (0) (And.intro rfl (And.intro (show _ < 708 by omega) ?_))
    refine bGe (vA V 0) (vA V 0) rfl (hl 0 (by omega)) (fun _ => ⟨rfl, rfl⟩) (fun q => absurd q (by omega))
  · intro p _ hp _ hnextp
    refine gT_go 400 [5, 19] kX12_endedAt ?_
    refine Exists.intro (0) (And.intro rfl (And.intro (show _ < 708 by omega) ?_))
    refine bGe p (vA V 0) rfl (hl 0 (by omega)) (fun q => absurd q (by omega)) (fun _ => ?_)
    refine gT_for (σ := Unit) (pc := 19) (lo := fun n _ => [some gM0, some (gI (nI h)), some (gI (nI w)), some (gL (sP (fun p n => if aEnd (vA V) h p n = w then mf h p n * gSc (vA V) h else 0) (S + 1) p + sNn (fun n => if aEnd (vA V) h p n = w then mf h p n * gSc (vA V) h else 0) n)), none, some (gI (nI p)), some (gI (nI n))]) (hp := fun _ _ => gH I L y) (Inv := fun _ _ => True) (S + 1) ?_ ?_ 0 () (Nat.zero_le _) trivial (by rw [show sNn (fun n => if aEnd (vA V) h p n = w then mf h p n * gSc (vA V) h else 0) 0 = 0 from rfl, Int64.add_zero]; exact (by (repeat' apply And.intro) <;> first | rfl | trivial | exact congrArg Sum.inl (nI_1 _).symm | exact congrArg Sum.inl (nI_1 _).symm))
    · intro _ _
      refine gT_go 400 [5, 19] kX12_endedAt ?_
      refine bGt (S + 1) S rfl h31 (fun _ => ?_) (fun q => absurd q (by omega))
      exact hnextp () _ trivial (by (repeat' apply And.intro) <;> first | rfl | trivial | exact congrArg Sum.inl (nI_1 _).symm | exact congrArg Sum.inl (nI_1 _).symm)
    · intro n _ hn _ hnextn
      have hs := sN_lt (h := h) (p := p) (n := n) (by omega) (by omega) (by omega)
      have st : ∀ x : Int64, x = (if aEnd (vA V) h p n = w then mf h p n * gSc (vA V) h else 0) → sP (fun p n => if aEnd (vA V) h p n = w then mf h p n * gSc (vA V) h else 0) (S + 1) p + sNn (fun n => if aEnd (vA V) h p n = w then mf h p n * gSc (vA V) h else 0) (n + 1) = sP (fun p n => if aEnd (vA V) h p n = w then mf h p n * gSc (vA V) h else 0) (S + 1) p + sNn (fun n => if aEnd (vA V) h p n = w then mf h p n * gSc (vA V) h else 0) n + x := by
        intro x hx
        rw [hx, Int64.add_assoc]
        rfl
      refine gT_go 400 [19] kX12_endedAt ?_
      refine bGt n S rfl h31 (fun q => absurd q (by omega)) (fun _ => ?_)
      refine gP_use (p_ended d h p n (by omega) (by omega) (by omega) (vA V) I hl hA.1.lt L y) ?_
      refine bNe (aEnd (vA V) h p n) w rfl rfl (fun c => ?_) (fun c => ?_) (by have := aEnd_lt (vA V) h p n; omega) (by omega)
      · refine hnextn () _ trivial ?_
        rw [st 0 (by rw [if_neg c]), Int64.add_zero]
        exact (by (repeat' apply And.intro) <;> first | rfl | trivial | exact congrArg Sum.inl (nI_1 _).symm | exact congrArg Sum.inl (nI_1 _).symm)
      · refine gP_use (p_state d h p n _) ?_
        refine Exists.intro (sN h p n) (And.intro rfl (And.intro (show _ < 3900 by omega) ?_))
        refine Exists.intro (h) (And.intro rfl (And.intro (show _ < 25 by omega) ?_))
        refine hnextn () _ trivial ?_
        rw [st (L 152 0 (sN h p n) * L 138 0 h) (by rw [if_pos c, hm h p n hh hp (by omega), hsc])]
        exact (by (repeat' apply And.intro) <;> first | rfl | trivial | exact congrArg Sum.inl (nI_1 _).symm | exact congrArg Sum.inl (nI_1 _).symm)
set_option maxRecDepth 100000 in
theorem p_endedAll (d : Nat) (V : VS) (hA : gLg (vA V)) (S : Nat) (hS : S < 13) (mf : Nat → Nat → Nat → Int64) (w : Nat) (hw : w < 4) (I : Nat → Nat → Nat → Int32) (L : Nat → Nat → Nat → Int64) (y : Dy) (hl : gLx I (vA V)) (h31 : I 100 0 31 = nI S) (hsc : ∀ h, h ≤ vA V 3 → L 138 0 h = gSc (vA V) h) (hm : mFT V S mf L) :
    gP mX12_endedAll (d + 3) [gM0, gI (nI w)] (gH I L y) (gL (fAl (vA V) S mf w (vA V 3 + 1))) := by
  have a3 := hA.1.2.2.2.1
  refine gEnter 400 [5] kX12_endedAll rfl rfl ?_
  refine gT_for (σ := Unit) (pc := 5) (lo := fun h _ => [some gM0, some (gI (nI w)), some (gL (fAl (vA V) S mf w h)), none, some (gI (nI h))]) (hp := fun _ _ => gH I L y) (Inv := fun _ _ => True) (vA V 3 + 1) ?_ ?_ 0 () (Nat.zero_le _) trivial (by (repeat' apply And.intro) <;> first | rfl | trivial | exact congrArg Sum.inl (nI_1 _).symm | exact congrArg Sum.inl (nI_1 _).symm)
  · intro _ _
    refine gT_go 400 [5] kX12_endedAll ?_
    refine Exists.intro (3) (And.intro rfl (And.intro (show _ < 708 by omega) ?_))
    refine bGt (vA V 3 + 1) (vA V 3) rfl (hl 3 (by omega)) (fun _ => ⟨rfl, rfl⟩) (fun q => absurd q (by omega))
  · intro h _ hh _ hnext
    refine gT_go 400 [5] kX12_endedAll ?_
    refine Exists.intro (3) (And.intro rfl (And.intro (show _ < 708 by omega) ?_))
    refine bGt h (vA V 3) rfl (hl 3 (by omega)) (fun q => absurd q (by omega)) (fun _ => ?_)
    refine gP_use (p_endedAt d V hA S hS mf h w (by omega) hw I L y hl h31 (hsc h (by omega)) hm) ?_
    exact hnext () _ trivial (by (repeat' apply And.intro) <;> first | rfl | trivial | exact congrArg Sum.inl (nI_1 _).symm | exact congrArg Sum.inl (nI_1 _).symm)
/-- the masses of a play as it is -/
noncomputable def wMf (V : VS) (S : Nat) (P : PP) : Nat → Nat → Nat → Int64 := mFl (vA V) S (wM (vA V) S (gMw (vA V) (vR V) none) P)
noncomputable def xThere (V : VS) (a : Int32) : Int32 × AV × VS :=
  bif vL V then (bif gWi a 0 1 then (0, gL (fAl (vA V) (vA V 4) (wMf V (vA V 4) (gP0 V)) (gTo a + 1) (vA V 3 + 1)), V) else (1, gL 0, xRef V 2)) else (2, gL 0, xRef V 3)
theorem mR_152 {V : VS} {I : Nat → Nat → Nat → Int32} {L L' : Nat → Nat → Nat → Int64} (H : mR V I L) (e : ∀ b, b ≠ 152 → L' b = L b) : mR V I L' :=
  mR_cg ⟨rfl, rfl, rfl, rfl, rfl, rfl, rfl, rfl, rfl, rfl, rfl, e 138 (by decide), e 140 (by decide), fun _ _ => rfl⟩ H
set_option maxRecDepth 100000 in
theorem c_there (V : VS) (hw : gWf V) (a : Int32) : mC mX12_there 9 [gI a] V (xThere V a) := by
  intro d I L y hm
  have hm0 := mR_thr hm 0
  have a4 := hw.1.2.2.2.2.1
  refine gEnter 400 [] kX12_there rfl rfl ?_
  refine gTM_use rfl (p_isHere (d + 6) V 2 (by decide) _ L y hm0 u3_eq) (fun v h' q => ?_)
  rcases q with ⟨g1, rfl, rfl⟩ | ⟨g1, rfl, I', rfl, q1, q2, q3⟩
  rotate_left
  · refine And.intro (fun _ => ?_) (fun q => absurd rfl q)
    exact mGt_no (by unfold xThere; simp only [g1, cond_true, cond_false] <;> rfl) q1 q2 q3
  refine And.intro (fun q => absurd q (by decide)) (fun _ => ?_)
  refine gP_use (p_within (d + 7) a 0 1 _) ?_
  refine gTM_use rfl (p_may (d + 7) V _ 1 (by decide) 2 (by decide) _ L y hm0 u3_eq) (fun v h' q => ?_)
  rcases q with ⟨g2, rfl, rfl⟩ | ⟨g2, rfl, I', rfl, q1, q2, q3⟩
  rotate_left
  · refine And.intro (fun q => absurd rfl q) (fun _ => ?_)
    exact mGt_no (by unfold xThere; simp only [g1,g2, cond_true, cond_false] <;> rfl) q1 q2 q3
  refine And.intro (fun _ => ?_) (fun q => absurd q (by decide))
  obtain ⟨w, rfl, hw1⟩ := gWi_m (N := 1) rfl (by decide) g2
  have ew : gTo (nI w) = w := gTo_n (by omega)
  have hA := hw.2.1 g1
  refine gTM_use rfl (p_asItIs d V hw g1 _ L y hm0) (fun v h' q => ?_)
  obtain ⟨rfl, I1, L1, rfl, o1, m1, u1, hp, t1, k1⟩ := q
  refine gTM_use rfl (p_flows (d + 4) V hA (vA V 4) (by omega) (gP0 V) I1 L1 y u1 hp) (fun v h' q => ?_)
  obtain ⟨rfl, L2, rfl, f1, f2⟩ := q
  refine gP_use (gP_eq (by rw [← nI_1] <;> rfl) (p_endedAll (d + 5) V hA (vA V 4) (by omega) (wMf V (vA V 4) (gP0 V)) (w + 1) (by omega) I1 L2 y m1.1 u1.1 (fun h hh => by rw [f1 138 (by decide)]; exact u1.2.1.2.2.1 h hh) f2)) ?_
  exact mDone (o2 := (0, gL (fAl (vA V) (vA V 4) (wMf V (vA V 4) (gP0 V)) (w + 1) (vA V 3 + 1)), V)) (by unfold xThere; simp only [g1, g2, cond_true]; rw [ew]) rfl (o1.tr (fun b hb => ⟨rfl, f1 b (by omega)⟩)) (mR_152 m1 f1) (t1.trans u3_eq)
noncomputable def xArrives (V : VS) (a b : Int32) : Int32 × AV × VS :=
  bif vL V then (bif gWi a 0 (nI (vA V 3)) && gWi b 0 2 then (0, gL (fEn (vA V) (vA V 4) (wMf V (vA V 4) (gP0 V)) (gTo a) (gTo b + 1)), V) else (1, gL 0, xRef V 2)) else (2, gL 0, xRef V 3)
set_option maxRecDepth 100000 in
theorem c_arrives (V : VS) (hw : gWf V) (a b : Int32) : mC mX12_arrives 9 [gI a, gI b] V (xArrives V a b) := by
  intro d I L y hm
  have hm0 := mR_thr hm 0
  have a3 := hw.1.2.2.2.1
  have a4 := hw.1.2.2.2.2.1
  refine gEnter 400 [42] kX12_arrives rfl rfl ?_
  refine gTM_use rfl (p_isHere (d + 6) V 2 (by decide) _ L y hm0 u3_eq) (fun v h' q => ?_)
  rcases q with ⟨g1, rfl, rfl⟩ | ⟨g1, rfl, I', rfl, q1, q2, q3⟩
  rotate_left
  · refine And.intro (fun _ => ?_) (fun q => absurd rfl q)
    exact mGt_no (by unfold xArrives; simp only [g1, cond_true, cond_false] <;> rfl) q1 q2 q3
  refine And.intro (fun q => absurd q (by decide)) (fun _ => ?_)
  have hA := hw.2.1 g1
  have rest : ∀ (g : Bool) (lo : Lo), g = (gWi a 0 (nI (vA V 3)) && gWi b 0 2) → glle [some gM0, some (gI a), some (gI b)] lo → gT mX12_arrives (d + 9) (0, 0) (fun v h' => v = [(xArrives V a b).2.1] ∧ ∃ I' L', h' = gH I' L' y ∧ mOut I L I' L' ∧ mR (xArrives V a b).2.2 I' L' ∧ I' 100 0 0 = (xArrives V a b).1) (fun _ _ => False) 42 lo [gI (gb g), gM0] (gH (u3 I 100 0 0 0) L y) (0, 0) := by
    intro g lo hg hl
    refine gT_lo _ hl ?_
    refine gT_go 400 [] kX12_arrives ?_
    refine gTM_use rfl (p_may (d + 7) V g 1 (by decide) 2 (by decide) _ L y hm0 u3_eq) (fun v h' q => ?_)
    rcases q with ⟨g2, rfl, rfl⟩ | ⟨g2, rfl, I', rfl, q1, q2, q3⟩
    rotate_left
    · refine And.intro (fun q => absurd rfl q) (fun _ => ?_)
      exact mGt_no (by unfold xArrives; simp only [g1,← hg,g2, cond_true, cond_false] <;> rfl) q1 q2 q3
    refine And.intro (fun _ => ?_) (fun q => absurd q (by decide))
    have hg0 := hg
    rw [g2] at hg
    have hg' := (Bool.and_eq_true _ _).mp hg.symm
    obtain ⟨h, rfl, hh⟩ := gWi_m rfl (by omega) hg'.1
    obtain ⟨w, rfl, hw1⟩ := gWi_m (N := 2) rfl (by decide) hg'.2
    have eh : gTo (nI h) = h := gTo_n (by omega)
    have ew : gTo (nI w) = w := gTo_n (by omega)
    refine gTM_use rfl (p_asItIs d V hw g1 _ L y hm0) (fun v h' q => ?_)
    obtain ⟨rfl, I1, L1, rfl, o1, m1, u1, hp, t1, k1⟩ := q
    refine gTM_use rfl (p_flows (d + 4) V hA (vA V 4) (by omega) (gP0 V) I1 L1 y u1 hp) (fun v h' q => ?_)
    obtain ⟨rfl, L2, rfl, f1, f2⟩ := q
    refine gP_use (gP_eq (by rw [← nI_1 w] <;> rfl) (p_endedAt (d + 6) V hA (vA V 4) (by omega) (wMf V (vA V 4) (gP0 V)) h (w + 1) hh (by omega) I1 L2 y m1.1 u1.1 (by rw [f1 138 (by decide)]; exact u1.2.1.2.2.1 h hh) f2)) ?_
    exact mDone (o2 := (0, gL (fEn (vA V) (vA V 4) (wMf V (vA V 4) (gP0 V)) h (w + 1)), V)) (by unfold xArrives; simp only [g1, ← hg, cond_true]; rw [eh, ew]) rfl (o1.tr (fun b hb => ⟨rfl, f1 b (by omega)⟩)) (mR_152 m1 f1) (t1.trans u3_eq)
  refine Exists.intro (3) (And.intro rfl (And.intro (show _ < 708 by omega) ?_))
  refine gP_use (gP_eq (by rw [← hm0.1 3 (by omega)] <;> rfl) (p_within (d + 7) a 0 (nI (vA V 3)) _)) ?_
  refine bB0 _ rfl (fun c => ?_) (fun c => ?_)
  · exact rest false _ (by rw [c] <;> rfl) (by (repeat' apply And.intro) <;> first | rfl | trivial | exact congrArg Sum.inl (nI_1 _).symm | exact congrArg Sum.inl (nI_1 _).symm)
  · refine gP_use (p_within (d + 7) b 0 2 _) ?_
    refine bB0 _ rfl (fun c2 => ?_) (fun c2 => ?_)
    · exact rest false _ (by rw [c, c2] <;> rfl) (by (repeat' apply And.intro) <;> first | rfl | trivial | exact congrArg Sum.inl (nI_1 _).symm | exact congrArg Sum.inl (nI_1 _).symm)
    · exact rest true _ (by rw [c, c2] <;> rfl) (by (repeat' apply And.intro) <;> first | rfl | trivial | exact congrArg Sum.inl (nI_1 _).symm | exact congrArg Sum.inl (nI_1 _).symm)
noncomputable def xVisits (V : VS) (a : Int32) : Int32 × AV × VS :=
  bif vL V then (bif gWi a 0 (nI (vA V 0) - 1) then (0, gL (fVi (vA V) (vA V 4) (wMf V (vA V 4) (gP0 V)) (gTo a) (vA V 3 + 1)), V) else (1, gL 0, xRef V 2)) else (2, gL 0, xRef V 3)
set_option maxRecDepth 100000 in
theorem c_visits (V : VS) (hw : gWf V) (a : Int32) : mC mX12_visits 9 [gI a] V (xVisits V a) := by
  intro d I L y hm
  have hm0 := mR_thr hm 0
  have a0 := hw.1.1
  have a3 := hw.1.2.2.2.1
  have a4 := hw.1.2.2.2.2.1
  refine gEnter 400 [50] kX12_visits rfl rfl ?_
  refine gTM_use rfl (p_isHere (d + 6) V 2 (by decide) _ L y hm0 u3_eq) (fun v h' q => ?_)
  rcases q with ⟨g1, rfl, rfl⟩ | ⟨g1, rfl, I', rfl, q1, q2, q3⟩
  rotate_left
  · refine And.intro (fun _ => ?_) (fun q => absurd rfl q)
    exact mGt_no (by unfold xVisits; simp only [g1, cond_true, cond_false] <;> rfl) q1 q2 q3
  refine And.intro (fun q => absurd q (by decide)) (fun _ => ?_)
  refine Exists.intro (0) (And.intro rfl (And.intro (show _ < 708 by omega) ?_))
  refine gP_use (gP_eq (by rw [← hm0.1 0 (by omega)] <;> rfl) (p_within (d + 7) a 0 (nI (vA V 0) - 1) _)) ?_
  refine gTM_use rfl (p_may (d + 7) V _ 1 (by decide) 2 (by decide) _ L y hm0 u3_eq) (fun v h' q => ?_)
  rcases q with ⟨g2, rfl, rfl⟩ | ⟨g2, rfl, I', rfl, q1, q2, q3⟩
  rotate_left
  · refine And.intro (fun q => absurd rfl q) (fun _ => ?_)
    exact mGt_no (by unfold xVisits; simp only [g1,g2, cond_true, cond_false] <;> rfl) q1 q2 q3
  refine And.intro (fun _ => ?_) (fun q => absurd q (by decide))
  obtain ⟨p, rfl, hp0⟩ := gWi_n rfl (by omega) g2
  have ep : gTo (nI p) = p := gTo_n (by omega)
  have hA := hw.2.1 g1
  refine gTM_use rfl (p_asItIs d V hw g1 _ L y hm0) (fun v h' q => ?_)
  obtain ⟨rfl, I1, L1, rfl, o1, m1, u1, hp, t1, k1⟩ := q
  refine gTM_use rfl (p_flows (d + 4) V hA (vA V 4) (by omega) (gP0 V) I1 L1 y u1 hp) (fun v h' q => ?_)
  obtain ⟨rfl, L2, rfl, f1, f2⟩ := q
  have f2' : mFT V (vA V 4) (wMf V (vA V 4) (gP0 V)) L2 := f2
  generalize hmf : wMf V (vA V 4) (gP0 V) = mf at f2'
  have hx : xVisits V (nI p) = (0, gL (fVi (vA V) (vA V 4) mf p (vA V 3 + 1)), V) := by unfold xVisits; simp only [g1, g2, cond_true]; rw [ep, hmf]
  refine gT_for (σ := Unit) (pc := 50) (lo := fun h _ => [some gM0, some (gI (nI p)), some (gL (fVi (vA V) (vA V 4) mf p h)), none, some (gI (nI h)), none]) (hp := fun _ _ => gH I1 L2 y) (Inv := fun _ _ => True) (vA V 3 + 1) ?_ ?_ 0 () (Nat.zero_le _) trivial (by (repeat' apply And.intro) <;> first | rfl | trivial | exact congrArg Sum.inl (nI_1 _).symm | exact congrArg Sum.inl (nI_1 _).symm)
  · intro _ _
    refine gT_go 400 [50] kX12_visits ?_
    refine Exists.intro (3) (And.intro rfl (And.intro (show _ < 708 by omega) ?_))
    refine bGt (vA V 3 + 1) (vA V 3) rfl (m1.1 3 (by omega)) (fun _ => ?_) (fun q => absurd q (by omega))
    exact mDone (o2 := (0, gL (fVi (vA V) (vA V 4) mf p (vA V 3 + 1)), V)) hx rfl (o1.tr (fun b hb => ⟨rfl, f1 b (by omega)⟩)) (mR_152 m1 f1) (t1.trans u3_eq)
  · intro h _ hh _ hnexth
    refine gT_go 400 [50, 64] kX12_visits ?_
    refine Exists.intro (3) (And.intro rfl (And.intro (show _ < 708 by omega) ?_))
    refine bGt h (vA V 3) rfl (m1.1 3 (by omega)) (fun q => absurd q (by omega)) (fun _ => ?_)
    refine gT_for (σ := Unit) (pc := 64) (lo := fun n _ => [some gM0, some (gI (nI p)), some (gL (fVi (vA V) (vA V 4) mf p h + sNn (fun n => mf h p n * gSc (vA V) h) n)), none, some (gI (nI h)), some (gI (nI n))]) (hp := fun _ _ => gH I1 L2 y) (Inv := fun _ _ => True) (vA V 4 + 1) ?_ ?_ 0 () (Nat.zero_le _) trivial (by rw [show sNn (fun n => mf h p n * gSc (vA V) h) 0 = 0 from rfl, Int64.add_zero]; exact (by (repeat' apply And.intro) <;> first | rfl | trivial | exact congrArg Sum.inl (nI_1 _).symm | exact congrArg Sum.inl (nI_1 _).symm))
    · intro _ _
      refine gT_go 400 [50, 64] kX12_visits ?_
      refine bGt (vA V 4 + 1) (vA V 4) rfl u1.1 (fun _ => ?_) (fun q => absurd q (by omega))
      exact hnexth () _ trivial (by (repeat' apply And.intro) <;> first | rfl | trivial | exact congrArg Sum.inl (nI_1 _).symm | exact congrArg Sum.inl (nI_1 _).symm)
    · intro n _ hn _ hnextn
      have hs := sN_lt (h := h) (p := p) (n := n) (by omega) (by omega) (by omega)
      have hsc : L2 138 0 h = gSc (vA V) h := by rw [f1 138 (by decide)]; exact u1.2.1.2.2.1 h (by omega)
      refine gT_go 400 [64] kX12_visits ?_
      refine bGt n (vA V 4) rfl u1.1 (fun q => absurd q (by omega)) (fun _ => ?_)
      refine gP_use (p_state (d + 7) h p n _) ?_
      refine Exists.intro (sN h p n) (And.intro rfl (And.intro (show _ < 3900 by omega) ?_))
      refine Exists.intro (h) (And.intro rfl (And.intro (show _ < 25 by omega) ?_))
      refine hnextn () _ trivial ?_
      rw [show fVi (vA V) (vA V 4) mf p h + sNn (fun n => mf h p n * gSc (vA V) h) (n + 1) = fVi (vA V) (vA V 4) mf p h + sNn (fun n => mf h p n * gSc (vA V) h) n + L2 152 0 (sN h p n) * L2 138 0 h by rw [f2' h p n (by omega) hp0 (by omega), hsc, Int64.add_assoc]; rfl]
      exact (by (repeat' apply And.intro) <;> first | rfl | trivial | exact congrArg Sum.inl (nI_1 _).symm | exact congrArg Sum.inl (nI_1 _).symm)
