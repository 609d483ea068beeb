/-! ===== the best length of a lead ===== -/
def tOne (x : Int32) : Option Nat := if x = -1 then none else some (gTo x)
theorem tOne_ok {A : Nat → Nat} {x : Int32} (hA : gLd A) (h : gOne A x = true) : x = gOI (tOne x) ∧ ∀ j, tOne x = some j → j < A 2 := by
  have a2 := hA.2.2.1
  unfold tOne
  by_cases q : x = -1
  · rw [if_pos q]
    exact ⟨q, fun j hj => by cases hj⟩
  · rw [if_neg q]
    unfold gOne at h
    rw [decide_eq_false q] at h
    obtain ⟨j, e, hj⟩ := gWi_n rfl (by omega) h
    subst e
    rw [gTo_n (by omega)]
    exact ⟨rfl, fun k hk => by injection hk with hk; omega⟩
theorem mU_ld {V : VS} {S : Nat} {om : Option Nat} {P : PP} {I I' : Nat → Nat → Nat → Int32} {L : Nat → Nat → Nat → Int64} (ld : Nat → Nat) (H : mU V S om P I L) (e : ∀ b, b ≠ 129 → I' b = I b) (hl : ∀ h, h < vA V 3 → I' 129 0 h = nI (ld h) ∧ ld h < vA V 2) : mU V S om (ld, P.2) I' L := by
  obtain ⟨u1, u2, P1, P2, P3, P4, P5⟩ := H
  exact ⟨by rw [e 100 (by decide)]; exact u1, gKn_cg (e 136 (by decide)) (e 142 (by decide)) rfl rfl u2, hl, by rw [e 130 (by decide)]; exact P2, by rw [e 100 (by decide)]; exact P3, by rw [e 100 (by decide)]; exact P4, by rw [e 125 (by decide)]; exact P5⟩
theorem mR_lds {V : VS} {I I' : Nat → Nat → Nat → Int32} {L : Nat → Nat → Nat → Int64} (H : mR V I L) (e : ∀ b, b ≠ 129 → I' b = I b) : mR V I' L :=
  mR_cg ⟨e _ (by decide), e _ (by decide), e _ (by decide), e _ (by decide), e _ (by decide), e _ (by decide), e _ (by decide), e _ (by decide), e _ (by decide), e _ (by decide), e _ (by decide), rfl, rfl, fun k _ => by rw [e 100 (by decide)]⟩ H
/-- all lead in turn, n hours each -/
def gPn (V : VS) (n : Nat) : PP := (gWho (sTn (vS V)) n (vA V 2), (gP0 V).2)
theorem gWho_ok {V : VS} (hw : gWf V) (hL : vL V = true) {n h : Nat} (hh : h < 24) : gWho (sTn (vS V)) n (vA V 2) h < vA V 2 := by
  have h2 := (hw.2.1 hL).2.2.1
  unfold gWho
  cases q : sTn (vS V) h with
  | none => exact Nat.mod_lt _ h2
  | some k => exact (hw.2.2.2.1.2.2.1 h hh).2 k q
noncomputable def wLen (V : VS) (k : Option Nat) (i : Nat) : Int64 := wTo V (vA V 4) none (gPn V (i + 1)) k
noncomputable def xLength (V : VS) (a : Int32) : Int32 × AV × VS :=
  bif vL V then (bif gOne (vA V) a then (0, gI (nI ((gBs 4095 (wLen V (tOne a)) false 12).getD 0 + 1)), V) else (1, gI 0, xRef V 0)) else (2, gI 0, xRef V 3)
theorem all12 : ∀ i, i < 12 → (4095 : Nat).testBit i = true := by decide
def gOI1 : Option Nat → Int32
  | none => -1
  | some b => nI (b + 1)
/-- a state for some play with these kinds and plan -/
def mW (V : VS) (I0 : Nat → Nat → Nat → Int32) (L0 : Nat → Nat → Nat → Int64) (I : Nat → Nat → Nat → Int32) (L : Nat → Nat → Nat → Int64) : Prop :=
  mOut I0 L0 I L ∧ mR V I L ∧ (∃ ld, mU V (vA V 4) none (ld, (gP0 V).2) I L) ∧ I 100 0 0 = 0
set_option maxRecDepth 100000 in
theorem c_length (V : VS) (hw : gWf V) (a : Int32) : mC mX12_length 9 [gI a] V (xLength V a) := by
  intro d I L y hm
  have hm0 := mR_thr hm 0
  have a2 := hw.1.2.2.1
  have a3 := hw.1.2.2.2.1
  have a4 := hw.1.2.2.2.2.1
  obtain ⟨w1, w2, w3, w4, w5, w6, w7⟩ := hw.2.2.2.1
  refine gEnter 400 [35] kX12_length rfl rfl ?_
  refine gTM_use rfl (p_isHere (d + 6) V 2 (by decide) _ L y hm0 u3_eq) (fun v h' q => ?_)
  rcases q with ⟨g1, rfl, rfl⟩ | ⟨g1, rfl, I', rfl, q1, q2, q3⟩
  rotate_left
  · refine And.intro (fun _ => ?_) (fun q => absurd rfl q)
    exact mGt_no (by unfold xLength; simp only [g1, cond_true, cond_false] <;> rfl) q1 q2 q3
  refine And.intro (fun q => absurd q (by decide)) (fun _ => ?_)
  refine gTM_use rfl (p_isPersonOrNone (d + 5) V a 1 (by decide) _ L y hm0 u3_eq) (fun v h' q => ?_)
  rcases q with ⟨g2, rfl, rfl⟩ | ⟨g2, rfl, I', rfl, q1, q2, q3⟩
  rotate_left
  · refine And.intro (fun q => absurd rfl q) (fun _ => ?_)
    exact mGt_no (by unfold xLength; simp only [g1,g2, cond_true, cond_false] <;> rfl) q1 q2 q3
  refine And.intro (fun _ => ?_) (fun q => absurd q (by decide))
  obtain ⟨ea, ek⟩ := tOne_ok hw.1 g2
  have hA := hw.2.1 g1
  refine gTM_use rfl (p_setUp (d + 1) V hw g1 _ L y hm0) (fun v h' q => ?_)
  obtain ⟨rfl, I1, L1, rfl, o1, m1, u1, t1, k1⟩ := q
  refine gT_for (σ := (Nat → Nat → Nat → Int32) × (Nat → Nat → Nat → Int64)) (pc := 35) (lo := fun i _ => [some gM0, some (gI a), some (gI (gOI1 (gBs 4095 (wLen V (tOne a)) false i))), some (gL (gOv (wLen V (tOne a)) (gBs 4095 (wLen V (tOne a)) false i))), none, some (gI (nI (i + 1))), none, none]) (hp := fun _ x => gH x.1 x.2 y)
    (Inv := fun i x => mW V (u3 I 100 0 0 0) L x.1 x.2) 12 ?_ ?_ 0 (I1, L1) (Nat.zero_le _) ⟨o1, m1, ⟨_, u1⟩, t1.trans u3_eq⟩ (by (repeat' apply And.intro) <;> first | rfl | trivial | exact congrArg Sum.inl (nI_1 _).symm | exact congrArg Sum.inl (nI_1 _).symm)
  · intro x ⟨x1, x2, x3, x4⟩
    refine gT_go 400 [35] kX12_length ?_
    refine bGt 13 12 rfl rfl (fun c => ?_) (fun c => absurd c (by omega))
    obtain ⟨b, hb⟩ := gBs_some (v := wLen V (tOne a)) (l := false) (all12 0 (by decide)) 12 (by decide)
    refine mDone (o2 := (0, gI (nI ((gBs 4095 (wLen V (tOne a)) false 12).getD 0 + 1)), V)) (by unfold xLength; simp only [g1, g2, cond_true]) ?_ x1 x2 x4
    rw [hb]
    rfl
  · intro i x hi ⟨x1, x2, ⟨ld, x3⟩, x4⟩ hnext
    refine gT_go 400 [45] kX12_length ?_
    refine bGt (i + 1) 12 rfl rfl (fun c => absurd c (by omega)) (fun c => ?_)
    refine gT_for (σ := Nat → Nat → Nat → Int32) (pc := 45) (lo := fun h _ => [some gM0, some (gI a), some (gI (gOI1 (gBs 4095 (wLen V (tOne a)) false i))), some (gL (gOv (wLen V (tOne a)) (gBs 4095 (wLen V (tOne a)) false i))), none, some (gI (nI (i + 1))), some (gI (nI h)), none]) (hp := fun _ z => gH z x.2 y)
      (Inv := fun h z => (∀ b, b ≠ 129 → z b = x.1 b) ∧ ∀ j, j < h → z 129 0 j = nI (gWho (sTn (vS V)) (i + 1) (vA V 2) j)) (vA V 3) ?_ ?_ 0 x.1 (Nat.zero_le _) ⟨fun _ _ => rfl, fun j hj => absurd hj (Nat.not_lt_zero _)⟩ (by (repeat' apply And.intro) <;> first | rfl | trivial | exact congrArg Sum.inl (nI_1 _).symm | exact congrArg Sum.inl (nI_1 _).symm)
    · intro z ⟨z1, z2⟩
      have zm := mR_lds x2 z1
      have zU : mU V (vA V 4) none (gPn V (i + 1)) z x.2 := mU_ld (P := (ld, (gP0 V).2)) (gWho (sTn (vS V)) (i + 1) (vA V 2)) x3 z1 (fun h hh => ⟨z2 h hh, gWho_ok hw g1 (by omega)⟩)
      refine gT_go 400 [35] kX12_length ?_
      refine Exists.intro (3) (And.intro rfl (And.intro (show _ < 708 by omega) ?_))
      refine bGe (vA V 3) (vA V 3) rfl (zm.1 3 (by omega)) (fun c => ?_) (fun c => absurd c (by omega))
      refine gTM_use rfl (p_playsU (d + 1) V hw (vA V 4) (by omega) none _ z x.2 y zm.1 zU) (fun v h' w => ?_)
      obtain ⟨rfl, I3, L3, rfl, f3, hp3⟩ := w
      have f0 : mW V (u3 I 100 0 0 0) L I3 L3 := ⟨(x1.tr (fun b hb => ⟨z1 b (by omega), rfl⟩)).tr f3.out, f3.mR zm, ⟨_, f3.mU zU⟩, by rw [f3.1 100 (by decide) (by decide), z1 100 (by decide)]; exact x4⟩
      refine gP_use (gP_eq (by rw [← ea] <;> rfl) (p_nowTo (d + 3) V hA (vA V 4) (by omega) none _ zU.2.2.ok (tOne a) ek I3 L3 y hp3)) ?_
      have hbt := all12 i hi
      cases hg : gBs 4095 (wLen V (tOne a)) false i with
      | none =>
        refine And.intro (fun _ => ?_) (fun q => absurd rfl q)
        refine hnext (I3, L3) _ f0 ?_
        rw [gBs_n hbt hg]
        exact (by (repeat' apply And.intro) <;> first | rfl | trivial | exact congrArg Sum.inl (nI_1 _).symm | exact congrArg Sum.inl (nI_1 _).symm)
      | some b0 =>
        have hb0 := gBs_lt hg
        refine And.intro (fun q => absurd q (show ¬ nI (b0 + 1) = -1 from gOI_ne (by omega))) (fun _ => ?_)
        refine bcGt (fun c => ?_) (fun c => ?_)
        · refine hnext (I3, L3) _ f0 ?_
          rw [gBs_f1 hbt hg c]
          exact (by (repeat' apply And.intro) <;> first | rfl | trivial | exact congrArg Sum.inl (nI_1 _).symm | exact congrArg Sum.inl (nI_1 _).symm)
        · refine hnext (I3, L3) _ f0 ?_
          rw [gBs_f0 hbt hg c]
          exact (by (repeat' apply And.intro) <;> first | rfl | trivial | exact congrArg Sum.inl (nI_1 _).symm | exact congrArg Sum.inl (nI_1 _).symm)
    · intro h z hh ⟨z1, z2⟩ hnexth
      have zm := mR_lds x2 z1
      obtain ⟨t1', t2'⟩ := w3 h (by omega)
      have eT : z 125 0 (29 + h) = gOI (sTn (vS V) h) := (zm.2.2.2.1 (29 + h) (by omega)).trans t1'
      have fin : ∀ (v : Int32), v = nI (gWho (sTn (vS V)) (i + 1) (vA V 2) h) → (∀ b, b ≠ 129 → u3 z 129 0 h v b = x.1 b) ∧ ∀ j, j < h + 1 → u3 z 129 0 h v 129 0 j = nI (gWho (sTn (vS V)) (i + 1) (vA V 2) j) := by
        intro v hv
        refine ⟨fun b hb => (u3_ne1 hb).trans (z1 b hb), fun j hj => ?_⟩
        by_cases q : j = h
        · subst q; exact u3_eq.trans hv
        · exact (u3_ne3 q).trans (z2 j (by omega))
      refine gT_go 400 [45] kX12_length ?_
      refine Exists.intro (3) (And.intro rfl (And.intro (show _ < 708 by omega) ?_))
      refine bGe h (vA V 3) rfl (zm.1 3 (by omega)) (fun c => absurd c (by omega)) (fun c => ?_)
      refine Exists.intro (29 + h) (And.intro (nI_add 29 h) (And.intro (show 29 + h < 156 by omega) ?_))
      refine And.intro (fun q => ?_) (fun q => ?_)
      · have hn : sTn (vS V) h = none := by
          cases w : sTn (vS V) h with
          | none => rfl
          | some k => exact absurd (show nI k = -1 from (by rw [w] at eT; exact eT.symm.trans q)) (gOI_ne (by have := t2' k w; omega))
        refine And.intro (nI_ne0 (by omega) (by omega)) ?_
        refine Exists.intro (2) (And.intro rfl (And.intro (show _ < 708 by omega) ?_))
        have e2 : z 110 0 2 = nI (vA V 2) := zm.1 2 (by omega)
        refine And.intro (fun w => absurd (e2.symm.trans w) (nI_ne0 hA.2.2.1 (by omega))) ?_
        refine Exists.intro (h) (And.intro rfl (And.intro (show _ < 24 by omega) ?_))
        refine hnexth _ _ (fin (nI h / nI (i + 1) - nI h / nI (i + 1) / z 110 0 2 * z 110 0 2) ?_) (by (repeat' apply And.intro) <;> first | rfl | trivial | exact congrArg Sum.inl (nI_1 _).symm | exact congrArg Sum.inl (nI_1 _).symm)
        rw [e2, pk_div (by omega) (by omega) (by omega), pk_rem (Nat.lt_of_le_of_lt (Nat.div_le_self _ _) (by omega)) hA.2.2.1 (by omega)]
        unfold gWho
        rw [hn]
      · refine Exists.intro (29 + h) (And.intro (nI_add 29 h) (And.intro (show 29 + h < 156 by omega) ?_))
        refine Exists.intro (h) (And.intro rfl (And.intro (show _ < 24 by omega) ?_))
        refine hnexth _ _ (fin (z 125 0 (29 + h)) ?_) (by (repeat' apply And.intro) <;> first | rfl | trivial | exact congrArg Sum.inl (nI_1 _).symm | exact congrArg Sum.inl (nI_1 _).symm)
        rw [eT]
        cases w : sTn (vS V) h with
        | none => exact absurd (by rw [w] at eT; exact eT) q
        | some k => unfold gWho; rw [w] <;> rfl
