/-! ===== public methods of the component: without a rule ===== -/
theorem rHo_del {R : RL} {r : Nat} (hr : r < R.length) {go : Bool} {nm : Nat → Int32} : rHo (R.eraseIdx r) none go nm = rHo R (some r) go nm := by
  have len : (R.eraseIdx r).length = R.length - 1 := List.length_eraseIdx_of_lt hr
  have get : ∀ k, (R.eraseIdx r).getD k (false, []) = R.getD (if k < r then k else k + 1) (false, []) := by
    intro k
    rw [List.getD_eq_getElem?_getD, List.getD_eq_getElem?_getD, List.getElem?_eraseIdx]
    by_cases c : k < r
    · rw [if_pos c, if_pos c]
    · rw [if_neg c, if_neg c]
  have key : ∀ k, rHo1 (R.eraseIdx r) none go nm k = rHo1 R (some r) go nm (if k < r then k else k + 1) := by
    intro k
    unfold rHo1 rG rC
    rw [get k]
    have e : decide (some r = some (if k < r then k else k + 1)) = false := decide_eq_false (fun q => by
      have := Option.some.inj q
      split at this <;> omega)
    rw [e, decide_eq_false (show ¬ (none : Option Nat) = some k by intro q; cases q)]
  rw [Bool.eq_iff_iff]
  unfold rHo
  rw [List.all_eq_true, List.all_eq_true]
  constructor
  · intro H k hk
    have hk' := List.mem_range.mp hk
    by_cases e : k = r
    · subst e; unfold rHo1; rw [decide_eq_true rfl] <;> rfl
    · by_cases c : k < r
      · have q := H k (List.mem_range.mpr (by omega))
        rw [key k, if_pos c] at q
        exact q
      · have q := H (k - 1) (List.mem_range.mpr (by omega))
        rw [key (k - 1), if_neg (by omega), show k - 1 + 1 = k by omega] at q
        exact q
  · intro H k hk
    have hk' := List.mem_range.mp hk
    rw [key k]
    refine H _ (List.mem_range.mpr ?_)
    split <;> omega
theorem gLb_del {A : Nat → Nat} {R : RL} {r : Nat} (hr : r < R.length) (k h p n : Nat) : ∀ w, gLb A (R.eraseIdx r) none k h p n w = gLb A R (some r) k h p n w := by
  intro w
  induction w with
  | zero => unfold gLb; rw [rHo_del hr]
  | succ w ih => unfold gLb; rw [rHo_del hr, ih]
theorem cWt_del {A : Nat → Nat} {S : Nat} {R : RL} {r : Nat} (hr : r < R.length) (P : PP) (k : Option Nat) {V : VS} (hA : vA V = A) (hR : vR V = R) : cWt A S (R.eraseIdx r) P k = wTo V S (some r) P k := by
  subst hA
  subst hR
  have e : gMw (vA V) ((vR V).eraseIdx r) none = gMw (vA V) (vR V) (some r) := by
    funext k h p n
    exact gLb_del hr k h p n (vA V 1)
  cases k with
  | none => unfold cWt; rw [e] <;> rfl
  | some j => unfold cWt; rw [e] <;> rfl
/-- other rules -/
def xRl (V : VS) (R : RL) : VS := (vA V, vL V, R, vS V, vI V, vQ V, vT V, vF V)
theorem gWf_Rl {V : VS} (R : RL) (hw : gWf V) : gWf (xRl V R) := hw
theorem rules_del {R : RL} {ht r n : Nat} {f : Nat → Option Rf} {I I' : Nat → Nat → Nat → Int32} {L L' : Nat → Nat → Nat → Int64} {y y' : Dy} (hr : r < R.length) (hn : R.length = n + 1) (fr : lFr y.2.1 I L y I' L' y') (hl : cLi y.2.1 n (fDel f r) I' y') (h10 : R.length ≤ 10) (h5 : ∀ k, k < R.length → ∃ j ra, f k = some (12, j) ∧ I 12 j 0 = gb (!rG R k) ∧ gRX y 12 j 1 = some ra ∧ cAs I y ht ra (rC R k)) : cRl (R.eraseIdx r) ht I' y' := by
  have len : (R.eraseIdx r).length = n := by rw [List.length_eraseIdx_of_lt hr, hn] <;> rfl
  have get : ∀ k, (R.eraseIdx r).getD k (false, []) = R.getD (if k < r then k else k + 1) (false, []) := by
    intro k
    rw [List.getD_eq_getElem?_getD, List.getD_eq_getElem?_getD, List.getElem?_eraseIdx]
    by_cases c : k < r
    · rw [if_pos c, if_pos c]
    · rw [if_neg c, if_neg c]
  have e : ∀ b, 12 ≤ b → b < 20 → I' b = I b := fun b b1 b2 => fr.1 b (by omega) (by omega)
  have er : ∀ b, 12 ≤ b → b < 20 → gRX y' b = gRX y b := fun b b1 b2 => fr.2.2.2.2.2.1 b (by omega) (by omega)
  refine ⟨by rw [len]; omega, fDel f r, by rw [fr.2.2.2.2.1, len]; exact hl, fun k hk => ?_⟩
  rw [len] at hk
  obtain ⟨j, ra, g1, g2, g3, g4⟩ := h5 (if k < r then k else k + 1) (by split <;> omega)
  refine ⟨j, ra, ?_, ?_, ?_, ?_⟩
  · unfold fDel
    by_cases c : k < r
    · rw [if_pos c] at g1 ⊢; exact g1
    · rw [if_neg c] at g1 ⊢; exact g1
  · unfold rG at g2 ⊢
    rw [e 12 (by decide) (by decide), get k]; exact g2
  · rw [er 12 (by decide) (by decide)]; exact g3
  · unfold rC at g4 ⊢
    rw [get k]; exact cAs_cg3 e er g4
theorem cR_rules {V : VS} {R : RL} {I I2 : Nat → Nat → Nat → Int32} {L : Nat → Nat → Nat → Int64} {y y2 : Dy} (H : cR V I L y) (hsep : ∀ e, gRX y 10 1 1 = some (11, e) → gRX y 10 y.2.1 1 ≠ some (11, e) ∧ e < y.2.2.2.2 11) (fr : lFr y.2.1 I L y I2 L y2) (hR : ∃ ht, ht ≤ 600 ∧ cRl R ht I2 y2) : cR (xRl V R) (u3 (u3 (u3 (u3 I2 60 0 28 0) 60 0 29 0) 60 0 30 0) 60 0 31 0) L y2 ∧ cOut I L (u3 (u3 (u3 (u3 I2 60 0 28 0) 60 0 29 0) 60 0 30 0) 60 0 31 0) L := by
  obtain ⟨⟨H1, -, H3, ⟨g, ⟨h4, sp1, sp2, sp3⟩, h4b⟩, H5, H6, H7, H8, H9, H10, H11, H12, H13⟩, Hk⟩ := id H
  obtain ⟨I3, hI3⟩ : ∃ I3, I3 = u3 (u3 (u3 (u3 I2 60 0 28 0) 60 0 29 0) 60 0 30 0) 60 0 31 0 := ⟨_, rfl⟩
  rw [← hI3]
  have e3 : ∀ b, b ≠ 60 → I3 b = I2 b := fun b hb => by rw [hI3, u3_ne1 hb, u3_ne1 hb, u3_ne1 hb, u3_ne1 hb]
  have e60 : ∀ j, j ≠ 28 → j ≠ 29 → j ≠ 30 → j ≠ 31 → I3 60 0 j = I 60 0 j := fun j j1 j2 j3 j4 => by
    rw [hI3, u3_ne3 j4, u3_ne3 j3, u3_ne3 j2, u3_ne3 j1, fr.1 60 (by decide) (by decide)]
  have eI : ∀ b, b ≠ 10 → b ≠ 11 → b ≠ 60 → I3 b = I b := fun b b1 b2 b3 => (e3 b b3).trans (fr.1 b b1 b2)
  have f28 : I3 60 0 28 = 0 := by rw [hI3]; exact (u3_ne3 (by decide)).trans ((u3_ne3 (by decide)).trans ((u3_ne3 (by decide)).trans u3_eq))
  have f29 : I3 60 0 29 = 0 := by rw [hI3]; exact (u3_ne3 (by decide)).trans ((u3_ne3 (by decide)).trans u3_eq)
  have f31 : I3 60 0 31 = 0 := by rw [hI3]; exact u3_eq
  have eC : ∀ b, b ≠ 11 → y2.2.2.2.2 b = y.2.2.2.2 b := fun b hb => (fr.2.2.2.2.2.2.1 b hb).2
  obtain ⟨ht, ht6, hR'⟩ := hR
  have hq : 1 ≠ y.2.1 := fun z => sp1 z.symm
  refine ⟨⟨⟨?_, ⟨ht, ht6, ?_⟩, ?_, ⟨g, ⟨?_, ?_, ?_, ?_⟩, fun k hk => ⟨(h4b k hk).1, cSt_cg (fun b b1 b2 => eI b (by omega) (by omega) (by omega)) (h4b k hk).2⟩⟩, ?_, ?_, ?_, ?_, ?_, ?_, ?_, ?_, ?_⟩, false, false, false, f28, f29, f31, (fun e => by cases e), (fun e => by cases e), fun e => by cases e⟩, fun b b1 b2 => ⟨eI b (by omega) (by omega) (by omega), rfl⟩⟩
  · rw [fr.2.2.2.1]; exact cLd_cg2 (fun b b1 b2 => eI b (by omega) (by omega) (by omega)) H1
  · exact cRl_cg (fun b hb => e3 b (by omega)) hR'
  · exact cSt_cg (fun b b1 b2 => eI b (by omega) (by omega) (by omega)) H3
  · have q := fr.other hq hsep h4
    exact ⟨(congrFun (congrFun (e3 10 (by decide)) 1) 2).trans q.1, q.2⟩
  · rw [fr.2.2.2.2.1]; exact sp1
  · rw [fr.2.2.2.2.1]; exact fun e a b => fr.sep hq hsep e b a
  · refine ⟨fun b b1 b2 => ?_, fun b b1 b2 => ?_, ?_, ?_⟩
    · rw [eC b (by omega), eC 20 (by decide)]; exact sp3.1 b b1 b2
    · rw [eC b (by omega), eC 40 (by decide)]; exact sp3.2.1 b b1 b2
    · rw [eC 54 (by decide), eC 40 (by decide)]; exact sp3.2.2.1
    · rw [eC 55 (by decide), eC 40 (by decide)]; exact sp3.2.2.2
  · exact (e60 2 (by decide) (by decide) (by decide) (by decide)).trans H5
  · intro k hk; rw [eI 65 (by decide) (by decide) (by decide)]; exact H6 k hk
  · exact (e60 7 (by decide) (by decide) (by decide) (by decide)).trans H7
  · intro k hk; rw [eI 66 (by decide) (by decide) (by decide)]; exact H8 k hk
  · exact (e60 8 (by decide) (by decide) (by decide) (by decide)).trans H9
  · exact (e60 10 (by decide) (by decide) (by decide) (by decide)).trans H10
  · exact (e60 11 (by decide) (by decide) (by decide) (by decide)).trans H11
  · exact (e60 32 (by decide) (by decide) (by decide) (by decide)).trans H12
  · intro k hk; rw [eI 72 (by decide) (by decide) (by decide)]; exact H13 k hk
