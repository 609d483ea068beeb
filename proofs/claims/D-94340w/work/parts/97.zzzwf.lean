/-! ===== plain law: what is well formed stays so ===== -/
theorem gSw_of {A : Nat → Nat} {s : Nat → Int32} (h1 : ∀ k, k < 5 → ∃ z, s k = nI z ∧ z < 6) (h2 : ∀ h, h < 24 → ∃ z, s (5 + h) = nI z ∧ z ≤ A 1) (h3 : ∀ h, h < 24 → s (29 + h) = -1 ∨ ∃ z, s (29 + h) = nI z ∧ z < A 2) (h4 : ∃ z, s 53 = nI z ∧ 0 < z ∧ z < 13) (h5 : ∃ n, s 54 = nI n ∧ n ≤ 24 ∧ ∀ k, k < n → ∃ m, s (55 + k) = nI m ∧ m ≤ A 1) (hA : gLd A) : gSw A s := by
  have a1 := hA.2.1
  have a2 := hA.2.2.1
  refine ⟨fun k hk => ?_, fun h hh => ?_, fun h hh => ?_, ?_, ?_, ?_, h5⟩
  · obtain ⟨z, z1, z2⟩ := h1 k hk
    have e : sKd s k = z := by unfold sKd; rw [z1]; exact gTo_n (by omega)
    rw [e]; exact ⟨z1, z2⟩
  · obtain ⟨z, z1, z2⟩ := h2 h hh
    have e : sPl s h = z := by unfold sPl; rw [z1]; exact gTo_n (by omega)
    rw [e]; exact ⟨z1, z2⟩
  · rcases h3 h hh with q | ⟨z, z1, z2⟩
    · have e : sTn s h = none := by unfold sTn; rw [if_pos q]
      rw [e]; exact ⟨q, fun k w => by cases w⟩
    · have e : sTn s h = some z := by unfold sTn; rw [if_neg (by rw [z1]; exact gOI_ne (by omega)), z1, gTo_n (by omega)]
      rw [e]; exact ⟨z1, fun k w => by cases w; exact z2⟩
  · obtain ⟨z, z1, z2, z3⟩ := h4
    have e : sLn s = z := by unfold sLn; rw [z1]; exact gTo_n (by omega)
    rw [e]; exact z1
  · obtain ⟨z, z1, z2, z3⟩ := h4
    have e : sLn s = z := by unfold sLn; rw [z1]; exact gTo_n (by omega)
    rw [e]; exact z2
  · obtain ⟨z, z1, z2, z3⟩ := h4
    have e : sLn s = z := by unfold sLn; rw [z1]; exact gTo_n (by omega)
    rw [e]; exact z3
theorem gSw_to {A : Nat → Nat} {s : Nat → Int32} (H : gSw A s) : (∀ k, k < 5 → ∃ z, s k = nI z ∧ z < 6) ∧ (∀ h, h < 24 → ∃ z, s (5 + h) = nI z ∧ z ≤ A 1) ∧ (∀ h, h < 24 → s (29 + h) = -1 ∨ ∃ z, s (29 + h) = nI z ∧ z < A 2) ∧ (∃ z, s 53 = nI z ∧ 0 < z ∧ z < 13) ∧ ∃ n, s 54 = nI n ∧ n ≤ 24 ∧ ∀ k, k < n → ∃ m, s (55 + k) = nI m ∧ m ≤ A 1 := by
  obtain ⟨w1, w2, w3, w4, w5, w6, w7⟩ := H
  refine ⟨fun k hk => ⟨_, w1 k hk⟩, fun h hh => ⟨_, w2 h hh⟩, fun h hh => ?_, ⟨_, w4, w5, w6⟩, w7⟩
  obtain ⟨q1, q2⟩ := w3 h hh
  cases hq : sTn s h with
  | none => rw [hq] at q1; exact Or.inl q1
  | some k => rw [hq] at q1; exact Or.inr ⟨k, q1, q2 k hq⟩
section
variable {A : Nat → Nat} {s : Nat → Int32} {k z : Nat} {v : Int32}
theorem gSw_kind (hA : gLd A) (H : gSw A s) (hk : k < 5) (hz : z < 6) : gSw A (up1 s k (nI z)) := by
  obtain ⟨h1, h2, h3, h4, h5⟩ := gSw_to H
  refine gSw_of (fun j hj => ?_) (fun h hh => by rw [up1_ne (by omega)]; exact h2 h hh) (fun h hh => by rw [up1_ne (by omega)]; exact h3 h hh) (by rw [up1_ne (by omega)]; exact h4) ?_ hA
  · by_cases q : j = k
    · subst q; exact ⟨z, up1_eq, hz⟩
    · rw [up1_ne q]; exact h1 j hj
  · obtain ⟨n, n1, n2, n3⟩ := h5
    exact ⟨n, by rw [up1_ne (by omega)]; exact n1, n2, fun j hj => by rw [up1_ne (by omega)]; exact n3 j hj⟩
theorem gSw_plan (hA : gLd A) (H : gSw A s) (hk : k < 24) (hz : z ≤ A 1) : gSw A (up1 s (5 + k) (nI z)) := by
  obtain ⟨h1, h2, h3, h4, h5⟩ := gSw_to H
  refine gSw_of (fun j hj => by rw [up1_ne (by omega)]; exact h1 j hj) (fun h hh => ?_) (fun h hh => by rw [up1_ne (by omega)]; exact h3 h hh) (by rw [up1_ne (by omega)]; exact h4) ?_ hA
  · by_cases q : h = k
    · subst q; exact ⟨z, up1_eq, hz⟩
    · rw [up1_ne (by omega)]; exact h2 h hh
  · obtain ⟨n, n1, n2, n3⟩ := h5
    exact ⟨n, by rw [up1_ne (by omega)]; exact n1, n2, fun j hj => by rw [up1_ne (by omega)]; exact n3 j hj⟩
theorem gSw_turn (hA : gLd A) (H : gSw A s) (hk : k < 24) (hv : v = -1 ∨ ∃ z, v = nI z ∧ z < A 2) : gSw A (up1 s (29 + k) v) := by
  obtain ⟨h1, h2, h3, h4, h5⟩ := gSw_to H
  refine gSw_of (fun j hj => by rw [up1_ne (by omega)]; exact h1 j hj) (fun h hh => by rw [up1_ne (by omega)]; exact h2 h hh) (fun h hh => ?_) (by rw [up1_ne (by omega)]; exact h4) ?_ hA
  · by_cases q : h = k
    · subst q; rw [up1_eq]; exact hv
    · rw [up1_ne (by omega)]; exact h3 h hh
  · obtain ⟨n, n1, n2, n3⟩ := h5
    exact ⟨n, by rw [up1_ne (by omega)]; exact n1, n2, fun j hj => by rw [up1_ne (by omega)]; exact n3 j hj⟩
theorem gSw_len (hA : gLd A) (H : gSw A s) (h0 : 0 < z) (hz : z < 13) : gSw A (up1 s 53 (nI z)) := by
  obtain ⟨h1, h2, h3, h4, h5⟩ := gSw_to H
  refine gSw_of (fun j hj => by rw [up1_ne (by omega)]; exact h1 j hj) (fun h hh => by rw [up1_ne (by omega)]; exact h2 h hh) (fun h hh => by rw [up1_ne (by omega)]; exact h3 h hh) ⟨z, up1_eq, h0, hz⟩ ?_ hA
  obtain ⟨n, n1, n2, n3⟩ := h5
  exact ⟨n, by rw [up1_ne (by omega)]; exact n1, n2, fun j hj => by rw [up1_ne (by omega)]; exact n3 j hj⟩
theorem gSw_cg {s' : Nat → Int32} (hA : gLd A) (H : gSw A s) (e : ∀ j, j < 79 → s' j = s j) : gSw A s' := by
  obtain ⟨h1, h2, h3, h4, h5⟩ := gSw_to H
  refine gSw_of (fun j hj => by rw [e j (by omega)]; exact h1 j hj) (fun h hh => by rw [e _ (by omega)]; exact h2 h hh) (fun h hh => by rw [e _ (by omega)]; exact h3 h hh) (by rw [e 53 (by omega)]; exact h4) ?_ hA
  obtain ⟨n, n1, n2, n3⟩ := h5
  exact ⟨n, by rw [e 54 (by omega)]; exact n1, n2, fun j hj => by rw [e _ (by omega)]; exact n3 j hj⟩
theorem gSw_clear (hA : gLd A) (H : gSw A s) : gSw A (up1 s 54 0) := by
  obtain ⟨h1, h2, h3, h4, h5⟩ := gSw_to H
  exact gSw_of (fun j hj => by rw [up1_ne (by omega)]; exact h1 j hj) (fun h hh => by rw [up1_ne (by omega)]; exact h2 h hh) (fun h hh => by rw [up1_ne (by omega)]; exact h3 h hh) (by rw [up1_ne (by omega)]; exact h4) ⟨0, up1_eq, Nat.zero_le _, fun j hj => absurd hj (Nat.not_lt_zero _)⟩ hA
theorem gSw_row {n : Nat} (hA : gLd A) (H : gSw A s) (hn : s 54 = nI n) (hn2 : n < 24) (hz : z ≤ A 1) : gSw A (up1 (up1 s (55 + n) (nI z)) 54 (nI n + 1)) := by
  obtain ⟨h1, h2, h3, h4, h5⟩ := gSw_to H
  have f : ∀ j, ¬ j = 54 → ¬ j = 55 + n → up1 (up1 s (55 + n) (nI z)) 54 (nI n + 1) j = s j := fun j a b => (up1_ne a).trans (up1_ne b)
  refine gSw_of (fun j hj => by rw [f _ (by omega) (by omega)]; exact h1 j hj) (fun h hh => by rw [f _ (by omega) (by omega)]; exact h2 h hh) (fun h hh => by rw [f _ (by omega) (by omega)]; exact h3 h hh) (by rw [f _ (by omega) (by omega)]; exact h4) ⟨n + 1, by rw [up1_eq, nI_1], by omega, fun j hj => ?_⟩ hA
  obtain ⟨n', n1, n2, n3⟩ := h5
  have en := (nI_eq (a := n) (b := n') (by omega) (by omega)).mp (hn.symm.trans n1)
  subst en
  rw [up1_ne (show ¬ 55 + j = 54 by omega)]
  by_cases q : j = n
  · subst q; exact ⟨z, up1_eq, hz⟩
  · rw [up1_ne (by omega)]; exact n3 j (by omega)
end
theorem gJr_up {s : Nat → Int32} {k : Nat} {v : Int32} (hk : k < 79) (H : gJr s) : gJr (up1 s k v) := by
  unfold gJr at H ⊢
  rw [up1_ne (show ¬ 79 = k by omega), up1_ne (show ¬ 80 = k by omega)]
  exact H
theorem gWf_S {V : VS} {s' : Nat → Int32} (hw : gWf V) (hs : gSw (vA V) s') (hj : gJr s') : gWf (xS V s') :=
  ⟨hw.1, hw.2.1, hw.2.2.1, hs, hw.2.2.2.2.1, hw.2.2.2.2.2.1, hw.2.2.2.2.2.2.1, hw.2.2.2.2.2.2.2.1, hj, hw.2.2.2.2.2.2.2.2.2⟩
theorem gWf_ref {V : VS} (hw : gWf V) (k : Nat) : gWf (xRef V k) := hw
theorem up1_back {s : Nat → Int32} {k : Nat} {v : Int32} : up1 (up1 s k v) k (s k) = s := by
  funext j
  by_cases q : j = k
  · subst q; exact up1_eq
  · exact (up1_ne q).trans (up1_ne q)
theorem xS_back {V : VS} {k : Nat} {v : Int32} : xS (xS V (up1 (vS V) k v)) (up1 (up1 (vS V) k v) k (vS V k)) = V := by
  rw [up1_back]
  rfl
/-- the play where k leads the hour h -/
theorem gLed_eq {V : VS} {h k : Nat} (hh : h < 24) (hk : k < 5) : pEq (gLed (gP0 V) h k) (gP0 (xS V (up1 (vS V) (29 + h) (nI k)))) := by
  refine ⟨fun q hq => ?_, fun j hj => ?_, (rfl : (none : Option (Nat × Nat)) = none), (rfl : false = false), fun q hq => ?_⟩
  · show gWho (sTn (up1 (vS V) (29 + h) (nI k))) (sLn (up1 (vS V) (29 + h) (nI k))) (vA V 2) q = if q = h then k else (gP0 V).1 q
    have eL : sLn (up1 (vS V) (29 + h) (nI k)) = sLn (vS V) := by unfold sLn; rw [up1_ne (by omega)]
    by_cases e : q = h
    · subst e
      have eT : sTn (up1 (vS V) (29 + q) (nI k)) q = some k := by unfold sTn; rw [up1_eq, if_neg (gOI_ne (by omega)), gTo_n (by omega)]
      rw [if_pos rfl]
      unfold gWho
      rw [eT]
    · have eT : sTn (up1 (vS V) (29 + h) (nI k)) q = sTn (vS V) q := by unfold sTn; rw [up1_ne (by omega)]
      rw [if_neg e]
      show _ = gWho (sTn (vS V)) (sLn (vS V)) (vA V 2) q
      unfold gWho
      rw [eT, eL]
  · show sKd (up1 (vS V) (29 + h) (nI k)) j = sKd (vS V) j
    unfold sKd
    rw [up1_ne (by omega)]
  · show sPl (up1 (vS V) (29 + h) (nI k)) q = sPl (vS V) q
    unfold sPl
    rw [up1_ne (by omega)]
/-- the play where k is of the kind z -/
theorem gKnd_eq {V : VS} {k z : Nat} (hk : k < 5) (hz : z < 6) : pEq (gKnd (gP0 V) k z) (gP0 (xS V (up1 (vS V) k (nI z)))) := by
  refine ⟨fun q hq => ?_, fun j hj => ?_, (rfl : (none : Option (Nat × Nat)) = none), (rfl : false = false), fun q hq => ?_⟩
  · show gWho (sTn (up1 (vS V) k (nI z))) (sLn (up1 (vS V) k (nI z))) (vA V 2) q = gWho (sTn (vS V)) (sLn (vS V)) (vA V 2) q
    have eL : sLn (up1 (vS V) k (nI z)) = sLn (vS V) := by unfold sLn; rw [up1_ne (by omega)]
    have eT : sTn (up1 (vS V) k (nI z)) q = sTn (vS V) q := by unfold sTn; rw [up1_ne (by omega)]
    unfold gWho
    rw [eT, eL]
  · show sKd (up1 (vS V) k (nI z)) j = if j = k then z else sKd (vS V) j
    unfold sKd
    by_cases e : j = k
    · subst e; rw [if_pos rfl, up1_eq, gTo_n (by omega)]
    · rw [if_neg e, up1_ne e]
  · show sPl (up1 (vS V) k (nI z)) q = sPl (vS V) q
    unfold sPl
    rw [up1_ne (by omega)]
