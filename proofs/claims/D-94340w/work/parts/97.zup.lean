/-! ===== the component: changes to what images keep ===== -/
theorem gP0_lt {V : VS} (hw : gWf V) {h : Nat} (hh : h < vA V 3) : (gP0 V).1 h < vA V 2 := by
  have a3 := hw.1.2.2.2.1
  cases q : vL V with
  | true => exact gWho_lt hw q (by omega)
  | false =>
    have z := hw.2.2.1 q 3
    omega
theorem cSt_of {s s' : Nat → Int32} {I I' : Nat → Nat → Nat → Int32} (H : cSt 0 s I) (a1 : ∀ k, k < 5 → I' 21 0 k = s' k) (a2 : ∀ h, h < 24 → I' 22 0 h = s' (5 + h)) (a3 : ∀ h, h < 24 → I' 23 0 h = s' (29 + h)) (a4 : I' 20 0 7 = s' 53) (a5 : I' 20 0 8 = s' 54) (a6 : ∀ n k, s' 54 = nI n → n ≤ 24 → k < n → I' 24 0 k = s' (55 + k))
    (e9 : I' 20 0 9 = I 20 0 9) (e10 : I' 20 0 10 = I 20 0 10) (e25 : I' 25 = I 25) (e26 : I' 26 = I 26) (e27 : I' 27 = I 27) (es : ∀ j, 79 ≤ j → s' j = s j) : cSt 0 s' I' := by
  obtain ⟨-, -, -, -, -, -, h7, h8⟩ := H
  refine ⟨a1, a2, a3, a4, a5, a6, fun g => ?_, fun g => ?_⟩
  · rw [es 79 (by decide)] at g
    rw [e9, e10]
    exact h7 g
  · rw [es 79 (by decide)] at g
    obtain ⟨q1, q2, q3⟩ := h8 g
    rw [e9, e10, es 80 (by decide), es 81 (by decide)]
    refine ⟨q1, q2, fun z h a b c => ?_⟩
    rw [e25, e26, e27, es (82 + h) (by omega), es (107 + h) (by omega), es (132 + h) (by omega)]
    exact q3 z h a b c
section
variable {s : Nat → Int32} {I : Nat → Nat → Nat → Int32} {v : Int32} {k : Nat}
theorem up1_ne {j : Nat} (h : ¬ j = k) : up1 s k v j = s j := if_neg h
theorem up1_eq : up1 s k v k = v := if_pos rfl
theorem cSt_kind (hk : k < 5) (H : cSt 0 s I) : cSt 0 (up1 s k v) (u3 I 21 0 k v) := by
  have e : ∀ b, b ≠ 21 → u3 I 21 0 k v b = I b := fun b hb => u3_ne1 hb
  refine cSt_of H (fun j hj => ?_) (fun h hh => ?_) (fun h hh => ?_) ?_ ?_ (fun n j g1 g2 g3 => ?_) (by rw [e 20 (by decide)]) (by rw [e 20 (by decide)]) (e 25 (by decide)) (e 26 (by decide)) (e 27 (by decide)) (fun j hj => up1_ne (by omega))
  · by_cases q : j = k
    · subst q; exact u3_eq.trans up1_eq.symm
    · rw [up1_ne q]; exact (u3_ne3 q).trans (H.1 j hj)
  · rw [e 22 (by decide), up1_ne (by omega)]; exact H.2.1 h hh
  · rw [e 23 (by decide), up1_ne (by omega)]; exact H.2.2.1 h hh
  · rw [e 20 (by decide), up1_ne (by omega)]; exact H.2.2.2.1
  · rw [e 20 (by decide), up1_ne (by omega)]; exact H.2.2.2.2.1
  · rw [up1_ne (by omega)] at g1
    rw [e 24 (by decide), up1_ne (by omega)]; exact H.2.2.2.2.2.1 n j g1 g2 g3
theorem cSt_plan (hk : k < 24) (H : cSt 0 s I) : cSt 0 (up1 s (5 + k) v) (u3 I 22 0 k v) := by
  have e : ∀ b, b ≠ 22 → u3 I 22 0 k v b = I b := fun b hb => u3_ne1 hb
  refine cSt_of H (fun j hj => ?_) (fun h hh => ?_) (fun h hh => ?_) ?_ ?_ (fun n j g1 g2 g3 => ?_) (by rw [e 20 (by decide)]) (by rw [e 20 (by decide)]) (e 25 (by decide)) (e 26 (by decide)) (e 27 (by decide)) (fun j hj => up1_ne (by omega))
  · rw [e 21 (by decide), up1_ne (by omega)]; exact H.1 j hj
  · by_cases q : h = k
    · subst q; exact u3_eq.trans up1_eq.symm
    · rw [up1_ne (by omega)]; exact (u3_ne3 q).trans (H.2.1 h hh)
  · rw [e 23 (by decide), up1_ne (by omega)]; exact H.2.2.1 h hh
  · rw [e 20 (by decide), up1_ne (by omega)]; exact H.2.2.2.1
  · rw [e 20 (by decide), up1_ne (by omega)]; exact H.2.2.2.2.1
  · rw [up1_ne (by omega)] at g1
    rw [e 24 (by decide), up1_ne (by omega)]; exact H.2.2.2.2.2.1 n j g1 g2 g3
theorem cSt_turn (hk : k < 24) (H : cSt 0 s I) : cSt 0 (up1 s (29 + k) v) (u3 I 23 0 k v) := by
  have e : ∀ b, b ≠ 23 → u3 I 23 0 k v b = I b := fun b hb => u3_ne1 hb
  refine cSt_of H (fun j hj => ?_) (fun h hh => ?_) (fun h hh => ?_) ?_ ?_ (fun n j g1 g2 g3 => ?_) (by rw [e 20 (by decide)]) (by rw [e 20 (by decide)]) (e 25 (by decide)) (e 26 (by decide)) (e 27 (by decide)) (fun j hj => up1_ne (by omega))
  · rw [e 21 (by decide), up1_ne (by omega)]; exact H.1 j hj
  · rw [e 22 (by decide), up1_ne (by omega)]; exact H.2.1 h hh
  · by_cases q : h = k
    · subst q; exact u3_eq.trans up1_eq.symm
    · rw [up1_ne (by omega)]; exact (u3_ne3 q).trans (H.2.2.1 h hh)
  · rw [e 20 (by decide), up1_ne (by omega)]; exact H.2.2.2.1
  · rw [e 20 (by decide), up1_ne (by omega)]; exact H.2.2.2.2.1
  · rw [up1_ne (by omega)] at g1
    rw [e 24 (by decide), up1_ne (by omega)]; exact H.2.2.2.2.2.1 n j g1 g2 g3
theorem cSt_len (H : cSt 0 s I) : cSt 0 (up1 s 53 v) (u3 I 20 0 7 v) := by
  have e : ∀ b, b ≠ 20 → u3 I 20 0 7 v b = I b := fun b hb => u3_ne1 hb
  refine cSt_of H (fun j hj => ?_) (fun h hh => ?_) (fun h hh => ?_) ?_ ?_ (fun n j g1 g2 g3 => ?_) (u3_ne3 (by decide)) (u3_ne3 (by decide)) (e 25 (by decide)) (e 26 (by decide)) (e 27 (by decide)) (fun j hj => up1_ne (by omega))
  · rw [e 21 (by decide), up1_ne (by omega)]; exact H.1 j hj
  · rw [e 22 (by decide), up1_ne (by omega)]; exact H.2.1 h hh
  · rw [e 23 (by decide), up1_ne (by omega)]; exact H.2.2.1 h hh
  · exact u3_eq.trans up1_eq.symm
  · rw [up1_ne (by omega)]; exact (u3_ne3 (by decide)).trans H.2.2.2.2.1
  · rw [up1_ne (by omega)] at g1
    rw [e 24 (by decide), up1_ne (by omega)]; exact H.2.2.2.2.2.1 n j g1 g2 g3
theorem cSt_clear (H : cSt 0 s I) : cSt 0 (up1 s 54 0) (u3 I 20 0 8 0) := by
  have e : ∀ b, b ≠ 20 → u3 I 20 0 8 0 b = I b := fun b hb => u3_ne1 hb
  refine cSt_of H (fun j hj => ?_) (fun h hh => ?_) (fun h hh => ?_) ?_ ?_ (fun n j g1 g2 g3 => ?_) (u3_ne3 (by decide)) (u3_ne3 (by decide)) (e 25 (by decide)) (e 26 (by decide)) (e 27 (by decide)) (fun j hj => up1_ne (by omega))
  · rw [e 21 (by decide), up1_ne (by omega)]; exact H.1 j hj
  · rw [e 22 (by decide), up1_ne (by omega)]; exact H.2.1 h hh
  · rw [e 23 (by decide), up1_ne (by omega)]; exact H.2.2.1 h hh
  · rw [up1_ne (by omega)]; exact (u3_ne3 (by decide)).trans H.2.2.2.1
  · exact u3_eq.trans up1_eq.symm
  · rw [up1_eq] at g1
    have := (nI_eq (a := 0) (b := n) (by omega) (by omega)).mp g1
    omega
theorem cSt_row {n : Nat} (hn : n < 24) (h54 : s 54 = nI n) (H : cSt 0 s I) : cSt 0 (up1 (up1 s (55 + n) v) 54 (nI n + 1)) (u3 (u3 I 24 0 n v) 20 0 8 (nI n + 1)) := by
  have e : ∀ b, b ≠ 20 → b ≠ 24 → u3 (u3 I 24 0 n v) 20 0 8 (nI n + 1) b = I b := fun b hb hc => (u3_ne1 hb).trans (u3_ne1 hc)
  have e20 : ∀ j, j ≠ 8 → u3 (u3 I 24 0 n v) 20 0 8 (nI n + 1) 20 0 j = I 20 0 j := fun j hj => (u3_ne3 hj).trans (by rw [u3_ne1 (by decide)])
  have f : ∀ j, ¬ j = 54 → ¬ j = 55 + n → up1 (up1 s (55 + n) v) 54 (nI n + 1) j = s j := fun j h1 h2 => (up1_ne h1).trans (up1_ne h2)
  refine cSt_of H (fun j hj => ?_) (fun h hh => ?_) (fun h hh => ?_) ?_ ?_ (fun m j g1 g2 g3 => ?_) (e20 9 (by decide)) (e20 10 (by decide)) (e 25 (by decide) (by decide)) (e 26 (by decide) (by decide)) (e 27 (by decide) (by decide)) (fun j hj => f j (by omega) (by omega))
  · rw [e 21 (by decide) (by decide), f _ (by omega) (by omega)]; exact H.1 j hj
  · rw [e 22 (by decide) (by decide), f _ (by omega) (by omega)]; exact H.2.1 h hh
  · rw [e 23 (by decide) (by decide), f _ (by omega) (by omega)]; exact H.2.2.1 h hh
  · rw [f _ (by omega) (by omega)]; exact (e20 7 (by decide)).trans H.2.2.2.1
  · exact u3_eq.trans up1_eq.symm
  · have g1' : nI n + 1 = nI m := up1_eq.symm.trans g1
    rw [nI_1] at g1'
    have hm := (nI_eq (a := n + 1) (b := m) (by omega) (by omega)).mp g1'
    rw [u3_ne1 (show ¬ 24 = 20 by decide), up1_ne (show ¬ 55 + j = 54 by omega)]
    by_cases q : j = n
    · subst q; exact u3_eq.trans up1_eq.symm
    · rw [up1_ne (by omega)]
      exact (u3_ne3 q).trans (H.2.2.2.2.2.1 n j h54 (by omega) (by omega))
end
