/-! ===== images ===== -/
/-- references in a heap are valid -/
theorem gT_val {m : GM} {d : Nat} {B : Nat × Nat} {Qr : List AV → Hp → Prop} {Qx : Rf → Hp → Prop} {u : Nat × Nat} {pc : Nat} {lo : Lo} {st : List AV} {h : Hp} (K : (∀ b i k r, i < hC h b → gvk h b i k → hR h b i k = some r → r.2 < hC h r.1) → (∀ i v, glo lo i = some v → glv h v) → gT m d B Qr Qx pc lo st h u) : gT m d B Qr Qx pc lo st h u :=
  fun p l e s mi args below meth c D base ad0 h0 H locs ls ad cx ex e2 rp vs lk sl u1 u2 => K rp.2.2.2.1 (fun i v q => (lk.2.2.2 i v q).2) p l e s mi args below meth c D base ad0 h0 H locs ls ad cx ex e2 rp vs lk sl u1 u2
theorem cT0_cg3 {I I' : Nat → Nat → Nat → Int32} {r : Rf} {C : Cd} (e : ∀ b, 12 ≤ b → b < 20 → I' b = I b) (H : cT0 I r C) : cT0 I' r C := by
  rcases H with ⟨i, n, a, b, c, d⟩ | ⟨i, k, a, b, c, d⟩
  · exact Or.inl ⟨i, n, a, b, by rw [e 16 (by decide) (by decide)]; exact c, d⟩
  · exact Or.inr ⟨i, k, a, b, by rw [e 17 (by decide) (by decide)]; exact c, d⟩
theorem cTm_cg3 {I I' : Nat → Nat → Nat → Int32} {y y' : Dy} (e : ∀ b, 12 ≤ b → b < 20 → I' b = I b) (er : ∀ b, 12 ≤ b → b < 20 → gRX y' b = gRX y b) : ∀ {h : Nat} {r : Rf} {C : Cd}, cTm I y h r C → cTm I' y' h r C := by
  intro h
  induction h with
  | zero => intro r C H; exact cT0_cg3 e H
  | succ h ih =>
    intro r C H
    rcases H with H | ⟨i, r1, r2, C1, C2, o, sg, a, b, c, d, t1, t2, f, g⟩
    · exact Or.inl (cT0_cg3 e H)
    · exact Or.inr ⟨i, r1, r2, C1, C2, o, sg, a, b, by rw [er 18 (by decide) (by decide)]; exact c, by rw [er 18 (by decide) (by decide)]; exact d, ih t1, ih t2, by rw [e 18 (by decide) (by decide)]; exact f, g⟩
theorem cAs_cg3 {I I' : Nat → Nat → Nat → Int32} {y y' : Dy} (e : ∀ b, 12 ≤ b → b < 20 → I' b = I b) (er : ∀ b, 12 ≤ b → b < 20 → gRX y' b = gRX y b) : ∀ {h : Nat} {r : Rf} {C : Cd}, cAs I y h r C → cAs I' y' h r C := by
  intro h
  induction h with
  | zero => intro r C H; exact H.elim
  | succ h ih =>
    intro r C H
    rcases H with ⟨i, r1, r2, C1, C2, o, sg, a, b, c, d, t1, t2, f, g⟩ | ⟨i, r1, C1, a, b, c, d⟩ | ⟨i, r1, r2, C1, C2, b, a, b2, c, d, t1, t2, g⟩
    · exact Or.inl ⟨i, r1, r2, C1, C2, o, sg, a, b, by rw [er 15 (by decide) (by decide)]; exact c, by rw [er 15 (by decide) (by decide)]; exact d, cTm_cg3 e er t1, cTm_cg3 e er t2, by rw [e 15 (by decide) (by decide)]; exact f, g⟩
    · exact Or.inr (Or.inl ⟨i, r1, C1, a, b, by rw [er 13 (by decide) (by decide)]; exact c, ih d⟩)
    · exact Or.inr (Or.inr ⟨i, r1, r2, C1, C2, b, a, b2, by rw [er 14 (by decide) (by decide)]; exact c, by rw [er 14 (by decide) (by decide)]; exact d, ih t1, ih t2, by rw [e 14 (by decide) (by decide)]; exact g⟩)
/-- a change of one list leaves another -/
theorem lFr.other {q q' n : Nat} {f : Nat → Option Rf} {I I' : Nat → Nat → Nat → Int32} {L L' : Nat → Nat → Nat → Int64} {y y' : Dy} (H : lFr q I L y I' L' y') (hq : q' ≠ q) (sep : ∀ e, gRX y 10 q' 1 = some (11, e) → gRX y 10 q 1 ≠ some (11, e) ∧ e < y.2.2.2.2 11) (hl : cLi q' n f I y) : cLi q' n f I' y' := by
  obtain ⟨h1, h2, h3, h4, h5, h6, h7, h8, e, h9, h10, h11, h12⟩ := H
  obtain ⟨l1, l2, l3⟩ := hl
  refine ⟨(h3 q' 2 hq).trans l1, l2, ?_⟩
  rcases l3 with ⟨a, b⟩ | ⟨e', a, b, c, g⟩
  · exact Or.inl ⟨a, (h8 q' 1 hq).trans b⟩
  · have ne : e' ≠ e := by
      intro z
      subst z
      obtain ⟨s1, s2⟩ := sep e' a
      rcases h10 with w | w
      · exact s1 w
      · omega
    exact Or.inr ⟨e', (h8 q' 1 hq).trans a, by rw [h12 e' ne]; exact b, fun k hk => (h11 e' k ne).trans (c k hk), by rw [h12 e' ne]; exact g⟩
theorem lFr.sep {q q' : Nat} {I I' : Nat → Nat → Nat → Int32} {L L' : Nat → Nat → Nat → Int64} {y y' : Dy} (H : lFr q I L y I' L' y') (hq : q' ≠ q) (sep : ∀ e, gRX y 10 q' 1 = some (11, e) → gRX y 10 q 1 ≠ some (11, e) ∧ e < y.2.2.2.2 11) : ∀ e, gRX y' 10 q' 1 = some (11, e) → gRX y' 10 q 1 ≠ some (11, e) := by
  obtain ⟨h1, h2, h3, h4, h5, h6, h7, h8, e, h9, h10, h11, h12⟩ := H
  intro e' a w
  rw [h8 q' 1 hq] at a
  obtain ⟨s1, s2⟩ := sep e' a
  have : e = e' := congrArg Prod.snd (Option.some.inj (h9.symm.trans w))
  subst this
  rcases h10 with z | z
  · exact s1 z
  · omega
/-- of a change of the list of images: the rules stay -/
theorem lFr.rules {R : RL} {ht : Nat} {I I' : Nat → Nat → Nat → Int32} {L L' : Nat → Nat → Nat → Int64} {y y' : Dy} (H : lFr 1 I L y I' L' y') (hq : y.2.1 ≠ 1) (sep : ∀ e, gRX y 10 y.2.1 1 = some (11, e) → gRX y 10 1 1 ≠ some (11, e) ∧ e < y.2.2.2.2 11) (hR : cRl R ht I y) : cRl R ht I' y' := by
  obtain ⟨h1, f, h2, h5⟩ := hR
  refine ⟨h1, f, by rw [H.2.2.2.2.1]; exact H.other hq sep h2, fun k hk => ?_⟩
  obtain ⟨j, ra, g1, g2, g3, g4⟩ := h5 k hk
  have e : ∀ b, 12 ≤ b → b < 20 → I' b = I b := fun b b1 b2 => H.1 b (by omega) (by omega)
  have er : ∀ b, 12 ≤ b → b < 20 → gRX y' b = gRX y b := fun b b1 b2 => H.2.2.2.2.2.1 b (by omega) (by omega)
  exact ⟨j, ra, g1, by rw [e 12 (by decide) (by decide)]; exact g2, by rw [er 12 (by decide) (by decide)]; exact g3, cAs_cg3 e er g4⟩
theorem cLi_f {q n : Nat} {f g : Nat → Option Rf} {I : Nat → Nat → Nat → Int32} {y : Dy} (e : ∀ k, k < n → g k = f k) (H : cLi q n f I y) : cLi q n g I y := by
  obtain ⟨l1, l2, l3⟩ := H
  refine ⟨l1, l2, ?_⟩
  rcases l3 with l3 | ⟨e', a, b, c, g'⟩
  · exact Or.inl l3
  · exact Or.inr ⟨e', a, b, fun k hk => (c k hk).trans (e k hk).symm, g'⟩
