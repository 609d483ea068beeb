/-! ===== plain law: the tables of a play are told by their equations ===== -/
/-- a land that is there: all its places and persons -/
def gLg (A : Nat → Nat) : Prop := gLd A ∧ 0 < A 0 ∧ 0 < A 2 ∧ 0 < A 3 ∧ 0 < A 4 ∧ A 6 < A 0 ∧ ∀ w, w < A 1 → A (19 + w) < A 0 ∧ A (43 + w) < A 0
theorem aOth_ltR {A : Nat → Nat} (h : gLg A) {w p : Nat} (hw : w < A 1) : aOth A w p < A 0 := by
  have q := h.2.2.2.2.2.2 w hw
  unfold aOth
  split <;> omega
theorem aNx_le {A : Nat → Nat} {S n t : Nat} (hn : n ≤ S) : aNx A S n t ≤ S := by unfold aNx; split <;> omega
theorem gBr_cgR {A : Nat → Nat} {S : Nat} {s : Bool} {r r' : Nat → Int64} {h p n m : Nat} (hA : gLg A) (hn : n ≤ S) (hp : p < A 0) (hm : m ≤ A 1) (hr : ∀ t j, t < A 0 → j ≤ S → r (sN (h + 1) t j) = r' (sN (h + 1) t j)) : gBr A S s r h p n m = gBr A S s r' h p n m := by
  have e1 : r (aBh A S h n p) = r' (aBh A S h n p) := hr p _ hp (aNx_le hn)
  unfold gBr
  by_cases c : m = 0
  · rw [if_pos c, if_pos c, e1]
  · have e2 : r (aBh A S h n (aOth A (m - 1) p)) = r' (aBh A S h n (aOth A (m - 1) p)) := hr _ _ (aOth_ltR hA (by omega)) (aNx_le hn)
    rw [if_neg c, if_neg c, e1, e2]
theorem gRh_cgR {A : Nat → Nat} {S : Nat} {sn : Nat → Bool} {sc : Nat → Int64} {B : Nat → Nat → Nat → Nat} {l : Nat → Bool} {k : Nat} {r r' : Nat → Int64} {h p n : Nat} (hA : gLg A) (hn : n ≤ S) (hp : p < A 0) (hr : aEnd A h p n = 0 → ∀ t j, t < A 0 → j ≤ S → r (sN (h + 1) t j) = r' (sN (h + 1) t j)) : gRh A S sn sc B l k r h p n = gRh A S sn sc B l k r' h p n := by
  unfold gRh
  by_cases e : aEnd A h p n = 0
  · rw [if_pos e, if_pos e]
    have q : gBs (B h p n) (gBr A S (sn h) r h p n) (l h) (A 1 + 1) = gBs (B h p n) (gBr A S (sn h) r' h p n) (l h) (A 1 + 1) :=
      gBs_cg _ (fun m hm => gBr_cgR hA hn hp (by omega) (hr e))
    rw [q]
    refine gBr_cgR hA hn hp ?_ (hr e)
    cases hg : gBs (B h p n) (gBr A S (sn h) r' h p n) (l h) (A 1 + 1) with
    | none => exact Nat.zero_le _
    | some b => have := gBs_lt hg; show b ≤ A 1; omega
  · rw [if_neg e, if_neg e]
theorem gSf_uq {A : Nat → Nat} {S : Nat} {sn : Nat → Bool} {sc : Nat → Int64} {B : Nat → Nat → Nat → Nat} {l : Nat → Bool} {k : Nat} {r r' : Nat → Int64} (hA : gLg A)
    (H : ∀ h p n, h ≤ A 3 → p < A 0 → n ≤ S → gSf A S sn sc B l k r h p n) (H' : ∀ h p n, h ≤ A 3 → p < A 0 → n ≤ S → gSf A S sn sc B l k r' h p n) :
    ∀ i h p n, A 3 ≤ h + i → h ≤ A 3 → p < A 0 → n ≤ S → r (sN h p n) = r' (sN h p n) := by
  intro i
  induction i with
  | zero =>
    intro h p n q1 q2 q3 q4
    have e := H h p n q2 q3 q4
    have e' := H' h p n q2 q3 q4
    unfold gSf at e e'
    have z : ¬ aEnd A h p n = 0 := fun z => (aEnd_0 z).2 (by omega)
    rw [if_neg z] at e e'
    rw [e, e']
  | succ i ih =>
    intro h p n q1 q2 q3 q4
    have e : r (sN h p n) = gRh A S sn sc B l k r h p n := H h p n q2 q3 q4
    have e' : r' (sN h p n) = gRh A S sn sc B l k r' h p n := H' h p n q2 q3 q4
    rw [e, e']
    refine gRh_cgR hA q4 q3 (fun z t j ht hj => ?_)
    have := (aEnd_0 z).2
    exact ih (h + 1) t j (by omega) (by omega) ht hj
/-- all tables of a play -/
def gPlay (A : Nat → Nat) (S : Nat) (M : Nat → Nat → Nat → Nat → Nat) (P : PP) (T : Nat → Int32) (W rA rB : Nat → Int64) : Prop :=
  (∀ k, k < A 2 → ∀ h p n, h ≤ A 3 → p < A 0 → n ≤ S → gSf A S (gSn A) (gSc A) (fun h p n => gMv (M k h p n)) (fun _ => false) k (fun j => rA (k * 3900 + j)) h p n) ∧
  (∀ k, k < A 2 → P.2.1 k = 4 → ∀ h p n, h ≤ A 3 → p < A 0 → n ≤ S → gSf A S (gSn A) (gSc A) (fun h p n => gMv (M (P.1 h) h p n)) (fun h => decide (P.1 h ≠ k)) k (fun j => rB (k * 3900 + j)) h p n) ∧
  ∀ h p n, h ≤ A 3 → p < A 0 → n ≤ S → gPx A S (gSn A) (gSc A) P M rA rB T W h p n
theorem gPlay_uq {A : Nat → Nat} {S : Nat} {M : Nat → Nat → Nat → Nat → Nat} {P : PP} {T T' : Nat → Int32} {W W' rA rA' rB rB' : Nat → Int64} (hA : gLg A) (hP : ∀ h, h < A 3 → P.1 h < A 2) (hpl : ∀ h, h < A 3 → P.2.2.2.2 h ≤ A 1)
    (H : gPlay A S M P T W rA rB) (H' : gPlay A S M P T' W' rA' rB') : (∀ k h p n, k < A 2 → h ≤ A 3 → p < A 0 → n ≤ S → rA (k * 3900 + sN h p n) = rA' (k * 3900 + sN h p n)) ∧
    ∀ i h p n, A 3 ≤ h + i → h ≤ A 3 → p < A 0 → n ≤ S → T (sN h p n) = T' (sN h p n) ∧ ∀ k, k < A 2 → W (k * 3900 + sN h p n) = W' (k * 3900 + sN h p n) := by
  obtain ⟨h1, h2, h3⟩ := H
  obtain ⟨h1', h2', h3'⟩ := H'
  have uA : ∀ k h p n, k < A 2 → h ≤ A 3 → p < A 0 → n ≤ S → rA (k * 3900 + sN h p n) = rA' (k * 3900 + sN h p n) := fun k h p n q1 q2 q3 q4 =>
    gSf_uq (r := fun j => rA (k * 3900 + j)) (r' := fun j => rA' (k * 3900 + j)) hA (h1 k q1) (h1' k q1) (A 3) h p n (by omega) q2 q3 q4
  have uB : ∀ k h p n, k < A 2 → P.2.1 k = 4 → h ≤ A 3 → p < A 0 → n ≤ S → rB (k * 3900 + sN h p n) = rB' (k * 3900 + sN h p n) := fun k h p n q1 q0 q2 q3 q4 =>
    gSf_uq (r := fun j => rB (k * 3900 + j)) (r' := fun j => rB' (k * 3900 + j)) hA (h2 k q1 q0) (h2' k q1 q0) (A 3) h p n (by omega) q2 q3 q4
  refine ⟨uA, ?_⟩
  have base : ∀ h p n, h ≤ A 3 → p < A 0 → n ≤ S → ¬ aEnd A h p n = 0 → T (sN h p n) = T' (sN h p n) ∧ ∀ k, k < A 2 → W (k * 3900 + sN h p n) = W' (k * 3900 + sN h p n) := by
    intro h p n q2 q3 q4 z
    obtain ⟨g1, g2⟩ := h3 h p n q2 q3 q4
    obtain ⟨g1', g2'⟩ := h3' h p n q2 q3 q4
    refine ⟨by rw [g1, g1', if_neg z, if_neg z], fun k hk => ?_⟩
    rw [g2 k hk, g2' k hk]
    unfold gPr
    rw [if_neg z, if_neg z]
  intro i
  induction i with
  | zero => exact fun h p n q1 q2 q3 q4 => base h p n q2 q3 q4 (fun z => (aEnd_0 z).2 (by omega))
  | succ i ih =>
    intro h p n q1 q2 q3 q4
    by_cases z : aEnd A h p n = 0
    · have hh := (aEnd_0 z).2
      have hh3 : h < A 3 := by omega
      obtain ⟨g1, g2⟩ := h3 h p n q2 q3 q4
      obtain ⟨g1', g2'⟩ := h3' h p n q2 q3 q4
      have b1 : ∀ q m, q < A 2 → m ≤ A 1 → gBr A S (gSn A h) (fun j => W (q * 3900 + j)) h p n m = gBr A S (gSn A h) (fun j => W' (q * 3900 + j)) h p n m := fun q m hq hm =>
        gBr_cgR hA q4 q3 hm (fun t j ht hj => (ih (h + 1) t j (by omega) (by omega) ht hj).2 q hq)
      have ec : gCh A S (gSn A) P M W rA rB h p n = gCh A S (gSn A) P M W' rA' rB' h p n :=
        gChk_cg0 (hP h hh3) b1 (fun m hm => gBr_cgR hA q4 q3 hm (fun t j ht hj => uA _ (h + 1) t j (hP h hh3) (by omega) ht hj)) (fun e m hm => gBr_cgR hA q4 q3 hm (fun t j ht hj => uB _ (h + 1) t j (hP h hh3) e (by omega) ht hj))
      refine ⟨by rw [g1, g1', if_pos z, if_pos z, ec], fun k hk => ?_⟩
      rw [g2 k hk, g2' k hk]
      unfold gPr
      rw [if_pos z, if_pos z, ec]
      exact b1 k _ hk (gChk_le (hpl h hh3))
    · exact base h p n q2 q3 q4 z
/-- the tables of a play -/
noncomputable def gTab (A : Nat → Nat) (S : Nat) (M : Nat → Nat → Nat → Nat → Nat) (P : PP) : (Nat → Int32) × (Nat → Int64) × (Nat → Int64) × (Nat → Int64) :=
  Classical.epsilon (fun t => gPlay A S M P t.1 t.2.1 t.2.2.1 t.2.2.2)
theorem gTab_ok {A : Nat → Nat} {S : Nat} {M : Nat → Nat → Nat → Nat → Nat} {P : PP} {T : Nat → Int32} {W rA rB : Nat → Int64} (H : gPlay A S M P T W rA rB) : gPlay A S M P (gTab A S M P).1 (gTab A S M P).2.1 (gTab A S M P).2.2.1 (gTab A S M P).2.2.2 :=
  Classical.epsilon_spec (p := fun t : (Nat → Int32) × (Nat → Int64) × (Nat → Int64) × (Nat → Int64) => gPlay A S M P t.1 t.2.1 t.2.2.1 t.2.2.2) ⟨(T, W, rA, rB), H⟩
/-- the move taken; the worth to one; the worth alone -/
noncomputable def wT (A : Nat → Nat) (S : Nat) (M : Nat → Nat → Nat → Nat → Nat) (P : PP) (h p n : Nat) : Int32 := (gTab A S M P).1 (sN h p n)
noncomputable def wW (A : Nat → Nat) (S : Nat) (M : Nat → Nat → Nat → Nat → Nat) (P : PP) (k h p n : Nat) : Int64 := (gTab A S M P).2.1 (k * 3900 + sN h p n)
def gAlM (A : Nat → Nat) (S : Nat) (M : Nat → Nat → Nat → Nat → Nat) (k : Nat) (r : Nat → Int64) : Prop :=
  ∀ h p n, h ≤ A 3 → p < A 0 → n ≤ S → gSf A S (gSn A) (gSc A) (fun h p n => gMv (M k h p n)) (fun _ => false) k r h p n
noncomputable def wAt (A : Nat → Nat) (S : Nat) (M : Nat → Nat → Nat → Nat → Nat) (k : Nat) : Nat → Int64 := Classical.epsilon (fun r => gAlM A S M k r)
noncomputable def wA (A : Nat → Nat) (S : Nat) (M : Nat → Nat → Nat → Nat → Nat) (k h p n : Nat) : Int64 := wAt A S M k (sN h p n)
theorem gAl_w {A : Nat → Nat} {S : Nat} {M : Nat → Nat → Nat → Nat → Nat} {k : Nat} {r : Nat → Int64} (hA : gLg A) (H : gAlM A S M k r) {h p n : Nat} (q2 : h ≤ A 3) (q3 : p < A 0) (q4 : n ≤ S) : r (sN h p n) = wA A S M k h p n :=
  gSf_uq hA H (Classical.epsilon_spec (p := fun r => gAlM A S M k r) ⟨r, H⟩) (A 3) h p n (by omega) q2 q3 q4
theorem gPlay_w {A : Nat → Nat} {S : Nat} {M : Nat → Nat → Nat → Nat → Nat} {P : PP} {T : Nat → Int32} {W rA rB : Nat → Int64} (hA : gLg A) (hP : ∀ h, h < A 3 → P.1 h < A 2) (hpl : ∀ h, h < A 3 → P.2.2.2.2 h ≤ A 1) (H : gPlay A S M P T W rA rB) {h p n : Nat} (q2 : h ≤ A 3) (q3 : p < A 0) (q4 : n ≤ S) :
    T (sN h p n) = wT A S M P h p n ∧ ∀ k, k < A 2 → W (k * 3900 + sN h p n) = wW A S M P k h p n := by
  obtain ⟨u1, u2⟩ := gPlay_uq hA hP hpl H (gTab_ok H)
  exact u2 (A 3) h p n (by omega) q2 q3 q4
