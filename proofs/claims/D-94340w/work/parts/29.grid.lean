/-! ===== a table that is filled from the last hour back ===== -/
def gBf (h p n h' p' n' : Nat) : Prop := h < h' ∨ (h' = h ∧ (p' < p ∨ (p' = p ∧ n' < n)))
theorem gT_grid {m : GM} {d : Nat} {B : Nat × Nat} {Qr : List AV → Hp → Prop} {Qx : Rf → Hp → Prop} {u : Nat × Nat} {σ : Type} (q1 q2 q3 : Nat) (l1 : Int32 → σ → Lo) (l2 : Nat → Nat → σ → Lo) (l3 : Nat → Nat → Nat → σ → Lo) (hp : σ → Hp) (F : σ → Prop) (C : Nat → Nat → Nat → σ → Prop) (H P N : Nat)
    (e1 : ∀ x, F x → (∀ h p n, h ≤ H → p < P → n ≤ N → C h p n x) → gT m d B Qr Qx q1 (l1 (-1) x) [] (hp x) u)
    (s1 : ∀ h x, h ≤ H → F x → (∀ lo', glle (l2 h 0 x) lo' → gT m d B Qr Qx q2 lo' [] (hp x) u) → gT m d B Qr Qx q1 (l1 (nI h) x) [] (hp x) u)
    (s2 : ∀ h p x, h ≤ H → p < P → F x → (∀ lo', glle (l3 h p 0 x) lo' → gT m d B Qr Qx q3 lo' [] (hp x) u) → gT m d B Qr Qx q2 (l2 h p x) [] (hp x) u)
    (e2 : ∀ h x, h ≤ H → F x → (∀ y lo', y + 1 = nI h → glle (l1 y x) lo' → gT m d B Qr Qx q1 lo' [] (hp x) u) → gT m d B Qr Qx q2 (l2 h P x) [] (hp x) u)
    (e3 : ∀ h p x, h ≤ H → p < P → F x → (∀ lo', glle (l2 h (p + 1) x) lo' → gT m d B Qr Qx q2 lo' [] (hp x) u) → gT m d B Qr Qx q3 (l3 h p (N + 1) x) [] (hp x) u)
    (st : ∀ h p n x, h ≤ H → p < P → n ≤ N → F x → (∀ h' p' n', h' ≤ H → p' < P → n' ≤ N → gBf h p n h' p' n' → C h' p' n' x) →
      (∀ x' lo', F x' → (∀ h' p' n', h' ≤ H → p' < P → n' ≤ N → gBf h p n h' p' n' → C h' p' n' x') → C h p n x' → glle (l3 h p (n + 1) x') lo' → gT m d B Qr Qx q3 lo' [] (hp x') u) → gT m d B Qr Qx q3 (l3 h p n x) [] (hp x) u)
    (x0 : σ) {lo0 : Lo} (h0 : F x0) (hl : glle (l1 (nI H) x0) lo0) : gT m d B Qr Qx q1 lo0 [] (hp x0) u := by
  refine gT_dn (σ := σ) (pc := q1) (lo := l1) (hp := fun _ x => hp x) (Inv := fun i x => i ≤ H + 1 ∧ F x ∧ ∀ h' p' n', i ≤ h' → h' ≤ H → p' < P → n' ≤ N → C h' p' n' x) ?_ ?_ H x0 ⟨Nat.le_refl _, h0, fun h' _ _ a b => absurd a (by omega)⟩ hl
  · intro x ⟨_, hF, hC⟩
    exact e1 x hF (fun h p n a b c => hC h p n (Nat.zero_le _) a b c)
  · intro i x ⟨hi, hF, hC⟩ hnext
    refine s1 i x (by omega) hF (fun lo' hl' => ?_)
    refine gT_for (σ := σ) (pc := q2) (lo := fun p x => l2 i p x) (hp := fun _ x => hp x) (Inv := fun p x => F x ∧ ∀ h' p' n', h' ≤ H → p' < P → n' ≤ N → gBf i p 0 h' p' n' → C h' p' n' x) P ?_ ?_ 0 x (Nat.zero_le _) ⟨hF, fun h' p' n' a b c q => hC h' p' n' (by unfold gBf at q; omega) a b c⟩ hl'
    · intro x ⟨hF, hC⟩
      refine e2 i x (by omega) hF (fun y lo' hy hl' => ?_)
      exact hnext x y lo' ⟨by omega, hF, fun h' p' n' a b c e => hC h' p' n' b c e (by unfold gBf; omega)⟩ hy hl'
    · intro p x hp0 ⟨hF, hC⟩ hnext2
      refine s2 i p x (by omega) hp0 hF (fun lo' hl' => ?_)
      refine gT_for (σ := σ) (pc := q3) (lo := fun n x => l3 i p n x) (hp := fun _ x => hp x) (Inv := fun n x => F x ∧ ∀ h' p' n', h' ≤ H → p' < P → n' ≤ N → gBf i p n h' p' n' → C h' p' n' x) (N + 1) ?_ ?_ 0 x (Nat.zero_le _) ⟨hF, hC⟩ hl'
      · intro x ⟨hF, hC⟩
        refine e3 i p x (by omega) hp0 hF (fun lo' hl' => ?_)
        exact hnext2 x lo' ⟨hF, fun h' p' n' a b c q => hC h' p' n' a b c (by unfold gBf at q ⊢; omega)⟩ hl'
      · intro n x hn0 ⟨hF, hC⟩ hnext3
        refine st i p n x (by omega) hp0 (by omega) hF hC (fun x' lo' hF' hC' hc hl' => ?_)
        refine hnext3 x' lo' ⟨hF', fun h' p' n' a b c q => ?_⟩ hl'
        by_cases e : h' = i ∧ p' = p ∧ n' = n
        · obtain ⟨rfl, rfl, rfl⟩ := e; exact hc
        · exact hC' h' p' n' a b c (by unfold gBf at q ⊢; omega)
theorem gBr_cg {A : Nat → Nat} {S : Nat} {sn : Bool} {r r' : Nat → Int64} {h p n m : Nat} (hA : gLd A) (hS : S < 13) (hn : n < 13) (hp : p < 12) (hm : m ≤ 24) (hr : ∀ t k, t < 12 → k < 13 → r (sN (h + 1) t k) = r' (sN (h + 1) t k)) : gBr A S sn r h p n m = gBr A S sn r' h p n m := by
  have e1 : r (aBh A S h n p) = r' (aBh A S h n p) := hr p _ hp (aNx_lt hS hn)
  unfold gBr
  by_cases c : m = 0
  · rw [if_pos c, if_pos c, e1]
  · have e2 : r (aBh A S h n (aOth A (m - 1) p)) = r' (aBh A S h n (aOth A (m - 1) p)) := hr _ _ (aOth_lt hA (by omega)) (aNx_lt hS hn)
    rw [if_neg c, if_neg c, e1, e2]
theorem gBs_s {B : Nat} {v : Nat → Int64} {l : Bool} {k b : Nat} (ht : B.testBit k = true) (hg : gBs B v l k = some b) : gBs B v l (k + 1) = bif (bif l then decide (v k < v b) else decide (v b < v k)) then some k else some b := by
  rw [gBs, ht, hg]
  simp only [cond_true]
theorem gBs_cg {B : Nat} {v v' : Nat → Int64} {l : Bool} : ∀ k, (∀ m, m < k → v m = v' m) → gBs B v l k = gBs B v' l k := by
  intro k
  induction k with
  | zero => intro _; rw [gBs, gBs]
  | succ k ih =>
    intro h
    have e := ih (fun m hm => h m (Nat.lt_succ_of_lt hm))
    cases hb : B.testBit k with
    | false => rw [gBs_o hb, gBs_o hb]; exact e
    | true =>
      cases hg : gBs B v' l k with
      | none => rw [gBs_n hb hg, gBs_n hb (e.trans hg)]
      | some b =>
        have q := gBs_lt hg
        rw [gBs_s hb hg, gBs_s hb (e.trans hg), h k (Nat.lt_succ_self k), h b (Nat.lt_succ_of_lt q.1)]
/-- the worth of a state to one, by the moves that are taken -/
def gWx (A : Nat → Nat) (S : Nat) (sn : Nat → Bool) (sc : Nat → Int64) (tk : Nat → Nat → Nat → Option Nat) (k : Nat) (r : Nat → Int64) (h p n : Nat) : Prop :=
  r (sN h p n) = if aEnd A h p n = 0 then gBr A S (sn h) r h p n ((tk h p n).getD 0) else gEn A sc k h p (aEnd A h p n)
theorem aEnd_lt (A : Nat → Nat) (h p n : Nat) : aEnd A h p n < 4 := by
  unfold aEnd
  split
  · omega
  · split
    · omega
    · split <;> omega
theorem aEnd_0 {A : Nat → Nat} {h p n : Nat} (e : aEnd A h p n = 0) : 0 < n ∧ h ≠ A 3 := by
  unfold aEnd at e
  split at e
  · exact absurd e (by decide)
  · split at e
    · exact absurd e (by decide)
    · split at e
      · exact absurd e (by decide)
      · exact ⟨by omega, by assumption⟩
theorem sN_inj {h p n h' p' n' : Nat} (hp : p < 12) (hn : n < 13) (hp' : p' < 12) (hn' : n' < 13) (e : sN h p n = sN h' p' n') : h = h' ∧ p = p' ∧ n = n' := by unfold sN at e; omega
