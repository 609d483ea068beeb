/-! ===== the best order ===== -/
def jIn : List Nat → Nat → Bool
  | [], _ => false
  | a :: r, i => Nat.beq a i || jIn r i
theorem jIn_app (i j : Nat) : ∀ (p : List Nat), jIn (p ++ [j]) i = (jIn p i || Nat.beq j i) := by
  intro p
  induction p with
  | nil => show (Nat.beq j i || false) = (false || Nat.beq j i); rw [Bool.or_false, Bool.false_or]
  | cons a r ih => show (Nat.beq a i || jIn (r ++ [j]) i) = (Nat.beq a i || jIn r i || Nat.beq j i); rw [ih, Bool.or_assoc]
theorem jAt_l {p : List Nat} {i j : Nat} (h : j < p.length) : (p ++ [i]).getD j 0 = p.getD j 0 := by
  simp [List.getD_eq_getElem?_getD, List.getElem?_append_left h]
theorem jAt_r (p : List Nat) (i : Nat) : (p ++ [i]).getD p.length 0 = i := by simp [List.getD_eq_getElem?_getD]
def jDg (p : List Nat) : Nat := p.foldl (fun d i => 10 * d + i) 0
theorem jDg_app (p : List Nat) (i : Nat) : jDg (p ++ [i]) = 10 * jDg p + i := by unfold jDg; rw [List.foldl_append] <;> rfl
def jLeaf (val : List Nat → Int64) (p : List Nat) : Option (Nat × Int64) → Option (Nat × Int64)
  | none => some (jDg p, val p)
  | some (d, w) => if w < val p then some (jDg p, val p) else some (d, w)
def jFold {β : Type} (g : β → Nat → β) (b : β) : Nat → β
  | 0 => b
  | i + 1 => g (jFold g b i) i
/-- all orders of N that begin with p: the best of them -/
def jOr (val : List Nat → Int64) (N : Nat) : Nat → List Nat → Option (Nat × Int64) → Option (Nat × Int64)
  | 0, p, b => jLeaf val p b
  | f + 1, p, b => jFold (fun b i => bif jIn p i then b else jOr val N f (p ++ [i]) b) b N
def gWhR (T : Nat → Option Nat) (K N : Nat) (rd : Nat → Nat) (h : Nat) : Nat := match T h with
  | some k => k
  | none => rd (h / K % N)
/-- all lead in the order p -/
def gPr2 (V : VS) (p : List Nat) : PP := (gWhR (sTn (vS V)) (sLn (vS V)) (vA V 2) (fun j => p.getD j 0), (gP0 V).2)
noncomputable def wOrd (V : VS) (k : Option Nat) (p : List Nat) : Int64 := wTo V (vA V 4) none (gPr2 V p) k
def gOb (b : Option (Nat × Int64)) (I : Nat → Nat → Nat → Int32) (L : Nat → Nat → Nat → Int64) : Prop := match b with
  | none => I 100 0 49 = -1
  | some (d, w) => I 100 0 49 = nI d ∧ d < 100000 ∧ L 100 0 50 = w
/-- in the midst of the orders -/
def mO (V : VS) (I0 : Nat → Nat → Nat → Int32) (L0 : Nat → Nat → Nat → Int64) (p : List Nat) (b : Option (Nat × Int64)) (I : Nat → Nat → Nat → Int32) (L : Nat → Nat → Nat → Int64) : Prop :=
  mW V I0 L0 I L ∧ gOb b I L ∧ ∀ j, j < p.length → I 148 0 j = nI (p.getD j 0)
theorem mW_rd {V : VS} {I0 I I' : Nat → Nat → Nat → Int32} {L0 L L' : Nat → Nat → Nat → Int64} (H : mW V I0 L0 I L) (e : ∀ b, b ≠ 100 → b ≠ 148 → I' b = I b) (e1 : ∀ k, k ≠ 49 → I' 100 0 k = I 100 0 k) (e2 : ∀ b, b ≠ 100 → L' b = L b) : mW V I0 L0 I' L' := by
  obtain ⟨o, m, ⟨ld, u⟩, t⟩ := H
  refine ⟨fun b hb => ⟨(e b (by omega) (by omega)).trans (o b hb).1, (e2 b (by omega)).trans (o b hb).2⟩, ?_, ⟨ld, (e1 31 (by decide)).trans u.1, gKn_cg (e 136 (by decide) (by decide)) (e 142 (by decide) (by decide)) (e2 138 (by decide)) (e2 140 (by decide)) u.2.1, gPf_cg (e 129 (by decide) (by decide)) (e 130 (by decide) (by decide)) (e1 33 (by decide)) (e1 34 (by decide)) (e1 35 (by decide)) (e 125 (by decide) (by decide)) u.2.2⟩, (e1 0 (by decide)).trans t⟩
  refine mR_cg ⟨?_, ?_, ?_, ?_, ?_, ?_, ?_, ?_, ?_, ?_, ?_, e2 138 (by decide), e2 140 (by decide), fun k hk => e1 k (by omega)⟩ m <;> exact e _ (by decide) (by decide)
set_option maxRecDepth 100000 in
theorem p_orders (d : Nat) (V : VS) (hw : gWf V) (hL : vL V = true) (kk : Option Nat) (hkk : ∀ j, kk = some j → j < vA V 2) (I0 : Nat → Nat → Nat → Int32) (L0 : Nat → Nat → Nat → Int64) (y : Dy) :
    ∀ (f : Nat) (p : List Nat) (b : Option (Nat × Int64)) (U : Nat) (I : Nat → Nat → Nat → Int32) (L : Nat → Nat → Nat → Int64), p.length + f = vA V 2 → (∀ j, j < p.length → p.getD j 0 < vA V 2) → U < 32 → (∀ i, i < 5 → U.testBit i = jIn p i) → jDg p < 10 ^ p.length → mO V I0 L0 p b I L →
      gTM mX12_orders (d + 9 + f) (0, 0) [gM0, gI (nI p.length), gI (nI U), gI (nI (jDg p)), gI (gOI kk)] (gH I L y) (fun v h' => v = [] ∧ ∃ I' L', h' = gH I' L' y ∧ mO V I0 L0 p (jOr (wOrd V kk) (vA V 2) f p b) I' L') (fun _ _ => False) := by
  have a2 := hw.1.2.2.1
  have a3 := hw.1.2.2.2.1
  have a4 := hw.1.2.2.2.2.1
  have hA := hw.2.1 hL
  have h2 := hA.2.2.1
  obtain ⟨w1, w2, w3, w4, w5, w6, w7⟩ := hw.2.2.2.1
  intro f
  induction f with
  | zero =>
    intro p b U I L q1 q2 q3 q4 q5 ⟨⟨o, m, ⟨ld, u⟩, t⟩, hb, hr⟩
    have q1' : p.length = vA V 2 := q1
    refine gEnter 400 [17] kX12_orders rfl rfl ?_
    refine Exists.intro (2) (And.intro rfl (And.intro (show _ < 708 by omega) ?_))
    refine bNe p.length (vA V 2) rfl (m.1 2 (by omega)) (fun c => absurd q1' c) (fun _ => ?_)
    refine gT_for (σ := Nat → Nat → Nat → Int32) (pc := 17) (lo := fun h _ => [some gM0, some (gI (nI p.length)), some (gI (nI U)), some (gI (nI (jDg p))), some (gI (gOI kk)), some (gI (nI (vA V 2))), some (gI (nI h)), none]) (hp := fun _ z => gH z L y)
      (Inv := fun h z => (∀ b, b ≠ 129 → z b = I b) ∧ ∀ j, j < h → z 129 0 j = nI ((gPr2 V p).1 j)) (vA V 3) ?_ ?_ 0 I (Nat.zero_le _) ⟨fun _ _ => rfl, fun j hj => absurd hj (Nat.not_lt_zero _)⟩ (by rw [← m.1 2 (by omega)]; exact (by (repeat' apply And.intro) <;> first | rfl | trivial | exact congrArg Sum.inl (nI_1 _).symm | exact congrArg Sum.inl (nI_1 _).symm))
    · intro z ⟨z1, z2⟩
      have zm := mR_lds m z1
      have zU : mU V (vA V 4) none (gPr2 V p) z L := by
        refine mU_ld (P := (ld, (gP0 V).2)) (gPr2 V p).1 u z1 (fun h hh => ⟨z2 h hh, ?_⟩)
        show gWhR (sTn (vS V)) (sLn (vS V)) (vA V 2) (fun j => p.getD j 0) h < vA V 2
        unfold gWhR
        cases q : sTn (vS V) h with
        | none => exact q2 _ (by rw [q1']; exact Nat.mod_lt _ h2)
        | some k => exact (w3 h (by omega)).2 k q
      refine gT_go 400 [] kX12_orders ?_
      refine Exists.intro (3) (And.intro rfl (And.intro (show _ < 708 by omega) ?_))
      refine bGe (vA V 3) (vA V 3) rfl (zm.1 3 (by omega)) (fun c => ?_) (fun c => absurd c (by omega))
      refine gTM_use rfl (p_playsU (d + 1) V hw (vA V 4) (by omega) none _ z L y zm.1 zU) (fun v h' w => ?_)
      obtain ⟨rfl, I3, L3, rfl, f3, hp3⟩ := w
      have f0 : mW V I0 L0 I3 L3 := ⟨(o.tr (fun b hb => ⟨z1 b (by omega), rfl⟩)).tr f3.out, f3.mR zm, ⟨_, f3.mU zU⟩, by rw [f3.1 100 (by decide) (by decide), z1 100 (by decide)]; exact t⟩
      have e49 : I3 100 0 49 = I 100 0 49 := by rw [f3.1 100 (by decide) (by decide), z1 100 (by decide)]
      have e50 : L3 100 = L 100 := f3.2 100 (by decide) (by decide)
      have hr3 : ∀ j, j < p.length → I3 148 0 j = nI (p.getD j 0) := fun j hj => by rw [f3.1 148 (by decide) (by decide), z1 148 (by decide)]; exact hr j hj
      refine gP_use (p_nowTo (d + 3) V hA (vA V 4) (by omega) none _ zU.2.2.ok kk hkk I3 L3 y hp3) ?_
      have hdg : jDg p < 100000 := by
        have : 10 ^ p.length ≤ 10 ^ 5 := Nat.pow_le_pow_right (by decide) (by omega)
        omega
      have take : jOr (wOrd V kk) (vA V 2) 0 p b = some (jDg p, wOrd V kk p) → ([] : List AV) = [] ∧ ∃ I' L', gH (u3 I3 100 0 49 (nI (jDg p))) (u3 L3 100 0 50 (wOrd V kk p)) y = gH I' L' y ∧ mO V I0 L0 p (jOr (wOrd V kk) (vA V 2) 0 p b) I' L' := by
        intro e
        refine ⟨rfl, _, _, rfl, mW_rd f0 (fun b g1 g2 => u3_ne1 g1) (fun k hk => u3_ne3 hk) (fun b hb => u3_ne1 hb), ?_, fun j hj => by rw [u3_ne1 (by decide)]; exact hr3 j hj⟩
        rw [e]
        exact ⟨u3_eq, hdg, u3_eq⟩
      cases b with
      | none =>
        refine And.intro (fun _ => ?_) (fun c => absurd (e49.trans hb) c)
        exact take rfl
      | some b0 =>
        obtain ⟨dd, ww⟩ := b0
        obtain ⟨b1, b2, b3⟩ := hb
        refine And.intro (fun c => absurd (b1.symm.trans (e49.symm.trans c)) (gOI_ne (by omega))) (fun _ => ?_)
        have e50' : L3 100 0 50 = ww := by rw [e50]; exact b3
        refine bcGt (fun c => ?_) (fun c => ?_)
        · have c' : ww < wOrd V kk p := by rw [← e50']; exact c
          exact take (by show (if ww < wOrd V kk p then some (jDg p, wOrd V kk p) else some (dd, ww)) = _; rw [if_pos c'])
        · have c' : ¬ ww < wOrd V kk p := by rw [← e50']; exact c
          refine ⟨rfl, I3, L3, rfl, f0, ?_, hr3⟩
          show gOb (if ww < wOrd V kk p then some (jDg p, wOrd V kk p) else some (dd, ww)) I3 L3
          rw [if_neg c']
          exact ⟨e49.trans b1, b2, e50'⟩
    · intro h z hh ⟨z1, z2⟩ hnexth
      have zm := mR_lds m z1
      obtain ⟨t1', t2'⟩ := w3 h (by omega)
      have eT : z 125 0 (29 + h) = gOI (sTn (vS V) h) := (zm.2.2.2.1 (29 + h) (by omega)).trans t1'
      have fin : ∀ (v : Int32), v = nI ((gPr2 V p).1 h) → (∀ b, b ≠ 129 → u3 z 129 0 h v b = I b) ∧ ∀ j, j < h + 1 → u3 z 129 0 h v 129 0 j = nI ((gPr2 V p).1 j) := by
        intro v hv
        refine ⟨fun b hb => (u3_ne1 hb).trans (z1 b hb), fun j hj => ?_⟩
        by_cases q : j = h
        · subst q; exact u3_eq.trans hv
        · exact (u3_ne3 q).trans (z2 j (by omega))
      refine gT_go 400 [17] kX12_orders ?_
      refine Exists.intro (3) (And.intro rfl (And.intro (show _ < 708 by omega) ?_))
      refine bGe h (vA V 3) rfl (zm.1 3 (by omega)) (fun c => absurd c (by omega)) (fun c => ?_)
      refine Exists.intro (29 + h) (And.intro (nI_add 29 h) (And.intro (show 29 + h < 156 by omega) ?_))
      refine And.intro (fun q => ?_) (fun q => ?_)
      · have hn : sTn (vS V) h = none := by
          cases w : sTn (vS V) h with
          | none => rfl
          | some k => exact absurd (show nI k = -1 from (by rw [w] at eT; exact eT.symm.trans q)) (gOI_ne (by have := t2' k w; omega))
        have e53 : z 125 0 53 = nI (sLn (vS V)) := (zm.2.2.2.1 53 (by omega)).trans w4
        refine Exists.intro (53) (And.intro rfl (And.intro (show _ < 156 by omega) ?_))
        refine And.intro (fun w => absurd (e53.symm.trans w) (nI_ne0 w5 (by omega))) ?_
        refine And.intro (nI_ne0 h2 (by omega)) ?_
        have em : h / sLn (vS V) % vA V 2 < vA V 2 := Nat.mod_lt _ h2
        have ei : nI h / z 125 0 53 - nI h / z 125 0 53 / nI (vA V 2) * nI (vA V 2) = nI (h / sLn (vS V) % vA V 2) := by
          rw [e53, pk_div (by omega) w5 (by omega), pk_rem (Nat.lt_of_le_of_lt (Nat.div_le_self _ _) (by omega)) h2 (by omega)]
        refine Exists.intro (h / sLn (vS V) % vA V 2) (And.intro (ei) (And.intro (show h / sLn (vS V) % vA V 2 < 5 by omega) ?_))
        refine Exists.intro (h) (And.intro rfl (And.intro (show _ < 24 by omega) ?_))
        refine hnexth _ _ (fin (z 148 0 (h / sLn (vS V) % vA V 2)) ?_) (by (repeat' apply And.intro) <;> first | rfl | trivial | exact congrArg Sum.inl (nI_1 _).symm | exact congrArg Sum.inl (nI_1 _).symm)
        rw [z1 148 (by decide), hr _ (by omega)]
        show _ = nI (gWhR (sTn (vS V)) (sLn (vS V)) (vA V 2) (fun j => p.getD j 0) h)
        unfold gWhR
        rw [hn]
      · refine Exists.intro (29 + h) (And.intro (nI_add 29 h) (And.intro (show 29 + h < 156 by omega) ?_))
        refine Exists.intro (h) (And.intro rfl (And.intro (show _ < 24 by omega) ?_))
        refine hnexth _ _ (fin (z 125 0 (29 + h)) ?_) (by (repeat' apply And.intro) <;> first | rfl | trivial | exact congrArg Sum.inl (nI_1 _).symm | exact congrArg Sum.inl (nI_1 _).symm)
        rw [eT]
        show _ = nI (gWhR (sTn (vS V)) (sLn (vS V)) (vA V 2) (fun j => p.getD j 0) h)
        unfold gWhR
        cases w : sTn (vS V) h with
        | none => exact absurd (by rw [w] at eT; exact eT) q
        | some k => rfl
  | succ f ih =>
    intro p b U I L q1 q2 q3 q4 q5 hO
    have m := hO.1.2.1
    refine gEnter 400 [132] kX12_orders rfl rfl ?_
    refine Exists.intro (2) (And.intro rfl (And.intro (show _ < 708 by omega) ?_))
    refine bNe p.length (vA V 2) rfl (m.1 2 (by omega)) (fun _ => ?_) (fun c => absurd c (by omega))
    refine gT_for (σ := (Nat → Nat → Nat → Int32) × (Nat → Nat → Nat → Int64)) (pc := 132) (lo := fun i _ => [some gM0, some (gI (nI p.length)), some (gI (nI U)), some (gI (nI (jDg p))), some (gI (gOI kk)), some (gI (nI (vA V 2))), some (gI (nI i)), none]) (hp := fun _ x => gH x.1 x.2 y)
      (Inv := fun i x => mO V I0 L0 p (jFold (fun b i => bif jIn p i then b else jOr (wOrd V kk) (vA V 2) f (p ++ [i]) b) b i) x.1 x.2) (vA V 2) ?_ ?_ 0 (I, L) (Nat.zero_le _) hO (by rw [← m.1 2 (by omega)]; exact (by (repeat' apply And.intro) <;> first | rfl | trivial | exact congrArg Sum.inl (nI_1 _).symm | exact congrArg Sum.inl (nI_1 _).symm))
    · intro x hx
      refine gT_go 400 [132] kX12_orders ?_
      refine bGe (vA V 2) (vA V 2) rfl rfl (fun c => ?_) (fun c => absurd c (by omega))
      exact ⟨rfl, x.1, x.2, rfl, hx⟩
    · intro i x hi hx hnext
      refine gT_go 400 [132] kX12_orders ?_
      refine bGe i (vA V 2) rfl rfl (fun c => absurd c (by omega)) (fun c => ?_)
      have ebt := gbit (B := U) (m := i) (by omega) (by omega)
      have e4 := q4 i (by omega)
      cases hin : jIn p i with
      | true =>
        rw [e4, hin] at ebt
        refine And.intro (fun c => absurd ebt c) (fun _ => ?_)
        refine hnext x _ ?_ (by (repeat' apply And.intro) <;> first | rfl | trivial | exact congrArg Sum.inl (nI_1 _).symm | exact congrArg Sum.inl (nI_1 _).symm)
        rw [jFold, hin]
        exact hx
      | false =>
        rw [e4, hin] at ebt
        refine And.intro (fun _ => ?_) (fun c => absurd (ebt.symm.trans c) (by decide))
        refine Exists.intro (p.length) (And.intro rfl (And.intro (show _ < 5 by omega) ?_))
        have hlen : (p ++ [i]).length = p.length + 1 := by simp
        have eU : nI U ||| (nI 1 <<< (nI i &&& 31)) = nI (U ||| 2 ^ i) := by
          have h32 : 2 ^ i ≤ 2 ^ 5 := Nat.pow_le_pow_right (by decide) (by omega)
          rw [pk_shlN _ i (gs_l i (by omega)) (by omega), Nat.one_mul, gIor]
        have eD : nI 10 * nI (jDg p) + nI i = nI (jDg (p ++ [i])) := by rw [pk_mul, nI_add, jDg_app]
        refine gTM_use (av' := [gM0, gI (nI (p ++ [i]).length), gI (nI (U ||| 2 ^ i)), gI (nI (jDg (p ++ [i]))), gI (gOI kk)]) (by rw [hlen, ← nI_1, ← eU, ← eD] <;> rfl) (ih (p ++ [i]) (jFold (fun b i => bif jIn p i then b else jOr (wOrd V kk) (vA V 2) f (p ++ [i]) b) b i) (U ||| 2 ^ i) (u3 x.1 148 0 p.length (nI i)) x.2 (by omega) ?_ ?_ ?_ ?_ ?_) (fun v h' w => ?_)
        · intro j hj
          rcases Nat.lt_or_ge j p.length with w | w
          · rw [jAt_l w]; exact q2 j w
          · have : j = p.length := by omega
            subst this
            rw [jAt_r]; exact hi
        · exact Nat.or_lt_two_pow (n := 5) q3 (Nat.pow_lt_pow_right (by decide) (by omega))
        · intro j hj
          rw [Nat.testBit_or, Nat.testBit_two_pow, q4 j hj, jIn_app]
          congr 1
          by_cases w : i = j
          · rw [decide_eq_true w, gbeqT w]
          · rw [decide_eq_false w, gbeqF w]
        · rw [jDg_app, hlen, Nat.pow_succ]; omega
        · refine ⟨mW_rd hx.1 (fun b g1 g2 => u3_ne1 g2) (fun k hk => by rw [u3_ne1 (by decide)]) (fun _ _ => rfl), ?_, fun j hj => ?_⟩
          · have := hx.2.1
            unfold gOb at this ⊢
            rw [show u3 x.1 148 0 p.length (nI i) 100 = x.1 100 from u3_ne1 (by decide)]
            exact this
          · rcases Nat.lt_or_ge j p.length with w | w
            · rw [jAt_l w]; exact (u3_ne3 (by omega)).trans (hx.2.2 j w)
            · have : j = p.length := by omega
              subst this
              rw [jAt_r]; exact u3_eq
        · obtain ⟨rfl, I', L', rfl, g1, g2, g3⟩ := w
          refine hnext (I', L') _ ⟨g1, ?_, fun j hj => ?_⟩ (by (repeat' apply And.intro) <;> first | rfl | trivial | exact congrArg Sum.inl (nI_1 _).symm | exact congrArg Sum.inl (nI_1 _).symm)
          · rw [jFold, hin]; exact g2
          · exact (g3 j (by omega)).trans (by rw [jAt_l hj])
noncomputable def xOrder (V : VS) (a : Int32) : Int32 × AV × VS :=
  bif vL V then (bif gOne (vA V) a then (0, gI (match jOr (wOrd V (tOne a)) (vA V 2) (vA V 2) [] none with | none => -1 | some (d, _) => nI d), V) else (1, gI 0, xRef V 0)) else (2, gI 0, xRef V 3)
set_option maxRecDepth 100000 in
theorem c_order (V : VS) (hw : gWf V) (a : Int32) : mC mX12_order 16 [gI a] V (xOrder V a) := by
  intro d I L y hm
  have hm0 := mR_thr hm 0
  have a2 := hw.1.2.2.1
  have a4 := hw.1.2.2.2.2.1
  refine gEnter 400 [] kX12_order rfl rfl ?_
  refine gTM_use rfl (p_isHere (d + 13) V 2 (by decide) _ L y hm0 u3_eq) (fun v h' q => ?_)
  rcases q with ⟨g1, rfl, rfl⟩ | ⟨g1, rfl, I', rfl, q1, q2, q3⟩
  rotate_left
  · refine And.intro (fun _ => ?_) (fun q => absurd rfl q)
    exact mGt_no (by unfold xOrder; simp only [g1, cond_true, cond_false] <;> rfl) q1 q2 q3
  refine And.intro (fun q => absurd q (by decide)) (fun _ => ?_)
  refine gTM_use rfl (p_isPersonOrNone (d + 12) V a 1 (by decide) _ L y hm0 u3_eq) (fun v h' q => ?_)
  rcases q with ⟨g2, rfl, rfl⟩ | ⟨g2, rfl, I', rfl, q1, q2, q3⟩
  rotate_left
  · refine And.intro (fun q => absurd rfl q) (fun _ => ?_)
    exact mGt_no (by unfold xOrder; simp only [g1,g2, cond_true, cond_false] <;> rfl) q1 q2 q3
  refine And.intro (fun _ => ?_) (fun q => absurd q (by decide))
  obtain ⟨ea, ek⟩ := tOne_ok hw.1 g2
  refine gTM_use rfl (p_setUp (d + 8) V hw g1 _ L y hm0) (fun v h' q => ?_)
  obtain ⟨rfl, I1, L1, rfl, o1, m1, u1, t1, k1⟩ := q
  have W1 : mW V (u3 I 100 0 0 0) L (u3 I1 100 0 49 (-1)) L1 := mW_rd ⟨o1, m1, ⟨_, u1⟩, t1.trans u3_eq⟩ (fun b g1 g2 => u3_ne1 g1) (fun k hk => u3_ne3 hk) (fun _ _ => rfl)
  have hd : d + 6 - vA V 2 + 9 + vA V 2 = d + 15 := by omega
  have ho := p_orders (d + 6 - vA V 2) V hw g1 (tOne a) ek (u3 I 100 0 0 0) L y (vA V 2) [] none 0 (u3 I1 100 0 49 (-1)) L1 (Nat.zero_add _) (fun j hj => absurd hj (Nat.not_lt_zero _)) (by decide) (fun i _ => Nat.zero_testBit i) (by decide) ⟨W1, u3_eq, fun j hj => absurd hj (Nat.not_lt_zero _)⟩
  rw [hd, ← ea] at ho
  refine gTM_use rfl ho (fun v h' q => ?_)
  obtain ⟨rfl, I2, L2, rfl, ⟨x1, x2, x3, x4⟩, x5, -⟩ := q
  refine mDone (o2 := (0, gI (match jOr (wOrd V (tOne a)) (vA V 2) (vA V 2) [] none with | none => -1 | some (d, _) => nI d), V)) (by unfold xOrder; simp only [g1, g2, cond_true]) ?_ x1 x2 x4
  cases hq : jOr (wOrd V (tOne a)) (vA V 2) (vA V 2) [] none with
  | none => rw [hq] at x5; exact congrArg gI x5
  | some b => rw [hq] at x5; exact congrArg gI x5.1
