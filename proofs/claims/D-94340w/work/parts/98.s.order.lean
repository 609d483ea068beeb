/-! ===== public methods of the component: in which order to lead ===== -/
def dfsP (N : Nat) : Nat → List Nat → List (List Nat)
  | 0, p => [p]
  | f + 1, p => (List.range N).flatMap (fun i => bif jIn p i then [] else dfsP N f (p ++ [i]))
theorem jFold_fm {β : Type} {lf : List Nat → β → β} {g : β → Nat → β} {l : Nat → List (List Nat)} (h : ∀ b i, g b i = (l i).foldl (fun b q => lf q b) b) (b : β) : ∀ n, jFold g b n = ((List.range n).flatMap l).foldl (fun b q => lf q b) b := by
  intro n
  induction n with
  | zero => rfl
  | succ n ih =>
    rw [jFold, ih, h, List.range_succ, List.flatMap_append, List.foldl_append]
    simp
theorem jOr_fm {val : List Nat → Int64} {N : Nat} : ∀ f p b, jOr val N f p b = (dfsP N f p).foldl (fun b q => jLeaf val q b) b := by
  intro f
  induction f with
  | zero => intro p b; rfl
  | succ f ih =>
    intro p b
    rw [jOr, dfsP]
    refine jFold_fm (lf := jLeaf val) (fun b i => ?_) b N
    cases jIn p i with
    | true => rfl
    | false => exact ih (p ++ [i]) b
abbrev rwO (p : List Nat) : Nat → Nat := fun j => p.getD j 0
def tOk (N : Nat) (p : List Nat) (q : Option (List Nat)) : Bool :=
  p.length == N && ((List.range N).all (fun j => decide (p.getD j 0 < N)) && (decide (jDg p < 100000) && (match tN N (rwO p), q with
    | none, none => true
    | some r, some q => (List.range N).all (fun j => r j == q.getD j 0)
    | _, _ => false)))
def tChain (N : Nat) : List (List Nat) → Bool
  | [] => true
  | [p] => tOk N p none
  | p :: q :: l => tOk N p (some q) && tChain N (q :: l)
theorem tChain_ok : ∀ N, N < 6 → 0 < N → tChain N (dfsP N N []) = true := by decide +kernel
theorem tHead_ok : ∀ N, N < 6 → 0 < N → (dfsP N N []).headD [] = List.range N := by decide +kernel
/-- while rows are tried -/
def cZ (V : VS) (I : Nat → Nat → Nat → Int32) (L : Nat → Nat → Nat → Int64) (J : Nat → Nat → Nat → Int32) (K : Nat → Nat → Nat → Int64) : Prop :=
  (∀ b, b ≠ 60 → b ≠ 72 → b ≠ 73 → b ≠ 86 → b ≠ 95 → b ≠ 160 → J b = I b) ∧ (∀ j, j ≠ 28 → j ≠ 29 → j ≠ 30 → j ≠ 31 → J 60 0 j = I 60 0 j) ∧ (∀ b, b ≠ 74 → b ≠ 84 → b ≠ 85 → b ≠ 161 → b ≠ 162 → b ≠ 163 → K b = L b) ∧ ∃ P, cKw (vA V) (vA V 4) (vR V) P J K
theorem cZ.ld {V : VS} {I J : Nat → Nat → Nat → Int32} {L K : Nat → Nat → Nat → Int64} {y : Dy} (z : cZ V I L J K) (H : cR V I L y) : cLd y.1 (vA V 4) (vA V) J := cLd_cg2 (fun b b1 b2 => z.1 b (by omega) (by omega) (by omega) (by omega) (by omega) (by omega)) H.1.1
theorem gPr2_ok {V : VS} (hw : gWf V) (hL : vL V = true) {p : List Nat} (hp : ∀ j, j < vA V 2 → p.getD j 0 < vA V 2) : gPok (vA V) (gPr2 V p) := by
  have a3 := hw.1.2.2.2.1
  have h2 := (hw.2.1 hL).2.2.1
  refine ⟨fun q hq => ?_, fun q hq => (hw.2.2.2.1.2.1 q (by omega)).2⟩
  show gWhR (sTn (vS V)) (sLn (vS V)) (vA V 2) (fun j => p.getD j 0) q < vA V 2
  unfold gWhR
  cases e : sTn (vS V) q with
  | none => exact hp _ (Nat.mod_lt _ h2)
  | some k => exact (hw.2.2.2.1.2.2.1 q (by omega)).2 k e
def gOd : Option (Nat × Int64) → Int32
  | none => -1
  | some (d, _) => nI d
def gOw : Option (Nat × Int64) → Int64
  | none => 0
  | some (_, w) => w
set_option maxRecDepth 100000 in
theorem o_roundsAnew (d : Nat) (I : Nat → Nat → Nat → Int32) (L : Nat → Nat → Nat → Int64) (y : Dy) : gTM mX1_roundsAnew (d + 1) (0, 0) [gG0] (gH I L y) (fun v h' => v = [] ∧ ∃ I', h' = gH I' L y ∧ (∀ b, b ≠ 72 → I' b = I b) ∧ ∀ j, j < 5 → I' 72 0 j = nI j) (fun _ _ => False) := by
  refine gEnter 400 [2] kX1_roundsAnew rfl rfl ?_
  refine gT_for (σ := Nat → Nat → Nat → Int32) (pc := 2) (lo := fun i _ => [some gG0, some (gI (nI i))]) (hp := fun _ x => gH x L y) (Inv := fun i x => (∀ b, b ≠ 72 → x b = I b) ∧ ∀ j, j < i → x 72 0 j = nI j) 5 ?_ ?_ 0 I (Nat.zero_le _) ⟨fun _ _ => rfl, fun j hj => absurd hj (Nat.not_lt_zero _)⟩ (by (repeat' apply And.intro) <;> first | rfl | trivial | exact congrArg Sum.inl (nI_1 _).symm | exact congrArg Sum.inl (nI_1 _).symm)
  · intro x ⟨x1, x2⟩
    refine gT_go 400 [] kX1_roundsAnew ?_
    refine bGe 5 5 rfl rfl (fun _ => ?_) (fun q => absurd q (by decide))
    exact ⟨rfl, x, rfl, x1, x2⟩
  · intro i x hi ⟨x1, x2⟩ hnext
    refine gT_go 400 [2] kX1_roundsAnew ?_
    refine bGe i 5 rfl rfl (fun q => absurd q (by omega)) (fun _ => ?_)
    refine Exists.intro (i) (And.intro rfl (And.intro (show _ < 5 by omega) ?_))
    refine hnext _ _ ⟨fun b hb => (u3_ne1 hb).trans (x1 b hb), fun j hj => ?_⟩ (by (repeat' apply And.intro) <;> first | rfl | trivial | exact congrArg Sum.inl (nI_1 _).symm | exact congrArg Sum.inl (nI_1 _).symm)
    by_cases e : j = i
    · subst e; exact u3_eq
    · exact (u3_ne3 e).trans (x2 j (by omega))
set_option maxRecDepth 100000 in
theorem c2_order (V : VS) (hw : gWf V) (a : Int32) : cC mX1_order 611 (2, 12) [57, 39] [gI a] V (xOrder V a) := by
  intro d I L y H
  obtain ⟨o, ho⟩ : ∃ o, o = xOrder V a := ⟨_, rfl⟩
  rw [← ho]
  have a2 := hw.1.2.2.1
  have a3 := hw.1.2.2.2.1
  refine gEnter 400 [1] kX1_order rfl rfl ?_
  refine gT_gate 287 (1, 6) rfl rfl rfl rfl rfl dX1_order_1 (o_mustLand (d + 604) V I L y H) rfl (by decide) (by decide) (fun q h' hx => cX_of (c := 1) (fun e => by rw [ho]; unfold xOrder; rw [e]; exact ⟨rfl, rfl⟩) rfl hx) (fun g1 => ?_)
  have hA := hw.2.1 g1
  refine gT_go 400 [6] kX1_order ?_
  refine gT_gate 479 (2, 12) rfl rfl rfl rfl rfl dX1_order_6 (o_mustOne (d + 603) V a I L y H) rfl (by decide) (by decide) (fun q h' hx => cX_of (c := 0) (fun e => by rw [ho]; unfold xOrder; rw [g1, e]; exact ⟨rfl, rfl⟩) rfl hx) (fun g2 => ?_)
  obtain ⟨ea, hk⟩ := tOne_x hw.1 g2
  obtain ⟨k, ek⟩ : ∃ k, k = tOne a := ⟨_, rfl⟩
  rw [← ek] at ea hk
  subst ea
  obtain ⟨F, hF⟩ : ∃ F, F = wOrd V k := ⟨_, rfl⟩
  obtain ⟨Z, hZ⟩ : ∃ Z, Z = (dfsP (vA V 2) (vA V 2) []).foldl (fun b q => jLeaf F q b) none := ⟨_, rfl⟩
  have hZo : xOrder V (gOI k) = (0, gI (gOd Z), V) := by
    unfold xOrder
    rw [g1, g2, ← ek, ← hF, jOr_fm, ← hZ]
    cases Z with
    | none => rfl
    | some z => obtain ⟨d, w⟩ := z; rfl
  have py := cPy_V hw g1 H.1
  obtain ⟨ht, h6, hR⟩ := H.1.2.1
  have at92 : ∀ (J : Nat → Nat → Nat → Int32) (K : Nat → Nat → Nat → Int64) (lo' : Lo), cZ V I L J K → (∀ i k, 0 < i → J 72 i k = I 72 i k) → glle [some gG0, none, some (gI (gOd Z)), none, none, none, none, none, none] lo' → gT mX1_order (d + 611) (2, 12) (cQr o I L) (cQx [57, 39] o I L) 92 lo' [] (gH J K y) (2, 12) := by
    intro J K lo' z z72 hl'
    refine gT_lo _ hl' ?_
    refine gT_go 400 [] kX1_order ?_
    refine gTM_use rfl (o_roundsAnew (d + 609) J K y) (fun v h' q => ?_)
    obtain ⟨rfl, J1, rfl, j1, j2⟩ := q
    refine gTM_use rfl (o_leads (d + 609) J1 K y) (fun v h' q => ?_)
    obtain ⟨rfl, rfl⟩ := q
    obtain ⟨z1, z2, z3, P, b, c, f, k1, k2, k3, k4, k5, k6⟩ := z
    have w1 : ∀ b, b ≠ 60 → b ≠ 72 → u3 (u3 J1 60 0 30 0) 60 0 31 0 b = J b := fun b b1 b2 => (u3_ne1 b1).trans ((u3_ne1 b1).trans (j1 b b2))
    have w2 : ∀ j, j ≠ 30 → j ≠ 31 → u3 (u3 J1 60 0 30 0) 60 0 31 0 60 0 j = J 60 0 j := fun j b1 b2 => (u3_ne3 b2).trans ((u3_ne3 b1).trans (by rw [j1 60 (by decide)]))
    have w72 : ∀ j, j < 5 → u3 (u3 J1 60 0 30 0) 60 0 31 0 72 0 j = nI j := fun j hj => by rw [u3_ne1 (by decide), u3_ne1 (by decide)]; exact j2 j hj
    refine cDone (V' := V) (by rw [ho, hZo]; exact ⟨rfl, rfl, rfl⟩) (fun b b1 b2 => ⟨(w1 b (by omega) (by omega)).trans (z1 b (by omega) (by omega) (by omega) (by omega) (by omega) (by omega)), z3 b (by omega) (by omega) (by omega) (by omega) (by omega) (by omega)⟩) ⟨?_, b, c, false, (w2 28 (by decide) (by decide)).trans k1, (w2 29 (by decide) (by decide)).trans k2, u3_eq, fun e => cKl_cg (w1 160 (by decide) (by decide)) rfl (k4 e), k5, fun e => by cases e⟩
    have e0 : ∀ b, b ≠ 60 → b ≠ 72 → b ≠ 73 → b ≠ 86 → b ≠ 95 → b ≠ 160 → u3 (u3 J1 60 0 30 0) 60 0 31 0 b = I b := fun b b1 b2 b3 b4 b5 b6 => (w1 b b1 b2).trans (z1 b b1 b2 b3 b4 b5 b6)
    have e60 : ∀ j, j ≠ 28 → j ≠ 29 → j ≠ 30 → j ≠ 31 → u3 (u3 J1 60 0 30 0) 60 0 31 0 60 0 j = I 60 0 j := fun j b1 b2 b3 b4 => (w2 j b3 b4).trans (z2 j b1 b2 b3 b4)
    obtain ⟨h1, h2, h3, ⟨g, h4, h4b⟩, h5, h6', h7, h8, h9, h10, h11, h12, h13⟩ := H.1
    obtain ⟨ht', ht6, h2⟩ := h2
    exact ⟨cLd_cg2 (fun q q1 q2 => e0 q (by omega) (by omega) (by omega) (by omega) (by omega) (by omega)) h1, ⟨ht', ht6, cRl_cg (fun q hq => e0 q (by omega) (by omega) (by omega) (by omega) (by omega) (by omega)) h2⟩, cSt_cg (fun q q1 q2 => e0 q (by omega) (by omega) (by omega) (by omega) (by omega) (by omega)) h3, ⟨g, ⟨cLi_cg2 (e0 10 (by decide) (by decide) (by decide) (by decide) (by decide) (by decide)) (fun _ _ => rfl) rfl h4.1, h4.2⟩, fun k hk => ⟨(h4b k hk).1, cSt_cg (fun q q1 q2 => e0 q (by omega) (by omega) (by omega) (by omega) (by omega) (by omega)) (h4b k hk).2⟩⟩, (e60 2 (by decide) (by decide) (by decide) (by decide)).trans h5, fun j hj => by rw [e0 65 (by decide) (by decide) (by decide) (by decide) (by decide) (by decide)]; exact h6' j hj, (e60 7 (by decide) (by decide) (by decide) (by decide)).trans h7, fun j hj => by rw [e0 66 (by decide) (by decide) (by decide) (by decide) (by decide) (by decide)]; exact h8 j hj, (e60 8 (by decide) (by decide) (by decide) (by decide)).trans h9, (e60 10 (by decide) (by decide) (by decide) (by decide)).trans h10, (e60 11 (by decide) (by decide) (by decide) (by decide)).trans h11, (e60 32 (by decide) (by decide) (by decide) (by decide)).trans h12, w72⟩
  have eF : ∀ p, cWt (vA V) (vA V 4) (vR V) (gPr2 V p) k = F p := fun p => by
    rw [hF]
    exact (cWt_V V (gPr2 V p) k).symm
  have iter : ∀ (p : List Nat) (oq : Option (List Nat)) (b : Option (Nat × Int64)) (J : Nat → Nat → Nat → Int32) (K : Nat → Nat → Nat → Int64) (lo' : Lo), tOk (vA V 2) p oq = true → (∀ d w, b = some (d, w) → d < 100000) → cZ V I L J K → (∀ i k, 0 < i → J 72 i k = I 72 i k) → cRd (rwO p) (vA V 2) J →
      (∀ (J' : Nat → Nat → Nat → Int32) (K' : Nat → Nat → Nat → Int64) (lo'' : Lo), cZ V I L J' K' → (∀ i k, 0 < i → J' 72 i k = I 72 i k) → (∀ q, oq = some q → cRd (rwO q) (vA V 2) J') → glle [some gG0, some (gI (gOI k)), some (gI (gOd (jLeaf F p b))), some (gL (gOw (jLeaf F p b))), none, some (gI (gb oq.isSome)), none, none, none] lo'' → gT mX1_order (d + 611) (2, 12) (cQr o I L) (cQx [57, 39] o I L) 16 lo'' [] (gH J' K' y) (2, 12)) →
      glle [some gG0, some (gI (gOI k)), some (gI (gOd b)), some (gL (gOw b)), none, some (gI 1), none, none, none] lo' → gT mX1_order (d + 611) (2, 12) (cQr o I L) (cQx [57, 39] o I L) 16 lo' [] (gH J K y) (2, 12) := by
    intro p oq b J K lo' hok hb z z72 hrow kk hl'
    unfold tOk at hok
    rw [Bool.and_eq_true, Bool.and_eq_true, Bool.and_eq_true] at hok
    obtain ⟨k1, k2, k3, k4⟩ := hok
    have plen : p.length = vA V 2 := by simpa using k1
    have plt : ∀ j, j < vA V 2 → p.getD j 0 < vA V 2 := fun j hj => of_decide_eq_true (List.all_eq_true.mp k2 j (List.mem_range.mpr hj))
    have pdg : jDg p < 100000 := of_decide_eq_true k3
    obtain ⟨J1, hJ1⟩ : ∃ J1, J1 = u3 (u3 J 60 0 30 0) 60 0 31 0 := ⟨_, rfl⟩
    have j1 : ∀ q, q ≠ 60 → J1 q = J q := fun q hq => by rw [hJ1, u3_ne1 hq, u3_ne1 hq]
    have j2 : ∀ j, j ≠ 30 → j ≠ 31 → J1 60 0 j = J 60 0 j := fun j b1 b2 => by rw [hJ1]; exact (u3_ne3 b2).trans (u3_ne3 b1)
    have j31 : J1 60 0 31 = 0 := by rw [hJ1]; exact u3_eq
    have zz := z
    obtain ⟨z1, z2, z3, P0, kw0⟩ := z
    have jI : ∀ q, q < 60 → q ≠ 60 → J1 q = I q := fun q hq _ => (j1 q (by omega)).trans (z1 q (by omega) (by omega) (by omega) (by omega) (by omega) (by omega))
    have hle : cLe (sTn (vS V)) (rwO p) (sLn (vS V)) (vA V) J1 := by
      obtain ⟨u1, u2, u3', u4, u5⟩ := py.1
      exact ⟨fun h hh => by rw [jI 23 (by decide) (by decide)]; exact u1 h hh, u2, u3', by rw [jI 20 (by decide) (by decide)]; exact u4, fun j hj => ⟨by rw [j1 72 (by decide)]; exact hrow j hj, plt j hj⟩⟩
    have hP1 : cPy (vA V) (sTn (vS V)) (rwO p) (sLn (vS V)) (gPr2 V p) J1 :=
      ⟨hle, fun h => by
        show gWhR (sTn (vS V)) (sLn (vS V)) (vA V 2) (fun j => p.getD j 0) h = cWho (sTn (vS V)) (rwO p) (sLn (vS V)) (vA V 2) h
        unfold gWhR cWho
        cases sTn (vS V) h <;> rfl, fun k hk => by rw [jI 21 (by decide) (by decide)]; exact py.2.2.1 k hk, fun h hh => by rw [jI 22 (by decide) (by decide)]; exact py.2.2.2.1 h hh, (j2 10 (by decide) (by decide)).trans ((z2 10 (by decide) (by decide) (by decide) (by decide)).trans py.2.2.2.2.1), (j2 11 (by decide) (by decide)).trans ((z2 11 (by decide) (by decide) (by decide) (by decide)).trans py.2.2.2.2.2.1), fun a' b' q => (by change none = some (a', b') at q; cases q), (j2 32 (by decide) (by decide)).trans ((z2 32 (by decide) (by decide) (by decide) (by decide)).trans py.2.2.2.2.2.2.2)⟩
    have lJ1 : cLd y.1 (vA V 4) (vA V) J1 := cLd_cg2 (fun q q1 q2 => jI q (by omega) (by omega)) H.1.1
    have hW := o_worthP (d + 1 + (600 - ht)) ht (vA V 4) (vA V) hA (vA4 hw) (vR V) _ _ _ (gPr2 V p) (gPr2_ok hw g1 plt) k hk J1 K y lJ1 (cRl_cg (fun q hq => jI q (by omega) (by omega)) hR) (cKw_no kw0 (j1 160 (by decide)) (j2 28 (by decide) (by decide)) (j2 29 (by decide) (by decide)) j31) hP1
    rw [← show d + 610 = (d + 1 + (600 - ht)) + ht + 9 by omega, eF p, hJ1] at hW
    refine gT_lo _ hl' ?_
    refine gT_go 400 [44, 83] kX1_order ?_
    refine And.intro (fun q => absurd q (by decide)) (fun _ => ?_)
    refine gTM_use rfl (o_leads (d + 609) J K y) (fun v h' q => ?_)
    obtain ⟨rfl, rfl⟩ := q
    refine gTM_use rfl hW (fun v h' q => ?_)
    obtain ⟨rfl, J2, K2, rfl, fr, kw, kn⟩ := q
    rw [← hJ1] at fr
    have zn : ∀ (J' : Nat → Nat → Nat → Int32), (∀ q, q ≠ 72 → J' q = J2 q) → cZ V I L J' K2 := fun J' hJ' =>
      ⟨fun q b1 b2 b3 b4 b5 b6 => (hJ' q b2).trans ((fr.1 q b1 b3 b4 b5 b6).trans ((j1 q b1).trans (z1 q b1 b2 b3 b4 b5 b6))), fun j b1 b2 b3 b4 => by rw [hJ' 60 (by decide)]; exact (fr.2.1 j b1 b2 b3 b4).trans ((j2 j b3 b4).trans (z2 j b1 b2 b3 b4)), fun q b1 b2 b3 b4 b5 b6 => (fr.2.2 q b1 b2 b3 b4 b5 b6).trans (z3 q b1 b2 b3 b4 b5 b6), gPr2 V p, cKw_cg (hJ' 160 (by decide)) (hJ' 86 (by decide)) (fun _ _ => rfl) (fun j _ => by rw [hJ' 60 (by decide)]) kw⟩
    have r2 : J2 72 = J 72 := (fr.1 72 (by decide) (by decide) (by decide) (by decide) (by decide)).trans (j1 72 (by decide))
    have row2 : cRd (rwO p) (vA V 2) J2 := fun j hj => by rw [r2]; exact hrow j hj
    have l2 := (zn J2 (fun _ _ => rfl)).ld H
    have at83 : ∀ (lo'' : Lo), glle [some gG0, some (gI (gOI k)), some (gI (gOd (jLeaf F p b))), some (gL (gOw (jLeaf F p b))), none, none, none, none, none] lo'' → gT mX1_order (d + 611) (2, 12) (cQr o I L) (cQx [57, 39] o I L) 83 lo'' [] (gH J2 K2 y) (2, 12) := by
      intro lo'' hl2
      refine gT_lo _ hl2 ?_
      refine gT_go 400 [16] kX1_order ?_
      refine gTM_use rfl (o_turnsRound (d + 608) (vA V 4) (vA V) hw.1 hA.2.2.1 (rwO p) (fun q hq => by have := plt q hq; show p.getD q 0 < 1000; omega) J2 K2 y l2 row2) (fun v h' q => ?_)
      rcases q with ⟨t1, rfl, rfl⟩ | ⟨r', J3, t1, rfl, rfl, t2, t3, t4⟩
      · rw [t1] at k4
        cases oq with
        | some q => cases k4
        | none =>
          exact kk J2 K2 _ (zn J2 (fun _ _ => rfl)) (fun i k hi => by rw [r2]; exact z72 i k hi) (fun q e => by cases e) (by (repeat' apply And.intro) <;> first | rfl | trivial | exact congrArg Sum.inl (nI_1 _).symm | exact congrArg Sum.inl (nI_1 _).symm)
      · rw [t1] at k4
        cases oq with
        | none => cases k4
        | some q =>
          refine kk J3 K2 _ (zn J3 t2) (fun i k hi => (t3 i k hi).trans (by rw [r2]; exact z72 i k hi)) (fun q' e => ?_) (by (repeat' apply And.intro) <;> first | rfl | trivial | exact congrArg Sum.inl (nI_1 _).symm | exact congrArg Sum.inl (nI_1 _).symm)
          cases e
          intro j hj
          rw [t4 j hj]
          have q := List.all_eq_true.mp k4 j (List.mem_range.mpr hj)
          exact congrArg nI (by simpa using q)
    have at44 : ∀ (lo'' : Lo), jLeaf F p b = some (jDg p, F p) → glle [some gG0, some (gI (gOI k)), none, none, none, none, some (gL (F p)), none, none] lo'' → gT mX1_order (d + 611) (2, 12) (cQr o I L) (cQx [57, 39] o I L) 44 lo'' [] (gH J2 K2 y) (2, 12) := by
      intro lo'' hj hl2
      refine gT_lo _ hl2 ?_
      refine gT_go 400 [49] kX1_order ?_
      refine gT_for (σ := Unit) (pc := 49) (lo := fun i _ => [some gG0, some (gI (gOI k)), some (gI (nI (jDg (p.take i)))), none, none, none, some (gL (F p)), none, some (gI (nI i))]) (hp := fun _ _ => gH J2 K2 y) (Inv := fun _ _ => True) (vA V 2) ?_ ?_ 0 () (Nat.zero_le _) trivial (by (repeat' apply And.intro) <;> first | rfl | trivial | exact congrArg Sum.inl (nI_1 _).symm | exact congrArg Sum.inl (nI_1 _).symm)
      · intro _ _
        refine gT_go 400 [83] kX1_order ?_
        refine bGe (vA V 2) (vA V 2) rfl (l2.1 2 (by decide)) (fun _ => ?_) (fun q => absurd q (by omega))
        refine at83 _ ?_
        rw [hj, show p.take (vA V 2) = p by rw [← plen, List.take_length]]
        exact (by (repeat' apply And.intro) <;> first | rfl | trivial | exact congrArg Sum.inl (nI_1 _).symm | exact congrArg Sum.inl (nI_1 _).symm)
      · intro i _ hi _ hnext
        refine gT_go 400 [49] kX1_order ?_
        refine bGe i (vA V 2) rfl (l2.1 2 (by decide)) (fun q => absurd q (by omega)) (fun _ => ?_)
        refine Exists.intro (i) (And.intro rfl (And.intro (show _ < 5 by omega) ?_))
        refine hnext () _ trivial ?_
        have e1 : jDg (p.take (i + 1)) = 10 * jDg (p.take i) + p.getD i 0 := by
          have hil : i < p.length := by omega
          unfold jDg
          rw [List.take_succ_eq_append_getElem hil, List.foldl_append]
          simp [List.getD, hil]
        have e2 : nI 10 * nI (jDg (p.take i)) + J2 72 0 i = nI (jDg (p.take (i + 1))) := by rw [row2 i hi, e1, pk_mul, nI_add]
        exact (by (repeat' apply And.intro) <;> first | rfl | trivial | exact congrArg (fun z => gI z) e2.symm | exact congrArg (fun z => gI z) (nI_1 i).symm)
    cases b with
    | none =>
      refine And.intro (fun _ => ?_) (fun q => absurd rfl q)
      exact at44 _ rfl (by (repeat' apply And.intro) <;> first | rfl | trivial | exact congrArg Sum.inl (nI_1 _).symm | exact congrArg Sum.inl (nI_1 _).symm)
    | some bw =>
      obtain ⟨bd, w⟩ := bw
      have hbd := hb bd w rfl
      refine And.intro (fun q => absurd q (gOI_ne (by omega))) (fun _ => ?_)
      refine bcLe (fun c => ?_) (fun c => ?_)
      · refine at83 _ ?_
        have e : jLeaf F p (some (bd, w)) = some (bd, w) := if_neg c
        rw [e]
        exact (by (repeat' apply And.intro) <;> first | rfl | trivial | exact congrArg Sum.inl (nI_1 _).symm | exact congrArg Sum.inl (nI_1 _).symm)
      · exact at44 _ (if_pos c) (by (repeat' apply And.intro) <;> first | rfl | trivial | exact congrArg Sum.inl (nI_1 _).symm | exact congrArg Sum.inl (nI_1 _).symm)
  have loop : ∀ (l : List (List Nat)) (p : List Nat) (b : Option (Nat × Int64)) (J : Nat → Nat → Nat → Int32) (K : Nat → Nat → Nat → Int64) (lo' : Lo), tChain (vA V 2) (p :: l) = true → (p :: l).foldl (fun b q => jLeaf F q b) b = Z → (∀ d w, b = some (d, w) → d < 100000) → cZ V I L J K → (∀ i k, 0 < i → J 72 i k = I 72 i k) → cRd (rwO p) (vA V 2) J → glle [some gG0, some (gI (gOI k)), some (gI (gOd b)), some (gL (gOw b)), none, some (gI 1), none, none, none] lo' → gT mX1_order (d + 611) (2, 12) (cQr o I L) (cQx [57, 39] o I L) 16 lo' [] (gH J K y) (2, 12) := by
    intro l
    induction l with
    | nil =>
      intro p b J K lo' hc hf hb z z72 hrow hl'
      refine iter p none b J K lo' hc hb z z72 hrow (fun J' K' lo'' z' z72' _ hl2 => ?_) hl'
      refine gT_lo _ hl2 ?_
      refine gT_go 400 [92] kX1_order ?_
      refine And.intro (fun _ => ?_) (fun q => absurd rfl q)
      refine at92 J' K' _ z' z72' ?_
      rw [← hf]
      exact (by (repeat' apply And.intro) <;> first | rfl | trivial | exact congrArg Sum.inl (nI_1 _).symm | exact congrArg Sum.inl (nI_1 _).symm)
    | cons q l ih =>
      intro p b J K lo' hc hf hb z z72 hrow hl'
      rw [tChain, Bool.and_eq_true] at hc
      refine iter p (some q) b J K lo' hc.1 hb z z72 hrow (fun J' K' lo'' z' z72' hr2 hl2 => ?_) hl'
      refine ih q (jLeaf F p b) J' K' lo'' hc.2 hf (fun d w e => ?_) z' z72' (hr2 q rfl) hl2
      have pdg : jDg p < 100000 := by
        have h1 := hc.1
        unfold tOk at h1
        rw [Bool.and_eq_true, Bool.and_eq_true, Bool.and_eq_true] at h1
        exact of_decide_eq_true h1.2.2.1
      cases b with
      | none => cases e; exact pdg
      | some bw =>
        obtain ⟨bd, w'⟩ := bw
        have e' : (if w' < F p then some (jDg p, F p) else some (bd, w')) = some (d, w) := e
        have hbd := hb bd w' rfl
        by_cases c : w' < F p
        · rw [if_pos c] at e'; cases e'; exact pdg
        · rw [if_neg c] at e'; cases e'; exact hbd
  have h2 := hA.2.2.1
  have hd := tHead_ok (vA V 2) (by omega) h2
  have hch := tChain_ok (vA V 2) (by omega) h2
  refine gT_go 400 [16] kX1_order ?_
  cases hl : dfsP (vA V 2) (vA V 2) [] with
  | nil =>
    rw [hl] at hd
    have : (List.range (vA V 2)).length = 0 := by rw [← hd] <;> rfl
    rw [List.length_range] at this
    omega
  | cons p l =>
    rw [hl] at hd hch hZ
    have hp : p = List.range (vA V 2) := hd
    refine loop l p none I L _ hch hZ.symm (fun d w e => by cases e) ⟨fun _ _ _ _ _ _ _ => rfl, fun _ _ _ _ _ => rfl, fun _ _ _ _ _ _ _ => rfl, gP0 V, H.2⟩ (fun _ _ _ => rfl) (fun j hj => ?_) (by (repeat' apply And.intro) <;> first | rfl | trivial | exact congrArg Sum.inl (nI_1 _).symm | exact congrArg Sum.inl (nI_1 _).symm)
    rw [H.1.2.2.2.2.2.2.2.2.2.2.2.2 j (by omega), hp]
    show nI j = nI ((List.range (vA V 2)).getD j 0)
    simp [List.getD, hj]
