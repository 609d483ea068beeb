/-! ===== public methods of the component: from when on all are of one mind ===== -/
theorem wTb_eq {V : VS} {I : Nat → Nat → Nat → Int32} {L : Nat → Nat → Nat → Int64} (hw : gWf V) (hL : vL V = true) (kn : cKn (vA V) (vA V 4) (vR V) (gP0 V) I L) {k h p n m : Nat} (hk : k < vA V 2) (hh : h < vA V 3) (hp : p < vA V 0) (hn : n ≤ vA V 4) (hm : m ≤ vA V 1) :
    gBr (vA V) (vA V 4) (gSn (vA V) h) (vw (fun s => L 161 k s)) h p n m = gBr (vA V) (vA V 4) (gSn (vA V) h) (fun j => wTb V (gP0 V) (k * 3900 + j)) h p n m := by
  have hA := hw.2.1 hL
  have hS := vA4 hw
  have a0 := hw.1.1
  refine gBr_cgR hA hn hp hm (fun t j ht hj => ?_)
  rw [vw_s (by omega) (by omega)]
  exact (kn.w hA hS (gPok_V hw hL) (show h + 1 ≤ vA V 3 by omega) ht hj).2 k hk
set_option maxRecDepth 100000 in
theorem o_isOfOneMind (d : Nat) (V : VS) (hw : gWf V) (hL : vL V = true) (h p n : Nat) (hh : h < vA V 3) (hp : p < vA V 0) (hn : n ≤ vA V 4) (e : aEnd (vA V) h p n = 0) (I : Nat → Nat → Nat → Int32) (L : Nat → Nat → Nat → Int64) (y : Dy) (H : cR V I L y) (kn : cKn (vA V) (vA V 4) (vR V) (gP0 V) I L) :
    gP mX1_isOfOneMind (d + 5) [gG0, gI (nI (cN h p n))] (gH I L y) (gI (gb (cOm V (gP0 V) h p n))) := by
  have hA := hw.2.1 hL
  have hS := vA4 hw
  have a0 := hw.1.1
  have a1 := hw.1.2.1
  have a2 := hw.1.2.2.1
  have a3 := hw.1.2.2.2.1
  have hl := H.1.1
  have hn0 := (aEnd_0 e).1
  have hle := (cLe_V hw hL H.1).use (d + 3) h (vA V 4) (by omega) hw.1 hA.2.2.1 L y hl
  rw [cWho_V V h] at hle
  have hkk := gP0_lt hw hh
  have q := kn.1.lw hw.1 ((gP0 V).1 h) h p n hkk hh hp hn e
  obtain ⟨m0, m1, m2⟩ := q.2.2
  obtain ⟨M, hM⟩ : ∃ M, M = xMay V (gP0 V) h p n := ⟨_, rfl⟩
  have hM31 : M < 2 ^ 31 := by rw [hM]; exact gMv_lt q.2.1
  have m2' : M.testBit m0 = true := by rw [hM]; exact m2
  have hmay : gP mX1_mayOf (d + 3 + 1) [gG0, gI (nI ((gP0 V).1 h)), gI (nI (cN h p n))] (gH I L y) (gI (nI M)) := by
    rw [hM]
    exact o_mayOf (d + 3) ((gP0 V).1 h) h p n _ (by omega) (by omega) (by omega) (by omega) (by have := q.2.1; omega) I L y q.1
  have htk : ∀ k, k < vA V 2 → gP mX4_takes (d + 4) [gR (some (30, 0)), gI (nI (cN h p n)), gI (nI k), gI (nI M)] (gH I L y) (gI (nI (wAhd V (gP0 V) k h p n))) := by
    intro k hk
    have ht := o_takes_30 d 0 k M h p n (vA V 4) (fun s => L 161 k s) hM31 (vA V) hw.1 hh (by omega) (by omega) hn0 hS I L y hl (o_ahead d k 0 (by omega) I L y)
    rw [(gXb_bit (v := gBr (vA V) (vA V 4) (gSn (vA V) h) (vw (fun s => L 161 k s)) h p n) m2' m1).1] at ht
    have ex : gXb M (gBr (vA V) (vA V 4) (gSn (vA V) h) (vw (fun s => L 161 k s)) h p n) (vA V 1) = wAhd V (gP0 V) k h p n := by
      unfold wAhd
      rw [← hM]
      exact gXb_cg (fun m hm => wTb_eq hw hL kn hk hh hp hn hm)
    rw [ex] at ht
    exact ht
  have hwl : ∀ k, wAhd V (gP0 V) k h p n < 2 ^ 31 := fun k => by
    have := gXb_le (xMay V (gP0 V) h p n) (gBr (vA V) (vA V 4) (gSn (vA V) h) (fun j => wTb V (gP0 V) (k * 3900 + j)) h p n) (vA V 1)
    unfold wAhd
    omega
  have fin : ∀ g : Bool, g = cOm V (gP0 V) h p n → (gb g = 0 ∨ gb g = 1) := fun g _ => by cases g; exact Or.inl rfl; exact Or.inr rfl
  refine gEnter 400 [31] kX1_isOfOneMind rfl rfl ?_
  refine gP_use (o_hourOf (d + 3) h p n (by omega) (by omega) (by omega) (gH I L y)) ?_
  refine gP_use hle ?_
  refine gP_use hmay ?_
  refine gP_use (htk 0 hA.2.2.1) ?_
  have at76 : ∀ (g : Bool) (lo' : Lo), g = cOm V (gP0 V) h p n → glle [none, none, none, none, some (gI (gb g)), none] lo' → gT mX1_isOfOneMind (d + 5) (0, 0) (fun v h' => v = [gI (gb (cOm V (gP0 V) h p n))] ∧ h' = gH I L y) (fun _ _ => False) 76 lo' [] (gH I L y) (0, 0) := by
    intro g lo' hg hl'
    refine gT_lo _ hl' ?_
    refine gT_go 400 [] kX1_isOfOneMind ?_
    exact ⟨fin g hg, by rw [hg], rfl⟩
  refine gT_for (σ := Bool) (pc := 31) (lo := fun i g => [some gG0, some (gI (nI (cN h p n))), some (gI (nI M)), some (gI (nI (wAhd V (gP0 V) 0 h p n))), some (gI (gb g)), some (gI (nI (i + 1)))]) (hp := fun _ _ => gH I L y) (Inv := fun i g => (g = true ∧ ∀ k, k < i + 1 → wAhd V (gP0 V) k h p n = wAhd V (gP0 V) 0 h p n) ∨ (g = false ∧ g = cOm V (gP0 V) h p n)) (vA V 2 - 1) ?_ ?_ 0 true (Nat.zero_le _) (Or.inl ⟨rfl, fun k hk => by rw [show k = 0 by omega]⟩) (by (repeat' apply And.intro) <;> first | rfl | trivial | exact congrArg Sum.inl (nI_1 _).symm | exact congrArg Sum.inl (nI_1 _).symm)
  · intro g hg
    refine gT_go 400 [76] kX1_isOfOneMind ?_
    refine bGe (vA V 2 - 1 + 1) (vA V 2) rfl (hl.1 2 (by decide)) (fun _ => ?_) (fun q => absurd q (by omega))
    refine at76 g _ ?_ (by (repeat' apply And.intro) <;> first | rfl | trivial | exact congrArg Sum.inl (nI_1 _).symm | exact congrArg Sum.inl (nI_1 _).symm)
    rcases hg with ⟨rfl, hg⟩ | ⟨_, hg⟩
    · unfold cOm
      rw [gFst_none _ (fun j hj => decide_eq_false (fun q => q (hg j (by omega))))]
      rfl
    · exact hg
  · intro i g hi hg hnext
    refine gT_go 400 [31, 76] kX1_isOfOneMind ?_
    refine bGe (i + 1) (vA V 2) rfl (hl.1 2 (by decide)) (fun q => absurd q (by omega)) (fun _ => ?_)
    rcases hg with ⟨rfl, hg⟩ | ⟨rfl, hg⟩
    · refine And.intro (fun q => absurd q (by decide)) (fun _ => ?_)
      refine gP_use (htk (i + 1) (by omega)) ?_
      refine bNe (wAhd V (gP0 V) (i + 1) h p n) (wAhd V (gP0 V) 0 h p n) rfl rfl (fun c => ?_) (fun c => ?_) (hwl _) (hwl _)
      · refine hnext false _ (Or.inr ⟨rfl, ?_⟩) (by (repeat' apply And.intro) <;> first | rfl | trivial | exact congrArg Sum.inl (nI_1 _).symm | exact congrArg Sum.inl (nI_1 _).symm)
        unfold cOm
        rw [gFst_some (c := fun k => decide (wAhd V (gP0 V) k h p n ≠ wAhd V (gP0 V) 0 h p n)) (i := i + 1) (decide_eq_true c) (fun j hj => decide_eq_false (fun q => q (hg j (by omega)))) _ (by omega)]
        rfl
      · refine hnext true _ (Or.inl ⟨rfl, fun k hk => ?_⟩) (by (repeat' apply And.intro) <;> first | rfl | trivial | exact congrArg Sum.inl (nI_1 _).symm | exact congrArg Sum.inl (nI_1 _).symm)
        rcases Nat.lt_or_ge k (i + 1) with w | w
        · exact hg k w
        · rw [show k = i + 1 by omega]; exact c
    · refine And.intro (fun _ => ?_) (fun q => absurd rfl q)
      exact at76 false _ hg (by (repeat' apply And.intro) <;> first | rfl | trivial | exact congrArg Sum.inl (nI_1 _).symm | exact congrArg Sum.inl (nI_1 _).symm)
theorem wMnd_0 {V : VS} {B : Nat → Nat → Nat → Nat} {c : Nat → Nat → Nat → Bool} {p0 n0 : Nat} : ∀ N, (∀ i, i < N → ¬ fP V B c p0 n0 i (vA V 0) 0) → wMnd V B c p0 n0 N = 0 := by
  intro N
  induction N with
  | zero => intro _; rfl
  | succ N ih =>
    intro h
    rw [wMnd, dP_f (h N (by omega)), ih (fun i hi => h i (by omega))]
    rfl
theorem wMnd_1 {V : VS} {B : Nat → Nat → Nat → Nat} {c : Nat → Nat → Nat → Bool} {p0 n0 i : Nat} (hi : fP V B c p0 n0 i (vA V 0) 0) : ∀ N, i < N → (∀ j, i < j → j < N → ¬ fP V B c p0 n0 j (vA V 0) 0) → wMnd V B c p0 n0 N = i + 1 := by
  intro N
  induction N with
  | zero => intro h; exact absurd h (Nat.not_lt_zero _)
  | succ N ih =>
    intro hN h
    by_cases e : N = i
    · subst e
      rw [wMnd, dP_t hi]
      rfl
    · rw [wMnd, dP_f (h N (by omega) (by omega)), ih (by omega) (fun j h1 h2 => h j h1 (by omega))]
      rfl
set_option maxRecDepth 100000 in
theorem c2_mind (V : VS) (hw : gWf V) : cC mX1_mind 610 (1, 6) [39] [] V (xMind V) := by
  intro d I L y H
  obtain ⟨o, ho⟩ : ∃ o, o = xMind V := ⟨_, rfl⟩
  rw [← ho]
  have hS := vA4 hw
  have a0 := hw.1.1
  have a3 := hw.1.2.2.2.1
  refine gEnter 400 [1] kX1_mind rfl rfl ?_
  refine gT_gate 287 (1, 6) rfl rfl rfl rfl rfl dX1_mind_1 (o_mustLand (d + 603) V I L y H) rfl (by decide) (by decide) (fun q h' hx => cX_of (c := 0) (fun e => by rw [ho]; unfold xMind; rw [e]; exact ⟨rfl, rfl⟩) rfl hx) (fun g1 => ?_)
  have hA := hw.2.1 g1
  have h6 := hA.2.2.2.2.2.1
  refine gT_go 400 [21] kX1_mind ?_
  refine gTM_use rfl (o_findV (d + 1) V hw g1 I L y H) (fun v h' q => ?_)
  obtain ⟨rfl, I1, L1, rfl, fr, H1, kn⟩ := q
  refine gP_use (o_begin (d + 607) V I1 L1 y H1.1.1) ?_
  refine gTM_use rfl (o_marks (d + 606) V hw g1 true 0 (vA V 6) (vA V 4) (Nat.zero_le _) h6 (Nat.le_refl _) I1 L1 y H1 kn.1) (fun v h' q => ?_)
  obtain ⟨rfl, I2, rfl, f2, mk⟩ := q
  have o2 : cOut I L I2 L1 := fr.out.tr (fun b c1 c2 => ⟨f2 b (by omega), rfl⟩)
  have H2 : cR V I2 L1 y := ⟨cRb_cg ⟨fun b hb => f2 b (by omega), fun j _ => by rw [f2 60 (by decide)], rfl, rfl, fun _ _ => ⟨rfl, rfl⟩, fun _ _ => rfl⟩ H1.1, cKw_cg (f2 160 (by decide)) (f2 86 (by decide)) (fun _ _ => rfl) (fun j _ => by rw [f2 60 (by decide)]) H1.2⟩
  have kn2 : cKn (vA V) (vA V 4) (vR V) (gP0 V) I2 L1 := ⟨cKl_cg (f2 160 (by decide)) rfl kn.1, kn.2.1, kn.2.2.1, cPl_cg (f2 86 (by decide)) rfl rfl rfl rfl rfl kn.2.2.2⟩
  have hl2 := H2.1.1
  obtain ⟨B, hB⟩ : ∃ B, B = xMay V (gP0 V) := ⟨_, rfl⟩
  obtain ⟨C, hC⟩ : ∃ C, C = cOm V (gP0 V) := ⟨_, rfl⟩
  obtain ⟨X, hX⟩ : ∃ X : Nat → Nat → Nat → Prop, X = fun i p n => rE (vA V) (vA V 4) B true 0 (vA V 6) (vA V 4) i p n ∧ aEnd (vA V) i p n = 0 ∧ C i p n = false := ⟨_, rfl⟩
  have Xok : ∀ i p n, X i p n → i < vA V 3 ∧ p < vA V 0 ∧ n ≤ vA V 4 := by
    intro i p n hx
    rw [hX] at hx
    have r3 := rE_hr (Nat.zero_le _) i p n hx.1
    have r1 := rE_ok hA h6 (Nat.le_refl _) i p n hx.1
    have := (aEnd_0 hx.2.1).2
    exact ⟨by omega, r1.1, r1.2⟩
  have fPX : ∀ i, fP V B C (vA V 6) (vA V 4) i (vA V 0) 0 ↔ ∃ p n, X i p n := by
    intro i
    unfold fP
    rw [hX]
    constructor
    · rintro ⟨p, n, c1, c3, -, r⟩; exact ⟨p, n, r⟩
    · rintro ⟨p, n, r⟩
      have r1 := rE_ok hA h6 (Nat.le_refl _) i p n r.1
      exact ⟨p, n, r1.1, r1.2, Or.inl r1.1, r⟩
  refine gT_for (σ := Nat) (pc := 21) (lo := fun s f => [some gG0, some (gI (nI f)), some (gI (nI s))]) (hp := fun _ _ => gH I2 L1 y) (Inv := fun s f => (f = 0 ∧ ∀ i p n, X i p n → s ≤ cN i p n) ∨ ∃ i, f = i + 1 ∧ (∃ p n, X i p n) ∧ ∀ j p n, X j p n → j ≤ i ∨ s ≤ cN j p n) 3900 ?_ ?_ 0 0 (Nat.zero_le _) (Or.inl ⟨rfl, fun _ _ _ _ => Nat.zero_le _⟩) (by (repeat' apply And.intro) <;> first | rfl | trivial | exact congrArg Sum.inl (nI_1 _).symm | exact congrArg Sum.inl (nI_1 _).symm)
  · intro f hf
    refine gT_go 400 [21] kX1_mind ?_
    refine bGe 3900 3900 rfl rfl (fun _ => ?_) (fun q => absurd q (by omega))
    have no : ∀ i p n, X i p n → ¬ 3900 ≤ cN i p n := fun i p n hx => by
      have := Xok i p n hx
      have := cN_lt (show i < 25 by omega) (show p < 12 by omega) (show n < 13 by omega)
      omega
    have key : xMind V = (0, gI (nI f), V) := by
      unfold xMind
      rw [g1]
      refine congrArg (fun z => ((0 : Int32), gI (nI z), V)) ?_
      rw [← hB, ← hC]
      rcases hf with ⟨rfl, hf⟩ | ⟨i, rfl, hx, hf⟩
      · exact wMnd_0 _ (fun i _ w => by obtain ⟨p, n, hx⟩ := (fPX i).mp w; exact no i p n hx (hf i p n hx))
      · obtain ⟨p, n, hx⟩ := hx
        refine wMnd_1 ((fPX i).mpr ⟨p, n, hx⟩) _ (Xok i p n hx).1 (fun j h1 h2 w => ?_)
        obtain ⟨p', n', hx'⟩ := (fPX j).mp w
        rcases hf j p' n' hx' with q | q
        · omega
        · exact no j p' n' hx' q
    exact cDone (by rw [ho, key]; exact ⟨rfl, rfl, rfl⟩) o2 H2
  · intro s f hs hf hnext
    obtain ⟨h, p, n, hsd, hp, hn⟩ : ∃ h p n, s = cN h p n ∧ p < 12 ∧ n < 13 := ⟨_, _, _, cN_dec s, Nat.mod_lt _ (by decide), Nat.mod_lt _ (by decide)⟩
    have hh : h < 25 := by rw [hsd] at hs; unfold cN at hs; omega
    have f31 : f < 2 ^ 31 := by
      rcases hf with ⟨rfl, _⟩ | ⟨i, rfl, ⟨p, n, hx⟩, _⟩
      · decide
      · have := (Xok i p n hx).1; omega
    have at60 : ∀ (f' : Nat) (lo' : Lo), ((f' = f ∧ ¬ X h p n) ∨ (f' = h + 1 ∧ X h p n)) → glle [some gG0, some (gI (nI f')), some (gI (nI s))] lo' → gT mX1_mind (d + 610) (1, 6) (cQr o I L) (cQx [39] o I L) 60 lo' [] (gH I2 L1 y) (1, 6) := by
      intro f' lo' hf' hl'
      refine gT_lo _ hl' ?_
      refine gT_go 400 [21] kX1_mind ?_
      refine hnext f' _ ?_ (by (repeat' apply And.intro) <;> first | rfl | trivial | exact congrArg Sum.inl (nI_1 _).symm | exact congrArg Sum.inl (nI_1 _).symm)
      have inj : ∀ j p' n', X j p' n' → s = cN j p' n' → j = h ∧ p' = p ∧ n' = n := fun j p' n' hx e => by
        have := Xok j p' n' hx
        have q := cN_inj (show p' < 12 by omega) (show n' < 13 by omega) hp hn (e.symm.trans hsd)
        exact q
      rcases hf' with ⟨rfl, nx⟩ | ⟨rfl, hx⟩
      · rcases hf with ⟨f0, hf⟩ | ⟨i, f1, hx, hf⟩
        · refine Or.inl ⟨f0, fun j p' n' hx' => ?_⟩
          have := hf j p' n' hx'
          rcases Nat.lt_or_ge s (cN j p' n') with w | w
          · exact w
          · obtain ⟨e1, e2, e3⟩ := inj j p' n' hx' (by omega)
            rw [e1, e2, e3] at hx'
            exact absurd hx' nx
        · refine Or.inr ⟨i, f1, hx, fun j p' n' hx' => ?_⟩
          rcases hf j p' n' hx' with q | q
          · exact Or.inl q
          · rcases Nat.lt_or_ge s (cN j p' n') with w | w
            · exact Or.inr w
            · obtain ⟨e1, e2, e3⟩ := inj j p' n' hx' (by omega)
              rw [e1, e2, e3] at hx'
              exact absurd hx' nx
      · refine Or.inr ⟨h, rfl, ⟨p, n, hx⟩, fun j p' n' hx' => ?_⟩
        have hj := Xok j p' n' hx'
        rcases Nat.lt_or_ge h j with w | w
        · refine Or.inr ?_
          rw [hsd]
          have : cN h p n < cN j p' n' := by unfold cN; omega
          omega
        · exact Or.inl w
    refine gT_go 400 [60] kX1_mind ?_
    refine bGe s 3900 rfl rfl (fun q => absurd q (by omega)) (fun _ => ?_)
    refine Exists.intro (s) (And.intro rfl (And.intro (show _ < 3900 by omega) ?_))
    have mks := mk s hs
    rw [← hB] at mks
    refine bB0 (dP (cRc (vA V) (vA V 4) B true 0 (vA V 6) (vA V 4) s)) mks (fun c => ?_) (fun c => ?_)
    · refine at60 f _ (Or.inl ⟨rfl, fun hx => dP_n c ⟨h, p, n, by rw [Nat.zero_add]; exact hsd, ?_⟩⟩) (by (repeat' apply And.intro) <;> first | rfl | trivial | exact congrArg Sum.inl (nI_1 _).symm | exact congrArg Sum.inl (nI_1 _).symm)
      rw [hX] at hx
      exact hx.1
    · obtain ⟨i, p', n', e, r⟩ := dP_i c
      rw [Nat.zero_add] at e
      obtain ⟨c1, c3⟩ := rE_ok hA h6 (Nat.le_refl _) i p' n' r
      obtain ⟨rfl, rfl, rfl⟩ : h = i ∧ p = p' ∧ n = n' := cN_inj hp hn (by omega) (by omega) (hsd.symm.trans e)
      refine gP_use (gP_eq (by rw [← hsd]) (o_endedOf (d + 607) h p n (vA V 4) hh hp hn (vA V) hw.1 I2 L1 y hl2)) ?_
      refine bNe (aEnd (vA V) h p n) 0 rfl rfl (fun e1 => ?_) (fun e1 => ?_) (by have := aEnd_lt (vA V) h p n; omega) (by decide)
      · exact at60 f _ (Or.inl ⟨rfl, fun hx => by rw [hX] at hx; exact e1 hx.2.1⟩) (by (repeat' apply And.intro) <;> first | rfl | trivial | exact congrArg Sum.inl (nI_1 _).symm | exact congrArg Sum.inl (nI_1 _).symm)
      · have hh3 : h < vA V 3 := by
          have := rE_hr (Nat.zero_le _) h p n r
          have := (aEnd_0 e1).2
          omega
        refine gP_use (gP_eq (by rw [← hsd]) (o_isOfOneMind (d + 604) V hw g1 h p n hh3 c1 c3 e1 I2 L1 y H2 kn2)) ?_
        refine bB1 (cOm V (gP0 V) h p n) rfl (fun c2 => ?_) (fun c2 => ?_)
        · exact at60 f _ (Or.inl ⟨rfl, fun hx => by rw [hX] at hx; have := hx.2.2; rw [hC, c2] at this; cases this⟩) (by (repeat' apply And.intro) <;> first | rfl | trivial | exact congrArg Sum.inl (nI_1 _).symm | exact congrArg Sum.inl (nI_1 _).symm)
        · refine gP_use (gP_eq (by rw [← hsd]) (o_hourOf (d + 608) h p n hh hp hn (gH I2 L1 y))) ?_
          refine at60 (h + 1) _ (Or.inr ⟨rfl, by rw [hX]; exact ⟨r, e1, by rw [hC]; exact c2⟩⟩) (by (repeat' apply And.intro) <;> first | rfl | trivial | exact congrArg Sum.inl (nI_1 _).symm | exact congrArg Sum.inl (nI_1 _).symm)
