/-! ===== rules: steps, worked one by one; what is lawful ===== -/
/-- steps of a rule: kind and value -/
abbrev Cd : Type := List (Nat × Nat)
/-- rules: of going, or of resting; their steps -/
abbrev RL : Type := List (Bool × Cd)
def rOp (o : Nat) (x y : Int32) : Int32 := match o with
  | 2 => x + y
  | 3 => x - y
  | 4 => x * y
  | 5 => if y = 0 then 0 else if y = -1 then -x else x / y
  | 6 => if x < y then 1 else 0
  | 7 => if y < x then 1 else 0
  | 8 => if x = y then 1 else 0
  | 10 => x &&& y
  | _ => x ||| y
def rSt (nm : Nat → Int32) (st : List Int32) (c : Nat × Nat) : List Int32 := match c.1 with
  | 0 => nI c.2 :: st
  | 1 => nm c.2 :: st
  | 9 => match st with
    | x :: r => (1 - x) :: r
    | [] => []
  | o => match st with
    | y :: x :: r => rOp o x y :: r
    | r => r
def rRun (nm : Nat → Int32) : List Int32 → Cd → List Int32
  | st, [] => st
  | st, c :: r => rRun nm (rSt nm st c) r
/-- how many values stand behind the steps -/
def rHt : Nat → Cd → Option Nat
  | n, [] => some n
  | n, c :: r => match c.1 with
    | 0 => rHt (n + 1) r
    | 1 => rHt (n + 1) r
    | 9 => match n with
      | 0 => none
      | n + 1 => rHt (n + 1) r
    | _ => match n with
      | n + 2 => rHt (n + 1) r
      | _ => none
theorem rRun_app (nm : Nat → Int32) : ∀ (a b : Cd) (st : List Int32), rRun nm st (a ++ b) = rRun nm (rRun nm st a) b := by
  intro a
  induction a with
  | nil => intro b st; rfl
  | cons c r ih => intro b st; exact ih b _
/-- steps in the rows of steps -/
def gCo (I : Nat → Nat → Nat → Int32) (f : Nat) (C : Cd) : Prop := ∀ j c, C[j]? = some c → I 115 0 (f + j) = nI c.1 ∧ I 116 0 (f + j) = nI c.2 ∧ c.1 ≤ 11 ∧ c.2 < 10000 ∧ (c.1 = 1 → c.2 < 8)
theorem gCo_tl {I : Nat → Nat → Nat → Int32} {f : Nat} {c : Nat × Nat} {C : Cd} (h : gCo I f (c :: C)) : gCo I (f + 1) C := by
  intro j c' hj
  have q := h (j + 1) c' hj
  rw [show f + (j + 1) = f + 1 + j by omega] at q
  exact q
def gSk (x : Nat → Nat → Nat → Int32) : List Int32 → Prop
  | [] => True
  | v :: r => x 123 0 r.length = v ∧ gSk x r
theorem gSk_up {x : Nat → Nat → Nat → Int32} {n : Nat} {v : Int32} : ∀ (r : List Int32), r.length ≤ n → gSk x r → gSk (u3 x 123 0 n v) r := by
  intro r
  induction r with
  | nil => intro _ _; trivial
  | cons w r ih =>
    intro h g
    have h' : r.length + 1 ≤ n := h
    exact ⟨(u3_ne3 (by omega)).trans g.1, ih (by omega) g.2⟩
set_option maxRecDepth 100000 in
theorem t_worked {Qr : List AV → Hp → Prop} {Qx : Rf → Hp → Prop} (d f t : Nat) (nm : Nat → Int32) (R : List Int32) (L : Nat → Nat → Nat → Int64) (y : Dy) (I0 : Nat → Nat → Nat → Int32) (hQ : ∀ x v, (∀ b, b ≠ 123 → x b = I0 b) → R = [v] → Qr [gI v] (gH x L y)) :
    ∀ (C : Cd) (k : Nat) (st : List Int32) (x : Nat → Nat → Nat → Int32) (lo0 : Lo), (∀ b, b ≠ 123 → x b = I0 b) → gCo I0 k C → (∀ j, j < 8 → I0 124 0 j = nm j) → rHt st.length C = some 1 → gSk x st → st.length + C.length ≤ 620 → k + C.length ≤ 620 → t = k + C.length → rRun nm st C = R →
      glle [some gM0, some (gI (nI f)), some (gI (nI t)), some (gI (nI st.length)), some (gI (nI k)), none, none, none, none] lo0 → gT mX12_worked (d + 1) (0, 0) Qr Qx 5 lo0 [] (gH x L y) (0, 0) := by
  intro C
  induction C with
  | nil =>
    intro k st x lo0 hx hC hnm hh hs hb1 hb2 ht hR hlo
    refine gT_lo _ hlo ?_
    refine gT_go 400 [5] kX12_worked ?_
    have ht' : t = k := ht
    refine bGe k t rfl rfl (fun c => ?_) (fun c => absurd c (by omega)) (by have : k + 0 ≤ 620 := hb2; omega) (by have : k + 0 ≤ 620 := hb2; omega)
    refine Exists.intro (0) (And.intro rfl (And.intro (show _ < 620 by omega) ?_))
    match st, hh, hs, hR with
    | [v], _, hs, hR =>
      refine hQ x _ hx ?_
      rw [← hR]
      exact congrArg (fun z => [z]) hs.1.symm
    | [], hh, _, _ => exact absurd (Option.some.inj hh) (by decide)
    | _ :: _ :: r, hh, _, _ => exact absurd (Option.some.inj hh) (by simp)
  | cons c C ih =>
    intro k st x lo0 hx hC hnm hh hs hb1 hb2 ht hR hlo
    obtain ⟨e1, e2, e3, e4, e5⟩ := hC 0 c rfl
    have hlen : (c :: C).length = C.length + 1 := rfl
    rw [hlen] at hb1 hb2 ht
    have x115 := hx 115 (by decide)
    have x116 := hx 116 (by decide)
    have x124 := hx 124 (by decide)
    have next := fun (st' : List Int32) (v : Int32) (r : List Int32) (lo' : Lo) (e : st' = v :: r) (h1 : rSt nm st c = st') (h2 : rHt st'.length C = some 1) (h3 : gSk x r) (h4 : r.length ≤ st.length) hl' =>
      ih (k + 1) st' (u3 x 123 0 r.length v) lo' (fun b hb => (u3_ne1 hb).trans (hx b hb)) (gCo_tl hC) hnm h2 (by rw [e]; exact ⟨u3_eq, gSk_up r (Nat.le_refl _) h3⟩) (by rw [e]; show r.length + 1 + C.length ≤ 620; omega) (by omega) (by omega) (by rw [← h1]; exact hR) hl'
    refine gT_lo _ hlo ?_
    refine gT_go 400 [5, 297] kX12_worked ?_
    refine bGe k t rfl rfl (fun q => absurd q (by omega)) (fun _ => ?_)
    refine Exists.intro (k) (And.intro rfl (And.intro (show _ < 620 by omega) ?_))
    have e1' : x 115 0 k = nI c.1 := by rw [x115]; exact e1
    have e2' : x 116 0 k = nI c.2 := by rw [x116]; exact e2
    refine bGt c.1 1 e1' rfl (fun c1 => ?_) (fun c1 => ?_)
    · refine bNe c.1 9 e1' rfl (fun c9 => ?_) (fun c9 => ?_)
      · match st, hs, hh, hR, hb1, next with
        | [], _, hh, _, _, _ =>
          exfalso
          obtain ⟨o, w⟩ := c
          match o, c1, c9, hh with
          | 0, c1, _, _ => exact absurd (show 1 < 0 from c1) (by decide)
          | 1, c1, _, _ => exact absurd (show 1 < 1 from c1) (by decide)
          | 9, _, c9, _ => exact c9 rfl
          | 2, _, _, hh => cases hh
          | 3, _, _, hh => cases hh
          | 4, _, _, hh => cases hh
          | 5, _, _, hh => cases hh
          | 6, _, _, hh => cases hh
          | 7, _, _, hh => cases hh
          | 8, _, _, hh => cases hh
          | o + 10, _, _, hh => cases hh
        | [_], _, hh, _, _, _ =>
          exfalso
          obtain ⟨o, w⟩ := c
          match o, c1, c9, hh with
          | 0, c1, _, _ => exact absurd (show 1 < 0 from c1) (by decide)
          | 1, c1, _, _ => exact absurd (show 1 < 1 from c1) (by decide)
          | 9, _, c9, _ => exact c9 rfl
          | 2, _, _, hh => cases hh
          | 3, _, _, hh => cases hh
          | 4, _, _, hh => cases hh
          | 5, _, _, hh => cases hh
          | 6, _, _, hh => cases hh
          | 7, _, _, hh => cases hh
          | 8, _, _, hh => cases hh
          | o + 10, _, _, hh => cases hh
        | Y :: X :: r, hs, hh, hR, hb1, next =>
          obtain ⟨sy, sx, sr⟩ := hs
          have hb1' : r.length + 2 + (C.length + 1) ≤ 620 := hb1
          have z1 : nI (r.length + 2) + gic (-1) = nI (r.length + 1) := pk_m1 _
          have z2 : nI (r.length + 1) - 1 = nI r.length := nI_pred _
          have tail : ∀ (v : Int32) (lo' : Lo), rSt nm (Y :: X :: r) c = v :: r → rHt (r.length + 1) C = some 1 → glle [some gM0, some (gI (nI f)), some (gI (nI t)), some (gI (nI (r.length + 1))), some (gI (nI k)), none, none, none, some (gI v)] lo' → gT mX12_worked (d + 1) (0, 0) Qr Qx 297 lo' [] (gH x L y) (0, 0) := by
            intro v lo' h1 h2 hl'
            refine gT_lo _ hl' ?_
            refine gT_go 400 [5, 297] kX12_worked ?_
            refine Exists.intro (r.length) (And.intro (z2) (And.intro (show r.length < 620 by omega) ?_))
            exact next (v :: r) v r _ rfl h1 h2 sr (by show r.length ≤ r.length + 2; omega) (by rw [← nI_1]; exact (by (repeat' apply And.intro) <;> first | rfl | trivial | exact congrArg Sum.inl (nI_1 _).symm | exact congrArg Sum.inl (nI_1 _).symm))
          refine Exists.intro (r.length) (And.intro (by show nI (r.length + 2) + gic (-1) - 1 = _; rw [z1, z2]) (And.intro (show r.length < 620 by omega) ?_))
          refine Exists.intro (r.length + 1) (And.intro (z1) (And.intro (show r.length + 1 < 620 by omega) ?_))
          obtain ⟨o, w⟩ := c
          have e1o : x 115 0 k = nI o := e1'
          match o, c1, c9, e1o, hh, tail with
          | 0, c1, _, _, _, _ => exact absurd (show 1 < 0 from c1) (by decide)
          | 1, c1, _, _, _, _ => exact absurd (show 1 < 1 from c1) (by decide)
          | 9, _, c9, _, _, _ => exact absurd rfl c9
          | 2, _, _, e1o, hh, tail =>
            refine gT_sw (nI 2) e1o 49 168 dX12_worked_119 (by decide) (by decide) rfl rfl ?_
            refine gT_go 400 [5, 297] kX12_worked ?_
            refine tail (X + Y) _ rfl hh ?_
            rw [← z1, ← sx, ← sy]; exact (by (repeat' apply And.intro) <;> first | rfl | trivial | exact congrArg Sum.inl (nI_1 _).symm | exact congrArg Sum.inl (nI_1 _).symm)
          | 3, _, _, e1o, hh, tail =>
            refine gT_sw (nI 3) e1o 59 178 dX12_worked_119 (by decide) (by decide) rfl rfl ?_
            refine gT_go 400 [5, 297] kX12_worked ?_
            refine tail (X - Y) _ rfl hh ?_
            rw [← z1, ← sx, ← sy]; exact (by (repeat' apply And.intro) <;> first | rfl | trivial | exact congrArg Sum.inl (nI_1 _).symm | exact congrArg Sum.inl (nI_1 _).symm)
          | 4, _, _, e1o, hh, tail =>
            refine gT_sw (nI 4) e1o 69 188 dX12_worked_119 (by decide) (by decide) rfl rfl ?_
            refine gT_go 400 [5, 297] kX12_worked ?_
            refine tail (X * Y) _ rfl hh ?_
            rw [← z1, ← sx, ← sy]; exact (by (repeat' apply And.intro) <;> first | rfl | trivial | exact congrArg Sum.inl (nI_1 _).symm | exact congrArg Sum.inl (nI_1 _).symm)
          | 5, _, _, e1o, hh, tail =>
            refine gT_sw (nI 5) e1o 79 198 dX12_worked_119 (by decide) (by decide) rfl rfl ?_
            refine gT_go 400 [5, 297] kX12_worked ?_
            have sy' : x 123 0 (r.length + 1) = Y := sy
            refine And.intro (fun q => ?_) (fun q => ?_)
            · have q' : ¬ Y = 0 := by rw [← sy']; exact q
              refine And.intro (fun q2 => ?_) (fun q2 => ?_)
              · have q2' : ¬ Y = -1 := by rw [← sy']; exact q2
                refine And.intro q ?_
                refine tail (X / Y) _ (by show (if Y = 0 then 0 else if Y = -1 then -X else X / Y) :: r = _; rw [if_neg q', if_neg q2']) hh ?_
                rw [← z1, ← sx, ← sy]; exact (by (repeat' apply And.intro) <;> first | rfl | trivial | exact congrArg Sum.inl (nI_1 _).symm | exact congrArg Sum.inl (nI_1 _).symm)
              · have q2' : Y = -1 := by rw [← sy']; exact q2
                refine tail (-X) _ (by show (if Y = 0 then 0 else if Y = -1 then -X else X / Y) :: r = _; rw [if_neg q', if_pos q2']) hh ?_
                rw [← z1, ← sx]; exact (by (repeat' apply And.intro) <;> first | rfl | trivial | exact congrArg Sum.inl (nI_1 _).symm | exact congrArg Sum.inl (nI_1 _).symm)
            · have q' : Y = 0 := by rw [← sy']; exact q
              refine tail 0 _ (by show (if Y = 0 then 0 else if Y = -1 then -X else X / Y) :: r = _; rw [if_pos q']) hh ?_
              rw [← z1]; exact (by (repeat' apply And.intro) <;> first | rfl | trivial | exact congrArg Sum.inl (nI_1 _).symm | exact congrArg Sum.inl (nI_1 _).symm)
          | 6, _, _, e1o, hh, tail =>
            refine gT_sw (nI 6) e1o 110 229 dX12_worked_119 (by decide) (by decide) rfl rfl ?_
            refine gT_go 400 [5, 297] kX12_worked ?_
            have sy' : x 123 0 (r.length + 1) = Y := sy
            have sx' : x 123 0 r.length = X := sx
            refine And.intro (fun q => ?_) (fun q => ?_)
            · have q' : ¬ X < Y := by rw [← sy', ← sx']; exact Int32.not_lt.mpr q
              refine tail 0 _ (by show (if X < Y then 1 else 0) :: r = _; rw [if_neg q']) hh ?_
              rw [← z1]; exact (by (repeat' apply And.intro) <;> first | rfl | trivial | exact congrArg Sum.inl (nI_1 _).symm | exact congrArg Sum.inl (nI_1 _).symm)
            · have q' : X < Y := by rw [← sy', ← sx']; exact Int32.not_le.mp q
              refine tail 1 _ (by show (if X < Y then 1 else 0) :: r = _; rw [if_pos q']) hh ?_
              rw [← z1]; exact (by (repeat' apply And.intro) <;> first | rfl | trivial | exact congrArg Sum.inl (nI_1 _).symm | exact congrArg Sum.inl (nI_1 _).symm)
          | 7, _, _, e1o, hh, tail =>
            refine gT_sw (nI 7) e1o 127 246 dX12_worked_119 (by decide) (by decide) rfl rfl ?_
            refine gT_go 400 [5, 297] kX12_worked ?_
            have sy' : x 123 0 (r.length + 1) = Y := sy
            have sx' : x 123 0 r.length = X := sx
            refine And.intro (fun q => ?_) (fun q => ?_)
            · have q' : ¬ Y < X := by rw [← sy', ← sx']; exact Int32.not_lt.mpr q
              refine tail 0 _ (by show (if Y < X then 1 else 0) :: r = _; rw [if_neg q']) hh ?_
              rw [← z1]; exact (by (repeat' apply And.intro) <;> first | rfl | trivial | exact congrArg Sum.inl (nI_1 _).symm | exact congrArg Sum.inl (nI_1 _).symm)
            · have q' : Y < X := by rw [← sy', ← sx']; exact Int32.not_le.mp q
              refine tail 1 _ (by show (if Y < X then 1 else 0) :: r = _; rw [if_pos q']) hh ?_
              rw [← z1]; exact (by (repeat' apply And.intro) <;> first | rfl | trivial | exact congrArg Sum.inl (nI_1 _).symm | exact congrArg Sum.inl (nI_1 _).symm)
          | 8, _, _, e1o, hh, tail =>
            refine gT_sw (nI 8) e1o 144 263 dX12_worked_119 (by decide) (by decide) rfl rfl ?_
            refine gT_go 400 [5, 297] kX12_worked ?_
            have sy' : x 123 0 (r.length + 1) = Y := sy
            have sx' : x 123 0 r.length = X := sx
            refine And.intro (fun q => ?_) (fun q => ?_)
            · have q' : ¬ X = Y := by rw [← sy', ← sx']; exact q
              refine tail 0 _ (by show (if X = Y then 1 else 0) :: r = _; rw [if_neg q']) hh ?_
              rw [← z1]; exact (by (repeat' apply And.intro) <;> first | rfl | trivial | exact congrArg Sum.inl (nI_1 _).symm | exact congrArg Sum.inl (nI_1 _).symm)
            · have q' : X = Y := by rw [← sy', ← sx']; exact q
              refine tail 1 _ (by show (if X = Y then 1 else 0) :: r = _; rw [if_pos q']) hh ?_
              rw [← z1]; exact (by (repeat' apply And.intro) <;> first | rfl | trivial | exact congrArg Sum.inl (nI_1 _).symm | exact congrArg Sum.inl (nI_1 _).symm)
          | 10, _, _, e1o, hh, tail =>
            refine gT_sw (nI 10) e1o 161 280 dX12_worked_119 (by decide) (by decide) rfl rfl ?_
            refine gT_go 400 [5, 297] kX12_worked ?_
            refine tail (X &&& Y) _ rfl hh ?_
            rw [← z1, ← sx, ← sy]; exact (by (repeat' apply And.intro) <;> first | rfl | trivial | exact congrArg Sum.inl (nI_1 _).symm | exact congrArg Sum.inl (nI_1 _).symm)
          | 11, _, _, e1o, hh, tail =>
            refine gT_swd (x := x 115 0 k) (by rw [show x 115 0 k = nI 11 from e1o]; exact Or.inr (by decide)) 290 dX12_worked_119 rfl ?_
            refine gT_go 400 [5, 297] kX12_worked ?_
            refine tail (X ||| Y) _ rfl hh ?_
            rw [← z1, ← sx, ← sy]; exact (by (repeat' apply And.intro) <;> first | rfl | trivial | exact congrArg Sum.inl (nI_1 _).symm | exact congrArg Sum.inl (nI_1 _).symm)
          | o + 12, _, _, _, _, _ => exact absurd e3 (by show ¬ o + 12 ≤ 11; omega)
      · obtain ⟨o, w⟩ := c
        have c9' : o = 9 := c9
        subst c9'
        match st, hs, hh, hR, hb1, next with
        | [], _, hh, _, _, _ => cases hh
        | X :: r, hs, hh, hR, hb1, next =>
          obtain ⟨sx, sr⟩ := hs
          have hb1' : r.length + 1 + (C.length + 1) ≤ 620 := hb1
          have z2 : nI (r.length + 1) - 1 = nI r.length := nI_pred _
          refine Exists.intro (r.length) (And.intro (z2) (And.intro (show r.length < 620 by omega) ?_))
          refine Exists.intro (r.length) (And.intro (z2) (And.intro (show r.length < 620 by omega) ?_))
          refine next ((1 - x 123 0 r.length) :: r) (1 - x 123 0 r.length) r _ rfl (by show (1 - X) :: r = _; rw [← sx]) hh sr (Nat.le_succ _) ?_
          rw [← nI_1]; exact (by (repeat' apply And.intro) <;> first | rfl | trivial | exact congrArg Sum.inl (nI_1 _).symm | exact congrArg Sum.inl (nI_1 _).symm)
    · obtain ⟨o, w⟩ := c
      have c1' : o ≤ 1 := c1
      match o, c1', e1', e5, hh, hR, next with
      | 0, _, e1', _, hh, hR, next =>
        refine And.intro (fun q => absurd e1' q) (fun _ => ?_)
        refine Exists.intro (k) (And.intro rfl (And.intro (show _ < 620 by omega) ?_))
        refine Exists.intro (st.length) (And.intro rfl (And.intro (show _ < 620 by omega) ?_))
        have e2w : x 116 0 k = nI w := e2'
        refine next (x 116 0 k :: st) (x 116 0 k) st _ rfl (by show nI w :: st = _; rw [e2w]) hh hs (Nat.le_refl _) ?_
        rw [← nI_1]
        exact (by (repeat' apply And.intro) <;> first | rfl | trivial | exact congrArg Sum.inl (nI_1 _).symm | exact congrArg Sum.inl (nI_1 _).symm)
      | 1, _, e1', e5, hh, hR, next =>
        refine And.intro (fun _ => ?_) (fun q => absurd (e1'.symm.trans q) (show ¬ nI 1 = 0 by decide))
        refine Exists.intro (k) (And.intro rfl (And.intro (show _ < 620 by omega) ?_))
        have h5 : w < 8 := e5 rfl
        refine Exists.intro (w) (And.intro (e2') (And.intro (show w < 8 by omega) ?_))
        refine Exists.intro (st.length) (And.intro rfl (And.intro (show _ < 620 by omega) ?_))
        have e2w : x 124 0 w = nm w := by rw [x124]; exact hnm w h5
        refine next (x 124 0 w :: st) (x 124 0 w) st _ rfl (by show nm w :: st = _; rw [e2w]) hh hs (Nat.le_refl _) ?_
        rw [← nI_1]
        exact (by (repeat' apply And.intro) <;> first | rfl | trivial | exact congrArg Sum.inl (nI_1 _).symm | exact congrArg Sum.inl (nI_1 _).symm)
set_option maxRecDepth 100000 in
theorem p_worked (d f t : Nat) (nm : Nat → Int32) (C : Cd) (ht : t = f + C.length) (hb : t ≤ 620) (I : Nat → Nat → Nat → Int32) (hC : gCo I f C) (hnm : ∀ j, j < 8 → I 124 0 j = nm j) (hh : rHt 0 C = some 1) (L : Nat → Nat → Nat → Int64) (y : Dy) :
    gTM mX12_worked (d + 1) (0, 0) [gM0, gI (nI f), gI (nI t)] (gH I L y) (fun v h' => v = [gI ((rRun nm [] C).headD 0)] ∧ ∃ I', h' = gH I' L y ∧ ∀ b, b ≠ 123 → I' b = I b) (fun _ _ => False) := by
  refine gEnter 400 [5] kX12_worked rfl rfl ?_
  refine t_worked d f t nm (rRun nm [] C) L y I (fun x v hx e => ?_) C f [] I _ (fun _ _ => rfl) hC hnm hh trivial (by show 0 + C.length ≤ 620; omega) (by omega) ht rfl (by (repeat' apply And.intro) <;> first | rfl | trivial | exact congrArg Sum.inl (nI_1 _).symm | exact congrArg Sum.inl (nI_1 _).symm)
  rw [e]
  exact ⟨rfl, x, rfl, hx⟩
