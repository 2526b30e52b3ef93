/-! what is foretold: ahead, minister, floor, rises, calm, cushionFor -/
theorem one0 : ((1 : Int32) = 0) = False := eq_false (by decide)
theorem isIn_eq : @fX0_isIn = @fX9_in := rfl
theorem inB (x : Int32) {a b : Int64} {F : Option Int32} (lo hi : Nat) (hF : F = (fX9_in x.toInt64 a b).bind bz) (ha : a = lN lo) (hb : b = lN hi) (hl : lo < 2 ^ 31) (hh : hi < 2 ^ 31) : (F = some 0 ∧ fX9_in x.toInt64 a b = some 0) ∨ ∃ j, lo ≤ j ∧ j ≤ hi ∧ x = nI j ∧ F = some 1 ∧ fX9_in x.toInt64 a b = some 1 := by
  rcases inN x lo hi ha hb hl hh with e | ⟨e, j, h1, h2, h3⟩
  · exact Or.inl ⟨by rw [hF, e]; rfl, e⟩
  · exact Or.inr ⟨j, h1, h2, h3, by rw [hF, e]; rfl, e⟩
theorem farD (x : Int32) : (fX0_isFar x = some 0 ∧ fX9_in x.toInt64 0 60 = some 0) ∨ ∃ j, j ≤ 60 ∧ x = nI j ∧ fX0_isFar x = some 1 ∧ fX9_in x.toInt64 0 60 = some 1 := by
  rcases inB x (F := fX0_isFar x) 0 60 rfl rfl rfl (by decide) (by decide) with h | ⟨j, -, h⟩
  · exact Or.inl h
  · exact Or.inr ⟨j, h⟩
theorem nearD (x : Int32) : (fX0_isNear x = some 0 ∧ fX9_in x.toInt64 0 30 = some 0) ∨ ∃ j, j ≤ 30 ∧ x = nI j ∧ fX0_isNear x = some 1 ∧ fX9_in x.toInt64 0 30 = some 1 := by
  rcases inB x (F := fX0_isNear x) 0 30 rfl rfl rfl (by decide) (by decide) with h | ⟨j, -, h⟩
  · exact Or.inl h
  · exact Or.inr ⟨j, h⟩
theorem rankD (x : Int32) : (fX0_isRank x = some 0 ∧ fX9_in x.toInt64 0 5 = some 0) ∨ ∃ j, j ≤ 5 ∧ x = nI j ∧ fX0_isRank x = some 1 ∧ fX9_in x.toInt64 0 5 = some 1 := by
  rcases inB x (F := fX0_isRank x) 0 5 rfl rfl rfl (by decide) (by decide) with h | ⟨j, -, h⟩
  · exact Or.inl h
  · exact Or.inr ⟨j, h⟩
theorem halfD (x : Int32) : (fX0_isHalf x = some 0 ∧ fX9_isWhat x = some 0) ∨ ∃ j, j ≤ 1 ∧ x = nI j ∧ fX0_isHalf x = some 1 ∧ fX9_isWhat x = some 1 := by
  rcases inB x (F := fX0_isHalf x) 0 1 rfl rfl rfl (by decide) (by decide) with h | ⟨j, -, h1, h2, h3, h4⟩
  · exact Or.inl ⟨h.1, h.1⟩
  · exact Or.inr ⟨j, h1, h2, h3, h3⟩
theorem rowD (x : Int32) : (fX0_isRow x = some 0 ∧ fX9_isRow x = some 0) ∨ ∃ j, j ≤ 7 ∧ x = nI j ∧ fX0_isRow x = some 1 ∧ fX9_isRow x = some 1 := by
  rcases inB x (F := fX0_isRow x) 0 7 rfl rfl rfl (by decide) (by decide) with h | ⟨j, -, h1, h2, h3, h4⟩
  · exact Or.inl ⟨h.1, h.1⟩
  · exact Or.inr ⟨j, h1, h2, h3, h3⟩
theorem Same.mk {α : Type} {o : Nat} {x : Option (α × AH)} {y : Option (α × MS)} {r : α} {Y : AH} {σ' : MS} (h1 : x = some (r, Y)) (h2 : y = some (r, σ')) (h3 : Rel o Y σ') : Same o x y := ⟨r, Y, σ', h1, h2, h3⟩
section FA
variable {o t n : Nat} {g h h2 : Nat → Option Nat} {X0 X : AH} {σ0 σ : MS} {τ : Nat → Int32}
theorem a11 (c : Nat) : (11 : Int32) + nI c = nI (11 + c) := nI_add 11 c
theorem a17 (c : Nat) : (17 : Int32) + nI c = nI (17 + c) := nI_add 17 c
theorem a23 (c : Nat) : (23 : Int32) + nI c = nI (23 + c) := nI_add 23 c
theorem a29 (c : Nat) : (29 : Int32) + nI c = nI (29 + c) := nI_add 29 c
theorem a35 (c : Nat) : (35 : Int32) + nI c = nI (35 + c) := nI_add 35 c
theorem a5 (c : Nat) : (5 : Int32) + nI c = nI (5 + c) := nI_add 5 c
theorem s_ahead (R : Rel o X σ) (x1 x2 x3 : Int32) : Same o (fX0_ahead X o x1 x2 x3) (fX9_ahead σ x1 x2 x3) := by
  obtain ⟨t, g, h, h2, R⟩ := R
  obtain ⟨n, hS, ht⟩ := R.min
  unfold fX0_ahead fX9_ahead
  simp only [R.ck0, Option.bind_some, isIn_eq]
  rcases R.isChair hS x1 with ⟨e1, e2⟩ | ⟨c, hc, rfl, e1, e2⟩
  · simp only [e1, e2, Option.bind_some, if_true]
    exact Same.mk rfl rfl R.rel
  simp only [e1, e2, Option.bind_some, one0, if_false]
  rcases farD x2 with ⟨f1, f2⟩ | ⟨k, hk, rfl, f1, f2⟩
  · simp only [f1, f2, Option.bind_some, if_true]
    exact Same.mk rfl rfl R.rel
  simp only [f1, f2, Option.bind_some, one0, if_false]
  rcases inN x3 (a := 0) (b := 2) 0 2 rfl rfl (by decide) (by decide) with q | ⟨q, -⟩
  · simp only [q, Option.bind_some, if_true]
    exact Same.mk rfl rfl R.rel
  have hn := hS.1.1
  obtain ⟨σ1, em, M⟩ := m_putAside σ
  obtain ⟨Y, ex, P⟩ := p_tried R hS R.bt M
  obtain ⟨Z, σ2, τ, ex2, em2, P2⟩ := P.goOn (by omega) R hk
  obtain ⟨σ3, et, M3⟩ := P2.take
  simp only [q, Option.bind_some, one0, if_false, R.ck0, ex, em, (P.r R).ck0, ex2, em2]
  have fin := (P2.bt.rel R M3).rel
  by_cases q0 : x3 = 0
  · rw [if_pos q0, if_pos q0]
    simp only [(P2.r R).r5, P2.m.ck1, P2.m.high P2.gd hc, P2.mhigh hc, Option.bind_some, fX9_ahead_b78, et]
    exact Same.mk rfl rfl fin
  · rw [if_neg q0, if_neg q0]
    by_cases q1 : x3 = 1
    · rw [if_pos q1, if_pos q1]
      simp only [(P2.r R).r5, P2.m.ck1, P2.m.rank P2.gd hc, P2.mrank hc, Option.bind_some, fX9_ahead_b78, et]
      exact Same.mk rfl rfl fin
    · rw [if_neg q1, if_neg q1]
      simp only [(P2.r R).r5, P2.m.r3, P2.m.rd mo2 (show c < 6 by omega), a11, P2.mrd (show 11 + c < 41 by omega), Option.bind_some, fX9_ahead_b78, et]
      exact Same.mk rfl rfl fin
theorem s_minister (R : Rel o X σ) (x1 : Int32) : Same o (fX0_minister X o x1) (fX9_minister σ x1) := by
  obtain ⟨t, g, h, h2, R⟩ := R
  obtain ⟨n, hS, ht⟩ := R.min
  unfold fX0_minister fX9_minister
  simp only [R.ck0, Option.bind_some]
  rcases R.isMin hS ht with ⟨e1, e2⟩ | ⟨h1, e1, e2⟩
  · simp only [e1, e2, Option.bind_some, if_true]
    exact Same.mk rfl rfl R.rel
  simp only [e1, e2, Option.bind_some, one0, if_false]
  rcases farD x1 with ⟨f1, f2⟩ | ⟨k, hk, rfl, f1, f2⟩
  · simp only [f1, f2, Option.bind_some, if_true]
    exact Same.mk rfl rfl R.rel
  obtain ⟨σ1, em, M⟩ := m_putAside σ
  obtain ⟨Y, ex, P⟩ := p_tried R hS R.bt M
  obtain ⟨Z, σ2, τ, ex2, em2, P2⟩ := P.goOn h1 R hk
  obtain ⟨σ3, et, M3⟩ := P2.take
  simp only [f1, f2, Option.bind_some, one0, if_false, R.ck0, ex, em, (P.r R).ck0, ex2, em2, P2.m.ck1, P2.m.ranked P2.gd, P2.mat, et]
  exact Same.mk rfl rfl (P2.bt.rel R M3).rel
/-- how a trial's loop ends -/
def EndT {α : Type} (o : Nat) (X0 : AH) (σ0 : MS) (x : Option (α × AH)) (y : Option (α × MS)) : Prop := ∃ r Y σ', x = some (r, Y) ∧ y = some (r, σ') ∧ BT o X0 Y ∧ MB σ0 σ'
theorem EndT.same {α : Type} (R : Rl o t g h h2 X0 σ0) {x : Option (α × AH)} {y : Option (α × MS)} (E : EndT o X0 σ0 x y) : Same o x y := by
  obtain ⟨r, Y, σ', e1, e2, B, M⟩ := E
  exact Same.mk e1 e2 (B.rel R M).rel
theorem floorL (R : Rl o t g h h2 X0 σ0) (h1 : 1 ≤ n) {c : Nat} (hc : c < n) : ∀ (d j f1 f2 : Nat) (i1 i2 : Int32) (X : AH) (σ : MS) (τ : Nat → Int32), d + 1 < f1 → d < f2 → j + d = 60 → i1 = nI j → i2 = nI j → PT o X0 σ0 n X σ τ → EndT o X0 σ0 (fX0_floor_L18 f1 X o (nI c) i1) (fX9_floor_L17 f2 σ (nI c) i2) := by
  intro d
  induction d with
  | zero =>
    intro j f1 f2 i1 i2 X σ τ hf1 hf2 hj e1 e2 P
    obtain ⟨f1, rfl⟩ : ∃ f, f1 = f + 1 := ⟨f1 - 1, by omega⟩
    obtain ⟨f1, rfl⟩ : ∃ f, f1 = f + 1 := ⟨f1 - 1, by omega⟩
    obtain ⟨f2, rfl⟩ : ∃ f, f2 = f + 1 := ⟨f2 - 1, by omega⟩
    subst e1 e2
    have hn := P.gd.1
    obtain ⟨l, hl, el⟩ := (P.gd.2.2.1 c (by omega)).1
    obtain ⟨σ3, et, M3⟩ := P.take
    obtain ⟨Y, σ1, ex, em, P1⟩ := P.pass h1
    by_cases z : l = 0
    · refine ⟨nI j, X, σ3, ?_, ?_, P.bt, M3⟩
      · unfold fX0_floor_L18
        rw [if_neg (show ¬ (60 : Int32) < nI j from nI_nlt (a := 60) (by omega) (by omega))]
        simp only [(P.r R).r5, P.m.r3, P.m.rd mo2 (show c < 6 by omega), Option.bind_some, el, z]
        rfl
      · unfold fX9_floor_L17 fX9_floor_b45 fX9_floor_b62
        simp only [a11, P.mrd (show 11 + c < 41 by omega), Option.bind_some, el, z, et]
        rfl
    · refine ⟨-1000000, Y, σ3, ?_, ?_, P1.bt, M3⟩
      · unfold fX0_floor_L18
        rw [if_neg (show ¬ (60 : Int32) < nI j from nI_nlt (a := 60) (by omega) (by omega))]
        simp only [(P.r R).r5, P.m.r3, P.m.rd mo2 (show c < 6 by omega), Option.bind_some, el, P.m.ck1, ex, nI_1]
        rw [if_neg (nI_ne0 (by omega) (by omega))]
        unfold fX0_floor_L18
        rw [if_pos (show (60 : Int32) < nI (j + 1) from nI_lt (a := 60) (by omega) (by omega))]
      · unfold fX9_floor_L17 fX9_floor_b45 fX9_floor_b62
        simp only [a11, P.mrd (show 11 + c < 41 by omega), Option.bind_some, el, et]
        rw [if_neg (nI_nle (by omega) (by omega)), if_pos (show (60 : Int32) ≤ nI j from nI_le (a := 60) (by omega) (by omega)), if_neg (nI_ne0 (by omega) (by omega))]
        rfl
  | succ d ih =>
    intro j f1 f2 i1 i2 X σ τ hf1 hf2 hj e1 e2 P
    obtain ⟨f1, rfl⟩ : ∃ f, f1 = f + 1 := ⟨f1 - 1, by omega⟩
    obtain ⟨f2, rfl⟩ : ∃ f, f2 = f + 1 := ⟨f2 - 1, by omega⟩
    subst e1 e2
    have hn := P.gd.1
    obtain ⟨l, hl, el⟩ := (P.gd.2.2.1 c (by omega)).1
    by_cases z : l = 0
    · obtain ⟨σ3, et, M3⟩ := P.take
      refine ⟨nI j, X, σ3, ?_, ?_, P.bt, M3⟩
      · unfold fX0_floor_L18
        rw [if_neg (show ¬ (60 : Int32) < nI j from nI_nlt (a := 60) (by omega) (by omega))]
        simp only [(P.r R).r5, P.m.r3, P.m.rd mo2 (show c < 6 by omega), Option.bind_some, el, z]
        rfl
      · unfold fX9_floor_L17 fX9_floor_b45 fX9_floor_b62
        simp only [a11, P.mrd (show 11 + c < 41 by omega), Option.bind_some, el, z, et]
        rfl
    · obtain ⟨Y, σ1, ex, em, P1⟩ := P.pass h1
      have e1 : fX0_floor_L18 (f1 + 1) X o (nI c) (nI j) = fX0_floor_L18 f1 Y o (nI c) (nI (j + 1)) := by
        conv => lhs; unfold fX0_floor_L18
        rw [if_neg (show ¬ (60 : Int32) < nI j from nI_nlt (a := 60) (by omega) (by omega))]
        simp only [(P.r R).r5, P.m.r3, P.m.rd mo2 (show c < 6 by omega), Option.bind_some, el, P.m.ck1, ex, nI_1]
        rw [if_neg (nI_ne0 (by omega) (by omega))]
      have e2 : fX9_floor_L17 (f2 + 1) σ (nI c) (nI j) = fX9_floor_L17 f2 σ1 (nI c) (nI (j + 1)) := by
        conv => lhs; unfold fX9_floor_L17
        simp only [a11, P.mrd (show 11 + c < 41 by omega), Option.bind_some, el, em, nI_1]
        rw [if_neg (nI_nle (by omega) (by omega)), if_neg (show ¬ (60 : Int32) ≤ nI j from nI_ge (b := 60) (by omega) (by omega))]
      rw [e1, e2]
      exact ih (j + 1) f1 f2 _ _ Y σ1 _ (by omega) (by omega) (by omega) rfl rfl P1
theorem s_floor (R : Rel o X σ) (x1 : Int32) : Same o (fX0_floor X o x1) (fX9_floor σ x1) := by
  obtain ⟨t, g, h, h2, R⟩ := R
  obtain ⟨n, hS, ht⟩ := R.min
  unfold fX0_floor fX9_floor
  simp only [R.ck0, Option.bind_some]
  rcases R.isChair hS x1 with ⟨e1, e2⟩ | ⟨c, hc, rfl, e1, e2⟩
  · simp only [e1, e2, Option.bind_some, if_true]
    exact Same.mk rfl rfl R.rel
  obtain ⟨σ1, em, M⟩ := m_putAside σ
  obtain ⟨Y, ex, P⟩ := p_tried R hS R.bt M
  simp only [e1, e2, Option.bind_some, one0, if_false, R.ck0, ex, em]
  exact (floorL R (by omega) hc 60 0 2000 2000 0 0 Y σ1 _ (by omega) (by omega) (by omega) rfl rfl P).same R
theorem risesL (R : Rl o t g h h2 X0 σ0) (h1 : 1 ≤ n) {c : Nat} (hc : c < n) (r : Int32) : ∀ (d j f1 f2 : Nat) (i1 i2 : Int32) (X : AH) (σ : MS) (τ : Nat → Int32), d + 1 < f1 → d < f2 → j + d = 60 → i1 = nI j → i2 = nI j → PT o X0 σ0 n X σ τ → EndT o X0 σ0 (fX0_rises_L25 f1 X o (nI c) r i1) (fX9_rises_L29 f2 σ (nI c) r i2) := by
  intro d
  induction d with
  | zero =>
    intro j f1 f2 i1 i2 X σ τ hf1 hf2 hj e1 e2 P
    obtain ⟨f1, rfl⟩ : ∃ f, f1 = f + 1 := ⟨f1 - 1, by omega⟩
    obtain ⟨f1, rfl⟩ : ∃ f, f1 = f + 1 := ⟨f1 - 1, by omega⟩
    obtain ⟨f2, rfl⟩ : ∃ f, f2 = f + 1 := ⟨f2 - 1, by omega⟩
    subst e1 e2
    obtain ⟨σ3, et, M3⟩ := P.take
    obtain ⟨Y, σ1, ex, em, P1⟩ := P.pass h1
    by_cases z : r < nI (rk τ n c)
    · refine ⟨-1000000, Y, σ3, ?_, ?_, P1.bt, M3⟩
      · unfold fX0_rises_L25
        rw [if_neg (show ¬ (60 : Int32) < nI j from nI_nlt (a := 60) (by omega) (by omega))]
        simp only [(P.r R).r5, P.m.ck1, P.m.rank P.gd hc, Option.bind_some, ex, nI_1]
        rw [if_pos z]
        unfold fX0_rises_L25
        rw [if_pos (show (60 : Int32) < nI (j + 1) from nI_lt (a := 60) (by omega) (by omega))]
      · unfold fX9_rises_L29 fX9_rises_b54 fX9_rises_b68
        simp only [P.mrank hc, Option.bind_some, et]
        rw [if_neg (Int32.not_le.mpr z), if_pos (show (60 : Int32) ≤ nI j from nI_le (a := 60) (by omega) (by omega)), if_pos z]
        rfl
    · refine ⟨nI j, X, σ3, ?_, ?_, P.bt, M3⟩
      · unfold fX0_rises_L25
        rw [if_neg (show ¬ (60 : Int32) < nI j from nI_nlt (a := 60) (by omega) (by omega))]
        simp only [(P.r R).r5, P.m.ck1, P.m.rank P.gd hc, Option.bind_some]
        rw [if_neg z]
      · unfold fX9_rises_L29 fX9_rises_b54 fX9_rises_b68
        simp only [P.mrank hc, Option.bind_some, et]
        rw [if_pos (Int32.not_lt.mp z), if_neg z]
        rfl
  | succ d ih =>
    intro j f1 f2 i1 i2 X σ τ hf1 hf2 hj e1 e2 P
    obtain ⟨f1, rfl⟩ : ∃ f, f1 = f + 1 := ⟨f1 - 1, by omega⟩
    obtain ⟨f2, rfl⟩ : ∃ f, f2 = f + 1 := ⟨f2 - 1, by omega⟩
    subst e1 e2
    by_cases z : r < nI (rk τ n c)
    · obtain ⟨Y, σ1, ex, em, P1⟩ := P.pass h1
      have e1 : fX0_rises_L25 (f1 + 1) X o (nI c) r (nI j) = fX0_rises_L25 f1 Y o (nI c) r (nI (j + 1)) := by
        conv => lhs; unfold fX0_rises_L25
        rw [if_neg (show ¬ (60 : Int32) < nI j from nI_nlt (a := 60) (by omega) (by omega))]
        simp only [(P.r R).r5, P.m.ck1, P.m.rank P.gd hc, Option.bind_some, ex, nI_1]
        rw [if_pos z]
      have e2 : fX9_rises_L29 (f2 + 1) σ (nI c) r (nI j) = fX9_rises_L29 f2 σ1 (nI c) r (nI (j + 1)) := by
        conv => lhs; unfold fX9_rises_L29
        simp only [P.mrank hc, Option.bind_some, em, nI_1]
        rw [if_neg (Int32.not_le.mpr z), if_neg (show ¬ (60 : Int32) ≤ nI j from nI_ge (b := 60) (by omega) (by omega))]
      rw [e1, e2]
      exact ih (j + 1) f1 f2 _ _ Y σ1 _ (by omega) (by omega) (by omega) rfl rfl P1
    · obtain ⟨σ3, et, M3⟩ := P.take
      refine ⟨nI j, X, σ3, ?_, ?_, P.bt, M3⟩
      · unfold fX0_rises_L25
        rw [if_neg (show ¬ (60 : Int32) < nI j from nI_nlt (a := 60) (by omega) (by omega))]
        simp only [(P.r R).r5, P.m.ck1, P.m.rank P.gd hc, Option.bind_some]
        rw [if_neg z]
      · unfold fX9_rises_L29 fX9_rises_b54 fX9_rises_b68
        simp only [P.mrank hc, Option.bind_some, et]
        rw [if_pos (Int32.not_lt.mp z), if_neg z]
        rfl
theorem s_rises (R : Rel o X σ) (x1 x2 : Int32) : Same o (fX0_rises X o x1 x2) (fX9_rises σ x1 x2) := by
  obtain ⟨t, g, h, h2, R⟩ := R
  obtain ⟨n, hS, ht⟩ := R.min
  unfold fX0_rises fX9_rises
  simp only [R.ck0, Option.bind_some]
  rcases R.isChair hS x1 with ⟨e1, e2⟩ | ⟨c, hc, rfl, e1, e2⟩
  · simp only [e1, e2, Option.bind_some, if_true]
    exact Same.mk rfl rfl R.rel
  simp only [e1, e2, Option.bind_some, one0, if_false]
  rcases rankD x2 with ⟨f1, f2⟩ | ⟨k, hk, hx, f1, f2⟩
  · simp only [f1, f2, Option.bind_some, if_true]
    exact Same.mk rfl rfl R.rel
  obtain ⟨σ1, em, M⟩ := m_putAside σ
  obtain ⟨Y, ex, P⟩ := p_tried R hS R.bt M
  simp only [f1, f2, Option.bind_some, one0, if_false, R.ck0, ex, em]
  exact (risesL R (by omega) hc x2 60 0 2000 2000 0 0 Y σ1 _ (by omega) (by omega) (by omega) rfl rfl P).same R
/-- the model's calm, once it is found -/
theorem calm_end {σ' : MS} {v : Int32} (f : Nat) (i : Int32) (hv : 0 ≤ v) (et : fX9_takeBack σ = some σ') : fX9_calm_L19 (f + 1) σ v i = some (v, σ') := by
  unfold fX9_calm_L19 fX9_calm_b62
  rw [if_pos hv, et]
  split <;> rfl
theorem calmL (R : Rl o t g h h2 X0 σ0) (h1 : 1 ≤ n) : ∀ (d j f1 f2 : Nat) (i1 i2 : Int32) (X : AH) (σ : MS) (τ : Nat → Int32), d < f1 → d + 1 < f2 → j + d = 61 → i1 = nI j → i2 = nI j → PT o X0 σ0 n X σ τ → EndT o X0 σ0 (fX0_calm_L17 f1 X o i1) (fX9_calm_L19 f2 σ (-1000000) i2) := by
  intro d
  induction d with
  | zero =>
    intro j f1 f2 i1 i2 X σ τ hf1 hf2 hj e1 e2 P
    obtain ⟨f1, rfl⟩ : ∃ f, f1 = f + 1 := ⟨f1 - 1, by omega⟩
    obtain ⟨f2, rfl⟩ : ∃ f, f2 = f + 1 := ⟨f2 - 1, by omega⟩
    subst e1 e2
    obtain ⟨σ3, et, M3⟩ := P.take
    refine ⟨-1000000, X, σ3, ?_, ?_, P.bt, M3⟩
    · unfold fX0_calm_L17
      rw [if_pos (show (60 : Int32) < nI j from nI_lt (a := 60) (by omega) (by omega))]
    · unfold fX9_calm_L19 fX9_calm_b62
      rw [if_pos (show (60 : Int32) < nI j from nI_lt (a := 60) (by omega) (by omega)), et]
      rfl
  | succ d ih =>
    intro j f1 f2 i1 i2 X σ τ hf1 hf2 hj e1 e2 P
    obtain ⟨f1, rfl⟩ : ∃ f, f1 = f + 1 := ⟨f1 - 1, by omega⟩
    obtain ⟨f2, rfl⟩ : ∃ f, f2 = f + 1 := ⟨f2 - 1, by omega⟩
    subst e1 e2
    have hn := P.gd.1
    obtain ⟨Y, σ1, ex, em, P1⟩ := P.pass h1
    have s0 : fX9_sumOf σ 11 = some (smF τ 11 0 n 0, σ) := P.msum (b := 11) (by omega)
    have s1 : fX9_sumOf σ1 11 = some (smF (nit τ n) 11 0 n 0, σ1) := P1.msum (b := 11) (by omega)
    have hj60 : ¬ (60 : Int32) < nI j := nI_nlt (a := 60) (by omega) (by omega)
    by_cases z : smF (nit τ n) 11 0 n 0 = smF τ 11 0 n 0
    · obtain ⟨σ3, et, M3⟩ := P1.take
      refine ⟨nI j, Y, σ3, ?_, ?_, P1.bt, M3⟩
      · unfold fX0_calm_L17
        rw [if_neg hj60]
        simp only [(P.r R).r5, P.m.ck1, P.m.allLegs hn, Option.bind_some, ex, P1.m.ck1, P1.m.allLegs hn]
        rw [if_pos z]
      · obtain ⟨f2, rfl⟩ : ∃ f, f2 = f + 1 := ⟨f2 - 1, by omega⟩
        conv => lhs; unfold fX9_calm_L19
        rw [if_neg hj60, if_neg (by decide)]
        simp only [s0, s1, em, Option.bind_some]
        rw [if_pos z]
        exact calm_end f2 _ (nI_pos' (by omega)) et
    · have e1 : fX0_calm_L17 (f1 + 1) X o (nI j) = fX0_calm_L17 f1 Y o (nI (j + 1)) := by
        conv => lhs; unfold fX0_calm_L17
        rw [if_neg hj60]
        simp only [(P.r R).r5, P.m.ck1, P.m.allLegs hn, Option.bind_some, ex, P1.m.ck1, P1.m.allLegs hn, nI_1]
        rw [if_neg z]
      have e2 : fX9_calm_L19 (f2 + 1) σ (-1000000) (nI j) = fX9_calm_L19 f2 σ1 (-1000000) (nI (j + 1)) := by
        conv => lhs; unfold fX9_calm_L19
        rw [if_neg hj60, if_neg (by decide)]
        simp only [s0, s1, em, Option.bind_some, nI_1]
        rw [if_neg z]
      rw [e1, e2]
      exact ih (j + 1) f1 f2 _ _ Y σ1 _ (by omega) (by omega) (by omega) rfl rfl P1
theorem s_calm (R : Rel o X σ) : Same o (fX0_calm X o) (fX9_calm σ) := by
  obtain ⟨t, g, h, h2, R⟩ := R
  obtain ⟨n, hS, ht⟩ := R.min
  unfold fX0_calm fX9_calm
  simp only [R.ck0, Option.bind_some]
  rcases R.isMin hS ht with ⟨e1, e2⟩ | ⟨h1, e1, e2⟩
  · simp only [e1, e2, Option.bind_some, if_true]
    exact Same.mk rfl rfl R.rel
  obtain ⟨σ1, em, M⟩ := m_putAside σ
  obtain ⟨Y, ex, P⟩ := p_tried R hS R.bt M
  simp only [e1, e2, Option.bind_some, one0, if_false, R.ck0, ex, em]
  exact (calmL R h1 61 0 2000 2000 0 0 Y σ1 _ (by omega) (by omega) (by omega) rfl rfl P).same R
theorem cushEnd {v i x1 x2 x3 : Int32} (f : Nat) (hv : 0 ≤ v) : fX9_cushionFor_L46 (f + 1) σ x1 x2 x3 v i = some (v, σ) := by
  unfold fX9_cushionFor_L46
  rw [if_pos hv]
  split <;> rfl
theorem cushL (R : Rl o t g h h2 X0 σ0) (hS : Sv X0 (o + 3) n (σ0 4)) (h1 : 1 ≤ n) {c k : Nat} (hc : c < n) (hk : k ≤ 60) (r : Int32) : ∀ (d j f1 f2 : Nat) (i1 i2 : Int32) (X : AH) (σ : MS), d < f1 → d + 1 < f2 → j + d = 21 → i1 = nI j → i2 = nI j → BT o X0 X → MB σ0 σ → EndT o X0 σ0 (fX0_cushionFor_L28 f1 X o (nI c) r (nI k) i1) (fX9_cushionFor_L46 f2 σ (nI c) r (nI k) (-1000000) i2) := by
  have hn := hS.1.1
  intro d
  induction d with
  | zero =>
    intro j f1 f2 i1 i2 X σ hf1 hf2 hj e1 e2 B M
    obtain ⟨f1, rfl⟩ : ∃ f, f1 = f + 1 := ⟨f1 - 1, by omega⟩
    obtain ⟨f2, rfl⟩ : ∃ f, f2 = f + 1 := ⟨f2 - 1, by omega⟩
    subst e1 e2
    refine ⟨-1000000, X, σ, ?_, ?_, B, M⟩
    · unfold fX0_cushionFor_L28
      rw [if_pos (show (20 : Int32) < nI j from nI_lt (a := 20) (by omega) (by omega))]
    · unfold fX9_cushionFor_L46
      rw [if_pos (show (20 : Int32) < nI j from nI_lt (a := 20) (by omega) (by omega))]
  | succ d ih =>
    intro j f1 f2 i1 i2 X σ hf1 hf2 hj e1 e2 B M
    obtain ⟨f1, rfl⟩ : ∃ f, f1 = f + 1 := ⟨f1 - 1, by omega⟩
    obtain ⟨f2, rfl⟩ : ∃ f, f2 = f + 1 := ⟨f2 - 1, by omega⟩
    subst e1 e2
    obtain ⟨Y, ex, P⟩ := p_tried R hS B M
    obtain ⟨Z, ez, em, P2⟩ := P.put (c := c) (v := j) (x := nI j) mo3 (by omega) rfl ⟨by omega, by omega, by omega, by omega⟩
    obtain ⟨V, σ3, q, ev, ew, B3, M3⟩ := P2.rankBy h1 R hc hk r
    have hj20 : ¬ (20 : Int32) < nI j := nI_nlt (a := 20) (by omega) (by omega)
    by_cases z : r < nI q
    · have e1 : fX0_cushionFor_L28 (f1 + 1) X o (nI c) r (nI k) (nI j) = fX0_cushionFor_L28 f1 V o (nI c) r (nI k) (nI (j + 1)) := by
        conv => lhs; unfold fX0_cushionFor_L28
        rw [if_neg hj20]
        simp only [(B.r R).ck0, ex, Option.bind_some, P.m.r4, ez, (P2.r R).ck0, ev, nI_1]
        rw [if_pos z, if_pos rfl]
      have e2 : fX9_cushionFor_L46 (f2 + 1) σ (nI c) r (nI k) (-1000000) (nI j) = fX9_cushionFor_L46 f2 σ3 (nI c) r (nI k) (-1000000) (nI (j + 1)) := by
        conv => lhs; unfold fX9_cushionFor_L46
        rw [if_neg hj20, if_neg (by decide)]
        simp only [a29, em, ew, Option.bind_some, nI_1]
        rw [if_pos z]
      rw [e1, e2]
      exact ih (j + 1) f1 f2 _ _ V σ3 (by omega) (by omega) (by omega) rfl rfl B3 M3
    · refine ⟨nI j, V, σ3, ?_, ?_, B3, M3⟩
      · unfold fX0_cushionFor_L28
        rw [if_neg hj20]
        simp only [(B.r R).ck0, ex, Option.bind_some, P.m.r4, ez, (P2.r R).ck0, ev]
        rw [if_neg z, if_neg (by decide)]
      · obtain ⟨f2, rfl⟩ : ∃ f, f2 = f + 1 := ⟨f2 - 1, by omega⟩
        conv => lhs; unfold fX9_cushionFor_L46
        rw [if_neg hj20, if_neg (by decide)]
        simp only [a29, em, ew, Option.bind_some]
        rw [if_neg z]
        exact cushEnd f2 (nI_pos' (by omega))
theorem s_cushionFor (R : Rel o X σ) (x1 x2 x3 : Int32) : Same o (fX0_cushionFor X o x1 x2 x3) (fX9_cushionFor σ x1 x2 x3) := by
  obtain ⟨t, g, h, h2, R⟩ := R
  obtain ⟨n, hS, ht⟩ := R.min
  unfold fX0_cushionFor fX9_cushionFor
  simp only [R.ck0, Option.bind_some]
  rcases R.isChair hS x1 with ⟨e1, e2⟩ | ⟨c, hc, rfl, e1, e2⟩
  · simp only [e1, e2, Option.bind_some, if_true]
    exact Same.mk rfl rfl R.rel
  simp only [e1, e2, Option.bind_some, one0, if_false]
  rcases rankD x2 with ⟨f1, f2⟩ | ⟨r, hr, hx, f1, f2⟩
  · simp only [f1, f2, Option.bind_some, if_true]
    exact Same.mk rfl rfl R.rel
  simp only [f1, f2, Option.bind_some, one0, if_false]
  rcases nearD x3 with ⟨q1, q2⟩ | ⟨k, hk, rfl, q1, q2⟩
  · simp only [q1, q2, Option.bind_some, if_true]
    exact Same.mk rfl rfl R.rel
  obtain ⟨σ1, em, M⟩ := m_putAside σ
  simp only [q1, q2, Option.bind_some, one0, if_false, em]
  exact (cushL R hS (by omega) hc (by omega) x2 21 0 2000 2000 0 0 X σ1 (by omega) (by omega) (by omega) rfl rfl R.bt M).same R
end FA
