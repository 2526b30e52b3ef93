/-! what is foretold, II: guard, bestWatch, enemy -/
def pcn (s : Nat) : Int32 := (fX9_ones (nI s)).getD 0
theorem ones64 : ∀ s : Fin 64, fX9_ones (nI s.1) = some (pcn s.1) ∧ fJ16_bitCount (nI s.1) = some (pcn s.1) := by decide +kernel
theorem ones_m {s : Nat} (h : s < 64) : fX9_ones (nI s) = some (pcn s) := (ones64 ⟨s, h⟩).1
theorem ones_x {s : Nat} (h : s < 64) : fJ16_bitCount (nI s) = some (pcn s) := (ones64 ⟨s, h⟩).2
theorem shl1 {n : Nat} (h : n ≤ 6) : (1 : Int32) <<< (nI n &&& 31) = nI (2 ^ n) := by
  rcases (show n = 0 ∨ n = 1 ∨ n = 2 ∨ n = 3 ∨ n = 4 ∨ n = 5 ∨ n = 6 by omega) with rfl | rfl | rfl | rfl | rfl | rfl | rfl <;> decide
theorem p2_le {n : Nat} (h : n ≤ 6) : 1 ≤ 2 ^ n ∧ 2 ^ n ≤ 64 := by
  rcases (show n = 0 ∨ n = 1 ∨ n = 2 ∨ n = 3 ∨ n = 4 ∨ n = 5 ∨ n = 6 by omega) with rfl | rfl | rfl | rfl | rfl | rfl | rfl <;> decide
theorem p2_lt {n : Nat} (h : n < 6) : 2 ^ n < 64 := by
  rcases (show n = 0 ∨ n = 1 ∨ n = 2 ∨ n = 3 ∨ n = 4 ∨ n = 5 by omega) with rfl | rfl | rfl | rfl | rfl | rfl <;> decide
/-- the best set so far: none, or a set -/
def bOk (b : Int32) : Prop := b = -1000000 ∨ ∃ s, s < 64 ∧ b = nI s
theorem told_eq {b w : Int32} (h : bOk b) (σ : MS) : ∃ v, fX0_told b w = some v ∧ (if b < 0 then some (b, σ) else if w = 1 then some (b, σ) else (fX9_ones b).bind fun v5 => some (v5, σ)) = some (v, σ) := by
  unfold fX0_told
  rcases h with rfl | ⟨s, hs, rfl⟩
  · exact ⟨-1000000, rfl, rfl⟩
  · have h1 : ¬ nI s = -1000000 := fun z => absurd (show nI s < 0 by rw [z]; decide) (nI_pos (by omega))
    rw [if_neg h1, if_neg (nI_pos (by omega))]
    by_cases q : w = 1
    · rw [if_pos q, if_pos q]; exact ⟨_, rfl, rfl⟩
    · rw [if_neg q, if_neg q, ones_x hs, ones_m hs]; exact ⟨_, rfl, rfl⟩
section GU
variable {o t n : Nat} {g h h2 : Nat → Option Nat} {X0 X : AH} {σ0 σ : MS} {τ : Nat → Int32}
theorem MB.rd2 (M : MB σ0 σ) (hg : goodM n (σ0 4)) : rd (σ 4) 41 2 = some (nI n) := by rw [M.1, ← hg.2.1]; exact rd_nI (j := 2) (by omega) (by omega)
theorem MB.rd4 (M : MB σ0 σ) : rd (σ 4) 41 4 = some (σ0 4 4) := by rw [M.1]; exact rd_nI (j := 4) (by omega) (by omega)
theorem guardB (R : Rl o t g h h2 X0 σ0) (hS : Sv X0 (o + 3) n (σ0 4)) (h1 : 1 ≤ n) {c k j : Nat} (hc : c < n) (hk : k ≤ 60) (hj : j < 64) (r w b : Int32) (hb : bOk b) (B : BT o X0 X) (M : MB σ0 σ) (K : AH → Nat → Int32 → Int32 → Int32 → Int32 → Int32 → Int32 → Option (Int32 × AH)) (L : MS → Int32 → Int32 → Int32 → Int32 → Int32 → Int32 → Option (Int32 × MS)) :
    ∃ V σ3 b', fX0_guard_b79 K X o (nI c) r (nI k) w b (nI j) = K V o (nI c) r (nI k) w b' (nI (j + 1)) ∧ fX9_guard_b85 L σ (nI c) r (nI k) w b (nI j) = L σ3 (nI c) r (nI k) w b' (nI (j + 1)) ∧ bOk b' ∧ BT o X0 V ∧ MB σ0 σ3 := by
  obtain ⟨Y, ex, P⟩ := p_tried R hS B M
  obtain ⟨Z, ez, em, P2⟩ := P.watch (w := j) (x := nI j) rfl hj
  obtain ⟨V, σ3, q, ev, ew, B3, M3⟩ := P2.rankBy h1 R hc hk r
  unfold fX0_guard_b79 fX9_guard_b85
  simp only [(B.r R).ck0, ex, Option.bind_some, ez, (P2.r R).ck0, ev, em, ew, nI_1]
  by_cases z : r < nI q
  · refine ⟨V, σ3, b, ?_, ?_, hb, B3, M3⟩
    · rw [if_pos z, if_pos rfl]
    · rw [if_pos z]
  · refine ⟨V, σ3, nI j, ?_, ?_, Or.inr ⟨j, hj, rfl⟩, B3, M3⟩
    · rw [if_neg z, if_neg (by decide)]
    · rw [if_neg z]
theorem guardL (R : Rl o t g h h2 X0 σ0) (hS : Sv X0 (o + 3) n (σ0 4)) (h1 : 1 ≤ n) {c k : Nat} (hc : c < n) (hk : k ≤ 60) (r w : Int32) : ∀ (d j f1 f2 : Nat) (i1 i2 b : Int32) (X : AH) (σ : MS), d < f1 → d < f2 → j + d = 2 ^ n → i1 = nI j → i2 = nI j → bOk b → BT o X0 X → MB σ0 σ → EndT o X0 σ0 (fX0_guard_L41 f1 X o (nI c) r (nI k) w b i1) (fX9_guard_L54 f2 σ (nI c) r (nI k) w b i2) := by
  have hn := hS.1.1
  have p2 := p2_le hn
  intro d
  induction d with
  | zero =>
    intro j f1 f2 i1 i2 b X σ hf1 hf2 hj e1 e2 hb B M
    obtain ⟨f1, rfl⟩ : ∃ f, f1 = f + 1 := ⟨f1 - 1, by omega⟩
    obtain ⟨f2, rfl⟩ : ∃ f, f2 = f + 1 := ⟨f2 - 1, by omega⟩
    subst e1 e2
    have S := B.sv hS R.w
    obtain ⟨v, t1, t2⟩ := told_eq (w := w) hb σ
    refine ⟨v, X, σ, ?_, ?_, B, M⟩
    · unfold fX0_guard_L41
      simp only [(B.r R).r4, S.Mn.ck1, S.Mn.many, Option.bind_some, shl1 hn, t1]
      rw [if_pos (nI_le (by omega) (by omega))]
    · unfold fX9_guard_L54
      simp only [M.rd2 hS.1, Option.bind_some, shl1 hn]
      rw [if_pos (nI_le (by omega) (by omega))]
      exact t2
  | succ d ih =>
    intro j f1 f2 i1 i2 b X σ hf1 hf2 hj e1 e2 hb B M
    obtain ⟨f1, rfl⟩ : ∃ f, f1 = f + 1 := ⟨f1 - 1, by omega⟩
    obtain ⟨f2, rfl⟩ : ∃ f, f2 = f + 1 := ⟨f2 - 1, by omega⟩
    subst e1 e2
    have S := B.sv hS R.w
    obtain ⟨V, σ3, b', eb1, eb2, hb', B3, M3⟩ := guardB R hS h1 hc hk (show j < 64 by omega) r w b hb B M (fX0_guard_L41 f1) (fX9_guard_L54 f2)
    have hx : fX0_guard_L41 (f1 + 1) X o (nI c) r (nI k) w b (nI j) = if b = -1000000 then fX0_guard_b79 (fX0_guard_L41 f1) X o (nI c) r (nI k) w b (nI j) else (fJ16_bitCount (nI j)).bind fun v8 => (fJ16_bitCount b).bind fun v9 => if v8 < v9 then (fX0_guard_b79 (fX0_guard_L41 f1) X o (nI c) r (nI k) w b (nI j)) else ((fX0_guard_L41 f1) X o (nI c) r (nI k) w b (nI (j + 1))) := by
      conv => lhs; unfold fX0_guard_L41
      simp only [(B.r R).r4, S.Mn.ck1, S.Mn.many, Option.bind_some, shl1 hn, nI_1]
      rw [if_neg (nI_ge (by omega) (by omega))]
    have hm : fX9_guard_L54 (f2 + 1) σ (nI c) r (nI k) w b (nI j) = if b < 0 then fX9_guard_b85 (fX9_guard_L54 f2) σ (nI c) r (nI k) w b (nI j) else (fX9_ones (nI j)).bind fun v7 => (fX9_ones b).bind fun v8 => if v8 ≤ v7 then ((fX9_guard_L54 f2) σ (nI c) r (nI k) w b (nI (j + 1))) else (fX9_guard_b85 (fX9_guard_L54 f2) σ (nI c) r (nI k) w b (nI j)) := by
      conv => lhs; unfold fX9_guard_L54
      simp only [M.rd2 hS.1, Option.bind_some, shl1 hn, nI_1]
      rw [if_neg (nI_ge (by omega) (by omega))]
    rw [hx, hm]
    rcases hb with rfl | ⟨s, hs, rfl⟩
    · rw [if_pos rfl, if_pos (by decide), eb1, eb2]
      exact ih (j + 1) f1 f2 _ _ b' V σ3 (by omega) (by omega) (by omega) rfl rfl hb' B3 M3
    · have q1 : ¬ nI s = -1000000 := fun z => absurd (show nI s < 0 by rw [z]; decide) (nI_pos (by omega))
      rw [if_neg q1, if_neg (nI_pos (by omega)), ones_x hs, ones_m hs, ones_x (show j < 64 by omega), ones_m (show j < 64 by omega)]
      simp only [Option.bind_some]
      by_cases z : pcn j < pcn s
      · rw [if_pos z, if_neg (Int32.not_le.mpr z), eb1, eb2]
        exact ih (j + 1) f1 f2 _ _ b' V σ3 (by omega) (by omega) (by omega) rfl rfl hb' B3 M3
      · rw [if_neg z, if_pos (Int32.not_lt.mp z)]
        exact ih (j + 1) f1 f2 _ _ (nI s) X σ (by omega) (by omega) (by omega) rfl rfl (Or.inr ⟨s, hs, rfl⟩) B M
theorem s_guard (R : Rel o X σ) (x1 x2 x3 x4 : Int32) : Same o (fX0_guard X o x1 x2 x3 x4) (fX9_guard σ x1 x2 x3 x4) := by
  obtain ⟨t, g, h, h2, R⟩ := R
  obtain ⟨n, hS, ht⟩ := R.min
  have p2 := p2_le hS.1.1
  unfold fX0_guard fX9_guard
  simp only [R.ck0, Option.bind_some]
  rcases R.isChair hS x1 with ⟨e1, e2⟩ | ⟨c, hc, rfl, e1, e2⟩
  · simp only [e1, e2, Option.bind_some, if_true]
    exact Same.mk rfl rfl R.rel
  simp only [e1, e2, Option.bind_some, one0, if_false]
  rcases rankD x2 with ⟨f1, f2⟩ | ⟨r, hr, hx, f1, f2⟩
  · simp only [f1, f2, Option.bind_some, if_true]
    exact Same.mk rfl rfl R.rel
  simp only [f1, f2, Option.bind_some, one0, if_false]
  rcases nearD x3 with ⟨q1, q2⟩ | ⟨k, hk, rfl, q1, q2⟩
  · simp only [q1, q2, Option.bind_some, if_true]
    exact Same.mk rfl rfl R.rel
  simp only [q1, q2, Option.bind_some, one0, if_false]
  rcases halfD x4 with ⟨w1, w2⟩ | ⟨w, hw, hx4, w1, w2⟩
  · simp only [w1, w2, Option.bind_some, if_true]
    exact Same.mk rfl rfl R.rel
  obtain ⟨σ1, em, M⟩ := m_putAside σ
  simp only [w1, w2, Option.bind_some, one0, if_false, em]
  exact (guardL R hS (by omega) hc (by omega) x2 x4 (2 ^ n) 0 2000 2000 0 0 (-1000000) X σ1 (by omega) (by omega) (by omega) rfl rfl (Or.inl rfl) R.bt M).same R
theorem bestL (R : Rl o t g h h2 X0 σ0) (hS : Sv X0 (o + 3) n (σ0 4)) (h1 : 1 ≤ n) {k : Nat} (hk : k ≤ 60) (w : Int32) : ∀ (d j f1 f2 : Nat) (i1 i2 b m : Int32) (X : AH) (σ : MS), d < f1 → d < f2 → j + d = n → i1 = nI j → i2 = nI j → BT o X0 X → MB σ0 σ → EndT o X0 σ0 (fX0_bestWatch_L40 f1 X o (nI k) w b m i1) (fX9_bestWatch_L44 f2 σ (nI k) w b m i2) := by
  have hn := hS.1.1
  intro d
  induction d with
  | zero =>
    intro j f1 f2 i1 i2 b m X σ hf1 hf2 hj e1 e2 B M
    obtain ⟨f1, rfl⟩ : ∃ f, f1 = f + 1 := ⟨f1 - 1, by omega⟩
    obtain ⟨f2, rfl⟩ : ∃ f, f2 = f + 1 := ⟨f2 - 1, by omega⟩
    subst e1 e2
    have S := B.sv hS R.w
    have hle : nI n ≤ nI j := nI_le (by omega) (by omega)
    unfold fX0_bestWatch_L40 fX9_bestWatch_L44
    simp only [(B.r R).r4, S.Mn.ck1, S.Mn.many, Option.bind_some, M.rd2 hS.1]
    rw [if_pos hle, if_pos hle]
    by_cases q : w = 0
    · rw [if_pos q, if_pos q]; exact ⟨_, _, _, rfl, rfl, B, M⟩
    · rw [if_neg q, if_neg q]; exact ⟨_, _, _, rfl, rfl, B, M⟩
  | succ d ih =>
    intro j f1 f2 i1 i2 b m X σ hf1 hf2 hj e1 e2 B M
    obtain ⟨f1, rfl⟩ : ∃ f, f1 = f + 1 := ⟨f1 - 1, by omega⟩
    obtain ⟨f2, rfl⟩ : ∃ f, f2 = f + 1 := ⟨f2 - 1, by omega⟩
    subst e1 e2
    have S := B.sv hS R.w
    obtain ⟨Y, ex, P⟩ := p_tried R hS B M
    obtain ⟨Z, ez, em, P2⟩ := P.watch (w := 2 ^ j) (x := (1 : Int32) <<< (nI j &&& 31)) (shl1 (by omega)) (p2_lt (by omega))
    obtain ⟨V, σ3, τ3, ev, ew, P3⟩ := P2.goOn h1 R hk
    obtain ⟨σ4, et, M4⟩ := P3.take
    have s1 : fX9_sumOf σ3 11 = some (smF τ3 11 0 n 0, σ3) := P3.msum (b := 11) (by omega)
    have hx : fX0_bestWatch_L40 (f1 + 1) X o (nI k) w b m (nI j) = fX0_bestWatch_L40 f1 V o (nI k) w (if smF τ3 11 0 n 0 ≤ m then b else nI j) (if smF τ3 11 0 n 0 ≤ m then m else smF τ3 11 0 n 0) (nI (j + 1)) := by
      conv => lhs; unfold fX0_bestWatch_L40
      simp only [(B.r R).r4, S.Mn.ck1, S.Mn.many, Option.bind_some, (B.r R).ck0, ex, ez, (P2.r R).ck0, ev, P3.m.ck1, P3.m.allLegs hn, fX0_bestWatch_b86, nI_1]
      rw [if_neg (nI_ge (by omega) (by omega))]
      by_cases z : smF τ3 11 0 n 0 ≤ m
      · simp only [if_pos z, jmax, if_neg (Int32.not_lt.mpr z)]
      · simp only [if_neg z, jmax, if_pos (Int32.not_le.mp z)]
    have hm : fX9_bestWatch_L44 (f2 + 1) σ (nI k) w b m (nI j) = fX9_bestWatch_L44 f2 σ4 (nI k) w (if smF τ3 11 0 n 0 ≤ m then b else nI j) (if smF τ3 11 0 n 0 ≤ m then m else smF τ3 11 0 n 0) (nI (j + 1)) := by
      conv => lhs; unfold fX9_bestWatch_L44
      simp only [M.rd2 hS.1, Option.bind_some, em, ew, s1, et, fX9_bestWatch_b95, nI_1]
      rw [if_neg (nI_ge (by omega) (by omega))]
      by_cases z : smF τ3 11 0 n 0 ≤ m
      · simp only [if_pos z]
      · simp only [if_neg z]
    rw [hx, hm]
    exact ih (j + 1) f1 f2 _ _ _ _ V σ4 (by omega) (by omega) (by omega) rfl rfl P3.bt M4
theorem s_bestWatch (R : Rel o X σ) (x1 x2 : Int32) : Same o (fX0_bestWatch X o x1 x2) (fX9_bestWatch σ x1 x2) := by
  obtain ⟨t, g, h, h2, R⟩ := R
  obtain ⟨n, hS, ht⟩ := R.min
  have hn := hS.1.1
  unfold fX0_bestWatch fX9_bestWatch
  simp only [R.ck0, Option.bind_some, isIn_eq]
  rcases R.isMin hS ht with ⟨e1, e2⟩ | ⟨h1, e1, e2⟩
  · simp only [e1, e2, Option.bind_some, if_true]
    exact Same.mk rfl rfl R.rel
  simp only [e1, e2, Option.bind_some, one0, if_false]
  rcases inN x1 (a := 1) (b := 30) 1 30 rfl rfl (by decide) (by decide) with f1 | ⟨f1, k, k0, hk, rfl⟩
  · simp only [f1, Option.bind_some, if_true]
    exact Same.mk rfl rfl R.rel
  simp only [f1, Option.bind_some, one0, if_false]
  rcases halfD x2 with ⟨w1, w2⟩ | ⟨w, hw, hx4, w1, w2⟩
  · simp only [w1, w2, Option.bind_some, if_true]
    exact Same.mk rfl rfl R.rel
  obtain ⟨σ1, em, M⟩ := m_putAside σ
  simp only [w1, w2, Option.bind_some, one0, if_false, em]
  exact (bestL R hS h1 (by omega) x2 n 0 2000 2000 0 0 0 (-1) X σ1 (by omega) (by omega) (by omega) rfl rfl R.bt M).same R
theorem enemyL (R : Rl o t g h h2 X0 σ0) (hS : Sv X0 (o + 3) n (σ0 4)) (h1 : 1 ≤ n) {c k : Nat} (hc : c < n) (hk : k ≤ 60) (w : Int32) : ∀ (d j f1 f2 : Nat) (i1 i2 b m : Int32) (X : AH) (σ : MS), d < f1 → d < f2 → j + d = n → i1 = nI j → i2 = nI j → BT o X0 X → MB σ0 σ → EndT o X0 σ0 (fX0_enemy_L39 f1 X o (nI c) (nI k) w b m i1) (fX9_enemy_L43 f2 σ (nI c) (nI k) w b m i2) := by
  have hn := hS.1.1
  intro d
  induction d with
  | zero =>
    intro j f1 f2 i1 i2 b m X σ hf1 hf2 hj e1 e2 B M
    obtain ⟨f1, rfl⟩ : ∃ f, f1 = f + 1 := ⟨f1 - 1, by omega⟩
    obtain ⟨f2, rfl⟩ : ∃ f, f2 = f + 1 := ⟨f2 - 1, by omega⟩
    subst e1 e2
    have S := B.sv hS R.w
    have hle : nI n ≤ nI j := nI_le (by omega) (by omega)
    unfold fX0_enemy_L39 fX9_enemy_L43
    simp only [(B.r R).r4, S.Mn.ck1, S.Mn.many, Option.bind_some, M.rd2 hS.1]
    rw [if_pos hle, if_pos hle]
    by_cases q : w = 0
    · rw [if_pos q, if_pos q]; exact ⟨_, _, _, rfl, rfl, B, M⟩
    · rw [if_neg q, if_neg q]; exact ⟨_, _, _, rfl, rfl, B, M⟩
  | succ d ih =>
    intro j f1 f2 i1 i2 b m X σ hf1 hf2 hj e1 e2 B M
    obtain ⟨f1, rfl⟩ : ∃ f, f1 = f + 1 := ⟨f1 - 1, by omega⟩
    obtain ⟨f2, rfl⟩ : ∃ f, f2 = f + 1 := ⟨f2 - 1, by omega⟩
    subst e1 e2
    have S := B.sv hS R.w
    obtain ⟨Y, ex, P⟩ := p_tried R hS B M
    obtain ⟨Z, ez, em, P2⟩ := P.put (c := j) (v := 0) (x := 0) mo4 (by omega) rfl ⟨by omega, by omega, by omega, by omega⟩
    obtain ⟨V, σ3, τ3, ev, ew, P3⟩ := P2.goOn h1 R hk
    obtain ⟨σ4, et, M4⟩ := P3.take
    have hx : fX0_enemy_L39 (f1 + 1) X o (nI c) (nI k) w b m (nI j) = fX0_enemy_L39 f1 V o (nI c) (nI k) w (if hi τ3 c ≤ m then b else nI j) (if hi τ3 c ≤ m then m else hi τ3 c) (nI (j + 1)) := by
      conv => lhs; unfold fX0_enemy_L39
      simp only [(B.r R).r4, S.Mn.ck1, S.Mn.many, Option.bind_some, (B.r R).ck0, ex, P.m.r5, ez, (P2.r R).ck0, ev, P3.m.ck1, P3.m.high P3.gd hc, fX0_enemy_b87, nI_1]
      rw [if_neg (nI_ge (by omega) (by omega))]
      by_cases z : hi τ3 c ≤ m
      · simp only [if_pos z, jmax, if_neg (Int32.not_lt.mpr z)]
      · simp only [if_neg z, jmax, if_pos (Int32.not_le.mp z)]
    have hm : fX9_enemy_L43 (f2 + 1) σ (nI c) (nI k) w b m (nI j) = fX9_enemy_L43 f2 σ4 (nI c) (nI k) w (if hi τ3 c ≤ m then b else nI j) (if hi τ3 c ≤ m then m else hi τ3 c) (nI (j + 1)) := by
      conv => lhs; unfold fX9_enemy_L43
      simp only [M.rd2 hS.1, Option.bind_some, a17, em, ew, P3.mhigh hc, et, fX9_enemy_b95, nI_1]
      rw [if_neg (nI_ge (by omega) (by omega))]
      by_cases z : hi τ3 c ≤ m
      · simp only [if_pos z]
      · simp only [if_neg z]
    rw [hx, hm]
    exact ih (j + 1) f1 f2 _ _ _ _ V σ4 (by omega) (by omega) (by omega) rfl rfl P3.bt M4
theorem s_enemy (R : Rel o X σ) (x1 x2 x3 : Int32) : Same o (fX0_enemy X o x1 x2 x3) (fX9_enemy σ x1 x2 x3) := by
  obtain ⟨t, g, h, h2, R⟩ := R
  obtain ⟨n, hS, ht⟩ := R.min
  have hn := hS.1.1
  unfold fX0_enemy fX9_enemy
  simp only [R.ck0, Option.bind_some, isIn_eq]
  rcases R.isChair hS x1 with ⟨e1, e2⟩ | ⟨c, hc, rfl, e1, e2⟩
  · simp only [e1, e2, Option.bind_some, if_true]
    exact Same.mk rfl rfl R.rel
  simp only [e1, e2, Option.bind_some, one0, if_false]
  rcases inN x2 (a := 1) (b := 30) 1 30 rfl rfl (by decide) (by decide) with f1 | ⟨f1, k, k0, hk, rfl⟩
  · simp only [f1, Option.bind_some, if_true]
    exact Same.mk rfl rfl R.rel
  simp only [f1, Option.bind_some, one0, if_false]
  rcases halfD x3 with ⟨w1, w2⟩ | ⟨w, hw, hx4, w1, w2⟩
  · simp only [w1, w2, Option.bind_some, if_true]
    exact Same.mk rfl rfl R.rel
  obtain ⟨σ1, em, M⟩ := m_putAside σ
  simp only [w1, w2, Option.bind_some, one0, if_false, em]
  exact (enemyL R hS (by omega) hc (by omega) x3 n 0 2000 2000 0 0 0 (-1) X σ1 (by omega) (by omega) (by omega) rfl rfl R.bt M).same R
end GU
