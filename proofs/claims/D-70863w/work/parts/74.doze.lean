/-! what is foretold, III: drawn, doze -/
/-- not by rfl: so that Lean's kernel never compares a loop with its unfolding -/
theorem bsm {α β : Type} (a : α) (f : α → Option β) : (some a).bind f = f a := by simp
theorem up2_c {σ : MS} {k i j : Nat} {a b : Int32} (h : i ≠ j) : up2 (up2 σ k i a) k j b = up2 (up2 σ k j b) k i a := by
  funext q
  by_cases e : q = k
  · subst e
    rw [up2_s, up2_s, up2_s, up2_s]
    funext w
    by_cases e1 : w = i
    · subst e1; rw [upd_n h, upd_s, upd_s]
    · rw [upd_n e1]
      by_cases e2 : w = j
      · subst e2; rw [upd_s, upd_s]
      · rw [upd_n e2, upd_n e2, upd_n e1]
  · rw [up2_n e, up2_n e, up2_n e, up2_n e]
theorem lcg {v : Nat} (h : v < 2 ^ 31) : (lN v * 16807) - (lN v * 16807) / 2147483647 * 2147483647 = lN ((v * 16807) % 2147483647) := by
  rw [show (16807 : Int64) = lN 16807 from rfl, show (2147483647 : Int64) = lN 2147483647 from rfl, lN_mul, pk_lRem (by omega) (by omega) (by omega)]
theorem rml_lN {a b : Nat} (ha : a < 2 ^ 63) (h0 : 0 < b) (hb : b < 2 ^ 31) : rml (lN a) ((nI b).toInt64) = some (lN (a % b)) := by
  unfold rml
  rw [nI_l hb, if_neg (fun z => by have := (pk_lEQ (a := b) (b := 0) (by omega) (by omega)).mp z; omega), pk_lRem ha h0 (by omega)]
section DR
variable {o t n : Nat} {g h h2 : Nat → Option Nat} {X0 X : AH} {σ0 σ : MS} {τ : Nat → Int32}
theorem drawnL (R : Rl o t g h h2 X0 σ0) (hS : Sv X0 (o + 3) n (σ0 4)) (h1 : 1 ≤ n) {k : Nat} (hk : k ≤ 60) (w : Int32) : ∀ (d j f1 f2 v : Nat) (i1 i2 : Int32) (y1 y2 : Int64) (X : AH) (σ : MS) (τ : Nat → Int32), d < f1 → d < f2 → j + d = k → i1 = nI j → i2 = nI j → v < 2 ^ 31 → y1 = lN v → y2 = lN v → PT o X0 σ0 n X σ τ → EndT o X0 σ0 (fX0_drawn_L51 f1 X o (nI k) w y1 i1) (fX9_drawn_L55 f2 σ (nI k) w y2 i2) := by
  have hn := hS.1.1
  intro d
  induction d with
  | zero =>
    intro j f1 f2 v i1 i2 y1 y2 X σ τ hf1 hf2 hj e1 e2 hv e3 e4 P
    obtain ⟨f1, rfl⟩ : ∃ f, f1 = f + 1 := ⟨f1 - 1, by omega⟩
    obtain ⟨f2, rfl⟩ : ∃ f, f2 = f + 1 := ⟨f2 - 1, by omega⟩
    subst e1 e2
    have hle : nI k ≤ nI j := nI_le (by omega) (by omega)
    obtain ⟨σ3, et, M3⟩ := P.take
    have s1 : fX9_sumOf σ 11 = some (smF τ 11 0 n 0, σ) := P.msum (b := 11) (by omega)
    unfold fX0_drawn_L51 fX9_drawn_L55 fX9_drawn_b141
    rw [if_pos hle, if_pos hle]
    by_cases q : w = 0
    · rw [if_pos q, if_pos q]
      simp only [(P.r R).r5, P.m.ck1, P.m.ranked P.gd, P.mat, Option.bind_some, et]
      exact ⟨_, _, _, rfl, rfl, P.bt, M3⟩
    · rw [if_neg q, if_neg q]
      simp only [(P.r R).r5, P.m.ck1, P.m.allLegs hn, s1, Option.bind_some, et]
      exact ⟨_, _, _, rfl, rfl, P.bt, M3⟩
  | succ d ih =>
    intro j f1 f2 v i1 i2 y1 y2 X σ τ hf1 hf2 hj e1 e2 hv e3 e4 P
    obtain ⟨f1, rfl⟩ : ∃ f, f1 = f + 1 := ⟨f1 - 1, by omega⟩
    obtain ⟨f2, rfl⟩ : ∃ f, f2 = f + 1 := ⟨f2 - 1, by omega⟩
    subst e1 e2 e3 e4
    have hnle : ¬ nI k ≤ nI j := nI_ge (by omega) (by omega)
    have S := P.bt.sv hS R.w
    have hu : (v * 16807) % 2147483647 < 2147483647 := Nat.mod_lt _ (by omega)
    generalize hV : (v * 16807) % 2147483647 = V at hu
    have eV := lcg hv
    rw [hV] at eV
    have hc : V % n < n := Nat.mod_lt _ (by omega)
    generalize hC : V % n = c at hc
    have er : rml (lN V) ((nI n).toInt64) = some (lN c) := by rw [rml_lN (by omega) (by omega) (by omega), hC]
    have r2 : rd (σ 4) 41 2 = some (nI n) := by rw [← P.gd.2.1]; exact P.mrd (k := 2) (by omega)
    have hx0 : ∀ (x : Int32), x = (1 : Int32) <<< (nI c &&& 31) → x = nI (2 ^ c) := fun x hx => by rw [hx]; exact shl1 (by omega)
    unfold fX0_drawn_L51 fX9_drawn_L55
    rw [if_neg hnle, if_neg hnle]
    simp only [(P.r R).r4, S.Mn.ck1, S.Mn.many, Option.bind_some, eV, er, r2, lN_i, nI_1, fX0_drawn_b104, fX9_drawn_b113]
    by_cases q : (lg_cmp (lN V - lN V / 5 * 5) 0) = 0
    · rw [if_pos q]
      obtain ⟨Y, v1, ey, eg, P1⟩ := P.mend (c := c) (by omega)
      obtain ⟨Z, ez, em, P2⟩ := P1.watch (w := 2 ^ c) (x := (1 : Int32) <<< (nI c &&& 31)) (shl1 (by omega)) (p2_lt (by omega))
      obtain ⟨U, σ4, eu, en, P3⟩ := P2.pass h1
      have em2 : mwr σ 4 41 4 ((1 : Int32) <<< (nI c &&& 31)) = some (up2 σ 4 4 ((1 : Int32) <<< (nI c &&& 31))) := mwr_nI (j := 4) (by omega) (by omega)
      have eg2 := m_glue (up2 σ 4 4 ((1 : Int32) <<< (nI c &&& 31))) (show c < 6 by omega)
      rw [up2_s, upd_n (by omega), upd_n (by omega), up2_c (by omega)] at eg2
      simp only [(P.r R).r5, P.m.ck1, ey, Option.bind_some, (P1.r R).r5, ez, (P2.r R).r5, P2.m.ck1, eu, em2, eg2, en]
      rw [if_pos q]
      exact ih (j + 1) f1 f2 V _ _ _ _ U σ4 _ (by omega) (by omega) (by omega) rfl rfl (by omega) rfl rfl P3
    · rw [if_neg q]
      obtain ⟨Z, ez, em, P2⟩ := P.watch (w := 2 ^ c) (x := (1 : Int32) <<< (nI c &&& 31)) (shl1 (by omega)) (p2_lt (by omega))
      obtain ⟨U, σ4, eu, en, P3⟩ := P2.pass h1
      simp only [(P.r R).r5, Option.bind_some, ez, (P2.r R).r5, P2.m.ck1, eu, em, en]
      rw [if_neg q]
      exact ih (j + 1) f1 f2 V _ _ _ _ U σ4 _ (by omega) (by omega) (by omega) rfl rfl (by omega) rfl rfl P3
theorem s_drawn (R : Rel o X σ) (x1 x2 x3 : Int32) : Same o (fX0_drawn X o x1 x2 x3) (fX9_drawn σ x1 x2 x3) := by
  obtain ⟨t, g, h, h2, R⟩ := R
  obtain ⟨n, hS, ht⟩ := R.min
  have hn := hS.1.1
  unfold fX0_drawn fX9_drawn
  simp only [R.ck0, Option.bind_some, isIn_eq]
  rcases R.isMin hS ht with ⟨e1, e2⟩ | ⟨h1, e1, e2⟩
  · simp only [e1, e2, Option.bind_some, if_true]
    exact Same.mk rfl rfl R.rel
  simp only [e1, e2, Option.bind_some, one0, if_false]
  rcases farD x1 with ⟨f1, f2⟩ | ⟨k, hk, rfl, f1, f2⟩
  · simp only [f1, f2, Option.bind_some, if_true]
    exact Same.mk rfl rfl R.rel
  simp only [f1, f2, Option.bind_some, one0, if_false]
  rcases inN x2 (a := 1) (b := 999999) 1 999999 rfl rfl (by decide) (by decide) with q1 | ⟨q1, v, v0, hv, rfl⟩
  · simp only [q1, Option.bind_some, if_true]
    exact Same.mk rfl rfl R.rel
  simp only [q1, Option.bind_some, one0, if_false]
  rcases halfD x3 with ⟨w1, w2⟩ | ⟨w, hw, hx4, w1, w2⟩
  · simp only [w1, w2, Option.bind_some, if_true]
    exact Same.mk rfl rfl R.rel
  obtain ⟨σ1, em, M⟩ := m_putAside σ
  obtain ⟨Y, ex, P⟩ := p_tried R hS R.bt M
  simp only [w1, w2, Option.bind_some, one0, if_false, em, R.ck0, ex]
  exact (drawnL R hS h1 hk x3 k 0 2000 2000 v 0 0 _ _ Y σ1 _ (by omega) (by omega) (by omega) rfl rfl (by omega) (nI_l (by omega)) (nI_l (by omega)) P).same R
/-! doze -/
theorem and_lt {w : Nat} (y : Int32) (h : w < 64) : ∃ u, u < 64 ∧ nI w &&& y = nI u := by
  refine ⟨w &&& y.toBitVec.toNat, Nat.lt_of_le_of_lt Nat.and_le_left h, ?_⟩
  have hle : w &&& y.toBitVec.toNat ≤ w := Nat.and_le_left
  apply Int32.toBitVec_inj.mp
  apply BitVec.eq_of_toNat_eq
  rw [Int32.toBitVec_and, BitVec.toNat_and, pk_tn (by omega), pk_tn (by omega)]
theorem has_eq : @fX0_has = @fX9_has := rfl
theorem p10_le {j : Nat} (h : j ≤ 6) : 10 ^ j ≤ 1000000 := by
  rcases (show j = 0 ∨ j = 1 ∨ j = 2 ∨ j = 3 ∨ j = 4 ∨ j = 5 ∨ j = 6 by omega) with rfl | rfl | rfl | rfl | rfl | rfl | rfl <;> decide
theorem dozeA (R : Rl o t g h h2 X0 σ0) (hS : Sv X0 (o + 3) n (σ0 4)) (B : BT o X0 X) (M : MB σ0 σ) (x1 x2 x3 x4 x5 x6 : Int32) (x7 : Int64) : ∀ (d j f1 f2 b : Nat) (i1 i2 : Int32) (y1 y2 : Int64), d < f1 → d < f2 → j + d = n → i1 = nI j → i2 = nI j → y1 = lN b → y2 = lN b → 1 ≤ b → b ≤ 10 ^ j → ∃ b', 1 ≤ b' ∧ b' ≤ 1000000 ∧ fX0_doze_L65 f1 X o x1 x2 x3 x4 x5 x6 x7 y1 i1 = fX0_doze_L108 2000 X o x1 x2 x3 x4 x5 x6 x7 (lN b') 0 ∧ fX9_doze_L78 f2 σ x1 x2 x3 x4 x5 x6 x7 y2 i2 = fX9_doze_L120 2000 σ x1 x2 x3 x4 x5 x6 x7 (lN b') 0 := by
  have hn := hS.1.1
  have S := B.sv hS R.w
  intro d
  induction d with
  | zero =>
    intro j f1 f2 b i1 i2 y1 y2 hf1 hf2 hj e1 e2 e3 e4 hb1 hb2
    obtain ⟨f1, rfl⟩ : ∃ f, f1 = f + 1 := ⟨f1 - 1, by omega⟩
    obtain ⟨f2, rfl⟩ : ∃ f, f2 = f + 1 := ⟨f2 - 1, by omega⟩
    subst e1 e2 e3 e4
    have hle : nI n ≤ nI j := nI_le (by omega) (by omega)
    have := p10_le (show j ≤ 6 by omega)
    refine ⟨b, hb1, by omega, ?_, ?_⟩
    · conv => lhs; unfold fX0_doze_L65
      simp only [(B.r R).r4, S.Mn.ck1, S.Mn.many, Option.bind_some]
      rw [if_pos hle]
    · conv => lhs; unfold fX9_doze_L78
      simp only [M.rd2 hS.1, Option.bind_some]
      rw [if_pos hle]
  | succ d ih =>
    intro j f1 f2 b i1 i2 y1 y2 hf1 hf2 hj e1 e2 e3 e4 hb1 hb2
    obtain ⟨f1, rfl⟩ : ∃ f, f1 = f + 1 := ⟨f1 - 1, by omega⟩
    obtain ⟨f2, rfl⟩ : ∃ f, f2 = f + 1 := ⟨f2 - 1, by omega⟩
    subst e1 e2 e3 e4
    have hnle : ¬ nI n ≤ nI j := nI_ge (by omega) (by omega)
    have hp : 10 ^ (j + 1) = 10 ^ j * 10 := Nat.pow_succ ..
    have hx : fX0_doze_L65 (f1 + 1) X o x1 x2 x3 x4 x5 x6 x7 (lN b) (nI j) = fX0_doze_L65 f1 X o x1 x2 x3 x4 x5 x6 x7 (lN (if bitq x6 (nI j) = true then b * 10 else b)) (nI (j + 1)) := by
      conv => lhs; unfold fX0_doze_L65
      simp only [(B.r R).r4, S.Mn.ck1, S.Mn.many, Option.bind_some, has_eq, m_has, nI_1]
      rw [if_neg hnle]
      cases bitq x6 (nI j) with
      | true =>
        simp only [if_true, one0, if_false]
        rw [show (10 : Int64) = lN 10 from rfl, lN_mul]
      | false =>
        simp only [Bool.false_eq_true, if_false, if_true]
        rw [show (1 : Int64) = lN 1 from rfl, lN_mul, Nat.mul_one]
    have hm : fX9_doze_L78 (f2 + 1) σ x1 x2 x3 x4 x5 x6 x7 (lN b) (nI j) = fX9_doze_L78 f2 σ x1 x2 x3 x4 x5 x6 x7 (lN (if bitq x6 (nI j) = true then b * 10 else b)) (nI (j + 1)) := by
      conv => lhs; unfold fX9_doze_L78
      simp only [M.rd2 hS.1, Option.bind_some, m_has, nI_1]
      rw [if_neg hnle]
      cases bitq x6 (nI j) with
      | true =>
        simp only [if_true, one0, if_false]
        rw [show (10 : Int64) = lN 10 from rfl, lN_mul]
      | false =>
        simp only [Bool.false_eq_true, if_false, if_true]
        rw [show (1 : Int64) = lN 1 from rfl, lN_mul, Nat.mul_one]
    rw [hx, hm]
    refine ih (j + 1) f1 f2 (if bitq x6 (nI j) = true then b * 10 else b) _ _ _ _ (by omega) (by omega) (by omega) rfl rfl rfl rfl ?_ ?_
    · split <;> omega
    · split <;> omega
theorem dozeB (R : Rl o t g h h2 X0 σ0) (hS : Sv X0 (o + 3) n (σ0 4)) (h1 : 1 ≤ n) (B : BT o X0 X) (M : MB σ0 σ) {c k p w0 s a : Nat} (hc : c < n) (hk : k ≤ 60) (hp : p ≤ 10) (hw : w0 < 64) (r x5 : Int32) (x9 : Int64) (K : AH → Nat → Int32 → Int32 → Int32 → Int32 → Int32 → Int32 → Int64 → Int64 → Int32 → Option (Int64 × AH)) (L : MS → Int32 → Int32 → Int32 → Int32 → Int32 → Int32 → Int64 → Int64 → Int32 → Option (Int64 × MS)) : ∀ (d j f1 f2 w : Nat) (i1 i2 : Int32) (y1 y2 : Int64), d < f1 → d < f2 → j + d = n → i1 = nI j → i2 = nI j → y1 = lN w → y2 = lN w → w ≤ 10 ^ j →
    ∃ V σ3 a', fX0_doze_L134 K f1 X o (nI c) r (nI k) (nI p) x5 (nI w0) (lN a) x9 (nI s) y1 i1 = K V o (nI c) r (nI k) (nI p) x5 (nI w0) (lN a') x9 (nI (s + 1)) ∧ fX9_doze_L143 L f2 σ (nI c) r (nI k) (nI p) x5 (nI w0) (lN a) x9 (nI s) y2 i2 = L σ3 (nI c) r (nI k) (nI p) x5 (nI w0) (lN a') x9 (nI (s + 1)) ∧ a' ≤ a + 1000000 ∧ BT o X0 V ∧ MB σ0 σ3 := by
  have hn := hS.1.1
  have S := B.sv hS R.w
  intro d
  induction d with
  | zero =>
    intro j f1 f2 w i1 i2 y1 y2 hf1 hf2 hj e1 e2 e3 e4 hb
    obtain ⟨f1, rfl⟩ : ∃ f, f1 = f + 1 := ⟨f1 - 1, by omega⟩
    obtain ⟨f2, rfl⟩ : ∃ f, f2 = f + 1 := ⟨f2 - 1, by omega⟩
    subst e1 e2 e3 e4
    have hle : nI n ≤ nI j := nI_le (by omega) (by omega)
    have h10 := p10_le (show j ≤ 6 by omega)
    obtain ⟨u, hu, eu⟩ := and_lt (nI s ^^^ (-1)) hw
    obtain ⟨Y, ex, P⟩ := p_tried R hS B M
    obtain ⟨Z, ez, em, P2⟩ := P.watch (w := u) (x := nI w0 &&& (nI s ^^^ (-1))) eu hu
    obtain ⟨V, σ3, q, ev, ew, B3, M3⟩ := P2.rankBy h1 R hc hk r
    unfold fX0_doze_L134 fX9_doze_L143
    simp only [(B.r R).r4, S.Mn.ck1, S.Mn.many, Option.bind_some, M.rd2 hS.1, (B.r R).ck0, ex, ez, em, (P2.r R).ck0, ev, ew, nI_1]
    rw [if_pos hle, if_pos hle]
    by_cases z : r < nI q
    · refine ⟨V, σ3, a, ?_, ?_, by omega, B3, M3⟩
      · rw [if_pos z, if_pos rfl, Int64.add_zero]
      · rw [if_pos z, Int64.add_zero]
    · refine ⟨V, σ3, a + w, ?_, ?_, by omega, B3, M3⟩
      · rw [if_neg z, if_neg (by decide), lN_add]
      · rw [if_neg z, lN_add]
  | succ d ih =>
    intro j f1 f2 w i1 i2 y1 y2 hf1 hf2 hj e1 e2 e3 e4 hb
    obtain ⟨f1, rfl⟩ : ∃ f, f1 = f + 1 := ⟨f1 - 1, by omega⟩
    obtain ⟨f2, rfl⟩ : ∃ f, f2 = f + 1 := ⟨f2 - 1, by omega⟩
    subst e1 e2 e3 e4
    have hnle : ¬ nI n ≤ nI j := nI_ge (by omega) (by omega)
    have hpw : 10 ^ (j + 1) = 10 ^ j * 10 := Nat.pow_succ ..
    have ep : (nI p).toInt64 = lN p := nI_l (by omega)
    have eq : ((10 : Int32) - nI p).toInt64 = lN (10 - p) := by
      rw [show (10 : Int32) - nI p = nI (10 - p) from pk_sub (a := 10) hp]
      exact nI_l (by omega)
    generalize hw' : (if bitq (nI w0) (nI j) = true then (if bitq (nI s) (nI j) = true then w * p else w * (10 - p)) else w) = w'
    have hx : fX0_doze_L134 K (f1 + 1) X o (nI c) r (nI k) (nI p) x5 (nI w0) (lN a) x9 (nI s) (lN w) (nI j) = fX0_doze_L134 K f1 X o (nI c) r (nI k) (nI p) x5 (nI w0) (lN a) x9 (nI s) (lN w') (nI (j + 1)) := by
      rw [← hw']
      conv => lhs; unfold fX0_doze_L134
      simp only [(B.r R).r4, S.Mn.ck1, S.Mn.many, Option.bind_some, has_eq, m_has, nI_1, ep, eq]
      rw [if_neg hnle]
      cases bitq (nI w0) (nI j) with
      | false =>
        simp only [Bool.false_eq_true, if_false, if_true]
        rw [show (1 : Int64) = lN 1 from rfl, lN_mul, Nat.mul_one]
      | true =>
        simp only [if_true, one0, if_false]
        cases bitq (nI s) (nI j) with
        | false =>
          simp only [Bool.false_eq_true, if_false, if_true]
          rw [lN_mul]
        | true =>
          simp only [if_true, one0, if_false]
          rw [lN_mul]
    have hm : fX9_doze_L143 L (f2 + 1) σ (nI c) r (nI k) (nI p) x5 (nI w0) (lN a) x9 (nI s) (lN w) (nI j) = fX9_doze_L143 L f2 σ (nI c) r (nI k) (nI p) x5 (nI w0) (lN a) x9 (nI s) (lN w') (nI (j + 1)) := by
      rw [← hw']
      conv => lhs; unfold fX9_doze_L143
      simp only [M.rd2 hS.1, Option.bind_some, m_has, nI_1, ep, eq]
      rw [if_neg hnle]
      cases bitq (nI w0) (nI j) with
      | false =>
        simp only [Bool.false_eq_true, if_false, if_true]
        rw [show (1 : Int64) = lN 1 from rfl, lN_mul, Nat.mul_one]
      | true =>
        simp only [if_true, one0, if_false]
        cases bitq (nI s) (nI j) with
        | false =>
          simp only [Bool.false_eq_true, if_false, if_true]
          rw [lN_mul]
        | true =>
          simp only [if_true, one0, if_false]
          rw [lN_mul]
    rw [hx, hm]
    refine ih (j + 1) f1 f2 w' _ _ _ _ (by omega) (by omega) (by omega) rfl rfl rfl rfl ?_
    rw [← hw', hpw]
    have l1 : w * p ≤ 10 ^ j * 10 := Nat.mul_le_mul hb hp
    have l2 : w * (10 - p) ≤ 10 ^ j * 10 := Nat.mul_le_mul hb (by omega)
    split
    · split <;> assumption
    · omega
theorem dozeG : ∀ (k x y fuel : Nat) (z1 z2 : Int64), y < 2 ^ k → 2 * k + 1 < fuel → (0 < x ∨ 0 < y) → x < 2 ^ 62 → y < 2 ^ 62 → z1 = lN x → z2 = lN y → ∃ v, 0 < v ∧ v < 2 ^ 62 ∧ fX0_common_L6 fuel z1 z2 = some (lN v) ∧ ∀ (σ : MS) (x5 : Int32) (a b : Int64), fX9_doze_L249 fuel σ x5 a b z1 z2 = if x5 = 0 then (dvl a (lN v)).bind fun v5 => some (v5, σ) else (dvl b (lN v)).bind fun v3 => some (v3, σ) := by
  have fin : ∀ (x fuel : Nat), 0 < x → x < 2 ^ 62 → ∃ v, 0 < v ∧ v < 2 ^ 62 ∧ fX0_common_L6 (fuel + 1) (lN x) (lN 0) = some (lN v) ∧ ∀ (σ : MS) (x5 : Int32) (a b : Int64), fX9_doze_L249 (fuel + 1) σ x5 a b (lN x) (lN 0) = if x5 = 0 then (dvl a (lN v)).bind fun v5 => some (v5, σ) else (dvl b (lN v)).bind fun v3 => some (v3, σ) := by
    intro x fuel h1 h2
    have e0 : lg_cmp (lN 0) 0 = 0 := by decide
    refine ⟨x, h1, h2, ?_, fun σ x5 a b => ?_⟩
    · unfold fX0_common_L6
      rw [if_pos e0]
    · unfold fX9_doze_L249
      rw [if_pos e0]
  have stepc : ∀ (x y fuel : Nat), 0 < y → x < 2 ^ 62 → y < 2 ^ 62 → fX0_common_L6 (fuel + 1) (lN x) (lN y) = fX0_common_L6 fuel (lN y) (lN (x % y)) ∧ ∀ (σ : MS) (x5 : Int32) (a b : Int64), fX9_doze_L249 (fuel + 1) σ x5 a b (lN x) (lN y) = fX9_doze_L249 fuel σ x5 a b (lN y) (lN (x % y)) := by
    intro x y fuel h1 h2 h3
    have e0 : ¬ lg_cmp (lN y) 0 = 0 := fun z => by
      have := (pk_lEQ (a := y) (b := 0) (by omega) (by omega)).mp ((lg_cmp_eq _ _).mp z)
      omega
    have e1 : rml (lN x) (lN y) = some (lN (x % y)) := by
      unfold rml
      rw [if_neg (fun z => by have := (pk_lEQ (a := y) (b := 0) (by omega) (by omega)).mp z; omega), pk_lRem (by omega) h1 (by omega)]
    refine ⟨?_, fun σ x5 a b => ?_⟩
    · conv => lhs; unfold fX0_common_L6
      rw [if_neg e0, e1]; rfl
    · conv => lhs; unfold fX9_doze_L249
      rw [if_neg e0, e1]; rfl
  intro k
  induction k with
  | zero =>
    intro x y fuel z1 z2 hy hf h0 hx hy2 e1 e2
    obtain ⟨f, rfl⟩ : ∃ f, fuel = f + 1 := ⟨fuel - 1, by omega⟩
    subst e1 e2
    have : y = 0 := by omega
    subst this
    exact fin x f (by omega) hx
  | succ k ih =>
    intro x y fuel z1 z2 hy hf h0 hx hy2 e1 e2
    obtain ⟨f, rfl⟩ : ∃ f, fuel = f + 1 := ⟨fuel - 1, by omega⟩
    obtain ⟨f, rfl⟩ : ∃ f', f = f' + 1 := ⟨f - 1, by omega⟩
    subst e1 e2
    by_cases y0 : y = 0
    · subst y0
      exact fin x (f + 1) (by omega) hx
    · obtain ⟨s1, s2⟩ := stepc x y (f + 1) (by omega) hx hy2
      have m1 : x % y < y := Nat.mod_lt _ (by omega)
      simp only [s1, s2]
      by_cases r0 : x % y = 0
      · rw [r0]
        exact fin y f (by omega) hy2
      · obtain ⟨t1, t2⟩ := stepc y (x % y) f (by omega) hy2 (by omega)
        simp only [t1, t2]
        have m2 : y % (x % y) < x % y := Nat.mod_lt _ (by omega)
        have m3 : y % (x % y) + (x % y) ≤ y := by
          have := Nat.div_add_mod y (x % y)
          have hd : 1 ≤ y / (x % y) := Nat.div_pos (by omega) (by omega)
          have := Nat.mul_le_mul_left (x % y) hd
          omega
        have hp : 2 ^ (k + 1) = 2 ^ k * 2 := Nat.pow_succ ..
        exact ih (x % y) (y % (x % y)) f _ _ (by omega) (by omega) (by omega) (by omega) (by omega) rfl rfl
theorem dozeC (R : Rl o t g h h2 X0 σ0) (hS : Sv X0 (o + 3) n (σ0 4)) (h1 : 1 ≤ n) {c k p w0 b : Nat} (hc : c < n) (hk : k ≤ 60) (hp : p ≤ 10) (hw : w0 < 64) (hb1 : 1 ≤ b) (hb : b ≤ 1000000) (r x5 : Int32) : ∀ (d s f1 f2 a : Nat) (i1 i2 : Int32) (y1 y2 : Int64) (X : AH) (σ : MS), d < f1 → d < f2 → s + d = w0 + 1 → i1 = nI s → i2 = nI s → y1 = lN a → y2 = lN a → a ≤ s * 1000000 → BT o X0 X → MB σ0 σ → EndT o X0 σ0 (fX0_doze_L108 f1 X o (nI c) r (nI k) (nI p) x5 (nI w0) y1 (lN b) i1) (fX9_doze_L120 f2 σ (nI c) r (nI k) (nI p) x5 (nI w0) y2 (lN b) i2) := by
  intro d
  induction d with
  | zero =>
    intro s f1 f2 a i1 i2 y1 y2 X σ hf1 hf2 hs e1 e2 e3 e4 ha B M
    obtain ⟨f1, rfl⟩ : ∃ f, f1 = f + 1 := ⟨f1 - 1, by omega⟩
    obtain ⟨f2, rfl⟩ : ∃ f, f2 = f + 1 := ⟨f2 - 1, by omega⟩
    subst e1 e2 e3 e4
    have hlt : nI w0 < nI s := nI_lt (by omega) (by omega)
    obtain ⟨v, v0, v1, c1, c2⟩ := dozeG 20 a b 2000 (lN a) (lN b) (by omega) (by omega) (by omega) (by omega) (by omega) rfl rfl
    have hv : ¬ lN v = 0 := fun z => by have := (pk_lEQ (a := v) (b := 0) (by omega) (by omega)).mp z; omega
    have c3 : fX0_common (lN a) (lN b) = some (lN v) := c1
    unfold fX0_doze_L108 fX9_doze_L120 fX0_doze_b246
    rw [if_pos hlt, if_pos hlt, c2, c3]
    by_cases q : x5 = 0
    · rw [if_pos q, if_pos q]
      simp only [Option.bind_some, dvl, if_neg hv]
      exact ⟨_, _, _, rfl, rfl, B, M⟩
    · rw [if_neg q, if_neg q]
      simp only [Option.bind_some, dvl, if_neg hv]
      exact ⟨_, _, _, rfl, rfl, B, M⟩
  | succ d ih =>
    intro s f1 f2 a i1 i2 y1 y2 X σ hf1 hf2 hs e1 e2 e3 e4 ha B M
    obtain ⟨f1, rfl⟩ : ∃ f, f1 = f + 1 := ⟨f1 - 1, by omega⟩
    obtain ⟨f2, rfl⟩ : ∃ f, f2 = f + 1 := ⟨f2 - 1, by omega⟩
    subst e1 e2 e3 e4
    have hlt : ¬ nI w0 < nI s := nI_nlt (by omega) (by omega)
    by_cases q : (nI s &&& (nI w0 ^^^ (-1))) = 0
    · obtain ⟨V, σ3, a', eb1, eb2, ha', B3, M3⟩ := dozeB R hS h1 B M (a := a) (s := s) hc hk hp hw r x5 (lN b) (fX0_doze_L108 f1) (fX9_doze_L120 f2) n 0 2000 2000 1 0 0 1 1 (by have := hS.1.1; omega) (by have := hS.1.1; omega) (by omega) rfl rfl rfl rfl (by simp)
      have hx : fX0_doze_L108 (f1 + 1) X o (nI c) r (nI k) (nI p) x5 (nI w0) (lN a) (lN b) (nI s) = fX0_doze_L108 f1 V o (nI c) r (nI k) (nI p) x5 (nI w0) (lN a') (lN b) (nI (s + 1)) := by
        rw [← eb1]
        conv => lhs; unfold fX0_doze_L108
        rw [if_neg hlt, if_pos q]
      have hm : fX9_doze_L120 (f2 + 1) σ (nI c) r (nI k) (nI p) x5 (nI w0) (lN a) (lN b) (nI s) = fX9_doze_L120 f2 σ3 (nI c) r (nI k) (nI p) x5 (nI w0) (lN a') (lN b) (nI (s + 1)) := by
        rw [← eb2]
        conv => lhs; unfold fX9_doze_L120
        rw [if_neg hlt, if_pos q]
      rw [hx, hm]
      exact ih (s + 1) f1 f2 a' _ _ _ _ V σ3 (by omega) (by omega) (by omega) rfl rfl rfl rfl (by omega) B3 M3
    · have hx : fX0_doze_L108 (f1 + 1) X o (nI c) r (nI k) (nI p) x5 (nI w0) (lN a) (lN b) (nI s) = fX0_doze_L108 f1 X o (nI c) r (nI k) (nI p) x5 (nI w0) (lN a) (lN b) (nI (s + 1)) := by
        conv => lhs; unfold fX0_doze_L108
        rw [if_neg hlt, if_neg q, nI_1]
      have hm : fX9_doze_L120 (f2 + 1) σ (nI c) r (nI k) (nI p) x5 (nI w0) (lN a) (lN b) (nI s) = fX9_doze_L120 f2 σ (nI c) r (nI k) (nI p) x5 (nI w0) (lN a) (lN b) (nI (s + 1)) := by
        conv => lhs; unfold fX9_doze_L120
        rw [if_neg hlt, if_neg q, nI_1]
      rw [hx, hm]
      exact ih (s + 1) f1 f2 a _ _ _ _ X σ (by omega) (by omega) (by omega) rfl rfl rfl rfl (Nat.le_trans ha (Nat.mul_le_mul_right _ (Nat.le_succ s))) B M
theorem s_doze (R : Rel o X σ) (x1 x2 x3 x4 x5 : Int32) : Same o (fX0_doze X o x1 x2 x3 x4 x5) (fX9_doze σ x1 x2 x3 x4 x5) := by
  obtain ⟨t, g, h, h2, R⟩ := R
  obtain ⟨n, hS, ht⟩ := R.min
  have hn := hS.1.1
  unfold fX0_doze fX9_doze
  simp only [R.ck0, Option.bind_some, isIn_eq]
  rcases R.isChair hS x1 with ⟨e1, e2⟩ | ⟨c, hc, rfl, e1, e2⟩
  · simp only [e1, e2, Option.bind_some, if_true]
    exact Same.mk rfl rfl R.rel
  simp only [e1, e2, Option.bind_some, one0, if_false]
  rcases rankD x2 with ⟨f1, f2⟩ | ⟨r, hr, hx, f1, f2⟩
  · simp only [f1, f2, Option.bind_some, if_true]
    exact Same.mk rfl rfl R.rel
  simp only [f1, f2, Option.bind_some, one0, if_false]
  rcases nearD x3 with ⟨q1, q2⟩ | ⟨k, hk, rfl, q1, q2⟩
  · simp only [q1, q2, Option.bind_some, if_true]
    exact Same.mk rfl rfl R.rel
  simp only [q1, q2, Option.bind_some, one0, if_false]
  rcases inN x4 (a := 0) (b := 10) 0 10 rfl rfl (by decide) (by decide) with p1 | ⟨p1, p, p0, hp, rfl⟩
  · simp only [p1, Option.bind_some, if_true]
    exact Same.mk rfl rfl R.rel
  simp only [p1, Option.bind_some, one0, if_false]
  rcases halfD x5 with ⟨w1, w2⟩ | ⟨w, hw, hx4, w1, w2⟩
  · simp only [w1, w2, Option.bind_some, if_true]
    exact Same.mk rfl rfl R.rel
  obtain ⟨σ1, em, M⟩ := m_putAside σ
  obtain ⟨w0, hw0, ew0⟩ := hS.1.2.2.2.1
  simp only [w1, w2, bsm, one0, if_false, em, R.r4, hS.Mn.g8, M.rd4, ew0]
  obtain ⟨b, hb1, hb, eA1, eA2⟩ := dozeA R hS R.bt M (nI c) x2 (nI k) (nI p) x5 (nI w0) 0 n 0 2000 2000 1 0 0 1 1 (by omega) (by omega) (by omega) rfl rfl rfl rfl (by omega) (by simp)
  rw [eA1, eA2]
  exact (dozeC R hS (by omega) hc (by omega) hp hw0 hb1 hb x2 x5 (w0 + 1) 0 2000 2000 0 0 0 0 0 X σ1 (by omega) (by omega) (by omega) rfl rfl rfl rfl (Nat.zero_le _) R.bt M).same R
end DR
