/-! what is asked of a ministry -/
section QU
variable {o t n : Nat} {g h h2 : Nat → Option Nat} {X0 X : AH} {σ0 σ : MS} {τ : Nat → Int32}
theorem s_fault (R : Rel o X σ) : Same o (fX0_fault X o) (fX9_fault σ) := by
  obtain ⟨t, g, h, h2, R⟩ := R
  unfold fX0_fault fX9_fault
  rw [R.i3]
  exact Same.mk rfl rfl R.rel
theorem s_status (R : Rel o X σ) : Same o (fX0_status X o) (fX9_status σ) := by
  obtain ⟨t, g, h, h2, R⟩ := R
  unfold fX0_status fX9_status
  rw [R.i10]
  exact Same.mk rfl rfl R.rel
theorem s_trace (R : Rel o X σ) (x1 : Int32) : Same o (fX0_trace X o x1) (fX9_trace σ x1) := by
  obtain ⟨t, g, h, h2, R⟩ := R
  obtain ⟨f, q, d1, c1, c2, e24, hq, hf⟩ := R.trl
  unfold fX0_trace fX9_trace
  simp only [R.r9, gI_of c1 (k := 1) (v := σ 0 24) rfl, Option.bind_some, isIn_eq, e24]
  rcases inC x1 (show q ≤ 40 by omega) with e | ⟨e, j, hj, rfl⟩
  · simp only [e, Option.bind_some, if_true]
    exact Same.mk rfl rfl R.rel
  · simp only [e, Option.bind_some, one0, if_false, gR_of c1 (k := 0) (v := t + 1) rfl, gA_of c2 (show j < 16 by omega) (by omega), rd_nI (f := σ 13) (show j < 16 by omega) (by omega), hf j hj]
    exact Same.mk rfl rfl R.rel
theorem Sv.rd2 (hS : Sv X (o + 3) n (σ 4)) : rd (σ 4) 41 2 = some (nI n) := by rw [← hS.1.2.1]; exact rd_nI (j := 2) (by omega) (by omega)
theorem st_rd (σ : MS) {k : Nat} (h : k < 41) : rd (σ 4) 41 (nI k) = some (σ 4 k) := rd_nI h (by omega)
theorem rd_3 (σ : MS) : rd (σ 4) 41 3 = some (σ 4 3) := st_rd σ (k := 3) (by omega)
theorem rd_4 (σ : MS) : rd (σ 4) 41 4 = some (σ 4 4) := st_rd σ (k := 4) (by omega)
theorem rd_0 (σ : MS) : rd (σ 4) 41 0 = some (σ 4 0) := st_rd σ (k := 0) (by omega)
theorem s_ranked (R : Rel o X σ) (x1 : Int32) : Same o (fX0_ranked X o x1) (fX9_ranked σ x1) := by
  obtain ⟨t, g, h, h2, R⟩ := R
  obtain ⟨n, hS, ht⟩ := R.min
  have hn := hS.1.1
  have a1 := R.isChair hS x1
  unfold fX0_ranked fX9_ranked
  simp only [R.ck0, Option.bind_some, hS.rd2]
  rcases inC x1 (show n ≤ 40 by omega) with e | ⟨e, j, hj, rfl⟩
  · rcases a1 with ⟨e1, e2⟩ | ⟨c, hc, rfl, e1, e2⟩
    · simp only [e1, e, Option.bind_some, if_true]
      exact Same.mk rfl rfl R.rel
    · exfalso
      unfold fX9_isChair at e2
      simp only [hS.rd2, Option.bind_some, e] at e2
      cases e2
  · rcases a1 with ⟨e1, e2⟩ | ⟨c, hc, hx, e1, e2⟩
    · exfalso
      unfold fX9_isChair at e2
      simp only [hS.rd2, Option.bind_some, e] at e2
      cases e2
    · simp only [e1, e, Option.bind_some, one0, if_false, R.r4, hS.Mn.ck1, hS.Mn.ranked hS.1, m_atRank σ _ hn hS.1.2.1]
      exact Same.mk rfl rfl R.rel
theorem bit01 (w x : Int32) : ((w >>> (x &&& 31)) &&& 1) = one1 (bitq w x) := by
  unfold one1 bitq
  obtain ⟨j, hj, e⟩ := pk_andE (w >>> (x &&& 31)) (m := 1) 1 (by decide)
  rw [e]
  rcases (show j = 0 ∨ j = 1 by omega) with rfl | rfl <;> decide
theorem s_chair (R : Rel o X σ) (x1 x2 : Int32) : Same o (fX0_chair X o x1 x2) (fX9_chair σ x1 x2) := by
  obtain ⟨t, g, h, h2, R⟩ := R
  obtain ⟨n, hS, ht⟩ := R.min
  have hn := hS.1.1
  unfold fX0_chair fX9_chair
  simp only [R.ck0, Option.bind_some]
  rcases R.isChair hS x1 with ⟨e1, e2⟩ | ⟨c, hc, rfl, e1, e2⟩
  · simp only [e1, e2, Option.bind_some, if_true]
    exact Same.mk rfl rfl R.rel
  have c6 : c < 6 := by omega
  have m := hS.Mn
  simp only [e1, e2, Option.bind_some, one0, if_false, R.r4, m.r3, m.r4, m.r5, m.r6, m.r7, m.g8, m.ck1, m.rd mo2 c6, m.rd mo3 c6, m.rd mo4 c6, m.rd mo5 c6, m.rd mo6 c6, m.high hS.1 hc, m.rank hS.1 hc, m.victim hS.1 hc, a11, a17, a23, a29, a35, st_rd σ (show 11 + c < 41 by omega), st_rd σ (show 17 + c < 41 by omega), st_rd σ (show 23 + c < 41 by omega), st_rd σ (show 29 + c < 41 by omega), st_rd σ (show 35 + c < 41 by omega), m_high σ c6, m_rank σ hn c6 hS.1.2.1, m_target σ (show 1 ≤ n by omega) hn c6 hS.1.2.1, rd_4, m_has, bit01]
  by_cases q0 : x2 = 0
  · rw [if_pos q0, if_pos q0]; exact Same.mk rfl rfl R.rel
  rw [if_neg q0, if_neg q0]
  by_cases q1 : x2 = 1
  · rw [if_pos q1, if_pos q1]; exact Same.mk rfl rfl R.rel
  rw [if_neg q1, if_neg q1]
  by_cases q2 : x2 = 2
  · rw [if_pos q2, if_pos q2]; exact Same.mk rfl rfl R.rel
  rw [if_neg q2, if_neg q2]
  by_cases q3 : x2 = 3
  · rw [if_pos q3, if_pos q3]; exact Same.mk rfl rfl R.rel
  rw [if_neg q3, if_neg q3]
  by_cases q4 : x2 = 4
  · rw [if_pos q4, if_pos q4]
    cases bitq (σ 4 4) (nI c) with
    | true => exact Same.mk rfl rfl R.rel
    | false => exact Same.mk rfl rfl R.rel
  rw [if_neg q4, if_neg q4]
  by_cases q5 : x2 = 5
  · rw [if_pos q5, if_pos q5]; exact Same.mk rfl rfl R.rel
  rw [if_neg q5, if_neg q5]
  by_cases q6 : x2 = 6
  · rw [if_pos q6, if_pos q6]; exact Same.mk rfl rfl R.rel
  rw [if_neg q6, if_neg q6]
  by_cases q7 : x2 = 7
  · rw [if_pos q7, if_pos q7]; exact Same.mk rfl rfl R.rel
  rw [if_neg q7, if_neg q7]
  by_cases q8 : x2 = 8
  · rw [if_pos q8, if_pos q8]; exact Same.mk rfl rfl R.rel
  rw [if_neg q8, if_neg q8]
  exact Same.mk rfl rfl R.rel
theorem climbL (R : Rl o t g h h2 X σ) (hS : Sv X (o + 3) n (σ 4)) {c : Nat} (hc : c < n) : ∀ (d j f1 f2 : Nat) (i1 i2 a : Int32), d < f1 → d < f2 → j + d = n → i1 = nI j → i2 = nI j → ∃ r, fX0_climb_L15 f1 X o (nI c) a i1 = some (r, X) ∧ fX9_climb_L15 f2 σ (nI c) a i2 = some (r, σ) := by
  have hn := hS.1.1
  have m := hS.Mn
  intro d
  induction d with
  | zero =>
    intro j f1 f2 i1 i2 a hf1 hf2 hj e1 e2
    obtain ⟨f1, rfl⟩ : ∃ f, f1 = f + 1 := ⟨f1 - 1, by omega⟩
    obtain ⟨f2, rfl⟩ : ∃ f, f2 = f + 1 := ⟨f2 - 1, by omega⟩
    subst e1 e2
    have hle : nI n ≤ nI j := nI_le (by omega) (by omega)
    refine ⟨a, ?_, ?_⟩
    · unfold fX0_climb_L15
      simp only [R.r4, m.ck1, m.many, Option.bind_some]
      rw [if_pos hle]
    · unfold fX9_climb_L15
      simp only [hS.rd2, Option.bind_some]
      rw [if_pos hle]
  | succ d ih =>
    intro j f1 f2 i1 i2 a hf1 hf2 hj e1 e2
    obtain ⟨f1, rfl⟩ : ∃ f, f1 = f + 1 := ⟨f1 - 1, by omega⟩
    obtain ⟨f2, rfl⟩ : ∃ f, f2 = f + 1 := ⟨f2 - 1, by omega⟩
    subst e1 e2
    have hnle : ¬ nI n ≤ nI j := nI_ge (by omega) (by omega)
    generalize hv : (if j = c then a else jmax a ((hi (σ 4) j - hi (σ 4) c) + (if c ≤ j then 0 else 1))) = a'
    have hx : fX0_climb_L15 (f1 + 1) X o (nI c) a (nI j) = fX0_climb_L15 f1 X o (nI c) a' (nI (j + 1)) := by
      rw [← hv]
      conv => lhs; unfold fX0_climb_L15
      simp only [R.r4, m.ck1, m.many, Option.bind_some, nI_1, m.high hS.1 hc, m.high hS.1 (show j < n by omega), fX0_climb_b62]
      rw [if_neg hnle]
      by_cases e : j = c
      · rw [if_pos (by rw [e]), if_pos e]
      · rw [if_neg (fun z => e ((nI_eq (by omega) (by omega)).mp z)), if_neg e]
        by_cases q : c ≤ j
        · rw [if_pos (nI_le q (by omega)), if_pos q]
        · rw [if_neg (nI_ge (by omega) (by omega)), if_neg q]
    have hm : fX9_climb_L15 (f2 + 1) σ (nI c) a (nI j) = fX9_climb_L15 f2 σ (nI c) a' (nI (j + 1)) := by
      rw [← hv]
      conv => lhs; unfold fX9_climb_L15
      simp only [hS.rd2, Option.bind_some, nI_1, m_high σ (show c < 6 by omega), m_high σ (show j < 6 by omega), fX9_climb_b46]
      rw [if_neg hnle]
      have key : ∀ y : Int32, (if nI j = nI c then fX9_climb_L15 f2 σ (nI c) a (nI (j + 1)) else if y ≤ a then fX9_climb_L15 f2 σ (nI c) a (nI (j + 1)) else fX9_climb_L15 f2 σ (nI c) y (nI (j + 1))) = fX9_climb_L15 f2 σ (nI c) (if j = c then a else jmax a y) (nI (j + 1)) := by
        intro y
        by_cases e : j = c
        · rw [if_pos (by rw [e]), if_pos e]
        · rw [if_neg (fun z => e ((nI_eq (by omega) (by omega)).mp z)), if_neg e]
          unfold jmax
          by_cases z : y ≤ a
          · rw [if_pos z, if_neg (Int32.not_lt.mpr z)]
          · rw [if_neg z, if_pos (Int32.not_le.mp z)]
      by_cases q : c ≤ j
      · rw [if_pos (nI_le q (by omega)), if_pos q]
        exact key _
      · rw [if_neg (nI_ge (by omega) (by omega)), if_neg q]
        exact key _
    rw [hx, hm]
    exact ih (j + 1) f1 f2 _ _ a' (by omega) (by omega) (by omega) rfl rfl
theorem s_climb (R : Rel o X σ) (x1 : Int32) : Same o (fX0_climb X o x1) (fX9_climb σ x1) := by
  obtain ⟨t, g, h, h2, R⟩ := R
  obtain ⟨n, hS, ht⟩ := R.min
  have hn := hS.1.1
  unfold fX0_climb fX9_climb
  simp only [R.ck0, Option.bind_some]
  rcases R.isChair hS x1 with ⟨e1, e2⟩ | ⟨c, hc, rfl, e1, e2⟩
  · simp only [e1, e2, Option.bind_some, if_true]
    exact Same.mk rfl rfl R.rel
  simp only [e1, e2, Option.bind_some, one0, if_false]
  obtain ⟨r, q1, q2⟩ := climbL R hS hc n 0 2000 2000 0 0 0 (by omega) (by omega) (by omega) rfl rfl
  exact Same.mk q1 q2 R.rel
theorem sawnL (R : Rl o t g h h2 X σ) (hS : Sv X (o + 3) n (σ 4)) (h1 : 1 ≤ n) (x : Int32) : ∀ (d j f1 f2 : Nat) (i1 i2 a : Int32), d < f1 → d < f2 → j + d = n → i1 = nI j → i2 = nI j → ∃ r, fX0_sawnBy_L15 f1 X o x a i1 = some (r, X) ∧ fX9_sawnBy_L15 f2 σ x a i2 = some (r, σ) := by
  have hn := hS.1.1
  have m := hS.Mn
  intro d
  induction d with
  | zero =>
    intro j f1 f2 i1 i2 a hf1 hf2 hj e1 e2
    obtain ⟨f1, rfl⟩ : ∃ f, f1 = f + 1 := ⟨f1 - 1, by omega⟩
    obtain ⟨f2, rfl⟩ : ∃ f, f2 = f + 1 := ⟨f2 - 1, by omega⟩
    subst e1 e2
    have hle : nI n ≤ nI j := nI_le (by omega) (by omega)
    refine ⟨a, ?_, ?_⟩
    · unfold fX0_sawnBy_L15
      simp only [R.r4, m.ck1, m.many, Option.bind_some]
      rw [if_pos hle]
    · unfold fX9_sawnBy_L15
      simp only [hS.rd2, Option.bind_some]
      rw [if_pos hle]
  | succ d ih =>
    intro j f1 f2 i1 i2 a hf1 hf2 hj e1 e2
    obtain ⟨f1, rfl⟩ : ∃ f, f1 = f + 1 := ⟨f1 - 1, by omega⟩
    obtain ⟨f2, rfl⟩ : ∃ f, f2 = f + 1 := ⟨f2 - 1, by omega⟩
    subst e1 e2
    have hnle : ¬ nI n ≤ nI j := nI_ge (by omega) (by omega)
    unfold fX0_sawnBy_L15 fX9_sawnBy_L15
    simp only [R.r4, m.ck1, m.many, Option.bind_some, nI_1, m.victim hS.1 (show j < n by omega), hS.rd2, m_target σ h1 hn (show j < 6 by omega) hS.1.2.1]
    rw [if_neg hnle, if_neg hnle]
    by_cases q : tgt (σ 4) n j = x
    · rw [if_pos q, if_pos q]
      exact ih (j + 1) f1 f2 _ _ _ (by omega) (by omega) (by omega) rfl rfl
    · rw [if_neg q, if_neg q]
      exact ih (j + 1) f1 f2 _ _ _ (by omega) (by omega) (by omega) rfl rfl
theorem s_sawnBy (R : Rel o X σ) (x1 : Int32) : Same o (fX0_sawnBy X o x1) (fX9_sawnBy σ x1) := by
  obtain ⟨t, g, h, h2, R⟩ := R
  obtain ⟨n, hS, ht⟩ := R.min
  have hn := hS.1.1
  unfold fX0_sawnBy fX9_sawnBy
  simp only [R.ck0, Option.bind_some]
  rcases R.isChair hS x1 with ⟨e1, e2⟩ | ⟨c, hc, rfl, e1, e2⟩
  · simp only [e1, e2, Option.bind_some, if_true]
    exact Same.mk rfl rfl R.rel
  simp only [e1, e2, Option.bind_some, one0, if_false]
  obtain ⟨r, q1, q2⟩ := sawnL R hS (by omega) (nI c) n 0 2000 2000 0 0 0 (by omega) (by omega) (by omega) rfl rfl
  exact Same.mk q1 q2 R.rel
theorem roundL (R : Rl o t g h h2 X σ) (hS : Sv X (o + 3) n (σ 4)) (h1 : 1 ≤ n) : ∀ (d j f1 f2 : Nat) (i1 i2 a : Int32), d < f1 → d < f2 → j + d = n → i1 = nI j → i2 = nI j → ∃ r, fX0_round_L14 f1 X o a i1 = some (r, X) ∧ fX9_round_L14 f2 σ a i2 = some (r, σ) := by
  have hn := hS.1.1
  have m := hS.Mn
  intro d
  induction d with
  | zero =>
    intro j f1 f2 i1 i2 a hf1 hf2 hj e1 e2
    obtain ⟨f1, rfl⟩ : ∃ f, f1 = f + 1 := ⟨f1 - 1, by omega⟩
    obtain ⟨f2, rfl⟩ : ∃ f, f2 = f + 1 := ⟨f2 - 1, by omega⟩
    subst e1 e2
    have hle : nI n ≤ nI j := nI_le (by omega) (by omega)
    refine ⟨a, ?_, ?_⟩
    · unfold fX0_round_L14
      simp only [R.r4, m.ck1, m.many, Option.bind_some]
      rw [if_pos hle]
    · unfold fX9_round_L14
      simp only [hS.rd2, Option.bind_some]
      rw [if_pos hle]
  | succ d ih =>
    intro j f1 f2 i1 i2 a hf1 hf2 hj e1 e2
    obtain ⟨f1, rfl⟩ : ∃ f, f1 = f + 1 := ⟨f1 - 1, by omega⟩
    obtain ⟨f2, rfl⟩ : ∃ f, f2 = f + 1 := ⟨f2 - 1, by omega⟩
    subst e1 e2
    have hnle : ¬ nI n ≤ nI j := nI_ge (by omega) (by omega)
    unfold fX0_round_L14 fX9_round_L14
    simp only [R.r4, m.ck1, m.many, Option.bind_some, nI_1, m.victim hS.1 (show j < n by omega), hS.rd2, m_target σ h1 hn (show j < 6 by omega) hS.1.2.1]
    rw [if_neg hnle, if_neg hnle]
    rcases tgt_in (σ 4) j h1 with e | ⟨q, hq, e⟩
    · rw [e, if_pos (show NO = -1000000 from rfl), if_pos NO_neg]
      exact ih (j + 1) f1 f2 _ _ _ (by omega) (by omega) (by omega) rfl rfl
    · rw [e, if_neg (show ¬ nI q = -1000000 from fun z => NO_ne (show q < 6 by omega) z.symm), if_neg (nI_nneg (by omega))]
      simp only [m.victim hS.1 hq, m_target σ h1 hn (show q < 6 by omega) hS.1.2.1, Option.bind_some]
      by_cases z : tgt (σ 4) n q = nI j
      · rw [if_pos z, if_pos z]
        exact ih (j + 1) f1 f2 _ _ _ (by omega) (by omega) (by omega) rfl rfl
      · rw [if_neg z, if_neg z]
        exact ih (j + 1) f1 f2 _ _ _ (by omega) (by omega) (by omega) rfl rfl
theorem s_round (R : Rel o X σ) : Same o (fX0_round X o) (fX9_round σ) := by
  obtain ⟨t, g, h, h2, R⟩ := R
  obtain ⟨n, hS, ht⟩ := R.min
  have hn := hS.1.1
  unfold fX0_round fX9_round
  simp only [R.ck0, Option.bind_some]
  rcases R.isMin hS ht with ⟨e1, e2⟩ | ⟨h1, e1, e2⟩
  · simp only [e1, e2, Option.bind_some, if_true]
    exact Same.mk rfl rfl R.rel
  simp only [e1, e2, Option.bind_some, one0, if_false]
  obtain ⟨r, q1, q2⟩ := roundL R hS h1 n 0 2000 2000 0 0 0 (by omega) (by omega) (by omega) rfl rfl
  exact Same.mk q1 q2 R.rel
theorem s_kind (R : Rel o X σ) (x1 : Int32) : Same o (fX0_kind X o x1) (fX9_kind σ x1) := by
  obtain ⟨t, g, h, h2, R⟩ := R
  obtain ⟨n, hS, ht⟩ := R.min
  have hn := hS.1.1
  unfold fX0_kind fX9_kind
  simp only [R.ck0, Option.bind_some]
  rcases R.isChair hS x1 with ⟨e1, e2⟩ | ⟨c, hc, rfl, e1, e2⟩
  · simp only [e1, e2, Option.bind_some, if_true]
    exact Same.mk rfl rfl R.rel
  obtain ⟨hg, la, tk, hM, hL⟩ := hS
  obtain ⟨a, k, k1, k2, k3, k4, k5⟩ := x_get hL hc
  obtain ⟨mc, E, cap, gg, l1, -⟩ := hL
  simp only [e1, e2, Option.bind_some, one0, if_false, R.r4, gR_of hM.1 (k := 2) (v := la) rfl, ck_of l1, k5, gCh_of k4 k1 k2, gC_of k4, a5, st_rd σ (show 5 + c < 41 by omega), k3]
  rcases (show k = 1 ∨ k = 2 ∨ k = 3 ∨ k = 4 ∨ k = 5 by omega) with rfl | rfl | rfl | rfl | rfl <;> exact Same.mk rfl rfl R.rel
/-- sums of heights -/
def hsF (τ : Nat → Int32) (w : Int32) : Nat → Nat → Int32 → Int32
  | _, 0, a => a
  | c, d + 1, a => hsF τ w (c + 1) d (a + (if bitq w (nI c) = true then hi τ c else 0))
theorem x_allHighL {p : Nat} (m : Mn X p n τ) (hg : goodM n τ) (w : Int32) : ∀ (d c fuel : Nat) (i a : Int32), d < fuel → c + d = n → i = nI c → fX1_allHigh_L4 fuel X p w a i = some (hsF τ w c d a, X) := by
  have hn := hg.1
  intro d
  induction d with
  | zero =>
    intro c fuel i a hf hc hi
    obtain ⟨f, rfl⟩ : ∃ f, fuel = f + 1 := ⟨fuel - 1, by omega⟩
    subst hi
    unfold fX1_allHigh_L4
    simp only [m.ck1, m.many, Option.bind_some]
    rw [if_pos (nI_le (by omega) (by omega))]
    rfl
  | succ d ih =>
    intro c fuel i a hf hc hi
    obtain ⟨f, rfl⟩ : ∃ f, fuel = f + 1 := ⟨fuel - 1, by omega⟩
    subst hi
    unfold fX1_allHigh_L4 hsF
    simp only [m.ck1, m.many, Option.bind_some, m.high hg (show c < n by omega), nI_1, bit01]
    rw [if_neg (nI_ge (by omega) (by omega))]
    cases bitq w (nI c) with
    | true =>
      rw [if_pos (show one1 true = 1 from rfl), ih (c + 1) f _ _ (by omega) (by omega) rfl]
      rfl
    | false =>
      rw [if_neg (show ¬ one1 false = 1 by decide), ih (c + 1) f _ _ (by omega) (by omega) rfl]
      rfl
theorem Mn.allHigh {p : Nat} (m : Mn X p n τ) (hg : goodM n τ) (w : Int32) : fX1_allHigh X p w = some (hsF τ w 0 n 0, X) := by
  have hn := hg.1
  exact x_allHighL m hg w n 0 2000 0 0 (by omega) (by omega) rfl
theorem m_coal24 (hg : goodM n (σ 4)) (x : Int32) : ∀ (d c fuel : Nat) (i a : Int32), d < fuel → c + d = n → i = nI c → fX9_coalition_L24 fuel σ x a i = fX9_coalition_L54 2000 σ x (hsF (σ 4) (-1) c d a) (-1000000) 0 := by
  have hn := hg.1
  have e2 : rd (σ 4) 41 2 = some (nI n) := by rw [← hg.2.1]; exact st_rd σ (k := 2) (by omega)
  intro d
  induction d with
  | zero =>
    intro c fuel i a hf hc hi
    obtain ⟨f, rfl⟩ : ∃ f, fuel = f + 1 := ⟨fuel - 1, by omega⟩
    subst hi
    conv => lhs; unfold fX9_coalition_L24
    simp only [e2, Option.bind_some]
    rw [if_pos (nI_le (by omega) (by omega))]
    rfl
  | succ d ih =>
    intro c fuel i a hf hc hi
    obtain ⟨f, rfl⟩ : ∃ f, fuel = f + 1 := ⟨fuel - 1, by omega⟩
    subst hi
    conv => lhs; unfold fX9_coalition_L24
    simp only [e2, Option.bind_some, m_high σ (show c < 6 by omega), nI_1]
    rw [if_neg (nI_ge (by omega) (by omega)), ih (c + 1) f _ _ (by omega) (by omega) rfl]
    have hb : bitq (-1) (nI c) = true := by
      rcases (show c = 0 ∨ c = 1 ∨ c = 2 ∨ c = 3 ∨ c = 4 ∨ c = 5 by omega) with rfl | rfl | rfl | rfl | rfl | rfl <;> decide
    show _ = fX9_coalition_L54 2000 σ x (hsF (σ 4) (-1) c (d + 1) a) (-1000000) 0
    rw [hsF, hb]
    rfl
theorem m_coal73 (hg : goodM n (σ 4)) (x1 x2 x3 x4 : Int32) (K : MS → Int32 → Int32 → Int32 → Int32 → Option (Int32 × MS)) : ∀ (d c fuel : Nat) (i a : Int32), d < fuel → c + d = n → i = nI c → fX9_coalition_L73 K fuel σ x1 x2 x3 x4 a i = if 2 * hsF (σ 4) x4 c d a ≤ x2 then K σ x1 x2 x3 (x4 + 1) else (if x3 < 0 then (K σ x1 x2 x4 (x4 + 1)) else ((fX9_ones x4).bind fun v5 => (fX9_ones x3).bind fun v6 => if v6 ≤ v5 then (K σ x1 x2 x3 (x4 + 1)) else (K σ x1 x2 x4 (x4 + 1)))) := by
  have hn := hg.1
  have e2 : rd (σ 4) 41 2 = some (nI n) := by rw [← hg.2.1]; exact st_rd σ (k := 2) (by omega)
  intro d
  induction d with
  | zero =>
    intro c fuel i a hf hc hi
    obtain ⟨f, rfl⟩ : ∃ f, fuel = f + 1 := ⟨fuel - 1, by omega⟩
    subst hi
    conv => lhs; unfold fX9_coalition_L73
    simp only [e2, Option.bind_some]
    rw [if_pos (nI_le (by omega) (by omega))]
    rfl
  | succ d ih =>
    intro c fuel i a hf hc hi
    obtain ⟨f, rfl⟩ : ∃ f, fuel = f + 1 := ⟨fuel - 1, by omega⟩
    subst hi
    conv => lhs; unfold fX9_coalition_L73
    simp only [e2, Option.bind_some, m_has, m_high σ (show c < 6 by omega), nI_1]
    rw [if_neg (nI_ge (by omega) (by omega)), hsF]
    cases bitq x4 (nI c) with
    | true =>
      simp only [if_true, one0, if_false]
      rw [ih (c + 1) f _ _ (by omega) (by omega) rfl]
    | false =>
      simp only [Bool.false_eq_true, if_false, if_true]
      rw [ih (c + 1) f _ _ (by omega) (by omega) rfl]
theorem coalL (R : Rl o t g h h2 X σ) (hS : Sv X (o + 3) n (σ 4)) (w all : Int32) : ∀ (d j f1 f2 : Nat) (i1 i2 b : Int32), d < f1 → d < f2 → j + d = 2 ^ n → i1 = nI j → i2 = nI j → bOk b → ∃ r, fX0_coalition_L36 f1 X o w all b i1 = some (r, X) ∧ fX9_coalition_L54 f2 σ w all b i2 = some (r, σ) := by
  have hn := hS.1.1
  have p2 := p2_le hn
  have m := hS.Mn
  intro d
  induction d with
  | zero =>
    intro j f1 f2 i1 i2 b hf1 hf2 hj e1 e2 hb
    obtain ⟨f1, rfl⟩ : ∃ f, f1 = f + 1 := ⟨f1 - 1, by omega⟩
    obtain ⟨f2, rfl⟩ : ∃ f, f2 = f + 1 := ⟨f2 - 1, by omega⟩
    subst e1 e2
    obtain ⟨v, t1, t2⟩ := told_eq (w := w) hb σ
    refine ⟨v, ?_, ?_⟩
    · unfold fX0_coalition_L36
      simp only [R.r4, m.ck1, m.many, Option.bind_some, shl1 hn, t1]
      rw [if_pos (nI_le (by omega) (by omega))]
    · unfold fX9_coalition_L54
      simp only [hS.rd2, Option.bind_some, shl1 hn]
      rw [if_pos (nI_le (by omega) (by omega))]
      exact t2
  | succ d ih =>
    intro j f1 f2 i1 i2 b hf1 hf2 hj e1 e2 hb
    obtain ⟨f1, rfl⟩ : ∃ f, f1 = f + 1 := ⟨f1 - 1, by omega⟩
    obtain ⟨f2, rfl⟩ : ∃ f, f2 = f + 1 := ⟨f2 - 1, by omega⟩
    subst e1 e2
    have hx : fX0_coalition_L36 (f1 + 1) X o w all b (nI j) = if b = -1000000 then fX0_coalition_b72 (fX0_coalition_L36 f1) X o w all b (nI j) else (fJ16_bitCount (nI j)).bind fun v8 => (fJ16_bitCount b).bind fun v9 => if v8 < v9 then (fX0_coalition_b72 (fX0_coalition_L36 f1) X o w all b (nI j)) else ((fX0_coalition_L36 f1) X o w all b (nI (j + 1))) := by
      conv => lhs; unfold fX0_coalition_L36
      simp only [R.r4, m.ck1, m.many, Option.bind_some, shl1 hn, nI_1]
      rw [if_neg (nI_ge (by omega) (by omega))]
    have hb72 : fX0_coalition_b72 (fX0_coalition_L36 f1) X o w all b (nI j) = if 2 * hsF (σ 4) (nI j) 0 n 0 ≤ all then fX0_coalition_L36 f1 X o w all b (nI (j + 1)) else fX0_coalition_L36 f1 X o w all (nI j) (nI (j + 1)) := by
      unfold fX0_coalition_b72
      simp only [R.r4, m.ck1, m.allHigh hS.1, Option.bind_some, nI_1]
    have hm : fX9_coalition_L54 (f2 + 1) σ w all b (nI j) = fX9_coalition_L73 (fX9_coalition_L54 f2) 2000 σ w all b (nI j) 0 0 := by
      conv => lhs; unfold fX9_coalition_L54
      simp only [hS.rd2, Option.bind_some, shl1 hn]
      rw [if_neg (nI_ge (by omega) (by omega))]
    rw [hx, hb72, hm, m_coal73 hS.1 w all b (nI j) (fX9_coalition_L54 f2) n 0 2000 0 0 (by omega) (by omega) rfl, nI_1]
    rcases hb with rfl | ⟨s, hs, rfl⟩
    · rw [if_pos rfl, if_pos (show (-1000000 : Int32) < 0 by decide)]
      by_cases z : 2 * hsF (σ 4) (nI j) 0 n 0 ≤ all
      · rw [if_pos z, if_pos z]
        exact ih (j + 1) f1 f2 _ _ _ (by omega) (by omega) (by omega) rfl rfl (Or.inl rfl)
      · rw [if_neg z, if_neg z]
        exact ih (j + 1) f1 f2 _ _ _ (by omega) (by omega) (by omega) rfl rfl (Or.inr ⟨j, by omega, rfl⟩)
    · have q1 : ¬ nI s = -1000000 := fun z => absurd (show nI s < 0 by rw [z]; decide) (nI_pos (by omega))
      rw [if_neg q1, if_neg (nI_pos (by omega)), ones_x hs, ones_m hs, ones_x (show j < 64 by omega), ones_m (show j < 64 by omega)]
      simp only [Option.bind_some]
      by_cases z : pcn j < pcn s
      · rw [if_pos z, if_neg (Int32.not_le.mpr z)]
        by_cases y : 2 * hsF (σ 4) (nI j) 0 n 0 ≤ all
        · rw [if_pos y, if_pos y]
          exact ih (j + 1) f1 f2 _ _ _ (by omega) (by omega) (by omega) rfl rfl (Or.inr ⟨s, hs, rfl⟩)
        · rw [if_neg y, if_neg y]
          exact ih (j + 1) f1 f2 _ _ _ (by omega) (by omega) (by omega) rfl rfl (Or.inr ⟨j, by omega, rfl⟩)
      · rw [if_neg z, if_pos (Int32.not_lt.mp z), ite_self]
        exact ih (j + 1) f1 f2 _ _ _ (by omega) (by omega) (by omega) rfl rfl (Or.inr ⟨s, hs, rfl⟩)
theorem s_coalition (R : Rel o X σ) (x1 : Int32) : Same o (fX0_coalition X o x1) (fX9_coalition σ x1) := by
  obtain ⟨t, g, h, h2, R⟩ := R
  obtain ⟨n, hS, ht⟩ := R.min
  have hn := hS.1.1
  have p2 := p2_le hn
  unfold fX0_coalition fX9_coalition
  simp only [R.ck0, Option.bind_some]
  rcases R.isMin hS ht with ⟨e1, e2⟩ | ⟨h1, e1, e2⟩
  · simp only [e1, e2, Option.bind_some, if_true]
    exact Same.mk rfl rfl R.rel
  simp only [e1, e2, Option.bind_some, one0, if_false]
  rcases halfD x1 with ⟨w1, w2⟩ | ⟨w, hw, hx4, w1, w2⟩
  · simp only [w1, w2, Option.bind_some, if_true]
    exact Same.mk rfl rfl R.rel
  simp only [w1, w2, bsm, one0, if_false, R.r4, hS.Mn.ck1, hS.Mn.allHigh hS.1]
  rw [m_coal24 hS.1 x1 n 0 2000 0 0 (by omega) (by omega) rfl]
  obtain ⟨r, q1, q2⟩ := coalL R hS x1 (hsF (σ 4) (-1) 0 n 0) (2 ^ n) 0 2000 2000 0 0 (-1000000) (by omega) (by omega) (by omega) rfl rfl (Or.inl rfl)
  exact Same.mk q1 q2 R.rel
/-! count -/
def crF' (σ : MS) : Nat → Nat → Int32 → Int32
  | _, 0, a => a
  | k, d + 1, a => crF' σ (k + 1) d (a + (if σ 2 k < 0 then 0 else 1))
def cntE (σ : MS) (x1 x2 : Int32) : Option (Int32 × MS) := if x1 = 0 then (some (x2, σ)) else (if x1 = 1 then ((rd (σ 4) 41 2).bind fun v4 =>
    some (v4, σ)) else (if x1 = 2 then ((rd (σ 4) 41 3).bind fun v6 =>
    some (v6, σ)) else (if x1 = 3 then ((rd (σ 4) 41 4).bind fun v8 =>
    some (v8, σ)) else (if x1 = 4 then ((fX9_sumOf σ 11).bind fun (v11, σ10) =>
    some (v11, σ10)) else (if x1 = 5 then ((fX9_sumOf σ 35).bind fun (v14, σ13) =>
    some (v14, σ13)) else (if x1 = 6 then (some ((σ 0 19), σ)) else (if x1 = 7 then (some ((σ 0 8), σ)) else (some ((-1000001), σ)))))))))
theorem m_countL (x1 : Int32) : ∀ (d k fuel : Nat) (i a : Int32), d < fuel → k + d = 8 → i = nI k → fX9_count_L4 fuel σ x1 a i = cntE σ x1 (crF' σ k d a) := by
  intro d
  induction d with
  | zero =>
    intro k fuel i a hf hk hi
    obtain ⟨f, rfl⟩ : ∃ f, fuel = f + 1 := ⟨fuel - 1, by omega⟩
    subst hi
    conv => lhs; unfold fX9_count_L4
    rw [if_pos (show (8 : Int32) ≤ nI k from nI_le (a := 8) (by omega) (by omega))]
    rfl
  | succ d ih =>
    intro k fuel i a hf hk hi
    obtain ⟨f, rfl⟩ : ∃ f, fuel = f + 1 := ⟨fuel - 1, by omega⟩
    subst hi
    conv => lhs; unfold fX9_count_L4
    rw [if_neg (show ¬ (8 : Int32) ≤ nI k from nI_ge (b := 8) (by omega) (by omega)), rd_nI (show k < 8 by omega) (by omega), Option.bind_some, nI_1, crF']
    by_cases q : σ 2 k < 0
    · rw [if_pos q, if_pos q, ih (k + 1) f _ _ (by omega) (by omega) rfl]
    · rw [if_neg q, if_neg q, ih (k + 1) f _ _ (by omega) (by omega) rfl]
theorem x_countL (R : Rl o t g h h2 X σ) : ∀ (d k fuel : Nat) (i a : Int32), d < fuel → k + d = 8 → i = nI k → fX0_count_L50 fuel X o a i = some (crF' σ k d a, X) := by
  intro d
  induction d with
  | zero =>
    intro k fuel i a hf hk hi
    obtain ⟨f, rfl⟩ : ∃ f, fuel = f + 1 := ⟨fuel - 1, by omega⟩
    subst hi
    unfold fX0_count_L50
    rw [if_pos (show (8 : Int32) ≤ nI k from nI_le (a := 8) (by omega) (by omega))]
    rfl
  | succ d ih =>
    intro k fuel i a hf hk hi
    obtain ⟨f, rfl⟩ : ∃ f, fuel = f + 1 := ⟨fuel - 1, by omega⟩
    subst hi
    unfold fX0_count_L50
    rw [if_neg (show ¬ (8 : Int32) ≤ nI k from nI_ge (b := 8) (by omega) (by omega)), crF']
    simp only [R.r0, gQ_of R.rows.1 (show k < 8 by omega) (by omega), Option.bind_some, nI_1]
    rcases R.rows.2 k (by omega) with ⟨e1, e2⟩ | ⟨r, len, f', e1, e2, e3, -⟩
    · rw [e1, e2]
      simp only
      rw [ih (k + 1) f _ _ (by omega) (by omega) rfl, if_pos (show (-1 : Int32) < 0 by decide)]
    · rw [e1, e2]
      simp only
      rw [ih (k + 1) f _ _ (by omega) (by omega) rfl, if_neg (nI_pos (by omega))]
theorem s_count (R : Rel o X σ) (x1 : Int32) : Same o (fX0_count X o x1) (fX9_count σ x1) := by
  obtain ⟨t, g, h, h2, R⟩ := R
  obtain ⟨n, hS, ht⟩ := R.min
  have hn := hS.1.1
  have e9 : fX9_count σ x1 = cntE σ x1 (crF' σ 0 8 0) := m_countL x1 8 0 2000 0 0 (by omega) (by omega) rfl
  have e0 : fX0_count_L50 2000 X o 0 0 = some (crF' σ 0 8 0, X) := x_countL R 8 0 2000 0 0 (by omega) (by omega) rfl
  have s11 : fX9_sumOf σ 11 = some (smF (σ 4) 11 0 n 0, σ) := m_sum σ (b := 11) (by omega) hn hS.1.2.1
  have s35 : fX9_sumOf σ 35 = some (smF (σ 4) 35 0 n 0, σ) := m_sum σ (b := 35) (by omega) hn hS.1.2.1
  have m := hS.Mn
  rw [e9]
  unfold fX0_count cntE
  simp only [e0, R.r4, m.ck1, m.many, m.g8, m.g9, m.allLegs hn, m.allCaught hn, R.i7, R.i2, s11, s35, hS.rd2, rd_3, rd_4, Option.bind_some]
  by_cases q0 : x1 = 0
  · rw [if_pos q0, if_pos q0]; exact Same.mk rfl rfl R.rel
  rw [if_neg q0, if_neg q0]
  by_cases q1 : x1 = 1
  · rw [if_pos q1, if_pos q1]; exact Same.mk rfl rfl R.rel
  rw [if_neg q1, if_neg q1]
  by_cases q2 : x1 = 2
  · rw [if_pos q2, if_pos q2]; exact Same.mk rfl rfl R.rel
  rw [if_neg q2, if_neg q2]
  by_cases q3 : x1 = 3
  · rw [if_pos q3, if_pos q3]; exact Same.mk rfl rfl R.rel
  rw [if_neg q3, if_neg q3]
  by_cases q4 : x1 = 4
  · rw [if_pos q4, if_pos q4]; exact Same.mk rfl rfl R.rel
  rw [if_neg q4, if_neg q4]
  by_cases q5 : x1 = 5
  · rw [if_pos q5, if_pos q5]; exact Same.mk rfl rfl R.rel
  rw [if_neg q5, if_neg q5]
  by_cases q6 : x1 = 6
  · rw [if_pos q6, if_pos q6]; exact Same.mk rfl rfl R.rel
  rw [if_neg q6, if_neg q6]
  by_cases q7 : x1 = 7
  · rw [if_pos q7, if_pos q7]; exact Same.mk rfl rfl R.rel
  rw [if_neg q7, if_neg q7]
  exact Same.mk rfl rfl R.rel
end QU
