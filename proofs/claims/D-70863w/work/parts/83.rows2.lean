/-! rows, II: a new row; what is read out of a row -/
theorem szg_of {n M : Nat} (h : n ≤ M) (hM : M < 2 ^ 31) : szg (nI n) M = some n := by
  unfold szg
  rw [nI_clamp (by omega), if_neg (fun z => by rcases z with z | z; exact nI_pos (by omega) z; omega)]
theorem x_newRow {X : AH} (hw : wfX X) (l : Int32) {n : Nat} (hn : n ≤ 40) : ∃ Y, fX11_init (xnw X (.inl (11, [.int 0, .null]))) X.1 l (nI n) = some Y ∧ Y.2.2 X.1 = some (.inl (11, [.int l, .ref (X.1 + 1)])) ∧ Y.2.2 (X.1 + 1) = some (.inr (.inl (0, n, fun _ => 0))) ∧ AgX (fun _ => False) X Y := by
  have g0 : AgX (fun a => X.1 ≤ a) X (xnw X (.inl (11, [.int 0, .null]))) := AgX.nw hw
  have c0 : (xnw X (.inl (11, [.int 0, .null]))).2.2 X.1 = some (.inl (11, [.int 0, .null])) := xnw_s
  have s0 : (xnw X (.inl (11, [.int 0, .null]))).1 = X.1 + 1 := rfl
  unfold fX11_init
  generalize xnw X (.inl (11, [.int 0, .null])) = X0 at g0 c0 s0
  have e1 : pF X0 X.1 11 0 (.int l) = some (xup X0 X.1 (.inl (11, [.int l, .null]))) := pF_of c0 (Nat.le_of_ble_eq_true rfl)
  have g1 : AgX (fun a => X.1 ≤ a) X0 (xup X0 X.1 (.inl (11, [.int l, .null]))) := AgX.up g0.w c0 (ni_o (Or.inr (by decide))) (Nat.le_refl _)
  have c1 : (xup X0 X.1 (.inl (11, [.int l, .null]))).2.2 X.1 = some (.inl (11, [.int l, .null])) := xup_s
  have s1 : (xup X0 X.1 (.inl (11, [.int l, .null]))).1 = X.1 + 1 := s0
  rw [e1, bsm, szg_of hn (by omega), bsm, bsm]
  generalize xup X0 X.1 (.inl (11, [.int l, .null])) = X1 at g1 c1 s1
  have g2 : AgX (fun a => X.1 ≤ a) X1 (xnw X1 (.inr (.inl (0, n, fun _ => 0)))) := AgX.nw g1.w
  have c2 : (xnw X1 (.inr (.inl (0, n, fun _ => 0)))).2.2 X.1 = some (.inl (11, [.int l, .null])) := by rw [xnw_n (by omega)]; exact c1
  have d2 : (xnw X1 (.inr (.inl (0, n, fun _ => 0)))).2.2 (X.1 + 1) = some (.inr (.inl (0, n, fun _ => 0))) := by rw [← s1]; exact xnw_s
  rw [s1]
  generalize xnw X1 (.inr (.inl (0, n, fun _ => 0))) = X2 at g2 c2 d2
  have e3 : pF X2 X.1 11 1 (.ref (X.1 + 1)) = some (xup X2 X.1 (.inl (11, [.int l, .ref (X.1 + 1)]))) := pF_of c2 (Nat.le_of_ble_eq_true rfl)
  have g3 : AgX (fun a => X.1 ≤ a) X2 (xup X2 X.1 (.inl (11, [.int l, .ref (X.1 + 1)]))) := AgX.up g2.w c2 (ni_o (Or.inr (by decide))) (Nat.le_refl _)
  refine ⟨_, by rw [e3, bsm], xup_s, by rw [xup_n (by omega)]; exact d2, AgX.fresh (((g0.tr g1).tr g2).tr g3) hw⟩
theorem m_rowL (σ0 : MS) {k : Nat} (hk : k < 8) (x3 : Int32) : ∀ (d j fuel : Nat) (i : Int32) (σ : MS), d < fuel → j + d = 40 → i = nI j → (∀ q, q ≠ 3 → σ q = σ0 q) → (∀ q, q < j → σ 3 (40 * k + q) = 0) → (∀ q, ¬ (40 * k ≤ q ∧ q < 40 * k + 40) → σ 3 q = σ0 3 q) → ∃ σ', fX9_row_L55 fuel σ (nI k) x3 i = some (x3, up2 σ' 0 3 0) ∧ (∀ q, q ≠ 3 → σ' q = σ0 q) ∧ (∀ q, q < 40 → σ' 3 (40 * k + q) = 0) ∧ (∀ q, ¬ (40 * k ≤ q ∧ q < 40 * k + 40) → σ' 3 q = σ0 3 q) := by
  intro d
  induction d with
  | zero =>
    intro j fuel i σ hf hj hi h1 h2 h3
    obtain ⟨f, rfl⟩ : ∃ f, fuel = f + 1 := ⟨fuel - 1, by omega⟩
    subst hi
    refine ⟨σ, ?_, h1, fun q hq => h2 q (by omega), h3⟩
    unfold fX9_row_L55
    rw [if_pos (show (40 : Int32) ≤ nI j from nI_le (a := 40) (by omega) (by omega))]
    rfl
  | succ d ih =>
    intro j fuel i σ hf hj hi h1 h2 h3
    obtain ⟨f, rfl⟩ : ∃ f, fuel = f + 1 := ⟨fuel - 1, by omega⟩
    subst hi
    obtain ⟨σ', e, k1, k2, k3⟩ := ih (j + 1) f (nI (j + 1)) (up2 σ 3 (40 * k + j) 0) (by omega) (by omega) rfl (fun q hq => by rw [up2_n hq]; exact h1 q hq) (fun q hq => by
      rw [up2_s]
      by_cases z : q = j
      · rw [z, upd_s]
      · rw [upd_n (by omega)]; exact h2 q (by omega)) (fun q hq => by rw [up2_s, upd_n (by omega)]; exact h3 q hq)
    refine ⟨σ', ?_, k1, k2, k3⟩
    have ew : mwr σ 3 320 (nI (40 * k + j)) 0 = some (up2 σ 3 (40 * k + j) 0) := mwr_nI (by omega) (by omega)
    unfold fX9_row_L55
    rw [if_neg (show ¬ (40 : Int32) ≤ nI j from nI_ge (b := 40) (by omega) (by omega)), ix40, ew, bsm, nI_1]
    exact e
section R2
variable {o t n : Nat} {g h h2 : Nat → Option Nat} {X Y : AH} {σ σ' : MS}
/-- a row gets a new place -/
theorem Rl.rowNew (R : Rl o t g h h2 X σ) {k r len : Nat} {f : Nat → Int32} (hk : k < 8) (hr : X.1 ≤ r ∨ True) (G : AgX (fun a => a = o + 1) X Y) (c : Y.2.2 (o + 1) = some (.inr (.inr (2, 8, va_up g k (some r))))) (h29 : o + 29 ≤ r) (hlen : len ≤ 40) (c0 : Y.2.2 r = some (.inl (11, [.int (σ' 1 k), .ref (r + 1)]))) (c1 : Y.2.2 (r + 1) = some (.inr (.inl (0, len, f)))) (hl : σ' 2 k = nI len) (hf : ∀ j, j < len → f j = σ' 3 (40 * k + j)) (ho : ∀ i j, i ≠ k → j < 40 → σ' 3 (40 * i + j) = σ 3 (40 * i + j)) (o1 : ∀ i, i ≠ k → σ' 1 i = σ 1 i) (o2 : ∀ i, i ≠ k → σ' 2 i = σ 2 i) (e : ∀ q, q ≠ 1 → q ≠ 2 → q ≠ 3 → σ' q = σ q) (hd : Dsj (bse (va_up g k (some r)) h h2 t)) : Rl o t (va_up g k (some r)) h h2 Y σ' := by
  have n1 : ∀ a, a ≠ o + 1 → ¬ (fun a => a = o + 1) a := fun a h z => h z
  have ht := R.trl.dj
  have e0 := e 0 (by omega) (by omega) (by omega)
  have vs : ∀ j, va_up g k (some r) j = if j = k then some r else g j := fun j => rfl
  have q3 := R.tape.ag G R.w (n1 _ (by omega))
  have q4 := R.min.ag G R.w (fun a _ _ => n1 a (by omega))
  have q5 := R.past.ag G R.w (n1 _ (by omega)) (fun a _ => n1 a (by omega))
  have q6 := R.img.ag G R.w (n1 _ (by omega)) (fun a _ => n1 a (by omega))
  have q7 := R.trl.ag G R.w (n1 _ (by omega)) (n1 _ (by omega))
  refine ⟨G.w, Nat.le_trans R.sz G.2.1, ?_, ⟨c, fun j hj => ?_⟩, ?_, ?_, R.tri.ag G R.w (fun a _ _ => n1 a (by omega)), ?_, ?_, ?_, R.tkn.ag G, R.emp.ag G, hd⟩
  · have := G.at R.w R.obj (n1 _ (by omega))
    unfold pObj crF at *; rw [e0]; exact this
  · rw [vs]
    by_cases z : j = k
    · rw [if_pos z]; subst z
      exact Or.inr ⟨r, len, f, rfl, hl, hlen, h29, c0, c1, hf⟩
    · rw [if_neg z]
      rcases R.rows.2 j hj with w | ⟨r2, len2, f2, w, w1, w2, w3, w4, w5, w6⟩
      · exact Or.inl (by rw [o2 j z]; exact w)
      · exact Or.inr ⟨r2, len2, f2, w, by rw [o2 j z]; exact w1, w2, w3, by rw [o1 j z]; exact G.at R.w w4 (n1 _ (by omega)), G.at R.w w5 (n1 _ (by omega)), fun i hi => by rw [ho j i z (by omega)]; exact w6 i hi⟩
  · unfold pTape at q3 ⊢; rw [e0, e 6 (by omega) (by omega) (by omega)]; exact q3
  · unfold pMin at q4 ⊢; rw [e0, e 4 (by omega) (by omega) (by omega)]; exact q4
  · unfold pPast at q5 ⊢; rw [e0, e 9 (by omega) (by omega) (by omega)]; exact q5
  · unfold pImg at q6 ⊢; rw [e0, e 11 (by omega) (by omega) (by omega), e 12 (by omega) (by omega) (by omega)]; exact q6
  · unfold pTrl at q7 ⊢; rw [e0, e 13 (by omega) (by omega) (by omega)]; exact q7
theorem s_row (R : Rel o X σ) (x1 x2 x3 : Int32) : Same o (fX0_row X o x1 x2 x3) (fX9_row σ x1 x2 x3) := by
  obtain ⟨t, g, h, h2, R⟩ := R
  have sz := R.sz
  unfold fX0_row fX9_row fX0_row_b37
  rcases rowD x1 with ⟨e1, e2⟩ | ⟨k, hk, rfl, e1, e2⟩
  · simp only [e1, e2, bsm, if_true]
    exact Same.mk rfl rfl R.rel
  have k8 : k < 8 := by omega
  simp only [e1, e2, bsm, one0, if_false, isIn_eq]
  rcases inN x2 (a := 0) (b := 2) 0 2 rfl rfl (by decide) (by decide) with f1 | ⟨f1, l, -, hl, rfl⟩
  · simp only [f1, bsm, if_true]
    exact Same.mk rfl rfl R.rel
  simp only [f1, bsm, one0, if_false]
  by_cases q40 : x3 ≤ 40
  · rw [if_pos q40, if_pos q40]
    by_cases q0 : x3 < 0
    · rw [if_pos q0, if_neg (Int32.not_le.mpr q0)]
      obtain ⟨Y, em, hF, G⟩ := x_must0 R.w 4
      obtain ⟨Z, z1, z2, z3, z4⟩ := p_thrown R G hF (by omega)
      simp only [em, bsm, z1, z2, z3]
      exact Same.mk rfl rfl z4
    · rw [if_neg q0, if_pos (Int32.not_lt.mp q0)]
      obtain ⟨len, hlen, rfl⟩ := nI_of2 (M := 40) (n := 40) (by decide) q0 q40
      have em : fX0_must X 1 4 = some (.inl (), X) := rfl
      obtain ⟨Y, i1, c0, c1, G1⟩ := x_newRow R.w (nI l) hlen
      have R1 := R.new G1
      have G2 : AgX (fun a => a = o + 1) Y (xup Y (o + 1) (.inr (.inr (2, 8, va_up g k (some X.1))))) := AgX.up R1.w R1.rows.1 (ni_q (by omega)) rfl
      have ew1 : mwr σ 1 8 (nI k) (nI l) = some (up2 σ 1 k (nI l)) := mwr_nI (by omega) (by omega)
      have ew2 : mwr (up2 σ 1 k (nI l)) 2 8 (nI k) (nI len) = some (up2 (up2 σ 1 k (nI l)) 2 k (nI len)) := mwr_nI (by omega) (by omega)
      obtain ⟨σ1, eL, k1, k2, k3⟩ := m_rowL (up2 (up2 σ 1 k (nI l)) 2 k (nI len)) k8 (nI len) 40 0 2000 0 _ (by omega) (by omega) rfl (fun _ _ => rfl) (fun q hq => by omega) (fun _ _ => rfl)
      have v1 : σ1 1 = upd (σ 1) k (nI l) := by rw [k1 1 (by omega), up2_n (by omega), up2_s]
      have v2 : σ1 2 = upd (σ 2) k (nI len) := by rw [k1 2 (by omega), up2_s, up2_n (by omega)]
      have R2 : Rl o t (va_up g k (some X.1)) h h2 (xup Y (o + 1) (.inr (.inr (2, 8, va_up g k (some X.1))))) σ1 := by
        refine R1.rowNew k8 (Or.inr trivial) G2 xup_s (by omega) hlen (by rw [xup_n (by omega), v1, upd_s]; exact c0) (by rw [xup_n (by omega)]; exact c1) (by rw [v2, upd_s]) (fun j hj => (k2 j (by omega)).symm) (fun i j hi hj => ?_) (fun i hi => by rw [v1, upd_n hi]) (fun i hi => by rw [v2, upd_n hi]) (fun q q1 q2 q3 => by rw [k1 q q3, up2_n q2, up2_n q1]) ?_
        · rw [k3 _ (by omega), up2_n (by omega), up2_n (by omega)]
        · refine Dsj.new (i := k) (p := X.1) R.dsj R.below (by rw [bse_g k8]; show (if k = k then _ else _) = _; rw [if_pos rfl]) (fun j hj => ?_)
          unfold bse
          by_cases c : j < 8
          · rw [if_pos c, if_pos c]
            show (if j = k then _ else _) = _
            rw [if_neg hj]
          · rw [if_neg c, if_neg c]
      obtain ⟨Z, w1, w2, w3, -⟩ := R2.well (nI len)
      simp only [em, bsm, R.r0, i1, ck_of c0, pQ_of R1.rows.1 k8 (by omega), R2.ck0, w1, ew1, ew2, eL]
      exact Same.mk rfl rfl w3.rel
  · rw [if_neg q40, if_neg q40]
    exact Same.mk rfl rfl R.rel
/-- a slice of a row, or why not -/
theorem p_rowOf (R : Rl o t g h h2 X σ) {k m : Nat} (hk : k < 8) (hm : m ≤ 40) (x2 : Int32) :
    (∃ (c : Int32) (y : Nat) (Y : AH), fX9_lacks σ (nI k) x2 (nI m) = some (-1000010 - c, up2 σ 0 3 c) ∧ (c = 1 ∨ c = 2) ∧ Fnd Y y c ∧ AgX (fun _ => False) X Y ∧ y ≠ o ∧ ((fX0_rowAt X o (nI k) = some (.inr y, Y)) ∨ (∃ r, fX0_rowAt X o (nI k) = some (.inl r, X) ∧ ck X r 11 = some () ∧ fX11_row X r x2 (nI m) = some (.inr y, Y)))) ∨
    (∃ (i : Nat) (Y : AH) (r : Nat) (f : Nat → Int32), x2 = nI i ∧ i + m ≤ 40 ∧ fX9_lacks σ (nI k) x2 (nI m) = some (0, σ) ∧ fX0_rowAt X o (nI k) = some (.inl r, X) ∧ ck X r 11 = some () ∧ fX11_row X r x2 (nI m) = some (.inl X.1, Y) ∧ Y.2.2 X.1 = some (.inr (.inl (0, m, f))) ∧ (∀ j, j < m → f j = σ 3 (40 * k + i + j)) ∧ AgX (fun _ => False) X Y) := by
  have sz := R.sz
  have lk : ∀ c, fX9_find σ c = some (-1000010 - c, up2 σ 0 3 c) := fun c => rfl
  rcases x_rowAt R hk with ⟨q1, q2, Y, q3, q4, q5⟩ | ⟨r, len, f, q1, q2, q3, q4, q5, q6, q7, q8⟩
  · refine Or.inl ⟨1, X.1, Y, ?_, Or.inl rfl, q4, q5, by omega, Or.inl q3⟩
    unfold fX9_lacks
    rw [rd8 (σ 2) hk, bsm, q2, if_neg (by decide), lk, bsm]
  · have hr : r + 1 ≠ X.1 := by have := R.w.lt q7; omega
    have hin : fX9_in x2.toInt64 0 ((nI len - nI m).toInt64) = if 0 ≤ x2.toInt ∧ x2.toInt ≤ (len : Int) - m then some 1 else some 0 := by
      rw [in_def, show (0 : Int64).toInt = 0 by decide, Int32.toInt_toInt64, pk_sub_toInt (by omega) (by omega)]
    have hlk : fX9_lacks σ (nI k) x2 (nI m) = if 0 ≤ x2.toInt ∧ x2.toInt ≤ (len : Int) - m then some (0, σ) else some (-1000010 - 2, up2 σ 0 3 2) := by
      unfold fX9_lacks
      rw [rd8 (σ 2) hk, bsm, q3, if_pos (nI_pos' (by omega)), bsm, hin]
      by_cases c : 0 ≤ x2.toInt ∧ x2.toInt ≤ (len : Int) - m
      · rw [if_pos c, if_pos c, bsm, if_neg (by decide)]
      · rw [if_neg c, if_neg c, bsm, if_pos rfl, lk, bsm]
    have hcmp : 0 < lg_cmp (x2.toInt64 + (nI m).toInt64) ((nI len).toInt64) ↔ (len : Int) < x2.toInt + m := by
      rw [lg_cmp_gt, Int64.lt_iff_toInt_lt, Int64.toInt_add, Int32.toInt_toInt64, Int32.toInt_toInt64, Int32.toInt_toInt64, nI_toInt (by omega), nI_toInt (by omega)]
      have b1 := Int32.toInt_lt x2
      have b2 := Int32.le_toInt x2
      rw [Int.bmod_eq_of_le (by omega) (by omega)]
    have hbad : x2 < 0 ∨ (len : Int) < x2.toInt + m → fX11_row X r x2 (nI m) = fX11_row_b24 X 0 r x2 (nI m) := by
      intro hb
      unfold fX11_row
      by_cases c0 : x2 < 0
      · rw [if_pos c0]
      · rw [if_neg c0]
        simp only [gR_of q6 (k := 1) (v := r + 1) rfl, bsm, gL_of q7]
        rw [if_pos (hcmp.mpr (by rcases hb with hb | hb; exact absurd hb c0; exact hb))]
    by_cases c : 0 ≤ x2.toInt ∧ x2.toInt ≤ (len : Int) - m
    · refine Or.inr ?_
      have ei : x2 = nI x2.toInt.toNat := nI_ofInt (by omega)
      generalize hi : x2.toInt.toNat = i at ei
      have hib : i + m ≤ len := by omega
      have hx0 : ¬ x2 < 0 := by rw [Int32.lt_iff_toInt_lt]; show ¬ x2.toInt < 0; omega
      have em : fX0_must X 1 2 = some (.inl (), X) := rfl
      have g0 : AgX (fun a => X.1 ≤ a) X (xnw X (.inr (.inl (0, m, fun _ => 0)))) := AgX.nw R.w
      have c0 : (xnw X (.inr (.inl (0, m, fun _ => 0)))).2.2 X.1 = some (.inr (.inl (0, m, fun _ => 0))) := xnw_s
      have cr : (xnw X (.inr (.inl (0, m, fun _ => 0)))).2.2 (r + 1) = some (.inr (.inl (0, len, f))) := by rw [xnw_n hr]; exact q7
      have cr0 : (xnw X (.inr (.inl (0, m, fun _ => 0)))).2.2 r = some (.inl (11, [.int (σ 1 k), .ref (r + 1)])) := by rw [xnw_n (by have := R.w.lt q6; omega)]; exact q6
      have ec : cpA (xnw X (.inr (.inl (0, m, fun _ => 0)))) (r + 1) (nI i) X.1 0 (nI m) = some (xup (xnw X (.inr (.inl (0, m, fun _ => 0)))) X.1 (.inr (.inl (0, m, va_cpy f (fun _ => 0) i 0 m)))) := cpA_of (sp := i) (dp := 0) (n := m) cr c0 hib (by omega) (by omega) (by omega)
      have g1 : AgX (fun a => X.1 ≤ a) (xnw X (.inr (.inl (0, m, fun _ => 0)))) (xup (xnw X (.inr (.inl (0, m, fun _ => 0)))) X.1 (.inr (.inl (0, m, va_cpy f (fun _ => 0) i 0 m)))) := AgX.up g0.w c0 ni_a (Nat.le_refl _)
      refine ⟨i, _, r, va_cpy f (fun _ => 0) i 0 m, ei, by omega, by rw [hlk, if_pos c], q2, ck_of q6, ?_, xup_s, fun j hj => ?_, AgX.fresh (g0.tr g1) R.w⟩
      · unfold fX11_row
        rw [if_neg hx0]
        simp only [gR_of q6 (k := 1) (v := r + 1) rfl, bsm, gL_of q7]
        rw [if_neg (fun z => by have := hcmp.mp z; omega)]
        unfold fX11_row_b24
        simp only [em, bsm, szg_of hm (show 40 < 2 ^ 31 by decide), gR_of cr0 (k := 1) (v := r + 1) rfl]
        rw [ei, ec, bsm]
      · rw [pk_cpy_in (by omega) (by omega), q8 _ (by omega), show 40 * k + (i + (j - 0)) = 40 * k + i + j by omega]
    · refine Or.inl ?_
      obtain ⟨Y, em, hF, G⟩ := x_must0 R.w 2
      refine ⟨2, X.1, Y, by rw [hlk, if_neg c], Or.inr rfl, hF, G, by omega, Or.inr ⟨r, q2, ck_of q6, ?_⟩⟩
      rw [hbad (by
        by_cases c0 : x2 < 0
        · exact Or.inl c0
        · rw [Int32.lt_iff_toInt_lt] at c0
          have c0 : ¬ x2.toInt < 0 := c0
          exact Or.inr (by omega))]
      unfold fX11_row_b24
      simp only [em, bsm]
end R2
