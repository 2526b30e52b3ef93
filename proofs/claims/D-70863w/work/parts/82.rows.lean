/-! rows: what is found; row, set, drop -/
theorem AgX.fresh {X Y : AH} (G : AgX (fun a => X.1 ≤ a) X Y) (hw : wfX X) : AgX (fun _ => False) X Y :=
  ⟨G.1, G.2.1, fun a ha _ => G.2.2.1 a ha (Nat.not_le.mpr ha), G.2.2.2.1, G.2.2.2.2⟩
/-- a Finding with its number -/
def Fnd (Y : AH) (y : Nat) (k : Int32) : Prop := ∃ fs, Y.2.2 y = some (.inl (10, fs)) ∧ fs[6]? = some (.int k)
theorem x_exc {Z : AH} {p k : Nat} {fs : List Value} {v : Value} (h : Z.2.2 p = some (.inl (10, fs))) (hk : k < fs.length) (hw : wfX Z) : ∃ Y, pF Z p 10 k v = some Y ∧ Y.2.2 p = some (.inl (10, fs.set k v)) ∧ AgX (fun a => p ≤ a) Z Y :=
  ⟨_, pF_of h hk, xup_s, AgX.up hw h (ni_o (Or.inr (by decide))) (Nat.le_refl p)⟩
theorem x_must0 {X : AH} (hw : wfX X) (k : Int32) : ∃ Y, fX0_must X 0 k = some (.inr X.1, Y) ∧ Fnd Y X.1 k ∧ AgX (fun _ => False) X Y := by
  have g0 : AgX (fun a => X.1 ≤ a) X (xnw X (.inl (10, [.null, .null, .null, .null, .null, .int 0, .int 0]))) := AgX.nw hw
  have c0 : (xnw X (.inl (10, [.null, .null, .null, .null, .null, .int 0, .int 0]))).2.2 X.1 = some (.inl (10, [.null, .null, .null, .null, .null, .int 0, .int 0])) := xnw_s
  unfold fX0_must fX10_init fJ4_init fJ3_init_2
  rw [if_pos rfl, bsm]
  generalize xnw X (.inl (10, [.null, .null, .null, .null, .null, .int 0, .int 0])) = X0 at g0 c0
  obtain ⟨X1, e1, c1, g1⟩ := x_exc (k := 0) (v := .ref X.1) c0 (Nat.le_of_ble_eq_true rfl) g0.w
  obtain ⟨X2, e2, c2, g2⟩ := x_exc (k := 1) (v := va_rf X1.2.1.2.1) c1 (Nat.le_of_ble_eq_true rfl) g1.w
  obtain ⟨X3, e3, c3, g3⟩ := x_exc (k := 2) (v := va_rf X2.2.1.2.2.1) c2 (Nat.le_of_ble_eq_true rfl) g2.w
  obtain ⟨X4, e4, c4, g4⟩ := x_exc (k := 1) (v := .null) c3 (Nat.le_of_ble_eq_true rfl) g3.w
  obtain ⟨X5, e5, c5, g5⟩ := x_exc (k := 3) (v := .null) c4 (Nat.le_of_ble_eq_true rfl) g4.w
  obtain ⟨X6, e6, c6, g6⟩ := x_exc (k := 0) (v := .null) c5 (Nat.le_of_ble_eq_true rfl) g5.w
  obtain ⟨X7, e7, c7, g7⟩ := x_exc (k := 2) (v := .null) c6 (Nat.le_of_ble_eq_true rfl) g6.w
  obtain ⟨X8, e8, c8, g8⟩ := x_exc (k := 6) (v := .int k) c7 (Nat.le_of_ble_eq_true rfl) g7.w
  refine ⟨X8, ?_, ⟨_, c8, rfl⟩, AgX.fresh (((((((((g0.tr g1).tr g2).tr g3).tr g4).tr g5).tr g6).tr g7).tr g8)) hw⟩
  simp only [gC_of c0, bsm, e1, e2, e3, e4, e5, e6, e7, e8, if_true]
section RW
variable {o t n : Nat} {g h h2 : Nat → Option Nat} {X Y : AH} {σ σ' : MS}
/-- what is thrown is found -/
theorem p_thrown (R : Rl o t g h h2 X σ) (G : AgX (fun _ => False) X Y) {y : Nat} {k : Int32} (hf : Fnd Y y k) (hy : y ≠ o) : ∃ Z, ck Y y 10 = some () ∧ ck Y o 0 = some () ∧ fX0_found Y o y = some (-1000010 - k, Z) ∧ Rel o Z (up2 σ 0 3 k) := by
  have R1 := R.new G
  obtain ⟨fs, c, c6⟩ := hf
  obtain ⟨Z, e, R2, G2⟩ := R1.stat k
  refine ⟨Z, ck_of c, R1.ck0, ?_, R2.rel⟩
  unfold fX0_found
  simp only [gI_of c c6, bsm, e, gI_of (G2.at R1.w c (fun z => hy z)) c6]
theorem x_rowAt (R : Rl o t g h h2 X σ) {k : Nat} (hk : k < 8) : (g k = none ∧ σ 2 k = -1 ∧ ∃ Y, fX0_rowAt X o (nI k) = some (.inr X.1, Y) ∧ Fnd Y X.1 1 ∧ AgX (fun _ => False) X Y) ∨ (∃ r len f, g k = some r ∧ fX0_rowAt X o (nI k) = some (.inl r, X) ∧ σ 2 k = nI len ∧ len ≤ 40 ∧ o + 29 ≤ r ∧ X.2.2 r = some (.inl (11, [.int (σ 1 k), .ref (r + 1)])) ∧ X.2.2 (r + 1) = some (.inr (.inl (0, len, f))) ∧ ∀ j, j < len → f j = σ 3 (40 * k + j)) := by
  rcases R.rows.2 k hk with ⟨e1, e2⟩ | ⟨r, len, f, e1, e2⟩
  · refine Or.inl ⟨e1, e2, ?_⟩
    obtain ⟨Y, em, hF, G⟩ := x_must0 R.w 1
    refine ⟨Y, ?_, hF, G⟩
    unfold fX0_rowAt fX0_rowAt_b14
    simp only [R.r0, bsm, gQ_of R.rows.1 hk (by omega), e1, em]
  · refine Or.inr ⟨r, len, f, e1, ?_, e2⟩
    have em : fX0_must X 1 1 = some (.inl (), X) := rfl
    unfold fX0_rowAt fX0_rowAt_b14
    simp only [R.r0, bsm, gQ_of R.rows.1 hk (by omega), e1, em, gQn_of R.rows.1 hk (by omega) e1]
theorem rd8 (f : Nat → Int32) {k : Nat} (hk : k < 8) : rd f 8 (nI k) = some (f k) := rd_nI hk (by omega)
theorem s_drop (R : Rel o X σ) (x1 : Int32) : Same o (fX0_drop X o x1) (fX9_drop σ x1) := by
  obtain ⟨t, g, h, h2, R⟩ := R
  have sz := R.sz
  unfold fX0_drop fX9_drop
  rcases rowD x1 with ⟨e1, e2⟩ | ⟨k, hk, rfl, e1, e2⟩
  · simp only [e1, e2, bsm, if_true]
    exact Same.mk rfl rfl R.rel
  have k8 : k < 8 := by omega
  simp only [e1, e2, bsm, one0, if_false, R.ck0, rd8 (σ 2) k8]
  rcases x_rowAt R k8 with ⟨q1, q2, Y, q3, q4, q5⟩ | ⟨r, len, f, q1, q2, q3, q4, q5, q6, q7, q8⟩
  · obtain ⟨Z, z1, z2, z3, z4⟩ := p_thrown R q5 q4 (by omega)
    simp only [q3, bsm, z1, z2, z3, q2]
    rw [if_neg (by decide)]
    exact Same.mk rfl rfl z4
  · -- the row is dropped
    have G1 : AgX (fun a => a = o + 1) X (xup X (o + 1) (.inr (.inr (2, 8, va_up g k none)))) := AgX.up R.w R.rows.1 (ni_q (by omega)) rfl
    have n1 : ∀ a, a ≠ o + 1 → ¬ (fun a => a = o + 1) a := fun a h z => h z
    have ht := R.trl.dj
    have vs : ∀ j, va_up g k none j = if j = k then none else g j := fun j => rfl
    have uk : ∀ q, q ≠ 2 → up2 σ 2 k (-1) q = σ q := fun q hq => up2_n hq
    have R1 : Rl o t (va_up g k none) h h2 (xup X (o + 1) (.inr (.inr (2, 8, va_up g k none)))) (up2 σ 2 k (-1)) := by
      have q3 := R.tape.ag G1 R.w (n1 _ (by omega))
      have q4 := R.min.ag G1 R.w (fun a _ _ => n1 a (by omega))
      have q5 := R.past.ag G1 R.w (n1 _ (by omega)) (fun a _ => n1 a (by omega))
      have q6 := R.img.ag G1 R.w (n1 _ (by omega)) (fun a _ => n1 a (by omega))
      have q7 := R.trl.ag G1 R.w (n1 _ (by omega)) (n1 _ (by omega))
      refine ⟨G1.w, R.sz, ?_, ⟨xup_s, fun j hj => ?_⟩, ?_, ?_, R.tri.ag G1 R.w (fun a _ _ => n1 a (by omega)), ?_, ?_, ?_, R.tkn.ag G1, R.emp.ag G1, ?_⟩
      · have := G1.at R.w R.obj (n1 _ (by omega))
        unfold pObj crF at *; rw [uk 0 (by omega)]; exact this
      · rw [vs]
        by_cases z : j = k
        · rw [if_pos z]
          exact Or.inl ⟨rfl, by rw [z, up2_s, upd_s]⟩
        · rw [if_neg z]
          have q := (R.rows.2 j hj).ag G1 R.w (fun r' er => by
            rcases R.rows.2 j hj with w | ⟨r2, _, _, w, _, _, w3, -⟩
            · rw [w.1] at er; cases er
            · cases w.symm.trans er
              exact ⟨n1 _ (by omega), n1 _ (by omega)⟩)
          unfold pRow at q ⊢
          rw [uk 1 (by omega), uk 3 (by omega), up2_s, upd_n z]; exact q
      · unfold pTape at q3 ⊢; rw [uk 0 (by omega), uk 6 (by omega)]; exact q3
      · unfold pMin at q4 ⊢; rw [uk 0 (by omega), uk 4 (by omega)]; exact q4
      · unfold pPast at q5 ⊢; rw [uk 0 (by omega), uk 9 (by omega)]; exact q5
      · unfold pImg at q6 ⊢; rw [uk 0 (by omega), uk 11 (by omega), uk 12 (by omega)]; exact q6
      · unfold pTrl at q7 ⊢; rw [uk 0 (by omega), uk 13 (by omega)]; exact q7
      · intro i j a b hij ha hb
        have key : ∀ i a, bse (va_up g k none) h h2 t i = some a → bse g h h2 t i = some a := by
          intro i a e
          unfold bse at e ⊢
          by_cases c : i < 8
          · rw [if_pos c] at e ⊢
            rw [vs] at e
            by_cases z : i = k
            · rw [if_pos z] at e; cases e
            · rw [if_neg z] at e; exact e
          · rw [if_neg c] at e ⊢; exact e
        exact R.dsj i j a b hij (key i a ha) (key j b hb)
    obtain ⟨Z, w1, w2, w3, -⟩ := R1.well (nI len)
    have ew : mwr σ 2 8 (nI k) (-1) = some (up2 σ 2 k (-1)) := mwr_nI (by omega) (by omega)
    simp only [q2, bsm, gR_of q6 (k := 1) (v := r + 1) rfl, gL_of q7, R.r0, pQ_of R.rows.1 k8 (by omega), R1.ck0, w1, q3, ew, w2]
    rw [if_pos (nI_pos' (by omega))]
    exact Same.mk rfl rfl w3.rel
theorem lane8_n (n : Nat) (hn : n < 4294967296) : (if 2 * (n * 16777216 % 4294967296) < 4294967296 then ((n * 16777216 % 4294967296 : Nat) : Int) else ((n * 16777216 % 4294967296 : Nat) : Int) - 4294967296) / 16777216 = Int.bmod (if 2 * n < 4294967296 then (n : Int) else (n : Int) - 4294967296) 256 := by
  have h1 : n * 16777216 % 4294967296 = (n % 256) * 16777216 := Nat.mul_mod_mul_right 16777216 n 256
  rw [h1]
  have hm : n % 256 < 256 := Nat.mod_lt _ (by decide)
  have rhs : Int.bmod (if 2 * n < 4294967296 then (n : Int) else (n : Int) - 4294967296) 256 = if n % 256 < 128 then ((n % 256 : Nat) : Int) else ((n % 256 : Nat) : Int) - 256 := by
    have e : (if 2 * n < 4294967296 then (n : Int) else (n : Int) - 4294967296) % 256 = ((n % 256 : Nat) : Int) := by
      split <;> omega
    unfold Int.bmod
    rw [show ((256 : Nat) : Int) = 256 from rfl, e]
    show (if ((n % 256 : Nat) : Int) < (256 + 1) / 2 then ((n % 256 : Nat) : Int) else ((n % 256 : Nat) : Int) - 256) = _
    split <;> split <;> omega
  rw [rhs]
  generalize n % 256 = q at hm
  by_cases c : q < 128
  · rw [if_pos c, if_pos (by omega), Int.natCast_mul]
    exact Int.mul_ediv_cancel _ (by decide)
  · rw [if_neg c, if_neg (by omega), Int.natCast_mul, show (q : Int) * ((16777216 : Nat) : Int) - 4294967296 = ((q : Int) - 256) * 16777216 by omega]
    exact Int.mul_ediv_cancel _ (by decide)
theorem lane8 (x : Int32) : ((x <<< ((24 : Int32) &&& 31)) >>> ((24 : Int32) &&& 31)) = x.toInt8.toInt32 := by
  apply Int32.toInt_inj.mp
  rw [pk_shr _ _ 24 (by decide), Int8.toInt_toInt32, Int32.toInt_toInt8]
  have h1 := pk_shl x ((24 : Int32) &&& 31) 24 (by decide)
  have e1 : (x <<< ((24 : Int32) &&& 31)).toInt = (x <<< ((24 : Int32) &&& 31)).toBitVec.toInt := rfl
  have e2 : x.toInt = x.toBitVec.toInt := rfl
  rw [e1, BitVec.toInt_eq_toNat_cond, h1, e2, BitVec.toInt_eq_toNat_cond, Int.shiftRight_eq_div_pow]
  exact lane8_n x.toBitVec.toNat x.toBitVec.isLt
theorem lane16_n (n : Nat) (hn : n < 4294967296) : (if 2 * (n * 65536 % 4294967296) < 4294967296 then ((n * 65536 % 4294967296 : Nat) : Int) else ((n * 65536 % 4294967296 : Nat) : Int) - 4294967296) / 65536 = Int.bmod (if 2 * n < 4294967296 then (n : Int) else (n : Int) - 4294967296) 65536 := by
  have h1 : n * 65536 % 4294967296 = (n % 65536) * 65536 := Nat.mul_mod_mul_right 65536 n 65536
  rw [h1]
  have hm : n % 65536 < 65536 := Nat.mod_lt _ (by decide)
  have rhs : Int.bmod (if 2 * n < 4294967296 then (n : Int) else (n : Int) - 4294967296) 65536 = if n % 65536 < 32768 then ((n % 65536 : Nat) : Int) else ((n % 65536 : Nat) : Int) - 65536 := by
    have e : (if 2 * n < 4294967296 then (n : Int) else (n : Int) - 4294967296) % 65536 = ((n % 65536 : Nat) : Int) := by
      split <;> omega
    unfold Int.bmod
    rw [show ((65536 : Nat) : Int) = 65536 from rfl, e]
    show (if ((n % 65536 : Nat) : Int) < (65536 + 1) / 2 then ((n % 65536 : Nat) : Int) else ((n % 65536 : Nat) : Int) - 65536) = _
    split <;> split <;> omega
  rw [rhs]
  generalize n % 65536 = q at hm
  by_cases c : q < 32768
  · rw [if_pos c, if_pos (by omega), Int.natCast_mul]
    exact Int.mul_ediv_cancel _ (by decide)
  · rw [if_neg c, if_neg (by omega), Int.natCast_mul, show (q : Int) * ((65536 : Nat) : Int) - 4294967296 = ((q : Int) - 65536) * 65536 by omega]
    exact Int.mul_ediv_cancel _ (by decide)
theorem lane16 (x : Int32) : ((x <<< ((16 : Int32) &&& 31)) >>> ((16 : Int32) &&& 31)) = x.toInt16.toInt32 := by
  apply Int32.toInt_inj.mp
  rw [pk_shr _ _ 16 (by decide), Int16.toInt_toInt32, Int32.toInt_toInt16]
  have h1 := pk_shl x ((16 : Int32) &&& 31) 16 (by decide)
  have e1 : (x <<< ((16 : Int32) &&& 31)).toInt = (x <<< ((16 : Int32) &&& 31)).toBitVec.toInt := rfl
  have e2 : x.toInt = x.toBitVec.toInt := rfl
  rw [e1, BitVec.toInt_eq_toNat_cond, h1, e2, BitVec.toInt_eq_toNat_cond, Int.shiftRight_eq_div_pow]
  exact lane16_n x.toBitVec.toNat x.toBitVec.isLt
theorem ix40 (k j : Nat) : (40 : Int32) * nI k + nI j = nI (40 * k + j) := by
  rw [show (40 : Int32) = nI 40 from rfl, pk_mul, nI_add]
/-- items of a row are written -/
theorem Rl.items (R : Rl o t g h h2 X σ) {k r len : Nat} {f : Nat → Int32} (hk : k < 8) (hr : g k = some r) (h29 : o + 29 ≤ r) (hlen : len ≤ 40) (c0 : X.2.2 r = some (.inl (11, [.int (σ 1 k), .ref (r + 1)]))) (c1 : Y.2.2 (r + 1) = some (.inr (.inl (0, len, f)))) (hl : σ 2 k = nI len) (G : AgX (fun a => a = r + 1) X Y) (hf : ∀ j, j < len → f j = σ' 3 (40 * k + j)) (ho : ∀ i j, i ≠ k → j < 40 → σ' 3 (40 * i + j) = σ 3 (40 * i + j)) (e : ∀ q, q ≠ 3 → q ≠ 5 → σ' q = σ q) : Rl o t g h h2 Y σ' := by
  have nn : ∀ a, a ≠ r + 1 → ¬ (fun a => a = r + 1) a := fun a h z => h z
  have e0 := e 0 (by omega) (by omega)
  have hd : ∀ i a, i ≠ k → bse g h h2 t i = some a → a + lenB i ≤ r ∨ r + 2 ≤ a := fun i a hi ha => by
    have := R.dsj i k a r hi ha (by rw [bse_g hk]; exact hr)
    rw [lenB_g hk] at this; exact this
  have q3 := R.tape.ag G R.w (nn _ (by omega))
  have q4 := R.min.ag G R.w (fun a _ _ => nn a (by omega))
  obtain ⟨b, k1, k2, k3, k4, k5, k6⟩ := R.past
  have pst : ∀ k q, k < 24 → h k = some q → ∀ a, q ≤ a → a < q + 8 → ¬ (fun a => a = r + 1) a := fun k' q hk' eq a a1 a2 => by
    have := hd (8 + k') q (by omega) (by rw [bse_h hk']; exact eq)
    rw [lenB_h (by omega) (by omega)] at this
    exact nn a (by omega)
  refine ⟨G.w, Nat.le_trans R.sz G.2.1, ?_, ⟨G.at R.w R.rows.1 (nn _ (by omega)), fun j hj => ?_⟩, ?_, ?_, R.tri.ag G R.w (fun a _ _ => nn a (by omega)), ⟨b, G.at R.w k1 (nn _ (by omega)), by rw [e0]; exact k2, k3, fun h => by rw [e0]; exact k4 h, fun k' hk' => ?_, fun k' q hk' eq => ⟨(k6 k' q hk' eq).1, (k6 k' q hk' eq).2.ag G R.w (pst k' q hk' eq)⟩⟩, ⟨G.at R.w R.img.1 (nn _ (by omega)), fun j hj => ?_⟩, ?_, R.tkn.ag G, R.emp.ag G, R.dsj⟩
  · have := G.at R.w R.obj (nn _ (by omega))
    unfold pObj crF at *; rw [e0]; exact this
  · by_cases z : j = k
    · subst z
      exact Or.inr ⟨r, len, f, hr, by rw [e 2 (by omega) (by omega)]; exact hl, hlen, h29, by rw [e 1 (by omega) (by omega)]; exact G.at R.w c0 (nn _ (by omega)), c1, hf⟩
    · rcases R.rows.2 j hj with w | ⟨r2, len2, f2, w, w1, w2, w3, w4, w5, w6⟩
      · exact Or.inl (by rw [e 2 (by omega) (by omega)]; exact w)
      · have := hd j r2 z (by rw [bse_g hj]; exact w)
        rw [lenB_g hj] at this
        refine Or.inr ⟨r2, len2, f2, w, by rw [e 2 (by omega) (by omega)]; exact w1, w2, w3, by rw [e 1 (by omega) (by omega)]; exact G.at R.w w4 (nn _ (by omega)), G.at R.w w5 (nn _ (by omega)), fun i hi => by rw [ho j i z (by omega)]; exact w6 i hi⟩
  · unfold pTape at q3 ⊢; rw [e0, e 6 (by omega) (by omega)]; exact q3
  · unfold pMin at q4 ⊢; rw [e0, e 4 (by omega) (by omega)]; exact q4
  · obtain ⟨q, m, w, w1, w2⟩ := k5 k' hk'
    rw [e 9 (by omega) (by omega)]
    exact ⟨q, m, w, w1.ag G R.w (pst k' q (by omega) w), w2⟩
  · rw [e0, e 11 (by omega) (by omega), e 12 (by omega) (by omega)]
    rcases R.img.2 j hj with w | ⟨q, m, w, w1, w2, w3, w4, w5⟩
    · exact Or.inl w
    · refine Or.inr ⟨q, m, w, w1, w2, w3, w4.ag G R.w (fun a a1 a2 => ?_), w5⟩
      have := hd (32 + j) q (by omega) (by rw [bse_2 hj]; exact w)
      rw [lenB_h (by omega) (by omega)] at this
      exact nn a (by omega)
  · have := hd 34 t (by omega) bse_t
    rw [lenB_t] at this
    have q := R.trl.ag G R.w (nn _ (by omega)) (nn _ (by omega))
    unfold pTrl at q ⊢; rw [e0, e 13 (by omega) (by omega)]; exact q
theorem s_set (R : Rel o X σ) (x1 x2 x3 : Int32) : Same o (fX0_set X o x1 x2 x3) (fX9_set σ x1 x2 x3) := by
  obtain ⟨t, g, h, h2, R⟩ := R
  have sz := R.sz
  unfold fX0_set fX9_set fX0_set_b61
  rcases rowD x1 with ⟨e1, e2⟩ | ⟨k, hk, rfl, e1, e2⟩
  · simp only [e1, e2, bsm, if_true]
    exact Same.mk rfl rfl R.rel
  have k8 : k < 8 := by omega
  simp only [e1, e2, bsm, one0, if_false, R.ck0, rd8 (σ 2) k8, rd8 (σ 1) k8, isIn_eq]
  rcases x_rowAt R k8 with ⟨q1, q2, Y, q3, q4, q5⟩ | ⟨r, len, f, q1, q2, q3, q4, q5, q6, q7, q8⟩
  · obtain ⟨Z, z1, z2, z3, z4⟩ := p_thrown R q5 q4 (by omega)
    simp only [q3, bsm, z1, z2, z3, q2]
    rw [if_neg (by decide)]
    exact Same.mk rfl rfl z4
  · simp only [q2, bsm, gR_of q6 (k := 1) (v := r + 1) rfl, gL_of q7, q3]
    rw [if_pos (nI_pos' (by omega))]
    rcases inC x2 q4 with f1 | ⟨f1, j, hj, rfl⟩
    · obtain ⟨Y, em, hF, G⟩ := x_must0 R.w 2
      obtain ⟨Z, z1, z2, z3, z4⟩ := p_thrown R G hF (by omega)
      simp only [f1, bsm, em, z1, z2, z3, if_true]
      exact Same.mk rfl rfl z4
    · have em : fX0_must X 1 2 = some (.inl (), X) := rfl
      have hcut : ∃ v, fX11_cut X r x3 = some (v, X) ∧ fX9_asLane (σ 1 k) x3 = some v := by
        unfold fX11_cut fX9_asLane
        simp only [gI_of q6 (k := 0) (v := σ 1 k) rfl, bsm, lane8, lane16]
        by_cases l0 : σ 1 k = 0
        · rw [if_pos l0, if_pos l0]; exact ⟨_, rfl, rfl⟩
        · rw [if_neg l0, if_neg l0]
          by_cases l1 : σ 1 k = 1
          · rw [if_pos l1, if_pos l1]; exact ⟨_, rfl, rfl⟩
          · rw [if_neg l1, if_neg l1]; exact ⟨_, rfl, rfl⟩
      obtain ⟨v, c1, c2⟩ := hcut
      have G : AgX (fun a => a = r + 1) X (xup X (r + 1) (.inr (.inl (0, len, upd f j v)))) := AgX.up R.w q7 ni_a rfl
      have R1 : Rl o t g h h2 (xup X (r + 1) (.inr (.inl (0, len, upd f j v)))) (up2 σ 3 (40 * k + j) v) := by
        refine R.items k8 q1 q5 q4 q6 xup_s q3 G (fun i hi => ?_) (fun i i' hi hi' => ?_) (fun q hq _ => up2_n hq)
        · rw [up2_s]
          by_cases z : i = j
          · subst z; rw [upd_s, upd_s]
          · rw [upd_n z, upd_n (by omega)]; exact q8 i hi
        · rw [up2_s, upd_n (by omega)]
      obtain ⟨Z, w1, w2, w3, -⟩ := R1.well v
      have ew : mwr σ 3 320 (nI (40 * k + j)) v = some (up2 σ 3 (40 * k + j) v) := mwr_nI (by omega) (by omega)
      have er : rd (up2 σ 3 (40 * k + j) v 3) 320 (nI (40 * k + j)) = some v := by rw [up2_s, rd_nI (by omega) (by omega), upd_s]
      have g2 : gA (xup X (r + 1) (.inr (.inl (0, len, upd f j v)))) (r + 1) 0 (nI j) = some v := by rw [gA_of xup_s hj (by omega), upd_s]
      have r2 : gR (xup X (r + 1) (.inr (.inl (0, len, upd f j v)))) r 11 1 = some (r + 1) := gR_of (by rw [xup_n (by omega)]; exact q6) rfl
      simp only [f1, bsm, one0, if_false, em, gR_of q6 (k := 1) (v := r + 1) rfl, ck_of q6, c1, c2, pA_of q7 hj (by omega), r2, g2, R1.ck0, w1, ix40, ew, er, w2]
      exact Same.mk rfl rfl w3.rel
end RW
