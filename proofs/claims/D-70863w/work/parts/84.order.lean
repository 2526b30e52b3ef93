/-! orders of chairs; sawdust, pile -/
theorem bq_or : ∀ (w : Fin 64) (c d : Fin 6), bitq (nI w.1 ||| (1 : Int32) <<< (nI c.1 &&& 31)) (nI d.1) = (bitq (nI w.1) (nI d.1) || decide (c.1 = d.1)) := by decide +kernel
theorem or_lt {w c : Nat} (hw : w < 64) (hc : c < 6) : ∃ u, u < 64 ∧ nI w ||| (1 : Int32) <<< (nI c &&& 31) = nI u := by
  have hv := p2_lt hc
  refine ⟨w ||| 2 ^ c, Nat.or_lt_two_pow (n := 6) hw hv, ?_⟩
  have hu : w ||| 2 ^ c < 64 := Nat.or_lt_two_pow (n := 6) hw hv
  rw [shl1 (by omega)]
  apply Int32.toBitVec_inj.mp
  apply BitVec.eq_of_toNat_eq
  rw [Int32.toBitVec_or, BitVec.toNat_or, pk_tn (by omega), pk_tn (by omega), pk_tn (by omega)]
section OR
variable {o t n : Nat} {g h h2 : Nat → Option Nat} {X Y : AH} {σ σ' : MS}
/-- the model, once it has failed -/
theorem m_ordFail (hg : goodM n (σ 4)) (x1 x2 x4 : Int32) {v : Int32} (hv : v ≠ 0) (f : Nat) (i : Int32) : fX9_lacksOrder_L41 (f + 1) σ x1 x2 v x4 i = some (v, σ) := by
  have e2 : rd (σ 4) 41 2 = some (nI n) := by rw [← hg.2.1]; exact st_rd σ (k := 2) (by omega)
  unfold fX9_lacksOrder_L41
  rw [e2, bsm, if_neg hv]
  split <;> rfl
/-- an order: chairs, each once -/
def OrdF (n : Nat) (f : Nat → Int32) : Prop := (∀ j, j < n → ∃ c, c < n ∧ f j = nI c) ∧ ∀ i j, i < n → j < n → i ≠ j → f i ≠ f j
theorem orderL (R : Rl o t g h h2 X σ) (hS : Sv X (o + 3) n (σ 4)) (h1 : 1 ≤ n) {k i q : Nat} {f : Nat → Int32} (hk : k < 8) (hi : i + n ≤ 40) (hq : X.2.2 q = some (.inr (.inl (0, n, f)))) (hf : ∀ j, j < n → f j = σ 3 (40 * k + i + j)) :
    ∀ (d j f1 f2 w : Nat) (i1 i2 s1 s2 : Int32), d < f1 → d + 1 < f2 → j + d = n → i1 = nI j → i2 = nI j → w < 64 → s1 = nI w → s2 = nI w → (∀ p, p < j → ∃ c, c < n ∧ f p = nI c) → (∀ p r, p < j → r < j → p ≠ r → f p ≠ f r) → (∀ c, c < 6 → (bitq (nI w) (nI c) = true ↔ ∃ p, p < j ∧ f p = nI c)) →
    (fX0_orderOf_L23 f1 X o q s1 i1 = some (.inl q, X) ∧ fX9_lacksOrder_L41 f2 σ (nI k) (nI i) 0 s2 i2 = some (0, σ) ∧ OrdF n f) ∨ (∃ y Y, fX0_orderOf_L23 f1 X o q s1 i1 = some (.inr y, Y) ∧ fX9_lacksOrder_L41 f2 σ (nI k) (nI i) 0 s2 i2 = some (-1000013, up2 σ 0 3 3) ∧ Fnd Y y 3 ∧ AgX (fun _ => False) X Y ∧ y ≠ o) := by
  have hn := hS.1.1
  have sz := R.sz
  intro d
  induction d with
  | zero =>
    intro j f1 f2 w i1 i2 s1 s2 hf1 hf2 hj e1 e2 hw e3 e4 a1 a2 a3
    obtain ⟨f1, rfl⟩ : ∃ f, f1 = f + 1 := ⟨f1 - 1, by omega⟩
    obtain ⟨f2, rfl⟩ : ∃ f, f2 = f + 1 := ⟨f2 - 1, by omega⟩
    subst e1 e2 e3 e4
    have hle : nI n ≤ nI j := nI_le (by omega) (by omega)
    refine Or.inl ⟨?_, ?_, fun p hp => a1 p (by omega), fun p r hp hr => a2 p r (by omega) (by omega)⟩
    · unfold fX0_orderOf_L23
      rw [gL_of hq, bsm, if_pos hle]
    · unfold fX9_lacksOrder_L41
      rw [hS.rd2, bsm, if_pos hle]
  | succ d ih =>
    intro j f1 f2 w i1 i2 s1 s2 hf1 hf2 hj e1 e2 hw e3 e4 a1 a2 a3
    obtain ⟨f1, rfl⟩ : ∃ f, f1 = f + 1 := ⟨f1 - 1, by omega⟩
    obtain ⟨f2, rfl⟩ : ∃ f, f2 = f + 1 := ⟨f2 - 1, by omega⟩
    subst e1 e2 e3 e4
    have hnle : ¬ nI n ≤ nI j := nI_ge (by omega) (by omega)
    have er : rd (σ 3) 320 (40 * nI k + nI i + nI j) = some (f j) := by
      rw [ix40, nI_add, rd_nI (by omega) (by omega), hf j (by omega)]
    have ga : gA X q 0 (nI j) = some (f j) := gA_of hq (by omega) (by omega)
    have hx : fX0_orderOf_L23 (f1 + 1) X o q (nI w) (nI j) = (fX0_isChair X o (f j)).bind fun (v6, X5) => if v6 = 0 then (fX0_orderOf_b58 (fX0_orderOf_L23 f1) X5 0 o q (nI w) (nI j)) else ((gA X5 q 0 (nI j)).bind fun v8 => (fX9_has (nI w) v8).bind fun v9 => if v9 = 0 then (fX0_orderOf_b58 (fX0_orderOf_L23 f1) X5 1 o q (nI w) (nI j)) else (fX0_orderOf_b58 (fX0_orderOf_L23 f1) X5 0 o q (nI w) (nI j))) := by
      conv => lhs; unfold fX0_orderOf_L23
      rw [gL_of hq, bsm, if_neg hnle, ga, bsm, R.ck0, bsm]
      rfl
    have hm : fX9_lacksOrder_L41 (f2 + 1) σ (nI k) (nI i) 0 (nI w) (nI j) = (fX9_isChair σ (f j)).bind fun (v6, σ5) => if v6 = 0 then (fX9_lacksOrder_b95 (fX9_lacksOrder_L41 f2) σ5 (nI k) (nI i) (nI w) (nI j) (f j)) else ((fX9_has (nI w) (f j)).bind fun v8 => if v8 = 0 then (fX9_lacksOrder_b100 (fX9_lacksOrder_L41 f2) σ5 0 (nI k) (nI i) (nI w) (nI j) (f j)) else (fX9_lacksOrder_b95 (fX9_lacksOrder_L41 f2) σ5 (nI k) (nI i) (nI w) (nI j) (f j))) := by
      conv => lhs; unfold fX9_lacksOrder_L41
      rw [hS.rd2, bsm, if_neg hnle, if_pos rfl, er, bsm]
    have fail : ∃ y Y, fX0_orderOf_b58 (fX0_orderOf_L23 f1) X 0 o q (nI w) (nI j) = some (.inr y, Y) ∧ fX9_lacksOrder_b95 (fX9_lacksOrder_L41 f2) σ (nI k) (nI i) (nI w) (nI j) (f j) = some (-1000013, up2 σ 0 3 3) ∧ Fnd Y y 3 ∧ AgX (fun _ => False) X Y ∧ y ≠ o := by
      obtain ⟨Y, em, hF, G⟩ := x_must0 R.w 3
      refine ⟨X.1, Y, ?_, ?_, hF, G, by omega⟩
      · unfold fX0_orderOf_b58
        rw [em, bsm]
      · obtain ⟨f2, rfl⟩ : ∃ f, f2 = f + 1 := ⟨f2 - 1, by omega⟩
        have e1 : fX9_find σ 3 = some (-1000013, up2 σ 0 3 3) := rfl
        unfold fX9_lacksOrder_b95 fX9_lacksOrder_b100
        rw [e1, bsm]
        show (if (-1000013 : Int32) = 0 then _ else _) = _
        rw [if_neg (by decide)]
        exact m_ordFail (n := n) (by rw [up2_n (by omega)]; exact hS.1) _ _ _ (by decide) _ _
    rw [hx, hm]
    rcases R.isChair hS (f j) with ⟨w1, w2⟩ | ⟨c, hc, ec, w1, w2⟩
    · rw [w1, w2, bsm, bsm]
      simp only [if_true]
      exact Or.inr fail
    · rw [w1, w2, bsm, bsm]
      simp only [one0, if_false, ga, bsm, m_has]
      cases hb : bitq (nI w) (f j) with
      | true =>
        simp only [if_true, one0, if_false]
        exact Or.inr fail
      | false =>
        simp only [Bool.false_eq_true, if_false, if_true]
        obtain ⟨u, hu, eu⟩ := or_lt hw (show c < 6 by omega)
        have em : fX0_must X 1 3 = some (.inl (), X) := rfl
        have st : fX0_orderOf_b58 (fX0_orderOf_L23 f1) X 1 o q (nI w) (nI j) = fX0_orderOf_L23 f1 X o q (nI u) (nI (j + 1)) := by
          unfold fX0_orderOf_b58
          rw [em, bsm]
          simp only [ga, bsm, ec, eu, nI_1]
        have sm : fX9_lacksOrder_b100 (fX9_lacksOrder_L41 f2) σ 0 (nI k) (nI i) (nI w) (nI j) (f j) = fX9_lacksOrder_L41 f2 σ (nI k) (nI i) 0 (nI u) (nI (j + 1)) := by
          unfold fX9_lacksOrder_b100
          rw [if_pos rfl, ec, eu, nI_1]
        rw [st, sm]
        have hnew : ∀ p, p < j → f p ≠ nI c := fun p hp z => by
          have := (a3 c (by omega)).mpr ⟨p, hp, z⟩
          rw [ec, this] at hb
          cases hb
        refine ih (j + 1) f1 f2 u _ _ _ _ (by omega) (by omega) (by omega) rfl rfl hu rfl rfl (fun p hp => ?_) (fun p r hp hr hpr => ?_) (fun c' hc' => ?_)
        · by_cases z : p = j
          · rw [z]; exact ⟨c, hc, ec⟩
          · exact a1 p (by omega)
        · by_cases z : p = j
          · subst z; rw [ec]; exact fun e => hnew r (by omega) e.symm
          · by_cases z2 : r = j
            · subst z2; rw [ec]; exact hnew p (by omega)
            · exact a2 p r (by omega) (by omega) hpr
        · rw [← eu, bq_or ⟨w, hw⟩ ⟨c, by omega⟩ ⟨c', hc'⟩, Bool.or_eq_true, decide_eq_true_eq]
          constructor
          · rintro (z | z)
            · obtain ⟨p, hp, ep⟩ := (a3 c' hc').mp z
              exact ⟨p, by omega, ep⟩
            · have z : c = c' := z
              exact ⟨j, by omega, by rw [ec, z]⟩
          · rintro ⟨p, hp, ep⟩
            by_cases z : p = j
            · subst z
              exact Or.inr ((nI_eq (by omega) (by omega)).mp (ec.symm.trans ep))
            · exact Or.inl ((a3 c' hc').mpr ⟨p, by omega, ep⟩)
/-- an order out of a row, in both -/
theorem p_order (R : Rl o t g h h2 X σ) (hS : Sv X (o + 3) n (σ 4)) (h1 : 1 ≤ n) (h04 : σ 0 4 = 1) {k : Nat} (hk : k < 8) (e2 : fX9_isRow (nI k) = some 1) (x2 : Int32) :
    (∃ (v : Int32) (y : Nat) (Y Z : AH) (σ1 : MS), fX0_orderOf X o (nI k) x2 = some (.inr y, Y) ∧ fX9_lacksOrder σ (nI k) x2 = some (v, σ1) ∧ ¬ 0 ≤ v ∧ ck Y y 10 = some () ∧ ck Y o 0 = some () ∧ fX0_found Y o y = some (v, Z) ∧ Rel o Z σ1) ∨
    (∃ (i : Nat) (Y : AH) (f : Nat → Int32), x2 = nI i ∧ i + n ≤ 40 ∧ fX0_orderOf X o (nI k) x2 = some (.inl X.1, Y) ∧ fX9_lacksOrder σ (nI k) x2 = some (0, σ) ∧ Y.2.2 X.1 = some (.inr (.inl (0, n, f))) ∧ (∀ j, j < n → f j = σ 3 (40 * k + i + j)) ∧ OrdF n f ∧ AgX (fun _ => False) X Y) := by
  have hn := hS.1.1
  have m := hS.Mn
  have sz := R.sz
  have hm : fX9_lacksOrder σ (nI k) x2 = (fX9_lacks σ (nI k) x2 (nI n)).bind fun (v6, σ5) => fX9_lacksOrder_L41 2000 σ5 (nI k) x2 v6 0 0 := by
    unfold fX9_lacksOrder fX9_lacksOrder_b34
    rw [h04, if_neg (by decide), e2, bsm, if_neg (by decide), hS.rd2, bsm]
  rcases p_rowOf R (k := k) (m := n) hk (by omega) x2 with ⟨c, y, Y, l1, hc, hF, G, hy, hw⟩ | ⟨i, Y, r, f, ei, hi, l1, ra, rc, rr, hq, hf, G⟩
  · refine Or.inl ?_
    obtain ⟨Z, z1, z2, z3, z4⟩ := p_thrown R G hF hy
    have hneg : ¬ 0 ≤ -1000010 - c := by rcases hc with rfl | rfl <;> decide
    have hne : -1000010 - c ≠ 0 := by rcases hc with rfl | rfl <;> decide
    refine ⟨-1000010 - c, y, Y, Z, up2 σ 0 3 c, ?_, ?_, hneg, z1, z2, z3, z4⟩
    · rcases hw with hw | ⟨r, ra, rc, rr⟩
      · unfold fX0_orderOf
        rw [R.ck0, bsm, hw, bsm]
      · unfold fX0_orderOf
        rw [R.ck0, bsm, ra, bsm]
        simp only [R.r4, m.ck1, m.many, bsm, rc, rr]
    · rw [hm, l1, bsm]
      exact m_ordFail (n := n) (by rw [up2_n (by omega)]; exact hS.1) _ _ _ hne 1999 _
  · have R1 := R.new G
    have S1 : Sv Y (o + 3) n (σ 4) := hS.ag G R.w (fun _ _ _ z => z)
    have ex : fX0_orderOf X o (nI k) x2 = fX0_orderOf_L23 8 Y o X.1 0 0 := by
      unfold fX0_orderOf
      rw [R.ck0, bsm, ra, bsm]
      simp only [R.r4, m.ck1, m.many, bsm, rc, rr]
    have em : fX9_lacksOrder σ (nI k) x2 = fX9_lacksOrder_L41 2000 σ (nI k) (nI i) 0 0 0 := by
      rw [hm, l1, bsm, ei]
    have b0 : ∀ c, c < 6 → (bitq (nI 0) (nI c) = true ↔ ∃ p, p < 0 ∧ f p = nI c) := fun c hc => by
      constructor
      · intro z
        exfalso
        rcases (show c = 0 ∨ c = 1 ∨ c = 2 ∨ c = 3 ∨ c = 4 ∨ c = 5 by omega) with rfl | rfl | rfl | rfl | rfl | rfl <;> exact absurd z (by decide)
      · rintro ⟨p, hp, -⟩
        omega
    rcases orderL R1 S1 h1 hk hi hq hf n 0 8 2000 0 0 0 0 0 (by omega) (by omega) (by omega) rfl rfl (by omega) rfl rfl (fun p hp => by omega) (fun p r hp => by omega) b0 with ⟨v1, v2, v3⟩ | ⟨y, Y2, v1, v2, v3, v4, v5⟩
    · exact Or.inr ⟨i, Y, f, ei, hi, ex.trans v1, em.trans v2, hq, hf, v3, G⟩
    · refine Or.inl ?_
      obtain ⟨Z, z1, z2, z3, z4⟩ := p_thrown R1 v4 v3 v5
      exact ⟨-1000013, y, Y2, Z, up2 σ 0 3 3, ex.trans v1, em.trans v2, by decide, z1, z2, z3, z4⟩
end OR
