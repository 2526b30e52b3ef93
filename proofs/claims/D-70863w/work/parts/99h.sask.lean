/-! ask: chairs that leave a trail -/
def Mv (σ σ' : MS) : Prop := (∀ k, k ≠ 0 → k ≠ 13 → σ' k = σ k) ∧ ∀ j, j ≠ 24 → σ' 0 j = σ 0 j
def tS (t : Nat) : Nat → Prop := fun a => a = t ∨ a = t + 1
def Trq (t : Nat) (X : AH) (σ : MS) : Prop := ∃ (f : Nat → Int32) (q : Nat), X.2.2 t = some (.inl (2, [.ref (t + 1), .int (σ 0 24)])) ∧ X.2.2 (t + 1) = some (.inr (.inl (0, 16, f))) ∧ σ 0 24 = nI q ∧ q ≤ 16 ∧ ∀ j, j < q → f j = σ 13 j
def Ak (t m a c k : Nat) (X0 : AH) (σ0 : MS) (X : AH) (σ : MS) : Prop := wfX X ∧ Trq t X σ ∧ X.2.2 a = some (.inl (3 + k, [.int (nI c)])) ∧ (∃ la tf tk, MinAt X m la (σ 4) tf tk) ∧ AgX (tS t) X0 X ∧ Mv σ0 σ ∧ m + 8 ≤ t ∧ c < 6 ∧ 1 ≤ k ∧ k ≤ 5 ∧ σ 4 (5 + c) = nI k
def Sm (P : AH → MS → Prop) (x : Option (Int32 × AH)) (y : Option (Int32 × MS)) : Prop := ∃ r Y σ', x = some (r, Y) ∧ y = some (r, σ') ∧ P Y σ'
section SAK
variable {t m a c k : Nat} {X0 X : AH} {σ0 σ : MS}
theorem Ak.begin (A : Ak t m a c k X0 σ0 X σ) (b : Int32) : ∃ Y σ', fX2_begins X t b = some Y ∧ fX9_begin σ b = some σ' ∧ Ak t m a c k X0 σ0 Y σ' := by
  have A0 := A
  obtain ⟨hw, ⟨f, q, c0, c1, e, hq, hf⟩, ha, ⟨la, tf, tk, hM⟩, G, V, hmt, hc, k1, k2, hk⟩ := A
  have ei : gI X t 2 1 = some (nI q) := by rw [← e]; exact gI_of c0 rfl
  by_cases z : q = 16
  · subst z
    refine ⟨X, σ, ?_, ?_, A0⟩
    · unfold fX2_begins
      rw [ei, bsm, if_pos (by decide)]
    · unfold fX9_begin
      rw [e, if_pos (by decide)]
  have h16 : ¬ (16 : Int32) ≤ nI q := fun h => absurd (nI_lt (a := q) (b := 16) (by omega) (by omega)) (Int32.not_lt.mpr h)
  have G1 : AgX (tS t) X (xup X t (.inl (2, [.ref (t + 1), .int (nI q + 1)]))) := AgX.up hw c0 (ni_o (by omega)) (Or.inl rfl)
  have c2 : (xup X t (.inl (2, [.ref (t + 1), .int (nI q + 1)]))).2.2 (t + 1) = some (.inr (.inl (0, 16, f))) := by rw [xup_n (by omega)]; exact c1
  have G2 : AgX (tS t) (xup X t (.inl (2, [.ref (t + 1), .int (nI q + 1)]))) (xup (xup X t (.inl (2, [.ref (t + 1), .int (nI q + 1)]))) (t + 1) (.inr (.inl (0, 16, upd f q b)))) := AgX.up G1.w c2 ni_a (Or.inr rfl)
  have GY := G1.tr G2
  have s4 : ∀ j, j ≠ 0 → j ≠ 13 → up2 (up2 σ 13 q b) 0 24 (nI q + 1) j = σ j := fun j h1 h2 => by rw [up2_n h1, up2_n h2]
  have s0 : up2 (up2 σ 13 q b) 0 24 (nI q + 1) 0 = upd (σ 0) 24 (nI q + 1) := by rw [up2_s, up2_n (by omega)]
  have s13 : up2 (up2 σ 13 q b) 0 24 (nI q + 1) 13 = upd (σ 13) q b := by rw [up2_n (by omega), up2_s]
  refine ⟨_, up2 (up2 σ 13 q b) 0 24 (nI q + 1), ?_, ?_, GY.w, ⟨upd f q b, q + 1, ?_, xup_s, ?_, by omega, fun j hj => ?_⟩, ?_, ⟨la, tf, tk, ?_⟩, G.tr GY, ⟨fun j h1 h2 => ?_, fun j hj => ?_⟩, hmt, hc, k1, k2, ?_⟩
  · unfold fX2_begins
    rw [ei, bsm, if_neg h16, gR_of c0 (k := 0) (v := t + 1) rfl, bsm, bsm, pF_of c0 (k := 1) (v := .int (nI q + 1)) (Nat.le_of_ble_eq_true rfl), bsm]
    show (pA (xup X t (.inl (2, [.ref (t + 1), .int (nI q + 1)]))) (t + 1) 0 (nI q) b).bind _ = _
    rw [pA_of c2 (by omega) (by omega), bsm]
  · unfold fX9_begin
    rw [e, if_neg h16, mwr_nI (by omega) (by omega), bsm, bsm]
    show some (up2 (up2 σ 13 q b) 0 24 (up2 σ 13 q b 0 24 + 1)) = _
    rw [up2_n (by omega), e]
  · rw [xup_n (by omega), xup_s, s0, upd_s]
  · rw [s0, upd_s]
    exact nI_add q 1
  · rw [s13]
    by_cases y : j = q
    · rw [y, upd_s, upd_s]
    · rw [upd_n y, upd_n y]; exact hf j (by omega)
  · exact GY.2.2.2.1 a _ ha (im_o (by omega) (by omega))
  · rw [s4 4 (by omega) (by omega)]
    exact hM.ag GY hw (fun b b1 b2 zz => by unfold tS at zz; omega)
  · rw [s4 j h1 h2]; exact V.1 j h1 h2
  · rw [s0, upd_n hj]; exact V.2 j hj
  · rw [s4 4 (by omega) (by omega)]; exact hk
theorem Ak.ck2 (A : Ak t m a c k X0 σ0 X σ) : ck X t 2 = some () := by
  obtain ⟨hw, ⟨f, q, c0, -⟩, -⟩ := A
  exact ck_of c0
theorem Ak.cell (A : Ak t m a c k X0 σ0 X σ) : X.2.2 a = some (.inl (3 + k, [.int (nI c)])) := A.2.2.1
theorem Ak.gc (A : Ak t m a c k X0 σ0 X σ) : gC X a = some (3 + k) := gC_of A.cell
theorem Ak.k1 (A : Ak t m a c k X0 σ0 X σ) : 1 ≤ k := A.2.2.2.2.2.2.2.2.1
theorem Ak.k2 (A : Ak t m a c k X0 σ0 X σ) : k ≤ 5 := A.2.2.2.2.2.2.2.2.2.1
theorem Ak.hc (A : Ak t m a c k X0 σ0 X σ) : c < 6 := A.2.2.2.2.2.2.2.1
theorem Ak.gn (A : Ak t m a c k X0 σ0 X σ) : gN X a = some (nI c) := by
  unfold gN
  rw [gCh_of A.cell A.k1 A.k2, bsm]
  exact gI_of A.cell rfl
theorem Ak.num (A : Ak t m a c k X0 σ0 X σ) : fX3_number X a = some (nI c, X) := by
  unfold fX3_number
  rw [A.gn, bsm]
theorem Ak.r3 (A : Ak t m a c k X0 σ0 X σ) : gR X m 1 3 = some (m + 2) := by
  obtain ⟨-, -, -, ⟨la, tf, tk, hM⟩, -⟩ := A
  exact gR_of hM.1 rfl
theorem Ak.r4 (A : Ak t m a c k X0 σ0 X σ) : gR X m 1 4 = some (m + 3) := by
  obtain ⟨-, -, -, ⟨la, tf, tk, hM⟩, -⟩ := A
  exact gR_of hM.1 rfl
theorem Ak.leg (A : Ak t m a c k X0 σ0 X σ) : gA X (m + 2) 0 (nI c) = some (σ 4 (11 + c)) := by
  have hc := A.hc
  obtain ⟨-, -, -, ⟨la, tf, tk, hM⟩, -⟩ := A
  exact hM.rd mo2 hc
theorem Ak.cus (A : Ak t m a c k X0 σ0 X σ) : gA X (m + 3) 0 (nI c) = some (σ 4 (29 + c)) := by
  have hc := A.hc
  obtain ⟨-, -, -, ⟨la, tf, tk, hM⟩, -⟩ := A
  exact hM.rd mo3 hc
theorem Ak.kind (A : Ak t m a c k X0 σ0 X σ) : rd (σ 4) 41 (5 + nI c) = some (nI k) := by
  have hc := A.hc
  rw [a5, st_rd σ (by omega), A.2.2.2.2.2.2.2.2.2.2]
theorem Ak.mleg (A : Ak t m a c k X0 σ0 X σ) : rd (σ 4) 41 (11 + nI c) = some (σ 4 (11 + c)) := by
  have hc := A.hc
  rw [a11, st_rd σ (by omega)]
theorem Ak.mcus (A : Ak t m a c k X0 σ0 X σ) : rd (σ 4) 41 (29 + nI c) = some (σ 4 (29 + c)) := by
  have hc := A.hc
  rw [a29, st_rd σ (by omega)]
theorem a_lent10 (A : Ak t m a c k X0 σ0 X σ) : Sm (Ak t m a c k X0 σ0) (fX3_size X a t m) (fX9_lent σ (nI c) 10) := by
  obtain ⟨Y, σ', e1, e2, B⟩ := A.begin 10
  refine ⟨σ' 4 (11 + c), Y, σ', ?_, ?_, B⟩
  · unfold fX3_size
    rw [A.ck2, bsm, e1, bsm, B.r3, bsm, B.gn, bsm, B.leg, bsm]
  · unfold fX9_lent
    rw [e2, bsm, if_pos rfl, B.mleg, bsm]
theorem a_lent20 (A : Ak t m a c k X0 σ0 X σ) : Sm (Ak t m a c k X0 σ0) (fX14_mark X a t m) (fX9_lent σ (nI c) 20) := by
  obtain ⟨Y, σ', e1, e2, B⟩ := A.begin 20
  refine ⟨nI c, Y, σ', ?_, ?_, B⟩
  · unfold fX14_mark
    have k1 := A.k1
    have k2 := A.k2
    rw [A.ck2, bsm, e1, bsm, B.gc, bsm, B.num, bsm]
    rcases (show k = 1 ∨ k = 2 ∨ k = 3 ∨ k = 4 ∨ k = 5 by omega) with rfl | rfl | rfl | rfl | rfl <;> rfl
  · unfold fX9_lent
    rw [e2, bsm, if_neg (by decide)]
theorem a_plainMark (A : Ak t m a c k X0 σ0 X σ) (h3 : k ≤ 3) : Sm (Ak t m a c k X0 σ0) (fX4_mark X a t m) (fX9_plainMark σ (nI c)) := by
  obtain ⟨Y, σ', e1, e2, B⟩ := A.begin 21
  obtain ⟨r, Z, σ2, e3, e4, C⟩ := a_lent20 B
  refine ⟨r + σ2 4 (29 + c), Z, σ2, ?_, ?_, C⟩
  · unfold fX4_mark
    have k1 := A.k1
    rw [A.ck2, bsm, e1, bsm, B.gc, bsm, e3]
    simp only [bsm, C.r4, C.gc, C.num, C.cus]
    rcases (show k = 1 ∨ k = 2 ∨ k = 3 by omega) with rfl | rfl | rfl <;> rfl
  · unfold fX9_plainMark
    rw [e2, bsm, e4, bsm]
    simp only [C.mcus, bsm]
theorem a_mark1 (A : Ak t m a c 1 X0 σ0 X σ) : Sm (Ak t m a c 1 X0 σ0) (fX4_mark X a t m) (fX9_markOf σ (nI c)) := by
  obtain ⟨r, Y, σ', e1, e2, B⟩ := a_plainMark A (by omega)
  refine ⟨r, Y, σ', e1, ?_, B⟩
  unfold fX9_markOf
  rw [A.kind, bsm, if_neg (by decide), if_neg (by decide), if_pos (by decide), e2, bsm]
theorem a_mark2 (A : Ak t m a c 2 X0 σ0 X σ) : Sm (Ak t m a c 2 X0 σ0) (fX5_mark X a t m) (fX9_markOf σ (nI c)) := by
  obtain ⟨Y, σ', e1, e2, B⟩ := A.begin 24
  obtain ⟨r, Z, σ2, e3, e4, C⟩ := a_plainMark B (by omega)
  refine ⟨2 * r, Z, σ2, ?_, ?_, C⟩
  · unfold fX5_mark
    rw [A.ck2, bsm, e1, bsm, show ck Y a 5 = some () from ck_of B.cell, bsm, e3, bsm]
  · unfold fX9_markOf
    rw [A.kind, bsm, if_pos (by decide), e2, bsm, e4, bsm]
theorem a_mark3 (A : Ak t m a c 3 X0 σ0 X σ) : Sm (Ak t m a c 3 X0 σ0) (fX6_mark X a t m) (fX9_markOf σ (nI c)) := by
  obtain ⟨Y, σ', e1, e2, B⟩ := A.begin 22
  obtain ⟨r, Z, σ2, e3, e4, C⟩ := a_plainMark B (by omega)
  refine ⟨r - 1000, Z, σ2, ?_, ?_, C⟩
  · unfold fX6_mark
    rw [A.ck2, bsm, e1, bsm, show ck Y a 6 = some () from ck_of B.cell, bsm, e3, bsm]
  · unfold fX9_markOf
    rw [A.kind, bsm, if_neg (by decide), if_pos (by decide), e2, bsm, e4, bsm]
theorem a_oakSize (A : Ak t m a c k X0 σ0 X σ) (h4 : 4 ≤ k) : Sm (Ak t m a c k X0 σ0) (fX7_size X a t m) (fX9_oakSize σ (nI c)) := by
  obtain ⟨Y, σ', e1, e2, B⟩ := A.begin 13
  obtain ⟨r, Z, σ2, e3, e4, C⟩ := a_lent10 B
  refine ⟨r - 100, Z, σ2, ?_, ?_, C⟩
  · unfold fX7_size
    have k2 := A.k2
    rw [A.ck2, bsm, e1, bsm, B.gc, bsm, e3]
    rcases (show k = 4 ∨ k = 5 by omega) with rfl | rfl <;> rfl
  · unfold fX9_oakSize
    rw [e2, bsm, e4, bsm]
theorem a_size4 (A : Ak t m a c 4 X0 σ0 X σ) : Sm (Ak t m a c 4 X0 σ0) (fX7_size X a t m) (fX9_sizeOfOak σ (nI c)) := by
  obtain ⟨r, Y, σ', e1, e2, B⟩ := a_oakSize A (by omega)
  refine ⟨r, Y, σ', e1, ?_, B⟩
  unfold fX9_sizeOfOak
  rw [A.kind, bsm, if_neg (by decide), e2, bsm]
theorem a_size5 (A : Ak t m a c 5 X0 σ0 X σ) : Sm (Ak t m a c 5 X0 σ0) (fX8_size X a t m) (fX9_sizeOfOak σ (nI c)) := by
  obtain ⟨Y, σ', e1, e2, B⟩ := A.begin 14
  obtain ⟨r, Z, σ2, e3, e4, C⟩ := a_oakSize B (by omega)
  refine ⟨2 * r, Z, σ2, ?_, ?_, C⟩
  · unfold fX8_size
    rw [A.ck2, bsm, e1, bsm, show ck Y a 8 = some () from ck_of B.cell, bsm, e3, bsm]
  · unfold fX9_sizeOfOak
    rw [A.kind, bsm, if_pos (by decide), e2, bsm, e4, bsm]
theorem a_mark4 (A : Ak t m a c 4 X0 σ0 X σ) : Sm (Ak t m a c 4 X0 σ0) (fX7_mark X a t m) (fX9_markOf σ (nI c)) := by
  obtain ⟨Y, σ', e1, e2, B⟩ := A.begin 23
  obtain ⟨r, Z, σ2, e3, e4, C⟩ := a_lent20 B
  obtain ⟨r2, V, σ3, e5, e6, D⟩ := a_size4 C
  refine ⟨r - r2, V, σ3, ?_, ?_, D⟩
  · unfold fX7_mark
    rw [A.ck2, bsm, e1, bsm, B.gc, bsm, e3, if_pos rfl, bsm, C.gc, bsm, if_pos rfl, e5, bsm]
  · unfold fX9_markOf
    rw [A.kind, bsm, if_neg (by decide), if_neg (by decide), if_neg (by decide), e2, bsm, e4, bsm, e6, bsm]
theorem a_mark5 (A : Ak t m a c 5 X0 σ0 X σ) : Sm (Ak t m a c 5 X0 σ0) (fX7_mark X a t m) (fX9_markOf σ (nI c)) := by
  obtain ⟨Y, σ', e1, e2, B⟩ := A.begin 23
  obtain ⟨r, Z, σ2, e3, e4, C⟩ := a_lent20 B
  obtain ⟨r2, V, σ3, e5, e6, D⟩ := a_size5 C
  refine ⟨r - r2, V, σ3, ?_, ?_, D⟩
  · unfold fX7_mark
    rw [A.ck2, bsm, e1, bsm, B.gc, bsm, e3, if_neg (by decide), if_pos rfl, bsm, C.gc, bsm, if_neg (by decide), if_pos rfl, e5, bsm]
  · unfold fX9_markOf
    rw [A.kind, bsm, if_neg (by decide), if_neg (by decide), if_neg (by decide), e2, bsm, e4, bsm, e6, bsm]
theorem a_plainSize (A : Ak t m a c k X0 σ0 X σ) (h3 : k ≤ 3) : Sm (Ak t m a c k X0 σ0) (fX4_size X a t m) (fX9_plainSize σ (nI c)) := by
  obtain ⟨Y, σ', e1, e2, B⟩ := A.begin 11
  obtain ⟨r, Z, σ2, e3, e4, C⟩ := a_lent10 B
  have k1 := A.k1
  rcases (show k = 1 ∨ k = 2 ∨ k = 3 by omega) with rfl | rfl | rfl
  · obtain ⟨r2, V, σ3, e5, e6, D⟩ := a_mark1 C
    refine ⟨r + r2, V, σ3, ?_, ?_, D⟩
    · unfold fX4_size
      rw [A.ck2, bsm, e1, bsm, B.gc, bsm, e3, if_pos rfl, bsm, C.gc, bsm, if_pos rfl, e5, bsm]
    · unfold fX9_plainSize
      rw [e2, bsm, e4, bsm, e6, bsm]
  · obtain ⟨r2, V, σ3, e5, e6, D⟩ := a_mark2 C
    refine ⟨r + r2, V, σ3, ?_, ?_, D⟩
    · unfold fX4_size
      rw [A.ck2, bsm, e1, bsm, B.gc, bsm, e3, if_neg (by decide), if_pos rfl, bsm, C.gc, bsm, if_neg (by decide), if_pos rfl, e5, bsm]
    · unfold fX9_plainSize
      rw [e2, bsm, e4, bsm, e6, bsm]
  · obtain ⟨r2, V, σ3, e5, e6, D⟩ := a_mark3 C
    refine ⟨r + r2, V, σ3, ?_, ?_, D⟩
    · unfold fX4_size
      rw [A.ck2, bsm, e1, bsm, B.gc, bsm, e3, if_neg (by decide), if_neg (by decide), if_pos rfl, bsm, C.gc, bsm, if_neg (by decide), if_neg (by decide), if_pos rfl, e5, bsm]
    · unfold fX9_plainSize
      rw [e2, bsm, e4, bsm, e6, bsm]
def markF (k : Nat) : AH → Nat → Nat → Nat → Option (Int32 × AH) := match k with
  | 1 => fX4_mark
  | 2 => fX5_mark
  | 3 => fX6_mark
  | _ => fX7_mark
def sizeF (k : Nat) : AH → Nat → Nat → Nat → Option (Int32 × AH) := match k with
  | 1 => fX4_size
  | 2 => fX5_size
  | 3 => fX4_size
  | 4 => fX7_size
  | _ => fX8_size
theorem a_mark (A : Ak t m a c k X0 σ0 X σ) : Sm (Ak t m a c k X0 σ0) (markF k X a t m) (fX9_markOf σ (nI c)) := by
  have k1 := A.k1
  have k2 := A.k2
  rcases (show k = 1 ∨ k = 2 ∨ k = 3 ∨ k = 4 ∨ k = 5 by omega) with rfl | rfl | rfl | rfl | rfl
  · exact a_mark1 A
  · exact a_mark2 A
  · exact a_mark3 A
  · exact a_mark4 A
  · exact a_mark5 A
theorem a_size (A : Ak t m a c k X0 σ0 X σ) : Sm (Ak t m a c k X0 σ0) (sizeF k X a t m) (fX9_sizeOf σ (nI c)) := by
  have k1 := A.k1
  have k2 := A.k2
  rcases (show k = 1 ∨ k = 2 ∨ k = 3 ∨ k = 4 ∨ k = 5 by omega) with rfl | rfl | rfl | rfl | rfl
  · obtain ⟨r, Y, σ', e1, e2, B⟩ := a_plainSize A (by omega)
    refine ⟨r, Y, σ', e1, ?_, B⟩
    unfold fX9_sizeOf
    rw [A.kind, bsm, if_neg (by decide), if_pos (by decide), e2, bsm]
  · obtain ⟨Y, σ', e1, e2, B⟩ := A.begin 12
    obtain ⟨r, Z, σ2, e3, e4, C⟩ := a_plainSize B (by omega)
    refine ⟨-r, Z, σ2, ?_, ?_, C⟩
    · show fX5_size X a t m = _
      unfold fX5_size
      rw [A.ck2, bsm, e1, bsm, show ck Y a 5 = some () from ck_of B.cell, bsm, e3, bsm]
    · unfold fX9_sizeOf
      rw [A.kind, bsm, if_pos (by decide), e2, bsm, e4, bsm]
  · obtain ⟨r, Y, σ', e1, e2, B⟩ := a_plainSize A (by omega)
    refine ⟨r, Y, σ', e1, ?_, B⟩
    unfold fX9_sizeOf
    rw [A.kind, bsm, if_neg (by decide), if_pos (by decide), e2, bsm]
  · obtain ⟨r, Y, σ', e1, e2, B⟩ := a_size4 A
    refine ⟨r, Y, σ', e1, ?_, B⟩
    unfold fX9_sizeOf
    rw [A.kind, bsm, if_neg (by decide), if_neg (by decide), e2, bsm]
  · obtain ⟨r, Y, σ', e1, e2, B⟩ := a_size5 A
    refine ⟨r, Y, σ', e1, ?_, B⟩
    unfold fX9_sizeOf
    rw [A.kind, bsm, if_neg (by decide), if_neg (by decide), e2, bsm]
end SAK
section SASK
variable {o t n : Nat} {g h h2 : Nat → Option Nat} {X Y : AH} {σ σ' : MS}
/-- a new trail -/
theorem Rl.newTrail (R : Rl o t g h h2 X σ) (G : AgX (fun a => a = o) X Y) (hc : Y.2.2 o = some (.inl (0, crF o σ' X.1))) (hT : Trq X.1 Y σ') (V : Mv σ σ') : Rl o X.1 g h h2 Y σ' := by
  have n : ∀ a, a < o ∨ o + 1 ≤ a → ¬ (fun a => a = o) a := fun a h z => by have z : a = o := z; omega
  have sz := R.sz
  have e := V.1
  have e0 := V.2
  have q2 := R.rows.ag G R.w (n _ (by omega)) (fun a _ => n a (by omega))
  have q3 := R.tape.ag G R.w (n _ (by omega))
  have q4 := R.past.ag G R.w (n _ (by omega)) (fun a _ => n a (by omega))
  have q5 := R.img.ag G R.w (n _ (by omega)) (fun a _ => n a (by omega))
  have q7 := R.min.ag G R.w (fun a _ _ => n a (by omega))
  refine ⟨G.w, Nat.le_trans R.sz G.2.1, hc, ?_, ?_, ?_, R.tri.ag G R.w (fun a _ _ => n a (by omega)), ?_, ?_, ?_, R.tkn.ag G, R.emp.ag G, ?_⟩
  · unfold pRows pRow at q2 ⊢; rw [e 1 (by omega) (by omega), e 2 (by omega) (by omega), e 3 (by omega) (by omega)]; exact q2
  · unfold pTape at q3 ⊢; rw [e0 8 (by omega), e 6 (by omega) (by omega)]; exact q3
  · unfold pMin at q7 ⊢; rw [e0 4 (by omega), e 4 (by omega) (by omega)]; exact q7
  · unfold pPast at q4 ⊢; rw [e0 19 (by omega), e0 4 (by omega), e 9 (by omega) (by omega)]; exact q4
  · unfold pImg at q5 ⊢; rw [e0 4 (by omega), e 11 (by omega) (by omega), e 12 (by omega) (by omega)]; exact q5
  · obtain ⟨f, q, k1, k2, k3, k4, k5⟩ := hT
    exact ⟨f, q, Or.inr sz, k1, k2, k3, k4, k5⟩
  · refine Dsj.new (i := 34) (p := X.1) R.dsj R.below bse_t (fun j hj => ?_)
    unfold bse
    simp only [hj, if_false]
theorem s_ask (R : Rel o X σ) (x1 x2 : Int32) : Same o (fX0_ask X o x1 x2) (fX9_ask σ x1 x2) := by
  obtain ⟨t, g, h, h2, R⟩ := R
  obtain ⟨n, hS, ht⟩ := R.min
  have hn := hS.1.1
  unfold fX0_ask fX9_ask
  have eH : fX0_isHalf x2 = fX9_in x2.toInt64 0 1 := rfl
  simp only [R.ck0, bsm, eH]
  rcases R.isChair hS x1 with ⟨e1, e2⟩ | ⟨c, hc, rfl, e1, e2⟩
  · simp only [e1, e2, bsm, if_true]
    exact Same.mk rfl rfl R.rel
  simp only [e1, e2, bsm, one0, if_false]
  rcases inN x2 (a := 0) (b := 1) 0 1 rfl rfl (by decide) (by decide) with f1 | ⟨f1, j, j0, hj, rfl⟩
  · simp only [f1, bsm, if_true]
    exact Same.mk rfl rfl R.rel
  simp only [f1, bsm, one0, if_false]
  have sz := R.sz
  obtain ⟨hg, la, tk, hM, hL⟩ := hS
  generalize hX7 : xnw X (.inl (2, [.null, .int 0])) = X7
  have G7 : AgX (fun a => a = o) X X7 := by rw [← hX7]; exact AgX.nw R.w
  have s7 : X7.1 = X.1 + 1 := by rw [← hX7]; rfl
  have c7 : X7.2.2 X.1 = some (.inl (2, [.null, .int 0])) := by rw [← hX7]; exact xnw_s
  generalize hX8 : xnw X7 (.inr (.inl (0, 16, fun _ => 0))) = X8
  have G8 : AgX (fun a => a = o) X7 X8 := by rw [← hX8]; exact AgX.nw G7.w
  have c8 : X8.2.2 X.1 = some (.inl (2, [.null, .int 0])) := by rw [← hX8, xnw_n (by omega)]; exact c7
  have d8 : X8.2.2 (X.1 + 1) = some (.inr (.inl (0, 16, fun _ => 0))) := by rw [← hX8, ← s7]; exact xnw_s
  have eI : fX2_init X7 X.1 = some (xup X8 X.1 (.inl (2, [.ref (X.1 + 1), .int 0]))) := by
    unfold fX2_init
    rw [bsm, hX8, pF_of c8 (k := 0) (v := .ref X7.1) (Nat.le_of_ble_eq_true rfl), bsm, s7]
    rfl
  generalize hX9 : xup X8 X.1 (.inl (2, [.ref (X.1 + 1), .int 0])) = X9 at eI
  have w8 := G8.w
  have G9 : AgX (fun a => a = X.1) X8 X9 := by rw [← hX9]; exact AgX.up w8 c8 (ni_o (by omega)) rfl
  have GA : AgX (fun a => a = o) X X9 := by
    have q := G7.tr G8
    refine ⟨G9.1.trans q.1, Nat.le_trans q.2.1 G9.2.1, fun a ha hs => ?_, fun a e ha hi => G9.2.2.2.1 a e (q.2.2.2.1 a e ha hi) hi, G9.w⟩
    rw [G9.2.2.1 a (Nat.lt_of_lt_of_le ha q.2.1) (fun z => by have z : a = X.1 := z; omega)]
    exact q.2.2.1 a ha hs
  have o9 : X9.2.2 o = some (.inl (0, crF o σ t)) := by
    rw [← hX9, xup_n (by omega), ← hX8, xnw_n (by omega), ← hX7, xnw_n (by omega)]
    exact R.obj
  have c9 : X9.2.2 X.1 = some (.inl (2, [.ref (X.1 + 1), .int 0])) := by rw [← hX9]; exact xup_s
  have d9 : X9.2.2 (X.1 + 1) = some (.inr (.inl (0, 16, fun _ => 0))) := by rw [← hX9, xup_n (by omega)]; exact d8
  have eP : pF X9 o 0 9 (.ref X.1) = some (xup X9 o (.inl (0, crF o σ X.1))) := by
    rw [pF_of o9 (k := 9) (v := .ref X.1) (Nat.le_of_ble_eq_true rfl)]
    rfl
  generalize hXa : xup X9 o (.inl (0, crF o σ X.1)) = Xa at eP
  have Ga : AgX (fun a => a = o) X Xa := by
    rw [← hXa]
    exact GA.tr (AgX.up GA.w o9 (ni_o (by omega)) rfl)
  have oa : Xa.2.2 o = some (.inl (0, crF o σ X.1)) := by rw [← hXa]; exact xup_s
  have ca : Xa.2.2 X.1 = some (.inl (2, [.ref (X.1 + 1), .int 0])) := by rw [← hXa, xup_n (by omega)]; exact c9
  have da : Xa.2.2 (X.1 + 1) = some (.inr (.inl (0, 16, fun _ => 0))) := by rw [← hXa, xup_n (by omega)]; exact d9
  have hMa : MinAt Xa (o + 3) la (σ 4) NO tk := hM.ag Ga R.w (fun a a1 a2 z => by have z : a = o := z; omega)
  have hLa : ChL Xa la n (σ 4) := hL.ag Ga
  obtain ⟨a, k, k1, k2, k3, k4, k5⟩ := x_get hLa hc
  obtain ⟨mc, E, cap, gg, l1, -⟩ := hLa
  simp only [eI, eP, bsm, gR_of oa (k := 4) (v := o + 3) rfl, gR_of oa (k := 9) (v := X.1) rfl, gR_of hMa.1 (k := 2) (v := la) rfl, ck_of l1, k5, gCh_of k4 k1 k2, gC_of k4]
  have u4 : up2 σ 0 24 0 4 = σ 4 := up2_n (by omega)
  have V0 : Mv σ (up2 σ 0 24 0) := ⟨fun j h1 _ => up2_n h1, fun j hj => by rw [up2_s, upd_n hj]⟩
  have u24 : up2 σ 0 24 0 0 24 = nI 0 := by rw [up2_s, upd_s]; rfl
  have A0 : Ak X.1 (o + 3) a c k Xa (up2 σ 0 24 0) Xa (up2 σ 0 24 0) := by
    refine ⟨Ga.w, ⟨fun _ => 0, 0, ?_, da, u24, by omega, fun j hj => by omega⟩, k4, ⟨la, NO, tk, by rw [u4]; exact hMa⟩, AgX.rf Ga.w, ⟨fun _ _ _ => rfl, fun _ _ => rfl⟩, by omega, by omega, k1, k2, by rw [u4]; exact k3⟩
    rw [u24]; exact ca
  have fin : ∀ (x : Option (Int32 × AH)) (y : Option (Int32 × MS)), Sm (Ak X.1 (o + 3) a c k Xa (up2 σ 0 24 0)) x y → Same o (x.bind fun z => some (z.1, z.2)) (y.bind fun z => some (z.1, z.2)) := by
    rintro x y ⟨r, Z, σ2, rfl, rfl, B⟩
    obtain ⟨hw, hT, -, -, GZ, VZ, -⟩ := B
    refine Same.mk (r := r) (Y := Z) (σ' := σ2) rfl rfl (Rl.rel (t := X.1) (g := g) (h := h) (h2 := h2) (R.newTrail ?_ ?_ hT ⟨fun j h1 h2 => (VZ.1 j h1 h2).trans (V0.1 j h1 h2), fun j hj => (VZ.2 j hj).trans (V0.2 j hj)⟩))
    · refine ⟨GZ.1.trans Ga.1, Nat.le_trans Ga.2.1 GZ.2.1, fun a ha hs => ?_, fun a e ha hi => GZ.2.2.2.1 a e (Ga.2.2.2.1 a e ha hi) hi, hw⟩
      rw [GZ.2.2.1 a (Nat.lt_of_lt_of_le ha Ga.2.1) (fun z => by unfold tS at z; omega)]
      exact Ga.2.2.1 a ha hs
    · have := GZ.at Ga.w oa (fun z => by unfold tS at z; omega)
      rw [this]
      have f1 : ∀ j, j ≠ 24 → σ2 0 j = σ 0 j := fun j hj => (VZ.2 j hj).trans (V0.2 j hj)
      unfold crF
      rw [f1 8 (by omega), f1 9 (by omega), f1 19 (by omega), f1 3 (by omega)]
  by_cases j1 : j = 0
  · subst j1
    rw [if_pos (show nI 0 = 0 from rfl), if_pos (show nI 0 = 0 from rfl)]
    have := fin _ _ (a_size A0)
    rcases (show k = 1 ∨ k = 2 ∨ k = 3 ∨ k = 4 ∨ k = 5 by omega) with rfl | rfl | rfl | rfl | rfl
    · rw [if_pos rfl]; exact this
    · rw [if_neg (by decide), if_pos rfl]; exact this
    · rw [if_neg (by decide), if_neg (by decide), if_pos rfl]; exact this
    · rw [if_neg (by decide), if_neg (by decide), if_neg (by decide), if_pos rfl]; exact this
    · rw [if_neg (by decide), if_neg (by decide), if_neg (by decide), if_neg (by decide), if_pos rfl]; exact this
  · have j2 : j = 1 := by omega
    subst j2
    rw [if_neg (show ¬ nI 1 = 0 by decide), if_neg (show ¬ nI 1 = 0 by decide)]
    have := fin _ _ (a_mark A0)
    rcases (show k = 1 ∨ k = 2 ∨ k = 3 ∨ k = 4 ∨ k = 5 by omega) with rfl | rfl | rfl | rfl | rfl
    · rw [if_pos rfl]; exact this
    · rw [if_neg (by decide), if_pos rfl]; exact this
    · rw [if_neg (by decide), if_neg (by decide), if_pos rfl]; exact this
    · rw [if_neg (by decide), if_neg (by decide), if_neg (by decide), if_pos rfl]; exact this
    · rw [if_neg (by decide), if_neg (by decide), if_neg (by decide), if_neg (by decide), if_pos rfl]; exact this
end SASK
