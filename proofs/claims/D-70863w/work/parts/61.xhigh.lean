/-! a Ministry's chairs, how high one sits -/
theorem x_get {X : AH} {la n i : Nat} {μ : Nat → Int32} (hL : ChL X la n μ) (hi : i < n) : ∃ (a k : Nat), 1 ≤ k ∧ k ≤ 5 ∧ μ (5 + i) = nI k ∧ X.2.2 a = some (.inl (3 + k, [.int (nI i)])) ∧ fJ2_get X la (nI i) = some (a, X) := by
  obtain ⟨mc, E, cap, g, h1, h2, h3, h4, h5⟩ := hL
  obtain ⟨a, k, k1, k2, k3, k4, k5⟩ := h5 i hi
  refine ⟨a, k, k1, k2, k3, k5, ?_⟩
  have q : gQn X E 5 (nI i) = some a := by
    unfold gQn gQ
    rw [h2]
    show ((if 5 = 5 ∧ ¬ (nI i < 0 ∨ cap ≤ (nI i).toNatClampNeg) then some (g (nI i).toNatClampNeg) else none).bind id) = _
    rw [if_pos ⟨rfl, nI_in (by omega) (by omega)⟩, nI_clamp (by omega), k4]
    rfl
  unfold fJ2_get fJ15_checkIndex fJ10_checkIndex fJ2_elementData
  rw [gI_of h1 (v := nI n) rfl, Option.bind_some, if_neg (nI_pos (by omega)), if_pos (nI_lt hi (by omega))]
  simp only [Option.bind_some, ck_of h1, gR_of h1 (k := 1) (v := E) rfl, q]
/-- the chairs that count (one may be taken as another one) -/
def EC (X : AH) (o n : Nat) (μ : Nat → Int32) : Prop := ∀ c, c < n → ∃ (a k : Nat) (fs : List Value), 1 ≤ k ∧ k ≤ 5 ∧ μ (5 + c) = nI k ∧ X.2.2 a = some (.inl (3 + k, fs)) ∧ fX1_chair X o (nI c) = some (a, X)
theorem gCh_of {X : AH} {a k : Nat} {fs : List Value} (h : X.2.2 a = some (.inl (3 + k, fs))) (k1 : 1 ≤ k) (k2 : k ≤ 5) : gCh X a = some (3 + k) := by
  unfold gCh
  rw [gC_of h, Option.bind_some]
  rcases (show k = 1 ∨ k = 2 ∨ k = 3 ∨ k = 4 ∨ k = 5 by omega) with rfl | rfl | rfl | rfl | rfl <;> rfl
theorem x_EC {X : AH} {o la n : Nat} {μ : Nat → Int32} {tf : Int32} {tk : Value} (hM : MinAt X o la μ tf tk) (hL : ChL X la n μ) (htf : ∀ c, c < n → nI c ≠ tf) : EC X o n μ := by
  intro c hc
  obtain ⟨a, k, k1, k2, k3, k4, k5⟩ := x_get hL hc
  obtain ⟨mc, E, cap, g, h1, -⟩ := hL
  refine ⟨a, k, _, k1, k2, k3, k4, ?_⟩
  unfold fX1_chair
  rw [gI_of hM.1 (k := 11) (v := tf) rfl, Option.bind_some, if_neg (htf c hc), gR_of hM.1 (k := 2) (v := la) rfl, Option.bind_some, ck_of h1, Option.bind_some, k5]
  simp only [Option.bind_some, gCh_of k4 k1 k2]
theorem x_high {X : AH} {o la n c : Nat} {μ : Nat → Int32} {tf : Int32} {tk : Value} (hM : MinAt X o la μ tf tk) (hE : EC X o n μ) (hn : n ≤ 6) (hc : c < n) (hl : 0 ≤ μ (11 + c)) : fX1_high X o (nI c) = some (hi μ c, X) := by
  obtain ⟨a, k, fs, k1, k2, k3, k4, k5⟩ := hE c hc
  unfold fX1_high
  rw [ck_of hM.1, Option.bind_some, k5]
  simp only [Option.bind_some, gR_of hM.1 (k := 3) (v := o + 2) rfl, gR_of hM.1 (k := 4) (v := o + 3) rfl, arr6_rd hM.2.1 (show c < 6 by omega), arr6_rd hM.2.2.1 (show c < 6 by omega), gC_of k4]
  unfold hi hb
  rw [k3]
  rcases (show k = 1 ∨ k = 2 ∨ k = 3 ∨ k = 4 ∨ k = 5 by omega) with rfl | rfl | rfl | rfl | rfl
  · rfl
  · simp only [fX5_high, ck_of k4, fX4_high, Option.bind_some]; rfl
  · simp only [fX6_high, ck_of k4, fX4_high, Option.bind_some]; rfl
  · rfl
  · simp only [fX8_high, ck_of k4, fX7_high, Option.bind_some]
    have e : (if nI 5 = 2 then ((μ (11 + c) + μ (29 + c)) / 2) * 2 else if nI 5 = 3 then μ (11 + c) + (2 * μ (29 + c)) else if nI 5 = 4 then μ (11 + c) else if nI 5 = 5 then (if μ (11 + c) ≤ 0 then 0 else μ (11 + c) + 5) else μ (11 + c) + μ (29 + c)) = (if μ (11 + c) ≤ 0 then 0 else μ (11 + c) + 5) := rfl
    rw [e]
    by_cases q : μ (11 + c) ≤ 0
    · have : μ (11 + c) = 0 := Int32.le_antisymm q hl
      simp [this]
    · simp [q]
