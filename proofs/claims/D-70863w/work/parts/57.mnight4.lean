/-! those caught, as bits; the night whole -/
def bs (b : Bool) (s : Nat) : Int32 := if b = true then (1 : Int32) <<< (nI s &&& 31) else 0
theorem bits1 : ∀ b0 : Bool, bitq ((0 : Int32) ||| bs b0 0) (nI 0) = b0 := by decide +kernel
theorem bits2 : ∀ b0 b1 : Bool, bitq (((0 : Int32) ||| bs b0 0) ||| bs b1 1) (nI 0) = b0 ∧ bitq (((0 : Int32) ||| bs b0 0) ||| bs b1 1) (nI 1) = b1 := by decide +kernel
theorem bits3 : ∀ b0 b1 b2 : Bool, bitq ((((0 : Int32) ||| bs b0 0) ||| bs b1 1) ||| bs b2 2) (nI 0) = b0 ∧ bitq ((((0 : Int32) ||| bs b0 0) ||| bs b1 1) ||| bs b2 2) (nI 1) = b1 ∧ bitq ((((0 : Int32) ||| bs b0 0) ||| bs b1 1) ||| bs b2 2) (nI 2) = b2 := by decide +kernel
theorem bits4 : ∀ b0 b1 b2 b3 : Bool, bitq (((((0 : Int32) ||| bs b0 0) ||| bs b1 1) ||| bs b2 2) ||| bs b3 3) (nI 0) = b0 ∧ bitq (((((0 : Int32) ||| bs b0 0) ||| bs b1 1) ||| bs b2 2) ||| bs b3 3) (nI 1) = b1 ∧ bitq (((((0 : Int32) ||| bs b0 0) ||| bs b1 1) ||| bs b2 2) ||| bs b3 3) (nI 2) = b2 ∧ bitq (((((0 : Int32) ||| bs b0 0) ||| bs b1 1) ||| bs b2 2) ||| bs b3 3) (nI 3) = b3 := by decide +kernel
theorem bits5 : ∀ b0 b1 b2 b3 b4 : Bool, bitq ((((((0 : Int32) ||| bs b0 0) ||| bs b1 1) ||| bs b2 2) ||| bs b3 3) ||| bs b4 4) (nI 0) = b0 ∧ bitq ((((((0 : Int32) ||| bs b0 0) ||| bs b1 1) ||| bs b2 2) ||| bs b3 3) ||| bs b4 4) (nI 1) = b1 ∧ bitq ((((((0 : Int32) ||| bs b0 0) ||| bs b1 1) ||| bs b2 2) ||| bs b3 3) ||| bs b4 4) (nI 2) = b2 ∧ bitq ((((((0 : Int32) ||| bs b0 0) ||| bs b1 1) ||| bs b2 2) ||| bs b3 3) ||| bs b4 4) (nI 3) = b3 ∧ bitq ((((((0 : Int32) ||| bs b0 0) ||| bs b1 1) ||| bs b2 2) ||| bs b3 3) ||| bs b4 4) (nI 4) = b4 := by decide +kernel
theorem bits6 : ∀ b0 b1 b2 b3 b4 b5 : Bool, bitq (((((((0 : Int32) ||| bs b0 0) ||| bs b1 1) ||| bs b2 2) ||| bs b3 3) ||| bs b4 4) ||| bs b5 5) (nI 0) = b0 ∧ bitq (((((((0 : Int32) ||| bs b0 0) ||| bs b1 1) ||| bs b2 2) ||| bs b3 3) ||| bs b4 4) ||| bs b5 5) (nI 1) = b1 ∧ bitq (((((((0 : Int32) ||| bs b0 0) ||| bs b1 1) ||| bs b2 2) ||| bs b3 3) ||| bs b4 4) ||| bs b5 5) (nI 2) = b2 ∧ bitq (((((((0 : Int32) ||| bs b0 0) ||| bs b1 1) ||| bs b2 2) ||| bs b3 3) ||| bs b4 4) ||| bs b5 5) (nI 3) = b3 ∧ bitq (((((((0 : Int32) ||| bs b0 0) ||| bs b1 1) ||| bs b2 2) ||| bs b3 3) ||| bs b4 4) ||| bs b5 5) (nI 4) = b4 ∧ bitq (((((((0 : Int32) ||| bs b0 0) ||| bs b1 1) ||| bs b2 2) ||| bs b3 3) ||| bs b4 4) ||| bs b5 5) (nI 5) = b5 := by decide +kernel
theorem cgm_bits (μ : Nat → Int32) (n : Nat) (h1 : 1 ≤ n) (hn : n ≤ 6) : ∀ j, j < n → bitq (cgm μ n 0 n 0) (nI j) = cgt μ n j := by
  intro j hj
  rcases (show n = 1 ∨ n = 2 ∨ n = 3 ∨ n = 4 ∨ n = 5 ∨ n = 6 by omega) with rfl | rfl | rfl | rfl | rfl | rfl
  · have h := bits1 (cgt μ 1 0)
    rcases (show j = 0 by omega) with rfl
    · exact h
  · have h := bits2 (cgt μ 2 0) (cgt μ 2 1)
    rcases (show j = 0 ∨ j = 1 by omega) with rfl | rfl
    · exact h.1
    · exact h.2
  · have h := bits3 (cgt μ 3 0) (cgt μ 3 1) (cgt μ 3 2)
    rcases (show j = 0 ∨ j = 1 ∨ j = 2 by omega) with rfl | rfl | rfl
    · exact h.1
    · exact h.2.1
    · exact h.2.2
  · have h := bits4 (cgt μ 4 0) (cgt μ 4 1) (cgt μ 4 2) (cgt μ 4 3)
    rcases (show j = 0 ∨ j = 1 ∨ j = 2 ∨ j = 3 by omega) with rfl | rfl | rfl | rfl
    · exact h.1
    · exact h.2.1
    · exact h.2.2.1
    · exact h.2.2.2
  · have h := bits5 (cgt μ 5 0) (cgt μ 5 1) (cgt μ 5 2) (cgt μ 5 3) (cgt μ 5 4)
    rcases (show j = 0 ∨ j = 1 ∨ j = 2 ∨ j = 3 ∨ j = 4 by omega) with rfl | rfl | rfl | rfl | rfl
    · exact h.1
    · exact h.2.1
    · exact h.2.2.1
    · exact h.2.2.2.1
    · exact h.2.2.2.2
  · have h := bits6 (cgt μ 6 0) (cgt μ 6 1) (cgt μ 6 2) (cgt μ 6 3) (cgt μ 6 4) (cgt μ 6 5)
    rcases (show j = 0 ∨ j = 1 ∨ j = 2 ∨ j = 3 ∨ j = 4 ∨ j = 5 by omega) with rfl | rfl | rfl | rfl | rfl | rfl
    · exact h.1
    · exact h.2.1
    · exact h.2.2.1
    · exact h.2.2.2.1
    · exact h.2.2.2.2.1
    · exact h.2.2.2.2.2
theorem m_nightL1 (μ : Nat → Int32) (n : Nat) (h1 : 1 ≤ n) (hn : n ≤ 6) (hm : μ 2 = nI n) : ∀ (d c fuel : Nat) (σ : MS), d < fuel → c + d = n → σ 4 = μ → (∀ j, j < c → σ 8 j = 0) → σ 0 17 = 0 →
    ∃ σ' : MS, fX9_oneNight_L7 fuel σ (nI c) = some σ' ∧ σ' 4 = nit μ n ∧ (∀ k, k ≠ 4 → k ≠ 8 → k ≠ 0 → σ' k = σ k) ∧ ∀ j, j ≠ 17 → σ' 0 j = σ 0 j := by
  intro d
  induction d with
  | zero =>
    intro c fuel σ hf hc h4 h8 h0
    obtain ⟨f, rfl⟩ : ∃ f, fuel = f + 1 := ⟨fuel - 1, by omega⟩
    have e1 : rd (σ 4) 41 2 = some (nI n) := by
      rw [show rd (σ 4) 41 2 = some (σ 4 2) from rd_nI (j := 2) (by omega) (by omega), h4, hm]
    obtain ⟨σ', g1, g2, g3, g4⟩ := m_nightL2 μ n h1 hn hm (cgm_bits μ n h1 hn) n 0 2000 σ (by omega) (by omega) h4 (fun j hj => by rw [h8 j (by omega), Int32.zero_add]) (by rw [h0])
    refine ⟨σ', ?_, g2, g3, g4⟩
    unfold fX9_oneNight_L7
    simp only [e1, Option.bind_some]
    rw [if_pos (by rw [nI_leI (by omega) (by omega)]; omega)]
    exact g1
  | succ d ih =>
    intro c fuel σ hf hc h4 h8 h0
    obtain ⟨f, rfl⟩ : ∃ f, fuel = f + 1 := ⟨fuel - 1, by omega⟩
    have e1 : rd (σ 4) 41 2 = some (nI n) := by
      rw [show rd (σ 4) 41 2 = some (σ 4 2) from rd_nI (j := 2) (by omega) (by omega), h4, hm]
    have e2 : mwr σ 8 6 (nI c) 0 = some (up2 σ 8 c 0) := mwr_nI (by omega) (by omega)
    obtain ⟨σ', g1, g2, g3, g4⟩ := ih (c + 1) f (up2 σ 8 c 0) (by omega) (by omega) (by rw [up2_n (by omega)]; exact h4) (fun j hj => by
      rw [up2_s]
      by_cases e : j = c
      · rw [e, upd_s]
      · rw [upd_n e]; exact h8 j (by omega)) (by rw [up2_n (by omega)]; exact h0)
    refine ⟨σ', ?_, g2, fun k a b c0 => by rw [g3 k a b c0, up2_n b], fun j hj => by rw [g4 j hj, up2_n (by omega)]⟩
    unfold fX9_oneNight_L7
    simp only [e1, e2, Option.bind_some, nI_1]
    rw [if_neg (by rw [nI_leI (by omega) (by omega)]; omega)]
    exact g1
/-- one night -/
theorem m_night (σ : MS) {n : Nat} (h1 : 1 ≤ n) (hn : n ≤ 6) (hm : σ 4 2 = nI n) : ∃ σ' : MS, fX9_oneNight σ = some σ' ∧ σ' 4 = nit (σ 4) n ∧ (∀ k, k ≠ 4 → k ≠ 8 → k ≠ 0 → σ' k = σ k) ∧ ∀ j, j ≠ 17 → σ' 0 j = σ 0 j := by
  obtain ⟨σ', g1, g2, g3, g4⟩ := m_nightL1 (σ 4) n h1 hn hm n 0 2000 (up2 σ 0 17 0) (by omega) (by omega) (by rw [up2_n (by omega)]) (fun j hj => by omega) (by rw [up2_s, upd_s])
  refine ⟨σ', ?_, g2, fun k a b c => by rw [g3 k a b c, up2_n c], fun j hj => by rw [g4 j hj, up2_s, upd_n hj]⟩
  have e : (0 : Int32) = nI 0 := rfl
  have h := congrArg (fX9_oneNight_L7 2000 (up2 σ 0 17 0)) e
  unfold fX9_oneNight
  rw [Option.bind_some]
  exact h.trans g1
