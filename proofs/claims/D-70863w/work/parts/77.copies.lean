/-! the model's loops that copy 41 ints -/
theorem ix41 (a j : Nat) : (41 : Int32) * nI a + nI j = nI (41 * a + j) := by
  rw [show (41 : Int32) = nI 41 from rfl, pk_mul, nI_add]
theorem m_note51 (σ0 : MS) {a : Nat} (ha : a < 24) (h19 : σ0 0 19 = nI a) : ∀ (d j fuel : Nat) (i : Int32) (σ : MS), d < fuel → j + d = 41 → i = nI j → (∀ k, k ≠ 9 → σ k = σ0 k) → (∀ q, q < j → σ 9 ((41 * a) + q) = σ0 4 (0 + q)) → (∀ q, ¬ ((41 * a) ≤ q ∧ q < (41 * a) + 41) → σ 9 q = σ0 9 q) → ∃ σ' : MS, fX9_note_L51 fuel σ i = some (up2 σ' 0 19 (σ' 0 19 + 1)) ∧ (∀ k, k ≠ 9 → σ' k = σ0 k) ∧ (∀ q, q < 41 → σ' 9 ((41 * a) + q) = σ0 4 (0 + q)) ∧ (∀ q, ¬ ((41 * a) ≤ q ∧ q < (41 * a) + 41) → σ' 9 q = σ0 9 q) := by
  intro d
  induction d with
  | zero =>
    intro j fuel i σ hf hj hi h1 h2 h3
    obtain ⟨f, rfl⟩ : ∃ f, fuel = f + 1 := ⟨fuel - 1, by omega⟩
    subst hi
    refine ⟨σ, ?_, h1, fun q hq => h2 q (by omega), h3⟩
    unfold fX9_note_L51
    rw [if_pos (show (41 : Int32) ≤ nI j from nI_le (a := 41) (by omega) (by omega))]; rfl
  | succ d ih =>
    intro j fuel i σ hf hj hi h1 h2 h3
    obtain ⟨f, rfl⟩ : ∃ f, fuel = f + 1 := ⟨fuel - 1, by omega⟩
    subst hi
    obtain ⟨σ', e, k1, k2, k3⟩ := ih (j + 1) f (nI (j + 1)) (up2 σ 9 ((41 * a) + j) (σ 4 (0 + j))) (by omega) (by omega) rfl (fun k hk => by rw [up2_n hk]; exact h1 k hk) (fun q hq => by
      rw [up2_s]
      by_cases z : q = j
      · rw [z, upd_s, h1 4 (by omega)]
      · rw [upd_n (by omega)]; exact h2 q (by omega)) (fun q hq => by rw [up2_s, upd_n (by omega)]; exact h3 q hq)
    refine ⟨σ', ?_, k1, k2, k3⟩
    have z19 : σ 0 19 = nI a := by rw [h1 0 (by omega)]; exact h19
    have er : rd (σ 4) 41 (nI j) = some (σ 4 (0 + j)) := by rw [show nI j = nI (0 + j) by rw [Nat.zero_add]]; exact rd_nI (by omega) (by omega)
    have ew : mwr σ 9 984 (41 * σ 0 19 + nI j) (σ 4 (0 + j)) = some (up2 σ 9 ((41 * a) + j) (σ 4 (0 + j))) := by rw [z19, ix41]; exact mwr_nI (by omega) (by omega)
    unfold fX9_note_L51
    rw [if_neg (show ¬ (41 : Int32) ≤ nI j from nI_ge (b := 41) (by omega) (by omega))]
    simp only [er, ew, Option.bind_some, nI_1]
    exact e
theorem m_undo22 (σ0 : MS) {a : Nat} (ha : a < 24) (h19 : σ0 0 19 = nI a) : ∀ (d j fuel : Nat) (i : Int32) (σ : MS), d < fuel → j + d = 41 → i = nI j → (∀ k, k ≠ 4 → σ k = σ0 k) → (∀ q, q < j → σ 4 (0 + q) = σ0 9 ((41 * a) + q)) → (∀ q, ¬ (0 ≤ q ∧ q < 0 + 41) → σ 4 q = σ0 4 q) → ∃ σ' : MS, fX9_undo_L22 fuel σ i = some (σ' 0 19, σ') ∧ (∀ k, k ≠ 4 → σ' k = σ0 k) ∧ (∀ q, q < 41 → σ' 4 (0 + q) = σ0 9 ((41 * a) + q)) ∧ (∀ q, ¬ (0 ≤ q ∧ q < 0 + 41) → σ' 4 q = σ0 4 q) := by
  intro d
  induction d with
  | zero =>
    intro j fuel i σ hf hj hi h1 h2 h3
    obtain ⟨f, rfl⟩ : ∃ f, fuel = f + 1 := ⟨fuel - 1, by omega⟩
    subst hi
    refine ⟨σ, ?_, h1, fun q hq => h2 q (by omega), h3⟩
    unfold fX9_undo_L22
    rw [if_pos (show (41 : Int32) ≤ nI j from nI_le (a := 41) (by omega) (by omega))]
  | succ d ih =>
    intro j fuel i σ hf hj hi h1 h2 h3
    obtain ⟨f, rfl⟩ : ∃ f, fuel = f + 1 := ⟨fuel - 1, by omega⟩
    subst hi
    obtain ⟨σ', e, k1, k2, k3⟩ := ih (j + 1) f (nI (j + 1)) (up2 σ 4 (0 + j) (σ 9 ((41 * a) + j))) (by omega) (by omega) rfl (fun k hk => by rw [up2_n hk]; exact h1 k hk) (fun q hq => by
      rw [up2_s]
      by_cases z : q = j
      · rw [z, upd_s, h1 9 (by omega)]
      · rw [upd_n (by omega)]; exact h2 q (by omega)) (fun q hq => by rw [up2_s, upd_n (by omega)]; exact h3 q hq)
    refine ⟨σ', ?_, k1, k2, k3⟩
    have z19 : σ 0 19 = nI a := by rw [h1 0 (by omega)]; exact h19
    have er : rd (σ 9) 984 (41 * σ 0 19 + nI j) = some (σ 9 ((41 * a) + j)) := by rw [z19, ix41]; exact rd_nI (by omega) (by omega)
    have ew : mwr σ 4 41 (nI j) (σ 9 ((41 * a) + j)) = some (up2 σ 4 (0 + j) (σ 9 ((41 * a) + j))) := by rw [show nI j = nI (0 + j) by rw [Nat.zero_add]]; exact mwr_nI (by omega) (by omega)
    unfold fX9_undo_L22
    rw [if_neg (show ¬ (41 : Int32) ≤ nI j from nI_ge (b := 41) (by omega) (by omega))]
    simp only [er, ew, Option.bind_some, nI_1]
    exact e
theorem m_image25 (σ0 : MS) {b : Nat} (hb : b < 2) : ∀ (d j fuel : Nat) (i : Int32) (σ : MS), d < fuel → j + d = 41 → i = nI j → (∀ k, k ≠ 12 → σ k = σ0 k) → (∀ q, q < j → σ 12 ((41 * b) + q) = σ0 4 (0 + q)) → (∀ q, ¬ ((41 * b) ≤ q ∧ q < (41 * b) + 41) → σ 12 q = σ0 12 q) → ∃ σ' : MS, fX9_image_L25 fuel σ (nI b) i = ((mwr σ' 11 2 (nI b) 1).bind fun s2 => some (1, s2)) ∧ (∀ k, k ≠ 12 → σ' k = σ0 k) ∧ (∀ q, q < 41 → σ' 12 ((41 * b) + q) = σ0 4 (0 + q)) ∧ (∀ q, ¬ ((41 * b) ≤ q ∧ q < (41 * b) + 41) → σ' 12 q = σ0 12 q) := by
  intro d
  induction d with
  | zero =>
    intro j fuel i σ hf hj hi h1 h2 h3
    obtain ⟨f, rfl⟩ : ∃ f, fuel = f + 1 := ⟨fuel - 1, by omega⟩
    subst hi
    refine ⟨σ, ?_, h1, fun q hq => h2 q (by omega), h3⟩
    unfold fX9_image_L25
    rw [if_pos (show (41 : Int32) ≤ nI j from nI_le (a := 41) (by omega) (by omega))]
  | succ d ih =>
    intro j fuel i σ hf hj hi h1 h2 h3
    obtain ⟨f, rfl⟩ : ∃ f, fuel = f + 1 := ⟨fuel - 1, by omega⟩
    subst hi
    obtain ⟨σ', e, k1, k2, k3⟩ := ih (j + 1) f (nI (j + 1)) (up2 σ 12 ((41 * b) + j) (σ 4 (0 + j))) (by omega) (by omega) rfl (fun k hk => by rw [up2_n hk]; exact h1 k hk) (fun q hq => by
      rw [up2_s]
      by_cases z : q = j
      · rw [z, upd_s, h1 4 (by omega)]
      · rw [upd_n (by omega)]; exact h2 q (by omega)) (fun q hq => by rw [up2_s, upd_n (by omega)]; exact h3 q hq)
    refine ⟨σ', ?_, k1, k2, k3⟩
    have er : rd (σ 4) 41 (nI j) = some (σ 4 (0 + j)) := by rw [show nI j = nI (0 + j) by rw [Nat.zero_add]]; exact rd_nI (by omega) (by omega)
    have ew : mwr σ 12 82 (41 * nI b + nI j) (σ 4 (0 + j)) = some (up2 σ 12 ((41 * b) + j) (σ 4 (0 + j))) := by rw [ix41]; exact mwr_nI (by omega) (by omega)
    unfold fX9_image_L25
    rw [if_neg (show ¬ (41 : Int32) ≤ nI j from nI_ge (b := 41) (by omega) (by omega))]
    simp only [er, ew, Option.bind_some, nI_1]
    exact e
theorem m_restore27 (σ0 : MS) {b : Nat} (hb : b < 2) : ∀ (d j fuel : Nat) (i : Int32) (σ : MS), d < fuel → j + d = 41 → i = nI j → (∀ k, k ≠ 4 → σ k = σ0 k) → (∀ q, q < j → σ 4 (0 + q) = σ0 12 ((41 * b) + q)) → (∀ q, ¬ (0 ≤ q ∧ q < 0 + 41) → σ 4 q = σ0 4 q) → ∃ σ' : MS, fX9_restore_L27 fuel σ (nI b) i = some (1, up2 σ' 0 19 0) ∧ (∀ k, k ≠ 4 → σ' k = σ0 k) ∧ (∀ q, q < 41 → σ' 4 (0 + q) = σ0 12 ((41 * b) + q)) ∧ (∀ q, ¬ (0 ≤ q ∧ q < 0 + 41) → σ' 4 q = σ0 4 q) := by
  intro d
  induction d with
  | zero =>
    intro j fuel i σ hf hj hi h1 h2 h3
    obtain ⟨f, rfl⟩ : ∃ f, fuel = f + 1 := ⟨fuel - 1, by omega⟩
    subst hi
    refine ⟨σ, ?_, h1, fun q hq => h2 q (by omega), h3⟩
    unfold fX9_restore_L27
    rw [if_pos (show (41 : Int32) ≤ nI j from nI_le (a := 41) (by omega) (by omega))]; rfl
  | succ d ih =>
    intro j fuel i σ hf hj hi h1 h2 h3
    obtain ⟨f, rfl⟩ : ∃ f, fuel = f + 1 := ⟨fuel - 1, by omega⟩
    subst hi
    obtain ⟨σ', e, k1, k2, k3⟩ := ih (j + 1) f (nI (j + 1)) (up2 σ 4 (0 + j) (σ 12 ((41 * b) + j))) (by omega) (by omega) rfl (fun k hk => by rw [up2_n hk]; exact h1 k hk) (fun q hq => by
      rw [up2_s]
      by_cases z : q = j
      · rw [z, upd_s, h1 12 (by omega)]
      · rw [upd_n (by omega)]; exact h2 q (by omega)) (fun q hq => by rw [up2_s, upd_n (by omega)]; exact h3 q hq)
    refine ⟨σ', ?_, k1, k2, k3⟩
    have er : rd (σ 12) 82 (41 * nI b + nI j) = some (σ 12 ((41 * b) + j)) := by rw [ix41]; exact rd_nI (by omega) (by omega)
    have ew : mwr σ 4 41 (nI j) (σ 12 ((41 * b) + j)) = some (up2 σ 4 (0 + j) (σ 12 ((41 * b) + j))) := by rw [show nI j = nI (0 + j) by rw [Nat.zero_add]]; exact mwr_nI (by omega) (by omega)
    unfold fX9_restore_L27
    rw [if_neg (show ¬ (41 : Int32) ≤ nI j from nI_ge (b := 41) (by omega) (by omega))]
    simp only [er, ew, Option.bind_some, nI_1]
    exact e
