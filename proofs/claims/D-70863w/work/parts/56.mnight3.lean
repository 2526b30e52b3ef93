/-! the night's loop over sitters; the night whole -/
theorem or0 (x : Int32) : x ||| 0 = x := by
  apply Int32.toBitVec_inj.mp
  simp
theorem NO_neg : NO < 0 := by decide
theorem nI_nneg {j : Nat} (h : j < 6) : ¬ nI j < 0 := nI_pos (by omega)
theorem NO_ne {j : Nat} (h : j < 6) : NO ≠ nI j := fun z => nI_nneg h (z ▸ NO_neg)
theorem m_nightL2 (μ : Nat → Int32) (n : Nat) (h1 : 1 ≤ n) (hn : n ≤ 6) (hm : μ 2 = nI n) (hM : ∀ j, j < n → bitq (cgm μ n 0 n 0) (nI j) = cgt μ n j) : ∀ (d s fuel : Nat) (σ : MS), d < fuel → s + d = n → σ 4 = μ → (∀ j, j < n → σ 8 j + cutF μ n j s d = cutF μ n j 0 n) → cgm μ n s d (σ 0 17) = cgm μ n 0 n 0 →
    ∃ σ' : MS, fX9_oneNight_L32 fuel σ (nI s) = some σ' ∧ σ' 4 = nit μ n ∧ (∀ k, k ≠ 4 → k ≠ 8 → k ≠ 0 → σ' k = σ k) ∧ ∀ j, j ≠ 17 → σ' 0 j = σ 0 j := by
  intro d
  induction d with
  | zero =>
    intro s fuel σ hf hs h4 h8 h0
    obtain ⟨f, rfl⟩ : ∃ f, fuel = f + 1 := ⟨fuel - 1, by omega⟩
    have e1 : rd (σ 4) 41 2 = some (nI n) := by
      rw [show rd (σ 4) 41 2 = some (σ 4 2) from rd_nI (j := 2) (by omega) (by omega), h4, hm]
    have h0 : σ 0 17 = cgm μ n 0 n 0 := h0
    obtain ⟨σ', g1, g2, g3⟩ := m_nightL3 μ n hn hm n 0 2000 σ (by omega) (by omega) (by rw [h4, prt_0]) (fun j hj => by have := h8 j hj; rw [show cutF μ n j s 0 = 0 from rfl, Int32.add_zero] at this; exact this) (fun j hj => by rw [h0]; exact hM j hj)
    refine ⟨σ', ?_, g2, fun k k4 _ _ => g3 k k4, fun j _ => by rw [g3 0 (by omega)]⟩
    unfold fX9_oneNight_L32
    simp only [e1, Option.bind_some]
    rw [if_pos (by rw [nI_leI (by omega) (by omega)]; omega)]
    exact g1
  | succ d ih =>
    intro s fuel σ hf hs h4 h8 h0
    obtain ⟨f, rfl⟩ : ∃ f, fuel = f + 1 := ⟨fuel - 1, by omega⟩
    have e1 : rd (σ 4) 41 2 = some (nI n) := by
      rw [show rd (σ 4) 41 2 = some (σ 4 2) from rd_nI (j := 2) (by omega) (by omega), h4, hm]
    have e4 : rd (σ 4) 41 4 = some (μ 4) := by
      rw [show rd (σ 4) 41 4 = some (σ 4 4) from rd_nI (j := 4) (by omega) (by omega), h4]
    have et : fX9_targetOf σ (nI s) = some (tgt μ n s, σ) := by
      have := m_target σ (c := s) h1 hn (by omega) (by rw [h4]; exact hm)
      rw [h4] at this
      exact this
    have n1 : nI s + 1 = nI (s + 1) := nI_1 s
    -- the step comes to the loop's head with τ
    have go : ∀ τ : MS, τ 4 = μ → (∀ j, j < n → τ 8 j + cutF μ n j (s + 1) d = cutF μ n j 0 n) → cgm μ n (s + 1) d (τ 0 17) = cgm μ n 0 n 0 → (∀ k, k ≠ 4 → k ≠ 8 → k ≠ 0 → τ k = σ k) → (∀ j, j ≠ 17 → τ 0 j = σ 0 j) →
        ∃ σ' : MS, fX9_oneNight_L32 f τ (nI (s + 1)) = some σ' ∧ σ' 4 = nit μ n ∧ (∀ k, k ≠ 4 → k ≠ 8 → k ≠ 0 → σ' k = σ k) ∧ ∀ j, j ≠ 17 → σ' 0 j = σ 0 j := by
      intro τ t4 t8 t0 tk tj
      obtain ⟨σ', g1, g2, g3, g4⟩ := ih (s + 1) f τ (by omega) (by omega) t4 t8 t0
      exact ⟨σ', g1, g2, fun k a b c => (g3 k a b c).trans (tk k a b c), fun j hj => (g4 j hj).trans (tj j hj)⟩
    have hcg : cgm μ n s (d + 1) (σ 0 17) = cgm μ n (s + 1) d (σ 0 17 ||| (if cgt μ n s = true then (1 : Int32) <<< (nI s &&& 31) else 0)) := rfl
    have hcu : ∀ j, cutF μ n j s (d + 1) = (if tgt μ n s = nI j ∧ cgt μ n s = false then swn μ s j else 0) + cutF μ n j (s + 1) d := fun j => rfl
    have head : fX9_oneNight_L32 (f + 1) σ (nI s) = if tgt μ n s < 0 then fX9_oneNight_b70 (fX9_oneNight_L32 f) σ 0 (nI s) (tgt μ n s) else if bitq (μ 4) (tgt μ n s) = true then fX9_oneNight_b70 (fX9_oneNight_L32 f) σ 1 (nI s) (tgt μ n s) else fX9_oneNight_b70 (fX9_oneNight_L32 f) σ 0 (nI s) (tgt μ n s) := by
      conv => lhs; unfold fX9_oneNight_L32
      simp only [e1, et, e4, Option.bind_some, m_has]
      rw [if_neg (by rw [nI_leI (by omega) (by omega)]; omega)]
      by_cases q : bitq (μ 4) (tgt μ n s) = true <;> simp [q]
    rw [head]
    rcases tgt_in μ s h1 with ht | ⟨j, hj, ht⟩
    · have hc : cgt μ n s = false := by unfold cgt; rw [ht, show decide (0 ≤ NO) = false by decide]; rfl
      rw [if_pos (by rw [ht]; exact NO_neg)]
      have : fX9_oneNight_b70 (fX9_oneNight_L32 f) σ 0 (nI s) (tgt μ n s) = fX9_oneNight_L32 f (up2 σ 0 17 (σ 0 17 ||| 0)) (nI (s + 1)) := by
        unfold fX9_oneNight_b70 fX9_oneNight_b87
        rw [if_pos rfl, ht]
        simp only [Option.bind_some, n1]
        rw [if_pos NO_neg]
      rw [this]
      refine go _ (by rw [up2_n (by omega)]; exact h4) (fun i hi => ?_) ?_ (fun k _ _ k0 => up2_n k0) (fun i hi => by rw [up2_s, upd_n hi])
      · rw [up2_n (by omega)]
        have := h8 i hi
        rw [hcu i, if_neg (fun z => NO_ne (show i < 6 by omega) (ht.symm.trans z.1)), Int32.zero_add] at this
        exact this
      · rw [up2_s, upd_s]
        rw [hcg, hc] at h0
        simpa using h0
    · rw [if_neg (by rw [ht]; exact nI_nneg (by omega))]
      have h0j : decide (0 ≤ tgt μ n s) = true := by rw [ht]; exact decide_eq_true (nI_pos' (by omega))
      by_cases q : bitq (μ 4) (tgt μ n s) = true
      · have hc : cgt μ n s = true := by unfold cgt; rw [h0j, q]; rfl
        rw [if_pos q]
        have : fX9_oneNight_b70 (fX9_oneNight_L32 f) σ 1 (nI s) (tgt μ n s) = fX9_oneNight_L32 f (up2 σ 0 17 (σ 0 17 ||| (1 : Int32) <<< (nI s &&& 31))) (nI (s + 1)) := by
          unfold fX9_oneNight_b70 fX9_oneNight_b87
          rw [if_neg (by decide), ht]
          simp only [Option.bind_some, n1]
          rw [if_neg (nI_nneg (by omega)), if_neg (by decide)]
        rw [this]
        refine go _ (by rw [up2_n (by omega)]; exact h4) (fun i hi => ?_) ?_ (fun k _ _ k0 => up2_n k0) (fun i hi => by rw [up2_s, upd_n hi])
        · rw [up2_n (by omega)]
          have := h8 i hi
          rw [hcu i, if_neg (fun z => by rw [hc] at z; exact absurd z.2 (by decide)), Int32.zero_add] at this
          exact this
        · rw [up2_s, upd_s]
          rw [hcg, hc, if_pos rfl] at h0
          exact h0
      · have q' : bitq (μ 4) (tgt μ n s) = false := by simpa using q
        have hc : cgt μ n s = false := by unfold cgt; rw [h0j, q']; rfl
        rw [if_neg q]
        have : fX9_oneNight_b70 (fX9_oneNight_L32 f) σ 0 (nI s) (tgt μ n s) = fX9_oneNight_L32 f (up2 (up2 σ 0 17 (σ 0 17 ||| 0)) 8 j (σ 8 j + swn μ s j)) (nI (s + 1)) := by
          unfold fX9_oneNight_b70 fX9_oneNight_b87
          rw [if_pos rfl, ht]
          have a1 : rd (up2 σ 0 17 (σ 0 17 ||| 0) 8) 6 (nI j) = some (σ 8 j) := by rw [up2_n (by omega)]; exact rd_nI (by omega) (by omega)
          have a2 : fX9_sawnOff (up2 σ 0 17 (σ 0 17 ||| 0)) (nI s) (nI j) = some (swn μ s j, up2 σ 0 17 (σ 0 17 ||| 0)) := by
            have := m_sawnOff (up2 σ 0 17 (σ 0 17 ||| 0)) (show s < 6 by omega) (show j < 6 by omega)
            rw [up2_n (by omega), h4] at this
            exact this
          have a3 : mwr (up2 σ 0 17 (σ 0 17 ||| 0)) 8 6 (nI j) (σ 8 j + swn μ s j) = some (up2 (up2 σ 0 17 (σ 0 17 ||| 0)) 8 j (σ 8 j + swn μ s j)) := mwr_nI (by omega) (by omega)
          simp only [Option.bind_some, n1]
          rw [if_neg (nI_nneg (by omega))]
          simp only [if_true, a1, a2, a3, Option.bind_some]
        rw [this]
        refine go _ (by rw [up2_n (by omega), up2_n (by omega)]; exact h4) (fun i hi => ?_) ?_ (fun k _ k8 k0 => by rw [up2_n k8, up2_n k0]) (fun i hi => by rw [up2_n (by omega), up2_s, upd_n hi])
        · rw [up2_s, up2_n (by omega)]
          have h8i := h8 i hi
          by_cases e : i = j
          · subst e
            rw [upd_s]
            rw [hcu i, if_pos ⟨ht, hc⟩] at h8i
            rw [← h8i, Int32.add_assoc]
          · rw [upd_n e]
            rw [hcu i, if_neg (fun z => e ((nI_eq (by omega) (by omega)).mp (z.1.symm.trans ht))), Int32.zero_add] at h8i
            exact h8i
        · rw [up2_n (by omega), up2_s, upd_s]
          rw [hcg, hc] at h0
          simpa using h0
