/-! the night's last loop: legs, saws, how often caught -/
def prt (μ : Nat → Int32) (n c : Nat) : Nat → Int32 := fun k =>
  if 11 ≤ k ∧ k < 11 + c then cl0 (μ k - cutF μ n (k - 11) 0 n)
  else if 17 ≤ k ∧ k < 17 + c then μ k - one1 (cgt μ n (k - 17))
  else if 35 ≤ k ∧ k < 35 + c then μ k + one1 (cgt μ n (k - 35))
  else μ k
theorem prt_0 (μ : Nat → Int32) (n : Nat) : prt μ n 0 = μ := by
  funext k
  unfold prt
  rw [if_neg (by omega), if_neg (by omega), if_neg (by omega)]
theorem prt_o {μ : Nat → Int32} {n c k : Nat} (h1 : ¬ (11 ≤ k ∧ k < 11 + c)) (h2 : ¬ (17 ≤ k ∧ k < 17 + c)) (h3 : ¬ (35 ≤ k ∧ k < 35 + c)) : prt μ n c k = μ k := by
  unfold prt
  rw [if_neg h1, if_neg h2, if_neg h3]
theorem prt_s {μ : Nat → Int32} {n c : Nat} (hc : c < 6) : upd (upd (upd (prt μ n c) (11 + c) (cl0 (μ (11 + c) - cutF μ n c 0 n))) (17 + c) (μ (17 + c) - one1 (cgt μ n c))) (35 + c) (μ (35 + c) + one1 (cgt μ n c)) = prt μ n (c + 1) := by
  funext k
  by_cases a1 : k = 35 + c
  · subst a1
    rw [upd_s]
    unfold prt
    rw [if_neg (by omega), if_neg (by omega), if_pos (by omega), show 35 + c - 35 = c by omega]
  · rw [upd_n a1]
    by_cases a2 : k = 17 + c
    · subst a2
      rw [upd_s]
      unfold prt
      rw [if_neg (by omega), if_pos (by omega), show 17 + c - 17 = c by omega]
    · rw [upd_n a2]
      by_cases a3 : k = 11 + c
      · subst a3
        rw [upd_s]
        unfold prt
        rw [if_pos (by omega), show 11 + c - 11 = c by omega]
      · rw [upd_n a3]
        unfold prt
        by_cases b1 : 11 ≤ k ∧ k < 11 + c
        · rw [if_pos b1, if_pos (show 11 ≤ k ∧ k < 11 + (c + 1) by omega)]
        · rw [if_neg b1, if_neg (show ¬ (11 ≤ k ∧ k < 11 + (c + 1)) by omega)]
          by_cases b2 : 17 ≤ k ∧ k < 17 + c
          · rw [if_pos b2, if_pos (show 17 ≤ k ∧ k < 17 + (c + 1) by omega)]
          · rw [if_neg b2, if_neg (show ¬ (17 ≤ k ∧ k < 17 + (c + 1)) by omega)]
            by_cases b3 : 35 ≤ k ∧ k < 35 + c
            · rw [if_pos b3, if_pos (show 35 ≤ k ∧ k < 35 + (c + 1) by omega)]
            · rw [if_neg b3, if_neg (show ¬ (35 ≤ k ∧ k < 35 + (c + 1)) by omega)]
theorem prt_n {μ : Nat → Int32} {n : Nat} (hn : n ≤ 6) : upd (prt μ n n) 3 (μ 3 + 1) = nit μ n := by
  funext k
  unfold nit
  by_cases a : k = 3
  · subst a; rw [upd_s, if_pos rfl]
  · rw [upd_n a, if_neg a]; rfl
theorem m_nightL3 (μ : Nat → Int32) (n : Nat) (hn : n ≤ 6) (hm : μ 2 = nI n) : ∀ (d c fuel : Nat) (σ : MS), d < fuel → c + d = n → σ 4 = prt μ n c → (∀ j, j < n → σ 8 j = cutF μ n j 0 n) → (∀ j, j < n → bitq (σ 0 17) (nI j) = cgt μ n j) →
    ∃ σ' : MS, fX9_oneNight_L122 fuel σ (nI c) = some σ' ∧ σ' 4 = nit μ n ∧ ∀ k, k ≠ 4 → σ' k = σ k := by
  intro d
  induction d with
  | zero =>
    intro c fuel σ hf hc h4 h8 h0
    obtain ⟨f, rfl⟩ : ∃ f, fuel = f + 1 := ⟨fuel - 1, by omega⟩
    have e1 : rd (σ 4) 41 2 = some (nI n) := by
      rw [show rd (σ 4) 41 2 = some (σ 4 2) from rd_nI (j := 2) (by omega) (by omega), h4, prt_o (by omega) (by omega) (by omega), hm]
    have e2 : rd (σ 4) 41 3 = some (μ 3) := by
      rw [show rd (σ 4) 41 3 = some (σ 4 3) from rd_nI (j := 3) (by omega) (by omega), h4, prt_o (by omega) (by omega) (by omega)]
    have e3 : mwr σ 4 41 3 (μ 3 + 1) = some (up2 σ 4 3 (μ 3 + 1)) := mwr_nI (j := 3) (by omega) (by omega)
    refine ⟨up2 σ 4 3 (μ 3 + 1), ?_, ?_, fun k hk => up2_n hk⟩
    · unfold fX9_oneNight_L122
      simp only [e1, e2, e3, Option.bind_some]
      rw [if_pos (by rw [nI_leI (by omega) (by omega)]; omega)]
    · rw [up2_s, h4]
      have : c = n := by omega
      subst this
      exact prt_n hn
  | succ d ih =>
    intro c fuel σ hf hc h4 h8 h0
    obtain ⟨f, rfl⟩ : ∃ f, fuel = f + 1 := ⟨fuel - 1, by omega⟩
    have r : ∀ (τ : MS) (k : Nat), k < 41 → rd (τ 4) 41 (nI k) = some (τ 4 k) := fun τ k hk => rd_nI hk (by omega)
    have w : ∀ (τ : MS) (k : Nat) (x : Int32), k < 41 → mwr τ 4 41 (nI k) x = some (up2 τ 4 k x) := fun τ k x hk => mwr_nI hk (by omega)
    have a11 : (11 : Int32) + nI c = nI (11 + c) := nI_add 11 c
    have a17 : (17 : Int32) + nI c = nI (17 + c) := nI_add 17 c
    have a35 : (35 : Int32) + nI c = nI (35 + c) := nI_add 35 c
    have e1 : rd (σ 4) 41 2 = some (nI n) := by
      rw [show rd (σ 4) 41 2 = some (σ 4 2) from rd_nI (j := 2) (by omega) (by omega), h4, prt_o (by omega) (by omega) (by omega), hm]
    have e8 : rd (σ 8) 6 (nI c) = some (cutF μ n c 0 n) := by rw [rd_nI (by omega) (by omega), h8 c (by omega)]
    have v11 : σ 4 (11 + c) = μ (11 + c) := by rw [h4, prt_o (by omega) (by omega) (by omega)]
    have v17 : σ 4 (17 + c) = μ (17 + c) := by rw [h4, prt_o (by omega) (by omega) (by omega)]
    have v35 : σ 4 (35 + c) = μ (35 + c) := by rw [h4, prt_o (by omega) (by omega) (by omega)]
    have hb := h0 c (by omega)
    -- what the step leaves
    have key : ∀ x : Int32, x = (cl0 (μ (11 + c) - cutF μ n c 0 n)) →
        ∃ σ' : MS, fX9_oneNight_b166 (fX9_oneNight_L122 f) σ (nI (11 + c)) x (nI c) = some σ' ∧ σ' 4 = nit μ n ∧ ∀ k, k ≠ 4 → σ' k = σ k := by
      intro x hx
      have n1 : nI c + 1 = nI (c + 1) := nI_1 c
      have u1 : up2 σ 4 (11 + c) x 4 (17 + c) = μ (17 + c) := by rw [up2_s, upd_n (by omega), v17]
      have u2 : ∀ z, up2 (up2 σ 4 (11 + c) x) 4 (17 + c) z 4 (35 + c) = μ (35 + c) := fun z => by rw [up2_s, upd_n (by omega), up2_s, upd_n (by omega), v35]
      have o1 : up2 σ 4 (11 + c) x 0 17 = σ 0 17 := by rw [up2_n (by omega)]
      have o2 : ∀ z, up2 (up2 σ 4 (11 + c) x) 4 (17 + c) z 0 17 = σ 0 17 := fun z => by rw [up2_n (by omega), up2_n (by omega)]
      have fin : fX9_oneNight_b166 (fX9_oneNight_L122 f) σ (nI (11 + c)) x (nI c) = fX9_oneNight_L122 f (up2 (up2 (up2 σ 4 (11 + c) x) 4 (17 + c) (μ (17 + c) - one1 (cgt μ n c))) 4 (35 + c) (μ (35 + c) + one1 (cgt μ n c))) (nI (c + 1)) := by
        unfold fX9_oneNight_b166 fX9_oneNight_b193 fX9_oneNight_b221
        simp only [a17, a35, n1, w _ _ _ (show 11 + c < 41 by omega), w _ _ _ (show 17 + c < 41 by omega), w _ _ _ (show 35 + c < 41 by omega), r _ _ (show 17 + c < 41 by omega), r _ _ (show 35 + c < 41 by omega), Option.bind_some, m_has, u1, u2, o1, o2, hb]
        cases cgt μ n c <;> simp [one1]
      rw [fin]
      obtain ⟨σ', g1, g2, g3⟩ := ih (c + 1) f (up2 (up2 (up2 σ 4 (11 + c) x) 4 (17 + c) (μ (17 + c) - one1 (cgt μ n c))) 4 (35 + c) (μ (35 + c) + one1 (cgt μ n c))) (by omega) (by omega)
        (by rw [up2_s, up2_s, up2_s, h4, hx]; exact prt_s (by omega))
        (fun j hj => by rw [up2_n (by omega), up2_n (by omega), up2_n (by omega)]; exact h8 j hj)
        (fun j hj => by rw [up2_n (by omega), up2_n (by omega), up2_n (by omega)]; exact h0 j hj)
      exact ⟨σ', g1, g2, fun k hk => by rw [g3 k hk, up2_n hk, up2_n hk, up2_n hk]⟩
    unfold fX9_oneNight_L122
    simp only [e1, a11, r _ _ (show 11 + c < 41 by omega), e8, Option.bind_some, v11]
    rw [if_neg (by rw [nI_leI (by omega) (by omega)]; omega)]
    by_cases q : 0 ≤ μ (11 + c) - cutF μ n c 0 n
    · rw [if_pos q]; exact key _ (by rw [cl0, if_pos q])
    · rw [if_neg q]; exact key _ (by rw [cl0, if_neg q])
