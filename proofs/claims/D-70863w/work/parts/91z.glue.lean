/-! the model: reading a chair keeps the glue -/
theorem g_next {σ σ' : MS} (h : fX9_nextToken σ = some σ') : σ' 7 = σ 7 := by
  have L : ∀ (n : Nat) (s s' : MS), fX9_nextToken_L33 n s = some s' → s' 7 = s 7 := by
    intro n
    induction n with
    | zero => intro s s' h; cases h
    | succ n ih =>
      intro s s' h
      have b119 : ∀ s s' : MS, fX9_nextToken_b119 s = some s' → s' 7 = s 7 := by
        intro s s' h
        unfold fX9_nextToken_b119 fX9_nextToken_b149 fX9_nextToken_b216 at h
        by_cases c1 : s 0 10 ≤ s 0 13
        · rw [if_pos c1] at h
          by_cases c2 : s 0 11 = 0
          · rw [if_pos c2] at h
            obtain ⟨v, -, h⟩ := bd_e h
            obtain ⟨s4, h4, h⟩ := bd_e h
            have h4 := Option.some.inj h4
            obtain ⟨v5, -, h⟩ := bd_e h
            have e4 : s4 7 = s 7 := by rw [← h4, up2_n (by omega)]
            have fin : ∀ x : Int32, ((some (up2 s4 0 11 x)).bind fun σ1 => (some (up2 σ1 0 10 ((σ1 0 10) + 1))).bind fun σ2 => some σ2) = some s' → s' 7 = s 7 := by
              intro x hx
              rw [bsm, bsm] at hx
              rw [← Option.some.inj hx, up2_n (by omega), up2_n (by omega), e4]
            split at h
            · split at h
              · exact fin _ h
              · split at h
                · exact fin _ h
                · exact fin _ h
            · exact fin _ h
          · rw [if_neg c2] at h
            rw [Option.some.inj h]
        · rw [if_neg c1] at h
          split at h
          · rw [bsm] at h; rw [← Option.some.inj h, up2_n (by omega)]
          · rw [bsm] at h; rw [← Option.some.inj h, up2_n (by omega)]
      unfold fX9_nextToken_L33 at h
      split at h
      · exact b119 s s' h
      · obtain ⟨v2, -, h⟩ := bd_e h
        obtain ⟨v3, -, h⟩ := bd_e h
        split at h
        · exact b119 s s' h
        · have fin : ∀ x : Int32, fX9_nextToken_b103 (fX9_nextToken_L33 n) s x = some s' → s' 7 = s 7 := by
            intro x hx
            unfold fX9_nextToken_b103 at hx
            rw [bsm, bsm] at hx
            rw [ih _ _ hx, up2_n (by omega), up2_n (by omega)]
          split at h
          · obtain ⟨v6, -, h⟩ := bd_e h
            exact fin _ h
          · exact fin _ h
  unfold fX9_nextToken fX9_nextToken_b25 at h
  rw [bsm] at h
  split at h
  · rw [bsm, bsm] at h
    rw [L _ _ _ h, up2_n (by omega), up2_n (by omega), up2_n (by omega)]
  · rw [bsm, bsm] at h
    rw [L _ _ _ h, up2_n (by omega), up2_n (by omega), up2_n (by omega)]
theorem g_let {σ σ' : MS} {x v : Int32} (h : fX9_isLetter σ x = some (v, σ')) : σ' = σ := by
  unfold fX9_isLetter at h
  split at h
  · split at h
    · cases h; rfl
    · cases h; rfl
  · cases h; rfl
theorem g_takes {σ σ' : MS} {x v : Int32} (h : fX9_takes σ x = some (v, σ')) : σ' 7 = σ 7 := by
  unfold fX9_takes at h
  obtain ⟨⟨v2, σ1⟩, h1, h'⟩ := bd_e h
  clear h
  have e := g_let h1
  rw [e] at h'
  simp only at h'
  split at h'
  · unfold fX9_faults at h'
    rw [bsm, bsm] at h'
    simp only at h'
    rw [bz0, bsm] at h'
    cases h'
    exact up2_n (by omega)
  · obtain ⟨σ4, h4, h'⟩ := bd_e h'
    cases h'
    exact g_next h4
theorem g_num {σ σ' : MS} {lo hi ch v : Int32} {at' : Nat} (hat : at' < 41) (h1 : at' ≠ 1) (h : fX9_takesNumber σ lo hi (nI at') ch = some (v, σ')) : σ' 7 1 = σ 7 1 := by
  have b23 : fX9_takesNumber_b23 σ = some (v, σ') → σ' 7 1 = σ 7 1 := by
    intro h
    have fin : ∀ x : Int32, fX9_takesNumber_b37 σ x = some (v, σ') → σ' 7 1 = σ 7 1 := by
      intro x hx
      unfold fX9_takesNumber_b37 fX9_faults at hx
      rw [bsm, bsm] at hx
      simp only at hx
      rw [bz0, bsm] at hx
      cases hx
      rw [up2_n (by omega)]
    unfold fX9_takesNumber_b23 at h
    split at h
    · exact fin _ h
    · exact fin _ h
  unfold fX9_takesNumber at h
  split at h
  · obtain ⟨v2, -, h⟩ := bd_e h
    split at h
    · exact b23 h
    · rw [mwr_nI hat (by omega), bsm] at h
      obtain ⟨σ5, h5, h⟩ := bd_e h
      obtain ⟨⟨v7, σ6⟩, h6, h⟩ := bd_e h
      obtain ⟨v8, -, h⟩ := bd_e h
      cases h
      rw [g_takes h6, g_next h5, up2_s, upd_n (fun z => h1 z.symm)]
  · exact b23 h
theorem p_glue (σ : MS) (j : Nat) {c : Nat} {σ' : MS} {v : Int32} (h2 : σ 7 2 = nI c) (hj : j < 5) (hc : c ≤ 6) (h : fX9_readChair_b66 σ (nI (j + 1)) = some (v, σ')) : σ' 7 1 = σ 7 1 := by
  have e2 : rd (σ 7) 41 2 = some (nI c) := by rw [← h2]; exact rd_nI (j := 2) (by omega) (by omega)
  have hk0 : ¬ nI (j + 1) = 0 := nI_ne0 (by omega) (by omega)
  unfold fX9_readChair_b66 at h
  rw [e2, bsm, if_neg hk0] at h
  split at h
  · unfold fX9_readChair_b84 fX9_readChair_b94 fX9_faults at h
    rw [if_neg hk0, bsm, bsm] at h
    simp only at h
    rw [bz0, bsm] at h
    cases h
    rw [up2_n (by omega)]
  · rename_i hc6
    have hc6 : c < 6 := by
      have : c ≠ 6 := fun z => hc6 (by rw [z]; rfl)
      omega
    obtain ⟨σ4, h4, h⟩ := bd_e h
    rw [a5, mwr_nI (show 5 + c < 41 by omega) (by omega), bsm] at h
    obtain ⟨v6, -, h⟩ := bd_e h
    have ew : ∀ (s : MS) (x : Int32), mwr s 7 41 2 x = some (up2 s 7 2 x) := fun s x => mwr_nI (j := 2) (by omega) (by omega)
    rw [ew, bsm] at h
    have e4 : ∀ x y : Int32, up2 (up2 σ4 7 (5 + c) x) 7 2 y 7 1 = σ 7 1 := fun x y => by
      rw [up2_s, upd_n (by omega), up2_s, upd_n (by omega), g_next h4]
    obtain ⟨⟨v9, σ8⟩, h8, h⟩ := bd_e h
    rw [a11] at h8
    have g8 := (g_num (by omega) (by omega) h8).trans (e4 _ _)
    simp only at h
    split at h
    · cases h; exact g8
    · obtain ⟨⟨v12, σ11⟩, h11, h⟩ := bd_e h
      rw [a17] at h11
      have g11 := (g_num (by omega) (by omega) h11).trans g8
      simp only at h
      split at h
      · cases h; exact g11
      · obtain ⟨⟨v15, σ14⟩, h14, h⟩ := bd_e h
        rw [a23] at h14
        have g14 := (g_num (by omega) (by omega) h14).trans g11
        simp only at h
        split at h
        · cases h; exact g14
        · cases h; exact g14
