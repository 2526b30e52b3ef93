/-! both say the same: grd against tgt -/
theorem grd_tgt {μ : Nat → Int32} {n c : Nat} (hn : n ≤ 6) (hc : c < n) : (if μ (17 + c) = 0 then NO else grd μ n c) = tgt μ n c := by
  have b := rk_bd μ n c
  unfold tgt
  by_cases s0 : μ (17 + c) = 0
  · rw [if_pos s0, if_pos s0]
  · rw [if_neg s0, if_neg s0]
    have hno : NO ≠ nI c := NO_ne (by omega)
    -- the one of another rank isn't c
    have oth : ∀ r : Int32, r ≠ nI (rk μ n c) → atR μ n r ≠ nI c := by
      intro r hr z
      have key : ∀ d i, i + d = n → atF μ n r i d = nI c → r = nI (rk μ n c) := by
        intro d
        induction d with
        | zero => intro i _ h; exact absurd h hno
        | succ d ih =>
          intro i h1 h
          unfold atF at h
          by_cases q : nI (rk μ n i) = r
          · rw [if_pos q] at h
            have := (nI_eq (by omega) (by omega)).mp h
            rw [← q, this]
          · rw [if_neg q] at h
            exact ih (i + 1) (by omega) h
      exact hr (key n 0 (by omega) z)
    unfold grd who0
    by_cases g1 : μ (23 + c) = 1
    · rw [if_pos g1, if_pos g1]
      by_cases r0 : rk μ n c = 0
      · rw [if_pos r0]
        have : atR μ n (nI (rk μ n c) - 1) = NO := atR_none (fun i hi z => by
          have b2 := rk_bd μ n i
          rw [r0] at z
          have e : (nI 0 - 1 : Int32) = -1 := by decide
          rw [e] at z
          have := congrArg Int32.toInt z
          rw [nI_toInt (by omega), show (-1 : Int32).toInt = -1 by decide] at this
          omega)
        rw [this, if_neg hno]
      · rw [if_neg r0, show nI (rk μ n c) - 1 = nI (rk μ n c - 1) from pk_sub (b := 1) (by omega)]
        rw [if_neg (oth _ (fun z => by have := (nI_eq (by omega) (by omega)).mp z; omega))]
    · rw [if_neg g1, if_neg g1]
      by_cases g2 : μ (23 + c) = 2
      · rw [if_pos g2, if_pos g2]
        by_cases r0 : rk μ n c = 0
        · have := atR_rk (μ := μ) hn hc
          rw [r0] at this
          rw [if_pos r0, show atR μ n 0 = nI c from this, if_pos rfl]
        · rw [if_neg r0, if_neg (oth 0 (fun z => r0 ((nI_eq (a := 0) (by omega) (by omega)).mp z).symm))]
      · rw [if_neg g2, if_neg g2]
        by_cases g3 : μ (23 + c) = 3
        · rw [if_pos g3, if_pos g3]
          by_cases n1 : n = 1
          · subst n1
            have : c = 0 := by omega
            subst this
            rfl
          · rw [if_neg n1]
            have : (c + 1) % n ≠ c := by
              by_cases e : c + 1 = n
              · rw [e, Nat.mod_self]; omega
              · rw [Nat.mod_eq_of_lt (by omega)]; omega
            have b3 := Nat.mod_lt (c + 1) (show 0 < n by omega)
            rw [if_neg (fun z => this ((nI_eq (by omega) (by omega)).mp z))]
        · rw [if_neg g3, if_neg g3, if_neg hno]
theorem x_victim {X : AH} {o la n c : Nat} {μ κ : Nat → Int32} {tf : Int32} {tk : Value} (hM : MinAt X o la μ tf tk) (hL : ChL X la n κ) (hE : EC X o n μ) (hn : n ≤ 6) (hl : legs0 μ n) (hc : c < n) : fX1_victim X o (nI c) = some (tgt μ n c, X) := by
  unfold fX1_victim
  simp only [gR_of hM.1 (k := 5) (v := o + 4) rfl, Option.bind_some, arr6_rd hM.2.2.2.1 (show c < 6 by omega), ck_of hM.1, x_grudged hM hL hE hn hl hc]
  rw [← grd_tgt hn hc]
  by_cases s0 : μ (17 + c) = 0
  · rw [if_pos s0, if_pos s0]; rfl
  · rw [if_neg s0, if_neg s0]
