/-! whose chair one would saw, in the component -/
theorem atR_rk {μ : Nat → Int32} {n c : Nat} (hn : n ≤ 6) (hc : c < n) : atR μ n (nI (rk μ n c)) = nI c := by
  have key : ∀ d o, o + d = n → o ≤ c → atF μ n (nI (rk μ n c)) o d = nI c := by
    intro d
    induction d with
    | zero => intro o h1 h2; omega
    | succ d ih =>
      intro o h1 h2
      unfold atF
      by_cases e : o = c
      · rw [e, if_pos rfl]
      · have b1 := rk_bd μ n o
        have b2 := rk_bd μ n c
        rw [if_neg (fun z => e (rk_inj (by omega) hc ((nI_eq (by omega) (by omega)).mp z)))]
        exact ih (o + 1) (by omega) (by omega)
  exact key n 0 (by omega) (Nat.zero_le _)
theorem atR_none {μ : Nat → Int32} {n : Nat} {r : Int32} (h : ∀ o, o < n → nI (rk μ n o) ≠ r) : atR μ n r = NO := by
  have key : ∀ d o, o + d = n → atF μ n r o d = NO := by
    intro d
    induction d with
    | zero => intro o _; rfl
    | succ d ih =>
      intro o h1
      unfold atF
      rw [if_neg (h o (by omega))]
      exact ih (o + 1) (by omega)
  exact key n 0 (by omega)
/-- what a grudge gives: as the component says it -/
def grd (μ : Nat → Int32) (n c : Nat) : Int32 := if μ (23 + c) = 1 then (if rk μ n c = 0 then NO else atR μ n (nI (rk μ n c - 1))) else if μ (23 + c) = 2 then (if rk μ n c = 0 then NO else atR μ n 0) else if μ (23 + c) = 3 then (if n = 1 then NO else nI ((c + 1) % n)) else NO
theorem x_grudged {X : AH} {o la n c : Nat} {μ κ : Nat → Int32} {tf : Int32} {tk : Value} (hM : MinAt X o la μ tf tk) (hL : ChL X la n κ) (hE : EC X o n μ) (hn : n ≤ 6) (hl : legs0 μ n) (hc : c < n) : fX1_grudged X o (nI c) = some (grd μ n c, X) := by
  have b := rk_bd μ n c
  have e3 : rmd (nI c + 1) (nI n) = some (nI ((c + 1) % n)) := by rw [nI_1]; exact rmd_nI (by omega) (by omega) (by omega)
  unfold fX1_grudged grd
  simp only [ck_of hM.1, Option.bind_some, x_rank hM hL hE hn hl hc, gR_of hM.1 (k := 6) (v := o + 5) rfl, arr6_rd hM.2.2.2.2.1 (show c < 6 by omega), x_ranked _ hM hL hE hn hl, x_many hM hL, e3]
  by_cases g1 : μ (23 + c) = 1
  · rw [if_pos g1, if_pos g1]
    by_cases r0 : rk μ n c = 0
    · rw [if_pos (by rw [r0]; rfl), if_pos r0]; rfl
    · rw [if_neg (show ¬ nI (rk μ n c) = 0 from fun z => r0 ((nI_eq (b := 0) (by omega) (by omega)).mp z)), if_neg r0]
      rw [show nI (rk μ n c) - 1 = nI (rk μ n c - 1) from pk_sub (b := 1) (by omega)]
  · rw [if_neg g1, if_neg g1]
    by_cases g2 : μ (23 + c) = 2
    · rw [if_pos g2, if_pos g2]
      by_cases r0 : rk μ n c = 0
      · rw [if_pos (by rw [r0]; rfl), if_pos r0]; rfl
      · rw [if_neg (show ¬ nI (rk μ n c) = 0 from fun z => r0 ((nI_eq (b := 0) (by omega) (by omega)).mp z)), if_neg r0]
    · rw [if_neg g2, if_neg g2]
      by_cases g3 : μ (23 + c) = 3
      · rw [if_pos g3, if_pos g3]
        by_cases n1 : n = 1
        · rw [if_pos (by rw [n1]; rfl), if_pos n1]; rfl
        · rw [if_neg (show ¬ nI n = 1 from fun z => n1 ((nI_eq (b := 1) (by omega) (by omega)).mp z)), if_neg n1]
      · rw [if_neg g3, if_neg g3]; rfl
