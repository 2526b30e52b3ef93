/-! a Ministry's ranks -/
def legs0 (μ : Nat → Int32) (n : Nat) : Prop := ∀ c, c < n → 0 ≤ μ (11 + c)
theorem x_isHigher {X : AH} {o la n a b : Nat} {μ : Nat → Int32} {tf : Int32} {tk : Value} (hM : MinAt X o la μ tf tk) (hE : EC X o n μ) (hn : n ≤ 6) (hl : legs0 μ n) (ha : a < n) (hb : b < n) : fX1_isHigher X o (nI a) (nI b) = some (one1 (abv μ a b), X) := by
  unfold fX1_isHigher
  simp only [ck_of hM.1, Option.bind_some, x_high hM hE hn ha (hl a ha), x_high hM hE hn hb (hl b hb)]
  unfold abv
  by_cases c1 : hi μ b < hi μ a
  · rw [if_pos c1]; simp [c1, one1]
  · rw [if_neg c1]
    by_cases c2 : hi μ a = hi μ b
    · rw [if_pos c2]
      by_cases c3 : b ≤ a
      · rw [if_pos (nI_le c3 (by omega))]
        have : ¬ a < b := by omega
        simp [c1, this, one1]
      · rw [if_neg (nI_ge (by omega) (by omega))]
        have : a < b := by omega
        simp [c1, c2, this, one1]
    · rw [if_neg c2]; simp [c1, c2, one1]
theorem x_rankL {X : AH} {o la n c : Nat} {μ κ : Nat → Int32} {tf : Int32} {tk : Value} (hM : MinAt X o la μ tf tk) (hL : ChL X la n κ) (hE : EC X o n μ) (hn : n ≤ 6) (hl : legs0 μ n) (hc : c < n) : ∀ (d i k fuel : Nat), d < fuel → i + d = n → fX1_rank_L4 fuel X o (nI c) (nI k) (nI i) = some (nI (k + cnt μ c i d), X) := by
  intro d
  induction d with
  | zero =>
    intro i k fuel hf ho
    obtain ⟨f, rfl⟩ : ∃ f, fuel = f + 1 := ⟨fuel - 1, by omega⟩
    unfold fX1_rank_L4
    simp only [ck_of hM.1, Option.bind_some, x_many hM hL]
    rw [if_pos (nI_le (by omega) (by omega))]
    rfl
  | succ d ih =>
    intro i k fuel hf ho
    obtain ⟨f, rfl⟩ : ∃ f, fuel = f + 1 := ⟨fuel - 1, by omega⟩
    unfold fX1_rank_L4
    simp only [ck_of hM.1, Option.bind_some, x_many hM hL, nI_1, Int32.add_zero]
    rw [if_neg (nI_ge (by omega) (by omega))]
    unfold cnt
    by_cases e : i = c
    · subst e
      rw [if_pos rfl, ih _ _ _ (by omega) (by omega), abv_irr]
      simp
    · rw [if_neg (fun z => e ((nI_eq (by omega) (by omega)).mp z))]
      simp only [x_isHigher hM hE hn hl (show i < n by omega) hc, Option.bind_some]
      cases abv μ i c with
      | false =>
        rw [if_pos (show one1 false = 0 from rfl), ih _ _ _ (by omega) (by omega)]
        simp
      | true =>
        rw [if_neg (show ¬ one1 true = 0 by decide), ih _ _ _ (by omega) (by omega)]
        simp [Nat.add_assoc]
theorem x_rank {X : AH} {o la n c : Nat} {μ κ : Nat → Int32} {tf : Int32} {tk : Value} (hM : MinAt X o la μ tf tk) (hL : ChL X la n κ) (hE : EC X o n μ) (hn : n ≤ 6) (hl : legs0 μ n) (hc : c < n) : fX1_rank X o (nI c) = some (nI (rk μ n c), X) := by
  have := x_rankL hM hL hE hn hl hc n 0 0 2000 (by omega) (by omega)
  rw [Nat.zero_add] at this
  exact this
theorem x_rankedL {X : AH} {o la n : Nat} {μ κ : Nat → Int32} {tf : Int32} {tk : Value} (r : Int32) (hM : MinAt X o la μ tf tk) (hL : ChL X la n κ) (hE : EC X o n μ) (hn : n ≤ 6) (hl : legs0 μ n) : ∀ (d i fuel : Nat), d < fuel → i + d = n → fX1_ranked_L2 fuel X o r (nI i) = some (atF μ n r i d, X) := by
  intro d
  induction d with
  | zero =>
    intro i fuel hf ho
    obtain ⟨f, rfl⟩ : ∃ f, fuel = f + 1 := ⟨fuel - 1, by omega⟩
    unfold fX1_ranked_L2
    simp only [ck_of hM.1, Option.bind_some, x_many hM hL]
    rw [if_pos (nI_le (by omega) (by omega))]
    rfl
  | succ d ih =>
    intro i fuel hf ho
    obtain ⟨f, rfl⟩ : ∃ f, fuel = f + 1 := ⟨fuel - 1, by omega⟩
    unfold fX1_ranked_L2
    simp only [ck_of hM.1, Option.bind_some, x_many hM hL, nI_1, x_rank hM hL hE hn hl (show i < n by omega)]
    rw [if_neg (nI_ge (by omega) (by omega))]
    unfold atF
    by_cases q : nI (rk μ n i) = r
    · rw [if_pos q, if_pos q]
    · rw [if_neg q, if_neg q, ih _ _ (by omega) (by omega)]
theorem x_ranked {X : AH} {o la n : Nat} {μ κ : Nat → Int32} {tf : Int32} {tk : Value} (r : Int32) (hM : MinAt X o la μ tf tk) (hL : ChL X la n κ) (hE : EC X o n μ) (hn : n ≤ 6) (hl : legs0 μ n) : fX1_ranked X o r = some (atR μ n r, X) := x_rankedL r hM hL hE hn hl n 0 2000 (by omega) (by omega)
