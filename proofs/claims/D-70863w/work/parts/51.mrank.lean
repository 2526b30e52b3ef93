/-! the model: how high one sits, ranks -/
def hb (k l s : Int32) : Int32 := if k = 2 then ((l + s) / 2) * 2 else if k = 3 then l + (2 * s) else if k = 4 then l else if k = 5 then (if l ≤ 0 then 0 else l + 5) else l + s
def hi (μ : Nat → Int32) (c : Nat) : Int32 := hb (μ (5 + c)) (μ (11 + c)) (μ (29 + c))
theorem m_highBy (k l s : Int32) : fX9_highBy k l s = some (hb k l s) := by
  unfold fX9_highBy hb
  repeat' split
  all_goals rfl
theorem m_high (σ : MS) {c : Nat} (h : c < 6) : fX9_highOf σ (nI c) = some (hi (σ 4) c, σ) := by
  unfold fX9_highOf
  simp (disch := omega) only [lit_nI, nI_add, rd_nI, Option.bind_some, m_highBy]
  rfl
/-- whether o sits above c -/
def abv (μ : Nat → Int32) (o c : Nat) : Bool := decide (hi μ c < hi μ o) || (decide (hi μ o = hi μ c) && decide (o < c))
def cnt (μ : Nat → Int32) (c : Nat) : Nat → Nat → Nat
  | _, 0 => 0
  | o, d + 1 => (if abv μ o c = true then 1 else 0) + cnt μ c (o + 1) d
def rk (μ : Nat → Int32) (n c : Nat) : Nat := cnt μ c 0 n
theorem m_rankL (σ : MS) (n c : Nat) (hn : n ≤ 6) (hc : c < 6) (hm : σ 4 2 = nI n) : ∀ (d o k fuel : Nat), d < fuel → o + d = n → fX9_rankOf_L4 fuel σ (nI c) (nI k) (nI o) = some (nI (k + cnt (σ 4) c o d), σ) := by
  intro d
  induction d with
  | zero =>
    intro o k fuel hf ho
    obtain ⟨f, rfl⟩ : ∃ f, fuel = f + 1 := ⟨fuel - 1, by omega⟩
    unfold fX9_rankOf_L4
    simp (disch := omega) only [lit_nI, rd_nI, Option.bind_some, hm, nI_leI]
    rw [if_pos (by omega)]
    rfl
  | succ d ih =>
    intro o k fuel hf ho
    obtain ⟨f, rfl⟩ : ∃ f, fuel = f + 1 := ⟨fuel - 1, by omega⟩
    unfold fX9_rankOf_L4
    have e0 : nI 2 = (2 : Int32) := rfl
    simp (disch := omega) only [lit_nI, rd_nI, Option.bind_some, hm, nI_leI, m_high, nI_add, nI_eq]
    rw [if_neg (by omega)]
    unfold cnt abv
    by_cases c1 : hi (σ 4) c < hi (σ 4) o
    · rw [if_pos c1, ih _ _ _ (by omega) (by omega)]
      simp [c1, Nat.add_assoc]
    · rw [if_neg c1]
      by_cases c2 : hi (σ 4) o = hi (σ 4) c
      · rw [if_pos c2]
        by_cases c3 : c ≤ o
        · rw [if_pos c3, ih _ _ _ (by omega) (by omega)]
          have : ¬ o < c := by omega
          simp [c1, this]
        · rw [if_neg c3, ih _ _ _ (by omega) (by omega)]
          have : o < c := by omega
          simp [c1, c2, this, Nat.add_assoc]
      · rw [if_neg c2, ih _ _ _ (by omega) (by omega)]
        simp [c1, c2]
theorem m_rank (σ : MS) {n c : Nat} (hn : n ≤ 6) (hc : c < 6) (hm : σ 4 2 = nI n) : fX9_rankOf σ (nI c) = some (nI (rk (σ 4) n c), σ) := by
  have := m_rankL σ n c hn hc hm n 0 0 2000 (by omega) (by omega)
  rw [Nat.zero_add] at this
  exact this
