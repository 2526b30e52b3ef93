/-! ranks are an order: one above another has a smaller rank; so a rank is one's alone -/
theorem abv_iff {μ : Nat → Int32} {o c : Nat} : abv μ o c = true ↔ (hi μ c).toInt < (hi μ o).toInt ∨ ((hi μ o).toInt = (hi μ c).toInt ∧ o < c) := by
  simp only [abv, Bool.or_eq_true, Bool.and_eq_true, decide_eq_true_eq, Int32.lt_iff_toInt_lt, ← Int32.toInt_inj]
theorem abv_irr {μ : Nat → Int32} {a : Nat} : abv μ a a = false := by
  cases h : abv μ a a with
  | false => rfl
  | true => have := abv_iff.mp h; omega
theorem abv_tr {μ : Nat → Int32} {a b c : Nat} (h1 : abv μ a b = true) (h2 : abv μ b c = true) : abv μ a c = true := by
  have := abv_iff.mp h1
  have := abv_iff.mp h2
  exact abv_iff.mpr (by omega)
theorem abv_tot {μ : Nat → Int32} {a b : Nat} (h : a ≠ b) : abv μ a b = true ∨ abv μ b a = true := by
  by_cases q : abv μ a b = true
  · exact Or.inl q
  · refine Or.inr (abv_iff.mpr ?_)
    have : ¬ ((hi μ b).toInt < (hi μ a).toInt ∨ ((hi μ a).toInt = (hi μ b).toInt ∧ a < b)) := fun z => q (abv_iff.mpr z)
    omega
theorem cnt_le {μ : Nat → Int32} {a b : Nat} (h : ∀ o, abv μ o a = true → abv μ o b = true) : ∀ d o, cnt μ a o d ≤ cnt μ b o d := by
  intro d
  induction d with
  | zero => intro o; exact Nat.le_refl _
  | succ d ih =>
    intro o
    have := ih (o + 1)
    unfold cnt
    by_cases q : abv μ o a = true
    · rw [if_pos q, if_pos (h o q)]; omega
    · rw [if_neg q]; omega
theorem cnt_lt {μ : Nat → Int32} {a b : Nat} (hab : abv μ a b = true) : ∀ d o, o ≤ a → a < o + d → cnt μ a o d < cnt μ b o d := by
  have h : ∀ o, abv μ o a = true → abv μ o b = true := fun o q => abv_tr q hab
  intro d
  induction d with
  | zero => intro o h1 h2; omega
  | succ d ih =>
    intro o h1 h2
    unfold cnt
    by_cases e : o = a
    · subst e
      have := cnt_le h d (o + 1)
      rw [abv_irr, hab]
      simp
      omega
    · have := ih (o + 1) (by omega) (by omega)
      by_cases q : abv μ o a = true
      · rw [if_pos q, if_pos (h o q)]; omega
      · rw [if_neg q]; omega
theorem rk_lt {μ : Nat → Int32} {n a b : Nat} (ha : a < n) (hab : abv μ a b = true) : rk μ n a < rk μ n b := cnt_lt hab n 0 (Nat.zero_le _) (by omega)
theorem rk_inj {μ : Nat → Int32} {n a b : Nat} (ha : a < n) (hb : b < n) (h : rk μ n a = rk μ n b) : a = b := by
  by_cases e : a = b
  · exact e
  · rcases abv_tot (μ := μ) e with q | q
    · have := rk_lt ha q; omega
    · have := rk_lt hb q; omega
theorem cnt_bd {μ : Nat → Int32} {c : Nat} : ∀ d o, cnt μ c o d ≤ d := by
  intro d
  induction d with
  | zero => intro o; exact Nat.le_refl _
  | succ d ih =>
    intro o
    have := ih (o + 1)
    unfold cnt
    split <;> omega
theorem rk_bd (μ : Nat → Int32) (n c : Nat) : rk μ n c ≤ n := cnt_bd n 0
/-- the one of that rank, looked for from o on: the first found; none -/
def atF (μ : Nat → Int32) (n : Nat) (r : Int32) : Nat → Nat → Int32
  | _, 0 => -1000000
  | o, d + 1 => if nI (rk μ n o) = r then nI o else atF μ n r (o + 1) d
def atR (μ : Nat → Int32) (n : Nat) (r : Int32) : Int32 := atF μ n r 0 n
theorem m_atRankL (σ : MS) (n : Nat) (r : Int32) (hn : n ≤ 6) (hm : σ 4 2 = nI n) : ∀ (d o fuel : Nat) (acc : Int32), d < fuel → o + d = n → (acc = -1000000 ∨ ∀ j, o ≤ j → j < n → nI (rk (σ 4) n j) ≠ r) → fX9_atRank_L5 fuel σ r acc (nI o) = some (if acc = -1000000 then atF (σ 4) n r o d else acc, σ) := by
  intro d
  induction d with
  | zero =>
    intro o fuel acc hf ho hacc
    obtain ⟨f, rfl⟩ : ∃ f, fuel = f + 1 := ⟨fuel - 1, by omega⟩
    unfold fX9_atRank_L5
    simp (disch := omega) only [lit_nI, rd_nI, Option.bind_some, hm, nI_leI]
    rw [if_pos (by omega)]
    unfold atF
    split
    · rename_i q; rw [q]; rfl
    · rfl
  | succ d ih =>
    intro o fuel acc hf ho hacc
    obtain ⟨f, rfl⟩ : ∃ f, fuel = f + 1 := ⟨fuel - 1, by omega⟩
    unfold fX9_atRank_L5
    have hr : fX9_rankOf σ (nI o) = some (nI (rk (σ 4) n o), σ) := m_rank σ hn (by omega) hm
    have e1 : nI o + 1 = nI (o + 1) := nI_1 o
    have e2 : rd (σ 4) 41 2 = some (nI n) := by rw [← hm]; exact rd_nI (j := 2) (by omega) (by omega)
    rw [e2, hr, e1]
    simp only [Option.bind_some]
    rw [if_neg (by rw [nI_leI (by omega) (by omega)]; omega)]
    by_cases q : nI (rk (σ 4) n o) = r
    · rw [if_pos q]
      have hacc0 : acc = -1000000 := by
        rcases hacc with h | h
        · exact h
        · exact absurd q (h o (Nat.le_refl _) (by omega))
      have hno : nI o ≠ -1000000 := by
        intro z
        have := congrArg Int32.toInt z
        rw [nI_toInt (by omega)] at this
        have e3 : (-1000000 : Int32).toInt = -1000000 := by decide
        omega
      rw [ih (o + 1) f (nI o) (by omega) (by omega) (Or.inr fun j h1 h2 z => ?_)]
      · rw [if_neg hno, if_pos hacc0]
        unfold atF
        rw [if_pos q]
      · have e4 : nI (rk (σ 4) n j) = nI (rk (σ 4) n o) := z.trans q.symm
        have b1 := rk_bd (σ 4) n j
        have b2 := rk_bd (σ 4) n o
        have e5 := (nI_eq (by omega) (by omega)).mp e4
        have := rk_inj h2 (by omega) e5
        omega
    · rw [if_neg q, ih (o + 1) f acc (by omega) (by omega) (by
        rcases hacc with h | h
        · exact Or.inl h
        · exact Or.inr fun j h1 h2 => h j (by omega) h2)]
      show _ = some (if acc = -1000000 then atF (σ 4) n r o (d + 1) else acc, σ)
      rw [show atF (σ 4) n r o (d + 1) = atF (σ 4) n r (o + 1) d by rw [atF, if_neg q]]
theorem m_atRank (σ : MS) {n : Nat} (r : Int32) (hn : n ≤ 6) (hm : σ 4 2 = nI n) : fX9_atRank σ r = some (atR (σ 4) n r, σ) := by
  have := m_atRankL σ n r hn hm n 0 2000 (-1000000) (by omega) (by omega) (Or.inl rfl)
  rw [if_pos rfl] at this
  exact this
