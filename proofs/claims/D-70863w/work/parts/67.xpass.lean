/-! a night in the component: sequential cutting is cutting by the sum -/
def goodM (n : Nat) (μ : Nat → Int32) : Prop := n ≤ 6 ∧ μ 2 = nI n ∧ (∀ c, c < 6 → (∃ a, a ≤ 60 ∧ μ (11 + c) = nI a) ∧ (∃ a, a ≤ 9 ∧ μ (17 + c) = nI a) ∧ (∃ a, a ≤ 3 ∧ μ (23 + c) = nI a) ∧ (∃ a, a ≤ 20 ∧ μ (29 + c) = nI a)) ∧ (∃ w, w < 64 ∧ μ 4 = nI w) ∧ (∃ g, g ≤ 9 ∧ μ 1 = nI g)
theorem goodM.legs {n : Nat} {μ : Nat → Int32} (h : goodM n μ) : legs0 μ n := fun c hc => by
  obtain ⟨a, ha, e⟩ := (h.2.2.1 c (by have := h.1; omega)).1
  rw [e]
  exact nI_pos' (by omega)
theorem swn_nI {n s c : Nat} {τ : Nat → Int32} (hg : goodM n τ) (hs : s < 6) : ∃ t, t ≤ 9 ∧ swn τ s c = nI t := by
  obtain ⟨a, ha, e⟩ := (hg.2.2.1 s hs).2.1
  unfold swn
  rw [e]
  split
  · exact ⟨a / 2, by omega, pk_div (d := 2) (by omega) (by omega) (by omega)⟩
  · exact ⟨a, ha, rfl⟩
theorem cutF_s (τ : Nat → Int32) (n c : Nat) : ∀ d s, cutF τ n c s (d + 1) = cutF τ n c s d + (if tgt τ n (s + d) = nI c ∧ cgt τ n (s + d) = false then swn τ (s + d) c else 0) := by
  intro d
  induction d with
  | zero =>
    intro s
    show (if tgt τ n s = nI c ∧ cgt τ n s = false then swn τ s c else 0) + 0 = 0 + (if tgt τ n (s + 0) = nI c ∧ cgt τ n (s + 0) = false then swn τ (s + 0) c else 0)
    rw [Int32.add_zero, Int32.zero_add]; rfl
  | succ d ih =>
    intro s
    have h1 : cutF τ n c s (d + 1 + 1) = (if tgt τ n s = nI c ∧ cgt τ n s = false then swn τ s c else 0) + cutF τ n c (s + 1) (d + 1) := rfl
    have h2 : cutF τ n c s (d + 1) = (if tgt τ n s = nI c ∧ cgt τ n s = false then swn τ s c else 0) + cutF τ n c (s + 1) d := rfl
    rw [h1, h2, ih (s + 1), Int32.add_assoc, show s + 1 + d = s + (d + 1) by omega]
theorem cutF_nI {n c : Nat} {τ : Nat → Int32} (hg : goodM n τ) : ∀ d, d ≤ 6 → ∃ P, P ≤ 9 * d ∧ cutF τ n c 0 d = nI P := by
  intro d
  induction d with
  | zero => intro _; exact ⟨0, by omega, rfl⟩
  | succ d ih =>
    intro hd
    obtain ⟨P, hP, e⟩ := ih (by omega)
    obtain ⟨t, ht, e2⟩ := swn_nI (c := c) hg (show 0 + d < 6 by omega)
    rw [cutF_s, e, e2]
    split
    · exact ⟨P + t, by omega, nI_add P t⟩
    · exact ⟨P, by omega, Int32.add_zero _⟩
theorem cl0_sub {a b : Nat} (ha : a < 2 ^ 30) (hb : b < 2 ^ 30) : cl0 (nI a - nI b) = nI (a - b) := by
  unfold cl0
  by_cases h : b ≤ a
  · rw [pk_sub h, if_pos (nI_pos' (by omega))]
  · rw [if_neg (Int32.not_le.mpr (pk_sneg hb (by omega))), show a - b = 0 by omega]; rfl
theorem jmax_sub {a b : Nat} (ha : a < 2 ^ 30) (hb : b < 2 ^ 30) : jmax 0 (nI a - nI b) = nI (a - b) := by
  unfold jmax
  by_cases h : b ≤ a
  · rw [pk_sub h]
    by_cases z : a - b = 0
    · rw [z, if_neg (by decide)]; rfl
    · rw [if_pos (show (0 : Int32) < nI (a - b) from nI_lt (a := 0) (by omega) (by omega))]
  · have := pk_sneg (a := a) hb (by omega)
    rw [if_neg (fun z => absurd (Int32.lt_trans z this) (by decide)), show a - b = 0 by omega]; rfl
/-- legs cut by those before a; saws and how often caught, of those before b -/
def pg (τ : Nat → Int32) (n a b : Nat) : Nat → Int32 := fun k => if 11 ≤ k ∧ k < 11 + n then cl0 (τ k - cutF τ n (k - 11) 0 a) else if 17 ≤ k ∧ k < 17 + b then τ k - one1 (cgt τ n (k - 17)) else if 35 ≤ k ∧ k < 35 + b then τ k + one1 (cgt τ n (k - 35)) else τ k
theorem pg_o {τ : Nat → Int32} {n a b k : Nat} (h1 : ¬ (11 ≤ k ∧ k < 11 + n)) (h2 : ¬ (17 ≤ k ∧ k < 17 + b)) (h3 : ¬ (35 ≤ k ∧ k < 35 + b)) : pg τ n a b k = τ k := by
  unfold pg
  rw [if_neg h1, if_neg h2, if_neg h3]
theorem pg_l {τ : Nat → Int32} {n a b j : Nat} (h : j < n) : pg τ n a b (11 + j) = cl0 (τ (11 + j) - cutF τ n j 0 a) := by
  unfold pg
  rw [if_pos (by omega), show 11 + j - 11 = j by omega]
theorem pg_00 {τ : Nat → Int32} {n : Nat} (hg : goodM n τ) : pg τ n 0 0 = τ := by
  funext k
  unfold pg
  split
  · rename_i h
    have hn := hg.1
    obtain ⟨a, ha, e⟩ := (hg.2.2.1 (k - 11) (by omega)).1
    rw [show 11 + (k - 11) = k by omega] at e
    show cl0 (τ k - 0) = τ k
    rw [e]
    exact cl0_sub (b := 0) (by omega) (by omega)
  · rw [if_neg (by omega), if_neg (by omega)]
theorem pg_skip {τ : Nat → Int32} {n s b : Nat} (h : ∀ c, c < n → ¬ (tgt τ n s = nI c ∧ cgt τ n s = false)) : pg τ n (s + 1) b = pg τ n s b := by
  funext k
  unfold pg
  split
  · rw [cutF_s, Nat.zero_add, if_neg (h (k - 11) (by omega)), Int32.add_zero]
  · rfl
theorem pg_cut {τ : Nat → Int32} {n s j : Nat} (hg : goodM n τ) (hs : s < n) (hj : j < n) (ht : tgt τ n s = nI j) (hc : cgt τ n s = false) : upd (pg τ n s 0) (11 + j) (jmax 0 (pg τ n s 0 (11 + j) - swn τ s j)) = pg τ n (s + 1) 0 := by
  have hn := hg.1
  funext k
  by_cases e : k = 11 + j
  · subst e
    rw [upd_s, pg_l hj, pg_l hj, cutF_s, Nat.zero_add, if_pos ⟨ht, hc⟩]
    obtain ⟨a, ha, e1⟩ := (hg.2.2.1 j (by omega)).1
    obtain ⟨P, hP, e2⟩ := cutF_nI (c := j) hg s (by omega)
    obtain ⟨t, ht, e3⟩ := swn_nI (c := j) hg (show s < 6 by omega)
    rw [e1, e2, e3, cl0_sub (by omega) (by omega), jmax_sub (by omega) (by omega), nI_add, cl0_sub (by omega) (by omega), Nat.sub_sub]
  · rw [upd_n e]
    unfold pg
    split
    · rw [cutF_s, Nat.zero_add, if_neg (fun z => ?_), Int32.add_zero]
      have := (nI_eq (by omega) (by omega)).mp (z.1.symm.trans ht)
      omega
    · rfl
theorem pg_cgt {τ : Nat → Int32} {n s : Nat} (hs : s < 6) (hn : n ≤ 6) : upd (upd (pg τ n n s) (35 + s) (τ (35 + s) + one1 (cgt τ n s))) (17 + s) (τ (17 + s) - one1 (cgt τ n s)) = pg τ n n (s + 1) := by
  funext k
  by_cases a1 : k = 17 + s
  · subst a1
    rw [upd_s]
    unfold pg
    rw [if_neg (by omega), if_pos (by omega), show 17 + s - 17 = s by omega]
  · rw [upd_n a1]
    by_cases a2 : k = 35 + s
    · subst a2
      rw [upd_s]
      unfold pg
      rw [if_neg (by omega), if_neg (by omega), if_pos (by omega), show 35 + s - 35 = s by omega]
    · rw [upd_n a2]
      unfold pg
      split
      · rfl
      · by_cases b2 : 17 ≤ k ∧ k < 17 + s
        · rw [if_pos b2, if_pos (show 17 ≤ k ∧ k < 17 + (s + 1) by omega)]
        · rw [if_neg b2, if_neg (show ¬ (17 ≤ k ∧ k < 17 + (s + 1)) by omega)]
          by_cases b3 : 35 ≤ k ∧ k < 35 + s
          · rw [if_pos b3, if_pos (show 35 ≤ k ∧ k < 35 + (s + 1) by omega)]
          · rw [if_neg b3, if_neg (show ¬ (35 ≤ k ∧ k < 35 + (s + 1)) by omega)]
theorem pg_nc {τ : Nat → Int32} {n s : Nat} (hs : s < 6) (hn : n ≤ 6) (hc : cgt τ n s = false) : pg τ n n (s + 1) = pg τ n n s := by
  rw [← pg_cgt hs hn, hc]
  funext k
  have z1 : τ (17 + s) - one1 false = τ (17 + s) := Int32.sub_zero _
  have z2 : τ (35 + s) + one1 false = τ (35 + s) := Int32.add_zero _
  rw [z1, z2]
  by_cases a1 : k = 17 + s
  · subst a1
    rw [upd_s]
    unfold pg
    rw [if_neg (by omega), if_neg (by omega), if_neg (by omega)]
  · rw [upd_n a1]
    by_cases a2 : k = 35 + s
    · subst a2
      rw [upd_s]
      unfold pg
      rw [if_neg (by omega), if_neg (by omega), if_neg (by omega)]
    · rw [upd_n a2]
theorem pg_end {τ : Nat → Int32} {n : Nat} (hn : n ≤ 6) : upd (pg τ n n n) 3 (τ 3 + 1) = nit τ n := by
  funext k
  unfold nit
  by_cases a : k = 3
  · subst a; rw [upd_s, if_pos rfl]
  · rw [upd_n a, if_neg a]; rfl
theorem cgt_saw {τ : Nat → Int32} {n s : Nat} (h : cgt τ n s = true) : τ (17 + s) ≠ 0 := by
  intro z
  unfold cgt tgt at h
  rw [if_pos z] at h
  exact absurd h (by rw [show decide (0 ≤ NO) = false by decide]; simp)
theorem nit_good {τ : Nat → Int32} {n : Nat} (hg : goodM n τ) : goodM n (nit τ n) := by
  have hn := hg.1
  have oth : ∀ k, k ≠ 3 → ¬ (11 ≤ k ∧ k < 23) → ¬ (35 ≤ k ∧ k < 41) → nit τ n k = τ k := by
    intro k a1 a2 a3
    unfold nit
    rw [if_neg a1, if_neg (by omega), if_neg (by omega), if_neg (by omega)]
  refine ⟨hn, by rw [oth 2 (by omega) (by omega) (by omega)]; exact hg.2.1, fun c hc => ?_, by rw [oth 4 (by omega) (by omega) (by omega)]; exact hg.2.2.2.1, by rw [oth 1 (by omega) (by omega) (by omega)]; exact hg.2.2.2.2⟩
  obtain ⟨⟨l, hl, el⟩, ⟨w, hw, ew⟩, h3, h4⟩ := hg.2.2.1 c hc
  refine ⟨?_, ?_, by rw [oth _ (by omega) (by omega) (by omega)]; exact h3, by rw [oth _ (by omega) (by omega) (by omega)]; exact h4⟩
  · by_cases q : c < n
    · obtain ⟨P, hP, e2⟩ := cutF_nI (c := c) hg n hn
      refine ⟨l - P, by omega, ?_⟩
      unfold nit
      rw [if_neg (by omega), if_pos (by omega), show 11 + c - 11 = c by omega, el, e2]
      exact cl0_sub (by omega) (by omega)
    · refine ⟨l, hl, ?_⟩
      unfold nit
      rw [if_neg (by omega), if_neg (by omega), if_neg (by omega), if_neg (by omega)]
      exact el
  · by_cases q : c < n
    · unfold nit
      rw [if_neg (by omega), if_neg (by omega), if_pos (by omega), show 17 + c - 17 = c by omega]
      cases hcg : cgt τ n c with
      | false => exact ⟨w, hw, by rw [ew]; exact Int32.sub_zero _⟩
      | true =>
        have := cgt_saw hcg
        have w0 : w ≠ 0 := fun z => this (by rw [ew, z]; rfl)
        exact ⟨w - 1, by omega, by rw [ew]; exact pk_sub (b := 1) (by omega)⟩
    · refine ⟨w, hw, ?_⟩
      unfold nit
      rw [if_neg (by omega), if_neg (by omega), if_neg (by omega), if_neg (by omega)]
      exact ew
