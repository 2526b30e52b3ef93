/-! whose chair one would saw -/
def NO : Int32 := -1000000
def who0 (μ : Nat → Int32) (n c : Nat) : Int32 := if μ (23 + c) = 1 then atR μ n (nI (rk μ n c) - 1) else if μ (23 + c) = 2 then atR μ n 0 else if μ (23 + c) = 3 then nI ((c + 1) % n) else NO
def tgt (μ : Nat → Int32) (n c : Nat) : Int32 := if μ (17 + c) = 0 then NO else if who0 μ n c = nI c then NO else who0 μ n c
theorem rmd_nI {a d : Nat} (ha : a < 2 ^ 31) (h0 : 0 < d) (hd : d < 2 ^ 31) : rmd (nI a) (nI d) = some (nI (a % d)) := by
  unfold rmd
  rw [if_neg (nI_ne0 h0 hd), pk_rem ha h0 hd]
theorem m_targetB (σ : MS) {n c : Nat} (hc : c < 6) (w : Int32) (hw : w = who0 (σ 4) n c) : fX9_targetOf_b78 σ (nI c) w = some (tgt (σ 4) n c, σ) := by
  unfold fX9_targetOf_b78 tgt
  have e : rd (σ 4) 41 (17 + nI c) = some (σ 4 (17 + c)) := by
    have e0 : (17 : Int32) + nI c = nI (17 + c) := nI_add 17 c
    rw [e0]; exact rd_nI (by omega) (by omega)
  rw [e, ← hw]
  simp only [Option.bind_some]
  repeat' split
  all_goals rfl
theorem m_target (σ : MS) {n c : Nat} (h1 : 1 ≤ n) (hn : n ≤ 6) (hc : c < 6) (hm : σ 4 2 = nI n) : fX9_targetOf σ (nI c) = some (tgt (σ 4) n c, σ) := by
  unfold fX9_targetOf
  have e : rd (σ 4) 41 (23 + nI c) = some (σ 4 (23 + c)) := by
    have e0 : (23 : Int32) + nI c = nI (23 + c) := nI_add 23 c
    rw [e0]; exact rd_nI (by omega) (by omega)
  have e2 : rd (σ 4) 41 2 = some (nI n) := by rw [← hm]; exact rd_nI (j := 2) (by omega) (by omega)
  have e3 : rmd (nI c + 1) (nI n) = some (nI ((c + 1) % n)) := by rw [nI_1]; exact rmd_nI (by omega) (by omega) (by omega)
  simp only [e, e2, e3, m_rank σ hn hc hm, m_atRank σ _ hn hm, Option.bind_some]
  by_cases g1 : σ 4 (23 + c) = 1
  · rw [if_pos g1]
    exact m_targetB σ hc _ (by unfold who0; rw [if_pos g1])
  · rw [if_neg g1]
    by_cases g2 : σ 4 (23 + c) = 2
    · rw [if_pos g2]
      exact m_targetB σ hc _ (by unfold who0; rw [if_neg g1, if_pos g2])
    · rw [if_neg g2]
      by_cases g3 : σ 4 (23 + c) = 3
      · rw [if_pos g3]
        exact m_targetB σ hc _ (by unfold who0; rw [if_neg g1, if_neg g2, if_pos g3])
      · rw [if_neg g3]
        exact m_targetB σ hc _ (by unfold who0; rw [if_neg g1, if_neg g2, if_neg g3]; rfl)
