/-! a ministry, read and written as a whole -/
section MN
variable {S : Nat → Prop} {X Y : AH} {p n c : Nat} {τ : Nat → Int32}
theorem Mn.ag (h : Mn X p n τ) (g : AgX S X Y) (hw : wfX X) (hd : ∀ a, p ≤ a → a < p + 8 → ¬ S a) : Mn Y p n τ := by
  obtain ⟨la, κ, tf, tk, hM, hL, hE⟩ := h
  exact ⟨la, κ, tf, tk, hM.ag g hw hd, hL.ag g, hE.ag g⟩
theorem Mn.ck1 (h : Mn X p n τ) : ck X p 1 = some () := by
  obtain ⟨la, κ, tf, tk, hM, hL, hE⟩ := h
  exact ck_of hM.1
theorem Mn.many (h : Mn X p n τ) : fX1_many X p = some (nI n, X) := by
  obtain ⟨la, κ, tf, tk, hM, hL, hE⟩ := h
  exact x_many hM hL
theorem Mn.high (h : Mn X p n τ) (hg : goodM n τ) (hc : c < n) : fX1_high X p (nI c) = some (hi τ c, X) := by
  obtain ⟨la, κ, tf, tk, hM, hL, hE⟩ := h
  exact x_high hM (hE.EC hM hL) hg.1 hc (hg.legs c hc)
theorem Mn.isHigher {a b : Nat} (h : Mn X p n τ) (hg : goodM n τ) (ha : a < n) (hb : b < n) : fX1_isHigher X p (nI a) (nI b) = some (one1 (abv τ a b), X) := by
  obtain ⟨la, κ, tf, tk, hM, hL, hE⟩ := h
  exact x_isHigher hM (hE.EC hM hL) hg.1 hg.legs ha hb
theorem Mn.rank (h : Mn X p n τ) (hg : goodM n τ) (hc : c < n) : fX1_rank X p (nI c) = some (nI (rk τ n c), X) := by
  obtain ⟨la, κ, tf, tk, hM, hL, hE⟩ := h
  exact x_rank hM hL (hE.EC hM hL) hg.1 hg.legs hc
theorem Mn.ranked (h : Mn X p n τ) (hg : goodM n τ) (r : Int32) : fX1_ranked X p r = some (atR τ n r, X) := by
  obtain ⟨la, κ, tf, tk, hM, hL, hE⟩ := h
  exact x_ranked r hM hL (hE.EC hM hL) hg.1 hg.legs
theorem Mn.victim (h : Mn X p n τ) (hg : goodM n τ) (hc : c < n) : fX1_victim X p (nI c) = some (tgt τ n c, X) := by
  obtain ⟨la, κ, tf, tk, hM, hL, hE⟩ := h
  exact x_victim hM hL (hE.EC hM hL) hg.1 hg.legs hc
theorem Mn.isWatched {v : Int32} (h : Mn X p n τ) : fX1_isWatched X p v = some (one1 (bitq (τ 4) v), X) := by
  obtain ⟨la, κ, tf, tk, hM, hL, hE⟩ := h
  exact x_isWatched hM
theorem Mn.g0 (h : Mn X p n τ) : gI X p 1 0 = some (τ 0) := by
  obtain ⟨la, κ, tf, tk, hM, hL, hE⟩ := h
  exact gI_of hM.1 rfl
theorem Mn.g1 (h : Mn X p n τ) : gI X p 1 1 = some (τ 1) := by
  obtain ⟨la, κ, tf, tk, hM, hL, hE⟩ := h
  exact gI_of hM.1 rfl
theorem Mn.g8 (h : Mn X p n τ) : gI X p 1 8 = some (τ 4) := by
  obtain ⟨la, κ, tf, tk, hM, hL, hE⟩ := h
  exact gI_of hM.1 rfl
theorem Mn.g9 (h : Mn X p n τ) : gI X p 1 9 = some (τ 3) := by
  obtain ⟨la, κ, tf, tk, hM, hL, hE⟩ := h
  exact gI_of hM.1 rfl
theorem Mn.r3 (h : Mn X p n τ) : gR X p 1 3 = some (p + 2) := by
  obtain ⟨la, κ, tf, tk, hM, hL, hE⟩ := h
  exact gR_of hM.1 rfl
theorem Mn.r4 (h : Mn X p n τ) : gR X p 1 4 = some (p + 3) := by
  obtain ⟨la, κ, tf, tk, hM, hL, hE⟩ := h
  exact gR_of hM.1 rfl
theorem Mn.r5 (h : Mn X p n τ) : gR X p 1 5 = some (p + 4) := by
  obtain ⟨la, κ, tf, tk, hM, hL, hE⟩ := h
  exact gR_of hM.1 rfl
theorem Mn.r6 (h : Mn X p n τ) : gR X p 1 6 = some (p + 5) := by
  obtain ⟨la, κ, tf, tk, hM, hL, hE⟩ := h
  exact gR_of hM.1 rfl
theorem Mn.r7 (h : Mn X p n τ) : gR X p 1 7 = some (p + 6) := by
  obtain ⟨la, κ, tf, tk, hM, hL, hE⟩ := h
  exact gR_of hM.1 rfl
theorem mo2 : mOff 2 11 := Or.inl ⟨rfl, rfl⟩
theorem mo3 : mOff 3 29 := Or.inr (Or.inl ⟨rfl, rfl⟩)
theorem mo4 : mOff 4 17 := Or.inr (Or.inr (Or.inl ⟨rfl, rfl⟩))
theorem mo5 : mOff 5 23 := Or.inr (Or.inr (Or.inr (Or.inl ⟨rfl, rfl⟩)))
theorem mo6 : mOff 6 35 := Or.inr (Or.inr (Or.inr (Or.inr ⟨rfl, rfl⟩)))
theorem Mn.rd {q b : Nat} (h : Mn X p n τ) (hq : mOff q b) (hc : c < 6) : gA X (p + q) 0 (nI c) = some (τ (b + c)) := by
  obtain ⟨la, κ, tf, tk, hM, hL, hE⟩ := h
  exact hM.rd hq hc
theorem Mn.put {q b : Nat} {x : Int32} (h : Mn X p n τ) (hw : wfX X) (hq : mOff q b) (hc : c < 6) (hn : n ≤ 6) : ∃ Y, pA X (p + q) 0 (nI c) x = some Y ∧ Mn Y p n (upd τ (b + c) x) ∧ AgX (blk p) X Y := by
  obtain ⟨la, κ, tf, tk, hM, hL, hE⟩ := h
  obtain ⟨Y, e, m, g, -⟩ := hM.put (x := x) hw hq hc
  have hb := hq.lb
  exact ⟨Y, e, ⟨la, κ, tf, tk, m, hL.ag g, (hE.ag g).cg fun c hc => upd_n (by omega)⟩, g⟩
theorem Mn.put8 {x : Int32} (h : Mn X p n τ) (hw : wfX X) : ∃ Y, pF X p 1 8 (.int x) = some Y ∧ Mn Y p n (upd τ 4 x) ∧ AgX (blk p) X Y := by
  obtain ⟨la, κ, tf, tk, hM, hL, hE⟩ := h
  obtain ⟨Y, e, m, g⟩ := hM.put8 (x := x) hw
  exact ⟨Y, e, ⟨la, κ, tf, tk, m, hL.ag g, (hE.ag g).cg fun c hc => upd_n (by omega)⟩, g⟩
/-- sums -/
def smF (τ : Nat → Int32) (b : Nat) : Nat → Nat → Int32 → Int32
  | _, 0, a => a
  | c, d + 1, a => smF τ b (c + 1) d (a + τ (b + c))
theorem x_allLegsL (h : Mn X p n τ) (hn : n ≤ 6) : ∀ (d c fuel : Nat) (i a : Int32), d < fuel → c + d = n → i = nI c → fX1_allLegs_L4 fuel X p a i = some (smF τ 11 c d a, X) := by
  intro d
  induction d with
  | zero =>
    intro c fuel i a hf hc hi
    obtain ⟨f, rfl⟩ : ∃ f, fuel = f + 1 := ⟨fuel - 1, by omega⟩
    subst hi
    unfold fX1_allLegs_L4
    simp only [h.ck1, h.many, Option.bind_some]
    rw [if_pos (nI_le (by omega) (by omega))]
    rfl
  | succ d ih =>
    intro c fuel i a hf hc hi
    obtain ⟨f, rfl⟩ : ∃ f, fuel = f + 1 := ⟨fuel - 1, by omega⟩
    subst hi
    unfold fX1_allLegs_L4
    simp only [h.ck1, h.many, Option.bind_some, h.r3, h.rd mo2 (show c < 6 by omega), nI_1]
    rw [if_neg (nI_ge (by omega) (by omega)), ih (c + 1) f _ _ (by omega) (by omega) rfl]
    rfl
theorem Mn.allLegs (h : Mn X p n τ) (hn : n ≤ 6) : fX1_allLegs X p = some (smF τ 11 0 n 0, X) := x_allLegsL h hn n 0 2000 0 0 (by omega) (by omega) rfl
theorem x_allCaughtL (h : Mn X p n τ) (hn : n ≤ 6) : ∀ (d c fuel : Nat) (i a : Int32), d < fuel → c + d = n → i = nI c → fX1_allCaught_L4 fuel X p a i = some (smF τ 35 c d a, X) := by
  intro d
  induction d with
  | zero =>
    intro c fuel i a hf hc hi
    obtain ⟨f, rfl⟩ : ∃ f, fuel = f + 1 := ⟨fuel - 1, by omega⟩
    subst hi
    unfold fX1_allCaught_L4
    simp only [h.ck1, h.many, Option.bind_some]
    rw [if_pos (nI_le (by omega) (by omega))]
    rfl
  | succ d ih =>
    intro c fuel i a hf hc hi
    obtain ⟨f, rfl⟩ : ∃ f, fuel = f + 1 := ⟨fuel - 1, by omega⟩
    subst hi
    unfold fX1_allCaught_L4
    simp only [h.ck1, h.many, Option.bind_some, h.r7, h.rd mo6 (show c < 6 by omega), nI_1]
    rw [if_neg (nI_ge (by omega) (by omega)), ih (c + 1) f _ _ (by omega) (by omega) rfl]
    rfl
theorem Mn.allCaught (h : Mn X p n τ) (hn : n ≤ 6) : fX1_allCaught X p = some (smF τ 35 0 n 0, X) := x_allCaughtL h hn n 0 2000 0 0 (by omega) (by omega) rfl
theorem m_sumL (σ : MS) {b : Nat} (hb : b ≤ 35) (hn : n ≤ 6) (hm : σ 4 2 = nI n) : ∀ (d c fuel : Nat) (i a : Int32), d < fuel → c + d = n → i = nI c → fX9_sumOf_L4 fuel σ (nI b) a i = some (smF (σ 4) b c d a, σ) := by
  have e1 : rd (σ 4) 41 2 = some (nI n) := by rw [← hm]; exact rd_nI (j := 2) (by omega) (by omega)
  intro d
  induction d with
  | zero =>
    intro c fuel i a hf hc hi
    obtain ⟨f, rfl⟩ : ∃ f, fuel = f + 1 := ⟨fuel - 1, by omega⟩
    subst hi
    unfold fX9_sumOf_L4
    simp only [e1, Option.bind_some]
    rw [if_pos (nI_le (by omega) (by omega))]
    rfl
  | succ d ih =>
    intro c fuel i a hf hc hi
    obtain ⟨f, rfl⟩ : ∃ f, fuel = f + 1 := ⟨fuel - 1, by omega⟩
    subst hi
    have e2 : rd (σ 4) 41 (nI b + nI c) = some (σ 4 (b + c)) := by rw [nI_add]; exact rd_nI (by omega) (by omega)
    unfold fX9_sumOf_L4
    simp only [e1, e2, Option.bind_some, nI_1]
    rw [if_neg (nI_ge (by omega) (by omega)), ih (c + 1) f _ _ (by omega) (by omega) rfl]
    rfl
theorem m_sum (σ : MS) {b : Nat} (hb : b ≤ 35) (hn : n ≤ 6) (hm : σ 4 2 = nI n) : fX9_sumOf σ (nI b) = some (smF (σ 4) b 0 n 0, σ) := m_sumL σ hb hn hm n 0 2000 0 0 (by omega) (by omega) rfl
/-- mending -/
def gle (τ : Nat → Int32) (c : Nat) : Nat → Int32 := upd τ (11 + c) (jmin 60 (τ (11 + c) + τ 1))
theorem Mn.mend (h : Mn X p n τ) (hw : wfX X) (hc : c < 6) (hn : n ≤ 6) : ∃ Y, fX1_mend X p (nI c) = some (gle τ c (11 + c), Y) ∧ Mn Y p n (gle τ c) ∧ AgX (blk p) X Y := by
  obtain ⟨Y, e, m, g⟩ := h.put (x := jmin 60 (τ (11 + c) + τ 1)) hw mo2 hc hn
  refine ⟨Y, ?_, m, g⟩
  unfold fX1_mend
  simp only [h.r3, h.rd mo2 hc, h.g1, Option.bind_some, e, m.r3, m.rd mo2 hc]
  rfl
theorem jmin60 (y : Int32) : jmin 60 y = if y ≤ 60 then y else 60 := by
  unfold jmin
  by_cases h : y < 60
  · rw [if_pos h, if_pos (Int32.le_of_lt h)]
  · rw [if_neg h]
    by_cases h2 : y ≤ 60
    · rw [if_pos h2]
      exact Int32.le_antisymm (Int32.not_lt.mp h) h2
    · rw [if_neg h2]
theorem m_glue (σ : MS) (hc : c < 6) : fX9_glue σ (nI c) = some (up2 σ 4 (11 + c) (jmin 60 (σ 4 (11 + c) + σ 4 1))) := by
  have e1 : rd (σ 4) 41 (11 + nI c) = some (σ 4 (11 + c)) := by
    have e0 : (11 : Int32) + nI c = nI (11 + c) := nI_add 11 c
    rw [e0]; exact rd_nI (by omega) (by omega)
  have e2 : rd (σ 4) 41 1 = some (σ 4 1) := rd_nI (j := 1) (by omega) (by omega)
  have e3 : ∀ x, mwr σ 4 41 (11 + nI c) x = some (up2 σ 4 (11 + c) x) := fun x => by
    have e0 : (11 : Int32) + nI c = nI (11 + c) := nI_add 11 c
    rw [e0]; exact mwr_nI (by omega) (by omega)
  unfold fX9_glue fX9_glue_b37
  simp only [e1, e2, e3, Option.bind_some]
  rw [jmin60]
  split <;> rfl
theorem gle_good (hg : goodM n τ) (hc : c < 6) : goodM n (gle τ c) := by
  obtain ⟨h1, h2, h3, h4, h5⟩ := hg
  obtain ⟨g, hg, eg⟩ := h5
  refine ⟨h1, by unfold gle; rw [upd_n (by omega)]; exact h2, fun j hj => ?_, by unfold gle; rw [upd_n (by omega)]; exact h4, by unfold gle; rw [upd_n (by omega)]; exact ⟨g, hg, eg⟩⟩
  obtain ⟨⟨l, hl, el⟩, k2, k3, k4⟩ := h3 j hj
  unfold gle
  refine ⟨?_, by rw [upd_n (by omega)]; exact k2, by rw [upd_n (by omega)]; exact k3, by rw [upd_n (by omega)]; exact k4⟩
  by_cases e : j = c
  · subst e
    rw [upd_s, el, eg, nI_add, jmin60]
    by_cases q : l + g ≤ 60
    · exact ⟨l + g, q, if_pos (nI_le q (by omega))⟩
    · exact ⟨60, by omega, if_neg (nI_ge (a := 60) (by omega) (by omega))⟩
  · rw [upd_n (by omega)]
    exact ⟨l, hl, el⟩
end MN
