/-! what is done: nights, cushions, mend, watch, change, saw; undo, image, restore; feed -/
section SV
variable {X : AH} {p n c : Nat} {μ τ : Nat → Int32}
theorem goodM.put {q b v : Nat} {x : Int32} (hg : goodM n τ) (hq : mOff q b) (hc : c < 6) (hx : x = nI v ∨ b = 35) (hv : (b = 11 → v ≤ 60) ∧ (b = 17 → v ≤ 9) ∧ (b = 23 → v ≤ 3) ∧ (b = 29 → v ≤ 20)) : goodM n (upd τ (b + c) x) := by
  have hb := hq.lb
  refine ⟨hg.1, by rw [upd_n (by omega)]; exact hg.2.1, fun c' hc' => ?_, by rw [upd_n (by omega)]; exact hg.2.2.2.1, by rw [upd_n (by omega)]; exact hg.2.2.2.2⟩
  obtain ⟨k1, k2, k3, k4⟩ := hg.2.2.1 c' hc'
  have hb2 : b = 11 ∨ b = 17 ∨ b = 23 ∨ b = 29 ∨ b = 35 := by rcases hq with h | h | h | h | h <;> omega
  have key : ∀ (b' M : Nat), b' ≠ 35 → (b = b' → v ≤ M) → (b = b' ∨ b + 6 ≤ b' ∨ b' + 6 ≤ b) → (∃ a, a ≤ M ∧ τ (b' + c') = nI a) → ∃ a, a ≤ M ∧ upd τ (b + c) x (b' + c') = nI a := by
    intro b' M h0 h1 h2 h3
    by_cases e : b' + c' = b + c
    · rw [e, upd_s]
      rcases hx with hx | hx
      · exact ⟨v, h1 (by omega), hx⟩
      · omega
    · rw [upd_n e]; exact h3
  exact ⟨key 11 60 (by omega) hv.1 (by omega) k1, key 17 9 (by omega) hv.2.1 (by omega) k2, key 23 3 (by omega) hv.2.2.1 (by omega) k3, key 29 20 (by omega) hv.2.2.2 (by omega) k4⟩
theorem goodM.wt {w : Nat} {x : Int32} (hg : goodM n τ) (hx : x = nI w) (hw : w < 64) : goodM n (upd τ 4 x) := by
  refine ⟨hg.1, by rw [upd_n (by omega)]; exact hg.2.1, fun c hc => ?_, ⟨w, hw, by rw [upd_s, hx]⟩, by rw [upd_n (by omega)]; exact hg.2.2.2.2⟩
  have := hg.2.2.1 c hc
  rw [upd_n (by omega), upd_n (by omega), upd_n (by omega), upd_n (by omega)]
  exact this
theorem Sv.put {q b : Nat} {x : Int32} (h : Sv X p n μ) (hw : wfX X) (hq : mOff q b) (hc : c < 6) (hg' : goodM n (upd μ (b + c) x)) : ∃ Y, pA X (p + q) 0 (nI c) x = some Y ∧ Sv Y p n (upd μ (b + c) x) ∧ AgX (blk p) X Y := by
  obtain ⟨hg, la, tk, hM, hL⟩ := h
  obtain ⟨Y, e, m, G, -⟩ := hM.put (x := x) hw hq hc
  have hb := hq.lb
  have hn := hg.1
  exact ⟨Y, e, ⟨hg', la, tk, m, (hL.ag G).cg fun i hi => (upd_n (by omega)).symm⟩, G⟩
theorem Sv.put8 {x : Int32} (h : Sv X p n μ) (hw : wfX X) (hg' : goodM n (upd μ 4 x)) : ∃ Y, pF X p 1 8 (.int x) = some Y ∧ Sv Y p n (upd μ 4 x) ∧ AgX (blk p) X Y := by
  obtain ⟨hg, la, tk, hM, hL⟩ := h
  obtain ⟨Y, e, m, G⟩ := hM.put8 (x := x) hw
  exact ⟨Y, e, ⟨hg', la, tk, m, (hL.ag G).cg fun i hi => (upd_n (by omega)).symm⟩, G⟩
theorem Sv.pass (h : Sv X p n μ) (hw : wfX X) (h1 : 1 ≤ n) : ∃ Y, fX1_pass X p = some (p, Y) ∧ Sv Y p n (nit μ n) ∧ AgX (blk p) X Y := by
  obtain ⟨hg, la, tk, hM, hL⟩ := h
  have hn := hg.1
  obtain ⟨Y, e, m, G⟩ := x_pass0 hw hM hL (fun c hc => Or.inl ⟨(NO_ne (by omega)).symm, rfl⟩) hg h1
  exact ⟨Y, e, ⟨nit_good hg, la, tk, m, (hL.ag G).cg fun i hi => (nit_k hn (by omega)).symm⟩, G⟩
theorem Sv.mend (h : Sv X p n μ) (hw : wfX X) (hc : c < 6) : ∃ Y, fX1_mend X p (nI c) = some (gle μ c (11 + c), Y) ∧ Sv Y p n (gle μ c) ∧ AgX (blk p) X Y := by
  obtain ⟨Y, e, s, G⟩ := h.put (x := jmin 60 (μ (11 + c) + μ 1)) hw mo2 hc (gle_good h.1 hc)
  refine ⟨Y, ?_, s, G⟩
  have m := h.Mn
  have m2 := s.Mn
  unfold fX1_mend
  simp only [m.r3, m.rd mo2 hc, m.g1, Option.bind_some, e, m2.r3, m2.rd mo2 hc]
  rfl
/-- two of an array change places -/
def swp (μ : Nat → Int32) (b i j : Nat) : Nat → Int32 := upd (upd μ (b + i) (μ (b + j))) (b + j) (μ (b + i))
theorem swp_at {b i j k : Nat} : swp μ b i j k = if k = b + j then μ (b + i) else if k = b + i then μ (b + j) else μ k := rfl
theorem swp_good {q b i j : Nat} (hg : goodM n μ) (hq : mOff q b) (hi : i < 6) (hj : j < 6) : goodM n (swp μ b i j) := by
  have hb2 : b = 11 ∨ b = 17 ∨ b = 23 ∨ b = 29 ∨ b = 35 := by rcases hq with h | h | h | h | h <;> omega
  have oth : ∀ k, ¬ (b ≤ k ∧ k < b + 6) → swp μ b i j k = μ k := fun k hk => by rw [swp_at, if_neg (by omega), if_neg (by omega)]
  refine ⟨hg.1, by rw [oth 2 (by omega)]; exact hg.2.1, fun c' hc' => ?_, by rw [oth 4 (by omega)]; exact hg.2.2.2.1, by rw [oth 1 (by omega)]; exact hg.2.2.2.2⟩
  have key : ∀ (b' M : Nat), (∀ c, c < 6 → ∃ a, a ≤ M ∧ μ (b' + c) = nI a) → (b = b' ∨ b + 6 ≤ b' ∨ b' + 6 ≤ b) → ∃ a, a ≤ M ∧ swp μ b i j (b' + c') = nI a := by
    intro b' M h h2
    rcases h2 with rfl | h2
    · rw [swp_at]
      split
      · exact h i hi
      · split
        · exact h j hj
        · exact h c' hc'
    · rw [oth _ (by omega)]; exact h c' hc'
  exact ⟨key 11 60 (fun c hc => (hg.2.2.1 c hc).1) (by omega), key 17 9 (fun c hc => (hg.2.2.1 c hc).2.1) (by omega), key 23 3 (fun c hc => (hg.2.2.1 c hc).2.2.1) (by omega), key 29 20 (fun c hc => (hg.2.2.1 c hc).2.2.2) (by omega)⟩
theorem Sv.exch {q b i j : Nat} (h : Sv X p n μ) (hw : wfX X) (hq : mOff q b) (hi : i < 6) (hj : j < 6) : ∃ Y, fX1_exchange X (p + q) (nI i) (nI j) = some Y ∧ Sv Y p n (swp μ b i j) ∧ AgX (blk p) X Y := by
  obtain ⟨hg, la, tk, hM, hL⟩ := h
  have hb := hq.lb
  have hn := hg.1
  obtain ⟨Y, e, m, G, -⟩ := hM.put (x := μ (b + j)) hw hq hi
  obtain ⟨Z, e2, m2, G2, -⟩ := m.put (x := μ (b + i)) G.w hq hj
  refine ⟨Z, ?_, ⟨swp_good hg hq hi hj, la, tk, m2, ((hL.ag G).ag G2).cg fun k hk => ?_⟩, G.tr G2⟩
  · unfold fX1_exchange
    simp only [hM.rd hq hi, hM.rd hq hj, Option.bind_some, e, e2]
  · rw [swp_at, if_neg (by omega), if_neg (by omega)]
theorem m_exch (σ : MS) {b i j : Nat} (hb : b ≤ 35) (hi : i < 6) (hj : j < 6) : ∃ σ', fX9_exchange σ (nI b) (nI i) (nI j) = some σ' ∧ σ' 4 = swp (σ 4) b i j ∧ ∀ k, k ≠ 4 → σ' k = σ k := by
  have e1 : rd (σ 4) 41 (nI (b + i)) = some (σ 4 (b + i)) := rd_nI (by omega) (by omega)
  have e2 : rd (σ 4) 41 (nI (b + j)) = some (σ 4 (b + j)) := rd_nI (by omega) (by omega)
  have e3 : ∀ (s : MS) x, mwr s 4 41 (nI (b + i)) x = some (up2 s 4 (b + i) x) := fun s x => mwr_nI (by omega) (by omega)
  have e4 : ∀ (s : MS) x, mwr s 4 41 (nI (b + j)) x = some (up2 s 4 (b + j) x) := fun s x => mwr_nI (by omega) (by omega)
  refine ⟨up2 (up2 σ 4 (b + i) (σ 4 (b + j))) 4 (b + j) (σ 4 (b + i)), ?_, by rw [up2_s, up2_s]; rfl, fun k hk => by rw [up2_n hk, up2_n hk]⟩
  unfold fX9_exchange
  simp only [nI_add, e1, e2, e3, e4, Option.bind_some]
end SV
section DN
variable {o t n : Nat} {g h h2 : Nat → Option Nat} {X Y : AH} {σ σ' : MS}
theorem thr.on {i : Int32} {n : Nat} {μ ν : Nat → Int32} (ht : thr i n μ) (e : ν 1 = μ 1) : thr i n ν := by
  unfold thr at ht ⊢; rw [e]; exact ht
theorem Rl.setM (R : Rl o t g h h2 X σ) (G : AgX (blk (o + 3)) X Y) (S : Sv Y (o + 3) n (σ' 4)) (ht : thr (σ 0 4) n (σ 4)) (e1 : σ' 4 1 = σ 4 1) (e : ∀ k, k ≠ 4 → σ' k = σ k) : Rl o t g h h2 Y σ' :=
  R.mini G ⟨n, S, by rw [e 0 (by omega)]; exact ht.on e1⟩ e
theorem nightsL (k : Nat) (hk : k ≤ 24) (h1 : 1 ≤ n) : ∀ (d j f1 f2 : Nat) (i1 i2 : Int32) (h : Nat → Option Nat) (X : AH) (σ : MS), d < f1 → d < f2 → j + d = k → i1 = nI j → i2 = nI j → Rl o t g h h2 X σ → Sv X (o + 3) n (σ 4) → thr (σ 0 4) n (σ 4) → Same o (fX0_nights_L45 f1 X o (nI k) i1) (fX9_nights_L44 f2 σ (nI k) i2) := by
  intro d
  induction d with
  | zero =>
    intro j f1 f2 i1 i2 h X σ hf1 hf2 hj e1 e2 R hS ht
    obtain ⟨f1, rfl⟩ : ∃ f, f1 = f + 1 := ⟨f1 - 1, by omega⟩
    obtain ⟨f2, rfl⟩ : ∃ f, f2 = f + 1 := ⟨f2 - 1, by omega⟩
    subst e1 e2
    have hle : nI k ≤ nI j := nI_le (by omega) (by omega)
    have m := hS.Mn
    unfold fX0_nights_L45 fX9_nights_L44
    rw [if_pos hle, if_pos hle]
    simp only [R.r4, m.ck1, m.ranked hS.1, m_atRank σ _ hS.1.1 hS.1.2.1, Option.bind_some]
    exact Same.mk rfl rfl R.rel
  | succ d ih =>
    intro j f1 f2 i1 i2 h X σ hf1 hf2 hj e1 e2 R hS ht
    obtain ⟨f1, rfl⟩ : ∃ f, f1 = f + 1 := ⟨f1 - 1, by omega⟩
    obtain ⟨f2, rfl⟩ : ∃ f, f2 = f + 1 := ⟨f2 - 1, by omega⟩
    subst e1 e2
    have hnle : ¬ nI k ≤ nI j := nI_ge (by omega) (by omega)
    have hn := hS.1.1
    obtain ⟨Y, σ1, h', ex, em, R1, S1, z4, z04⟩ := p_keep R hS ht h1
    have ht1 : thr (σ1 0 4) n (σ1 4) := by
      rw [z4, z04]
      rcases ht with ⟨_, e, _⟩ | ⟨_, e2, e3⟩
      · omega
      · exact Or.inr ⟨rfl, e2, e3⟩
    obtain ⟨Z, ep, S2, G2⟩ := S1.pass R1.w h1
    obtain ⟨σ2, en, w4, wk, wj⟩ := m_night σ1 h1 hn S1.1.2.1
    have e1' : σ2 4 1 = σ1 4 1 := by
      rw [w4]; unfold nit
      rw [if_neg (by omega), if_neg (by omega), if_neg (by omega), if_neg (by omega)]
    -- what the night leaves in the model's own words, and then what is its alone
    have R2 : Rl o t g h' h2 Z σ2 := by
      have Ra : Rl o t g h' h2 Z (fun k => if k = 4 then σ2 4 else σ1 k) := R1.setM G2 (by show Sv Z (o + 3) n (σ2 4); rw [w4]; exact S2) ht1 e1' (fun k hk => if_neg hk)
      refine Ra.req ⟨fun k hk => ?_, fun j hj => ?_⟩
      · show σ2 k = if k = 4 then σ2 4 else σ1 k
        by_cases q : k = 4
        · rw [if_pos q, q]
        · rw [if_neg q]; exact wk k q (by omega) (by omega)
      · show σ2 0 j = (if 0 = 4 then σ2 4 else σ1 0) j
        rw [if_neg (by omega)]; exact wj j (by omega)
    have ht2 : thr (σ2 0 4) n (σ2 4) := by
      rw [wj 4 (by omega)]
      exact ht1.on e1'
    have hx : fX0_nights_L45 (f1 + 1) X o (nI k) (nI j) = fX0_nights_L45 f1 Z o (nI k) (nI (j + 1)) := by
      conv => lhs; unfold fX0_nights_L45
      rw [if_neg hnle]
      simp only [R.ck0, ex, Option.bind_some, R1.r4, S1.Mn.ck1, ep, nI_1]
    have hm : fX9_nights_L44 (f2 + 1) σ (nI k) (nI j) = fX9_nights_L44 f2 σ2 (nI k) (nI (j + 1)) := by
      conv => lhs; unfold fX9_nights_L44
      rw [if_neg hnle]
      simp only [em, en, Option.bind_some, nI_1]
    rw [hx, hm]
    exact ih (j + 1) f1 f2 _ _ h' Z σ2 (by omega) (by omega) (by omega) rfl rfl R2 (by rw [w4]; exact S2) ht2
theorem s_nights (R : Rel o X σ) (x1 : Int32) : Same o (fX0_nights X o x1) (fX9_nights σ x1) := by
  obtain ⟨t, g, h, h2, R⟩ := R
  obtain ⟨n, hS, ht⟩ := R.min
  have m := hS.Mn
  unfold fX0_nights fX9_nights
  simp only [R.ck0, Option.bind_some, isIn_eq]
  rcases R.isMin hS ht with ⟨e1, e2⟩ | ⟨h1, e1, e2⟩
  · simp only [e1, e2, Option.bind_some, if_true]
    exact Same.mk rfl rfl R.rel
  simp only [e1, e2, Option.bind_some, one0, if_false]
  rcases inN x1 (a := 1) (b := 24) 1 24 rfl rfl (by decide) (by decide) with f1 | ⟨f1, k, k0, hk, rfl⟩
  · simp only [f1, Option.bind_some, if_true]
    exact Same.mk rfl rfl R.rel
  simp only [f1, Option.bind_some, one0, if_false, R.r4, m.g9, rd_3]
  by_cases q : (σ 4 3 + nI k) ≤ 999
  · rw [if_pos q, if_pos q]
    exact nightsL k hk h1 k 0 25 2000 0 0 h X σ (by omega) (by omega) (by omega) rfl rfl R hS ht
  · rw [if_neg q, if_neg q]
    exact Same.mk rfl rfl R.rel
theorem s_cushions (R : Rel o X σ) (x1 x2 : Int32) : Same o (fX0_cushions X o x1 x2) (fX9_cushions σ x1 x2) := by
  obtain ⟨t, g, h, h2, R⟩ := R
  obtain ⟨n, hS, ht⟩ := R.min
  have hn := hS.1.1
  have m := hS.Mn
  unfold fX0_cushions fX9_cushions
  simp only [R.ck0, Option.bind_some, isIn_eq]
  rcases R.isChair hS x1 with ⟨e1, e2⟩ | ⟨c, hc, rfl, e1, e2⟩
  · simp only [e1, e2, Option.bind_some, if_true]
    exact Same.mk rfl rfl R.rel
  simp only [e1, e2, Option.bind_some, one0, if_false]
  rcases inN x2 (a := 0) (b := 20) 0 20 rfl rfl (by decide) (by decide) with f1 | ⟨f1, v, v0, hv, rfl⟩
  · simp only [f1, Option.bind_some, if_true]
    exact Same.mk rfl rfl R.rel
  obtain ⟨Y, σ1, h', ex, em, R1, S1, z4, z04⟩ := p_keep R hS ht (by omega)
  have ht1 : thr (σ1 0 4) n (σ1 4) := by
    rw [z4, z04]
    rcases ht with ⟨_, e, _⟩ | ⟨_, e2, e3⟩
    · omega
    · exact Or.inr ⟨rfl, e2, e3⟩
  obtain ⟨Z, ep, S2, G2⟩ := S1.put (c := c) (x := nI v) R1.w mo3 (by omega) (S1.1.put mo3 (by omega) (Or.inl rfl) ⟨by omega, by omega, by omega, by omega⟩)
  have ew : mwr σ1 4 41 (nI (29 + c)) (nI v) = some (up2 σ1 4 (29 + c) (nI v)) := mwr_nI (by omega) (by omega)
  have R2 : Rl o t g h' h2 Z (up2 σ1 4 (29 + c) (nI v)) := R1.setM G2 (by rw [up2_s]; exact S2) ht1 (by rw [up2_s, upd_n (by omega)]) (fun k hk => up2_n hk)
  simp only [f1, Option.bind_some, one0, if_false, R.r4, m.r4, R.ck0, fX0_puts, ex, S1.Mn.rd mo3 (show c < 6 by omega), ep, em, a29, st_rd σ1 (show 29 + c < 41 by omega), ew]
  exact Same.mk rfl rfl R2.rel
theorem s_saw (R : Rel o X σ) (x1 x2 : Int32) : Same o (fX0_saw X o x1 x2) (fX9_saw σ x1 x2) := by
  obtain ⟨t, g, h, h2, R⟩ := R
  obtain ⟨n, hS, ht⟩ := R.min
  have hn := hS.1.1
  have m := hS.Mn
  unfold fX0_saw fX9_saw
  simp only [R.ck0, Option.bind_some, isIn_eq]
  rcases R.isChair hS x1 with ⟨e1, e2⟩ | ⟨c, hc, rfl, e1, e2⟩
  · simp only [e1, e2, Option.bind_some, if_true]
    exact Same.mk rfl rfl R.rel
  simp only [e1, e2, Option.bind_some, one0, if_false]
  rcases inN x2 (a := 0) (b := 9) 0 9 rfl rfl (by decide) (by decide) with f1 | ⟨f1, v, v0, hv, rfl⟩
  · simp only [f1, Option.bind_some, if_true]
    exact Same.mk rfl rfl R.rel
  obtain ⟨Y, σ1, h', ex, em, R1, S1, z4, z04⟩ := p_keep R hS ht (by omega)
  have ht1 : thr (σ1 0 4) n (σ1 4) := by
    rw [z4, z04]
    rcases ht with ⟨_, e, _⟩ | ⟨_, e2, e3⟩
    · omega
    · exact Or.inr ⟨rfl, e2, e3⟩
  obtain ⟨Z, ep, S2, G2⟩ := S1.put (c := c) (x := nI v) R1.w mo4 (by omega) (S1.1.put mo4 (by omega) (Or.inl rfl) ⟨by omega, by omega, by omega, by omega⟩)
  have ew : mwr σ1 4 41 (nI (17 + c)) (nI v) = some (up2 σ1 4 (17 + c) (nI v)) := mwr_nI (by omega) (by omega)
  have R2 : Rl o t g h' h2 Z (up2 σ1 4 (17 + c) (nI v)) := R1.setM G2 (by rw [up2_s]; exact S2) ht1 (by rw [up2_s, upd_n (by omega)]) (fun k hk => up2_n hk)
  simp only [f1, Option.bind_some, one0, if_false, R.r4, m.r5, R.ck0, fX0_puts, ex, S1.Mn.rd mo4 (show c < 6 by omega), ep, em, a17, st_rd σ1 (show 17 + c < 41 by omega), ew]
  exact Same.mk rfl rfl R2.rel
theorem s_mend (R : Rel o X σ) (x1 : Int32) : Same o (fX0_mend X o x1) (fX9_mend σ x1) := by
  obtain ⟨t, g, h, h2, R⟩ := R
  obtain ⟨n, hS, ht⟩ := R.min
  have hn := hS.1.1
  have m := hS.Mn
  unfold fX0_mend fX9_mend
  simp only [R.ck0, Option.bind_some]
  rcases R.isChair hS x1 with ⟨e1, e2⟩ | ⟨c, hc, rfl, e1, e2⟩
  · simp only [e1, e2, Option.bind_some, if_true]
    exact Same.mk rfl rfl R.rel
  have c6 : c < 6 := by omega
  simp only [e1, e2, Option.bind_some, one0, if_false, R.r4, m.r3, m.rd mo2 c6, a11, st_rd σ (show 11 + c < 41 by omega)]
  by_cases q : σ 4 (11 + c) = 60
  · rw [if_pos q, if_pos q]; exact Same.mk rfl rfl R.rel
  rw [if_neg q, if_neg q]
  obtain ⟨Y, σ1, h', ex, em, R1, S1, z4, z04⟩ := p_keep R hS ht (by omega)
  have ht1 : thr (σ1 0 4) n (σ1 4) := by
    rw [z4, z04]
    rcases ht with ⟨_, e, _⟩ | ⟨_, e2, e3⟩
    · omega
    · exact Or.inr ⟨rfl, e2, e3⟩
  obtain ⟨Z, ep, S2, G2⟩ := S1.mend R1.w c6
  have eg := m_glue σ1 c6
  have R2 : Rl o t g h' h2 Z (up2 σ1 4 (11 + c) (jmin 60 (σ1 4 (11 + c) + σ1 4 1))) := R1.setM G2 (by rw [up2_s]; exact S2) ht1 (by rw [up2_s, upd_n (by omega)]) (fun k hk => up2_n hk)
  have er : rd (up2 σ1 4 (11 + c) (jmin 60 (σ1 4 (11 + c) + σ1 4 1)) 4) 41 (nI (11 + c)) = some (gle (σ1 4) c (11 + c)) := by
    rw [up2_s]; exact rd_nI (by omega) (by omega)
  simp only [R.ck0, ex, Option.bind_some, R1.r4, S1.Mn.ck1, ep, em, eg, er]
  exact Same.mk rfl rfl R2.rel
theorem xor_lt {w v : Nat} (hw : w < 64) (hv : v < 64) : ∃ u, u < 64 ∧ nI w ^^^ nI v = nI u := by
  refine ⟨w ^^^ v, Nat.xor_lt_two_pow (n := 6) hw hv, ?_⟩
  have : w ^^^ v < 64 := Nat.xor_lt_two_pow (n := 6) hw hv
  apply Int32.toBitVec_inj.mp
  apply BitVec.eq_of_toNat_eq
  rw [Int32.toBitVec_xor, BitVec.toNat_xor, pk_tn (by omega), pk_tn (by omega), pk_tn (by omega)]
theorem watchB (R : Rl o t g h h2 X σ) (hS : Sv X (o + 3) n (σ 4)) (ht : thr (σ 0 4) n (σ 4)) {c : Nat} (hc : c < n) : Same o (fX0_watch_b64 X o (nI c)) (fX9_watch_b73 σ (nI c)) := by
  have hn := hS.1.1
  obtain ⟨Y, σ1, h', ex, em, R1, S1, z4, z04⟩ := p_keep R hS ht (by omega)
  have ht1 : thr (σ1 0 4) n (σ1 4) := by
    rw [z4, z04]
    rcases ht with ⟨_, e, _⟩ | ⟨_, e2, e3⟩
    · omega
    · exact Or.inr ⟨rfl, e2, e3⟩
  obtain ⟨w, hw, ew⟩ := S1.1.2.2.2.1
  obtain ⟨u, hu, eu⟩ := xor_lt hw (p2_lt (show c < 6 by omega))
  have ex4 : σ1 4 4 ^^^ ((1 : Int32) <<< (nI c &&& 31)) = nI u := by rw [ew, shl1 (by omega)]; exact eu
  obtain ⟨Z, ep, S2, G2⟩ := S1.put8 (x := σ1 4 4 ^^^ ((1 : Int32) <<< (nI c &&& 31))) R1.w (S1.1.wt ex4 hu)
  have ew2 : mwr σ1 4 41 4 (σ1 4 4 ^^^ ((1 : Int32) <<< (nI c &&& 31))) = some (up2 σ1 4 4 (σ1 4 4 ^^^ ((1 : Int32) <<< (nI c &&& 31)))) := mwr_nI (j := 4) (by omega) (by omega)
  have R2 : Rl o t g h' h2 Z (up2 σ1 4 4 (σ1 4 4 ^^^ ((1 : Int32) <<< (nI c &&& 31)))) := R1.setM G2 (by rw [up2_s]; exact S2) ht1 (by rw [up2_s, upd_n (by omega)]) (fun k hk => up2_n hk)
  unfold fX0_watch_b64 fX9_watch_b73
  simp only [R.ck0, ex, Option.bind_some, R1.r4, S1.Mn.g8, ep, R2.r4, S2.Mn.g8, em, rd_4, ew2, up2_s, upd_s]
  exact Same.mk rfl rfl R2.rel
theorem s_watch (R : Rel o X σ) (x1 x2 : Int32) : Same o (fX0_watch X o x1 x2) (fX9_watch σ x1 x2) := by
  obtain ⟨t, g, h, h2, R⟩ := R
  obtain ⟨n, hS, ht⟩ := R.min
  have hn := hS.1.1
  have m := hS.Mn
  unfold fX0_watch fX9_watch
  simp only [R.ck0, bsm]
  rcases R.isChair hS x1 with ⟨e1, e2⟩ | ⟨c, hc, rfl, e1, e2⟩
  · simp only [e1, e2, bsm, if_true]
    exact Same.mk rfl rfl R.rel
  simp only [e1, e2, bsm, one0, if_false]
  rcases inB x2 (F := fX0_isHalf x2) 0 1 rfl rfl rfl (by decide) (by decide) with ⟨w1, w2⟩ | ⟨w, w0, hw, rfl, w1, w2⟩
  · simp only [w1, w2, bsm, if_true]
    exact Same.mk rfl rfl R.rel
  have hB := watchB R hS ht hc
  obtain ⟨z, hz, ez⟩ := hS.1.2.2.2.1
  simp only [w1, w2, bsm, one0, if_false, R.r4, m.g8, m.g0, rd_4, rd_0, m_has, bit01, fX9_watch_b41]
  rcases (show w = 0 ∨ w = 1 by omega) with rfl | rfl
  · rw [if_neg (show ¬ nI 0 = 1 by decide)]
    cases bitq (σ 4 4) (nI c) with
    | true =>
      simp only [if_true]
      rw [if_neg (show ¬ one1 true = nI 0 by decide), if_neg (show ¬ (1 : Int32) = 0 by decide), if_neg (show ¬ nI 0 = 1 by decide), if_neg (show ¬ nI 0 = 1 by decide)]
      exact hB
    | false =>
      simp only [Bool.false_eq_true, if_false, if_true]
      rw [if_pos (show one1 false = nI 0 from rfl)]
      exact Same.mk rfl rfl R.rel
  · rw [if_pos (show nI 1 = 1 from rfl)]
    cases bitq (σ 4 4) (nI c) with
    | true =>
      simp only [if_true]
      rw [if_pos (show one1 true = nI 1 from rfl)]
      exact Same.mk rfl rfl R.rel
    | false =>
      simp only [Bool.false_eq_true, if_false]
      rw [if_neg (show ¬ one1 false = nI 1 by decide), if_neg (show ¬ (0 : Int32) = 1 by decide), if_pos (show nI 1 = 1 from rfl), if_pos (show nI 1 = 1 from rfl), ez, ones_x hz, ones_m hz]
      simp only [bsm]
      by_cases q : pcn z < σ 4 0
      · rw [if_pos q, if_pos q]; exact hB
      · rw [if_neg q, if_neg q]; exact Same.mk rfl rfl R.rel
theorem s_change (R : Rel o X σ) (x1 x2 : Int32) : Same o (fX0_change X o x1 x2) (fX9_change σ x1 x2) := by
  obtain ⟨t, g, h, h2, R⟩ := R
  obtain ⟨n, hS, ht⟩ := R.min
  have hn := hS.1.1
  unfold fX0_change fX9_change
  simp only [R.ck0, Option.bind_some]
  rcases R.isChair hS x1 with ⟨e1, e2⟩ | ⟨a, ha, rfl, e1, e2⟩
  · simp only [e1, e2, Option.bind_some, if_true]
    exact Same.mk rfl rfl R.rel
  simp only [e1, e2, Option.bind_some, one0, if_false, R.ck0]
  rcases R.isChair hS x2 with ⟨f1, f2⟩ | ⟨b, hb, rfl, f1, f2⟩
  · simp only [f1, f2, Option.bind_some, if_true]
    exact Same.mk rfl rfl R.rel
  simp only [f1, f2, Option.bind_some, one0, if_false, R.ck0]
  by_cases q : nI a = nI b
  · rw [if_pos q, if_pos q]; exact Same.mk rfl rfl R.rel
  rw [if_neg q, if_neg q]
  obtain ⟨Y, σ1, h', ex, em, R1, S1, z4, z04⟩ := p_keep R hS ht (by omega)
  have ht1 : thr (σ1 0 4) n (σ1 4) := by
    rw [z4, z04]
    rcases ht with ⟨_, e, _⟩ | ⟨_, e2, e3⟩
    · omega
    · exact Or.inr ⟨rfl, e2, e3⟩
  obtain ⟨Z1, p1, S2, G1⟩ := S1.exch (i := a) (j := b) R1.w mo4 (by omega) (by omega)
  obtain ⟨Z2, p2, S3, G2⟩ := S2.exch (i := a) (j := b) G1.w mo5 (by omega) (by omega)
  obtain ⟨Z3, p3, S4, G3⟩ := S3.exch (i := a) (j := b) G2.w mo6 (by omega) (by omega)
  obtain ⟨σ2, q1, y1, k1⟩ := m_exch σ1 (b := 17) (i := a) (j := b) (by omega) (by omega) (by omega)
  obtain ⟨σ3, q2, y2, k2⟩ := m_exch σ2 (b := 23) (i := a) (j := b) (by omega) (by omega) (by omega)
  obtain ⟨σ4, q3, y3, k3⟩ := m_exch σ3 (b := 35) (i := a) (j := b) (by omega) (by omega) (by omega)
  have e4 : σ4 4 = swp (swp (swp (σ1 4) 17 a b) 23 a b) 35 a b := by rw [y3, y2, y1]
  rw [← e4] at S4
  have R4 : Rl o t g h' h2 Z3 σ4 := R1.setM ((G1.tr G2).tr G3) S4 ht1 (by rw [e4, swp_at, if_neg (by omega), if_neg (by omega), swp_at, if_neg (by omega), if_neg (by omega), swp_at, if_neg (by omega), if_neg (by omega)]) (fun k hk => ((k3 k hk).trans (k2 k hk)).trans (k1 k hk))
  have q1 : fX9_exchange σ1 17 (nI a) (nI b) = some σ2 := q1
  have q2 : fX9_exchange σ2 23 (nI a) (nI b) = some σ3 := q2
  have q3 : fX9_exchange σ3 35 (nI a) (nI b) = some σ4 := q3
  simp only [ex, Option.bind_some, R1.r4, S1.Mn.ck1, fX1_change, S1.Mn.r5, p1, S2.Mn.r6, p2, S3.Mn.r7, p3, R4.r4, S4.Mn.ck1, S4.Mn.victim S4.1 ha, em, q1, q2, q3, m_target σ4 (show 1 ≤ n by omega) hn (show a < 6 by omega) S4.1.2.1]
  exact Same.mk rfl rfl R4.rel
end DN
