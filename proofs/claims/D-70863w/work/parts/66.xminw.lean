/-! writing a Ministry -/
def blk (p : Nat) : Nat → Prop := fun a => p ≤ a ∧ a < p + 8
section MW
variable {S : Nat → Prop} {X Y : AH} {p la n : Nat} {μ ν κ : Nat → Int32} {tf : Int32} {tk : Value}
theorem arr6.ag {a b : Nat} (h : arr6 X a μ b) (g : AgX S X Y) (hw : wfX X) (hs : ¬ S a) : arr6 Y a μ b := by
  obtain ⟨f, h1, h2⟩ := h
  exact ⟨f, g.at hw h1 hs, h2⟩
theorem arr6.cg {a b : Nat} (h : arr6 X a μ b) (e : ∀ j, j < 6 → μ (b + j) = ν (b + j)) : arr6 X a ν b := by
  obtain ⟨f, h1, h2⟩ := h
  exact ⟨f, h1, fun j hj => (h2 j hj).trans (e j hj)⟩
theorem MinAt.ag (h : MinAt X p la μ tf tk) (g : AgX S X Y) (hw : wfX X) (hd : ∀ a, p ≤ a → a < p + 8 → ¬ S a) : MinAt Y p la μ tf tk := by
  obtain ⟨h1, h2, h3, h4, h5, h6, f, h7⟩ := h
  exact ⟨g.at hw h1 (hd _ (by omega) (by omega)), h2.ag g hw (hd _ (by omega) (by omega)), h3.ag g hw (hd _ (by omega) (by omega)), h4.ag g hw (hd _ (by omega) (by omega)), h5.ag g hw (hd _ (by omega) (by omega)), h6.ag g hw (hd _ (by omega) (by omega)), f, g.at hw h7 (hd _ (by omega) (by omega))⟩
theorem MinAt.cg (h : MinAt X p la μ tf tk) (e : ∀ j, j < 41 → j ≠ 2 → (j < 5 ∨ 11 ≤ j) → μ j = ν j) : MinAt X p la ν tf tk := by
  obtain ⟨h1, h2, h3, h4, h5, h6, h7⟩ := h
  have ee : minF p la μ tf tk = minF p la ν tf tk := by
    show [_, _, _, _, _, _, _, _, _, _, _, _, _] = _
    rw [e 0 (by omega) (by omega) (by omega), e 1 (by omega) (by omega) (by omega), e 4 (by omega) (by omega) (by omega), e 3 (by omega) (by omega) (by omega)]
  exact ⟨by rw [h1, ee], h2.cg fun j hj => e _ (by omega) (by omega) (by omega), h3.cg fun j hj => e _ (by omega) (by omega) (by omega), h4.cg fun j hj => e _ (by omega) (by omega) (by omega), h5.cg fun j hj => e _ (by omega) (by omega) (by omega), h6.cg fun j hj => e _ (by omega) (by omega) (by omega), h7⟩
theorem ChL.ag (h : ChL X la n κ) (g : AgX S X Y) : ChL Y la n κ := by
  obtain ⟨mc, E, cap, q, h1, h2, h3, h4, h5⟩ := h
  refine ⟨mc, E, cap, q, g.2.2.2.1 _ _ h1 (im_o (by omega) (by omega)), g.2.2.2.1 _ _ h2 (im_q (by omega)), h3, h4, fun i hi => ?_⟩
  obtain ⟨a, k, k1, k2, k3, k4, k5⟩ := h5 i hi
  exact ⟨a, k, k1, k2, k3, k4, g.2.2.2.1 _ _ k5 (im_o (by omega) (by omega))⟩
theorem ChL.cg (h : ChL X la n κ) (e : ∀ i, i < n → κ (5 + i) = μ (5 + i)) : ChL X la n μ := by
  obtain ⟨mc, E, cap, q, h1, h2, h3, h4, h5⟩ := h
  refine ⟨mc, E, cap, q, h1, h2, h3, h4, fun i hi => ?_⟩
  obtain ⟨a, k, k1, k2, k3, k4, k5⟩ := h5 i hi
  exact ⟨a, k, k1, k2, (e i hi).symm.trans k3, k4, k5⟩
/-- an array of a Ministry by its place: where its ints stand in the value -/
def mOff (q b : Nat) : Prop := (q = 2 ∧ b = 11) ∨ (q = 3 ∧ b = 29) ∨ (q = 4 ∧ b = 17) ∨ (q = 5 ∧ b = 23) ∨ (q = 6 ∧ b = 35)
theorem MinAt.arr {q b : Nat} (h : MinAt X p la μ tf tk) (hq : mOff q b) : arr6 X (p + q) μ b := by
  obtain ⟨h1, h2, h3, h4, h5, h6, h7⟩ := h
  rcases hq with ⟨rfl, rfl⟩ | ⟨rfl, rfl⟩ | ⟨rfl, rfl⟩ | ⟨rfl, rfl⟩ | ⟨rfl, rfl⟩
  · exact h2
  · exact h3
  · exact h4
  · exact h5
  · exact h6
/-- an array's cell gets new contents -/
theorem MinAt.newArr {q b : Nat} {f : Nat → Int32} (h : MinAt X p la μ tf tk) (hq : mOff q b) (hf : ∀ j, j < 6 → f j = ν (b + j)) (ho : ∀ k, k < 41 → ¬ (b ≤ k ∧ k < b + 6) → ν k = μ k) : MinAt (xup X (p + q) (.inr (.inl (0, 6, f)))) p la ν tf tk := by
  obtain ⟨h1, h2, h3, h4, h5, h6, h7⟩ := h
  have oth : ∀ (q' b' : Nat), q' ≠ q → (b' + 6 ≤ b ∨ b + 6 ≤ b') → b' ≤ 35 → arr6 X (p + q') μ b' → arr6 (xup X (p + q) (.inr (.inl (0, 6, f)))) (p + q') ν b' := by
    intro q' b' e1 e2 e3 ⟨f', k1, k2⟩
    exact ⟨f', by rw [xup_n (by omega)]; exact k1, fun j hj => (k2 j hj).trans (ho _ (by omega) (by omega)).symm⟩
  have ee : minF p la μ tf tk = minF p la ν tf tk := by
    have hb : 11 ≤ b := by rcases hq with h | h | h | h | h <;> omega
    show minF p la μ tf tk = [_, _, _, _, _, _, _, _, _, _, _, _, _]
    rw [ho 0 (by omega) (by omega), ho 1 (by omega) (by omega), ho 4 (by omega) (by omega), ho 3 (by omega) (by omega)]
  have h1' : (xup X (p + q) (.inr (.inl (0, 6, f)))).2.2 p = some (.inl (1, minF p la ν tf tk)) := by
    have : p ≠ p + q := by rcases hq with h | h | h | h | h <;> omega
    rw [xup_n this, h1, ee]
  have h7' : ∃ f' : Nat → Int32, (xup X (p + q) (.inr (.inl (0, 6, f)))).2.2 (p + 7) = some (.inr (.inl (0, 6, f'))) := by
    obtain ⟨f', h7⟩ := h7
    have : p + 7 ≠ p + q := by rcases hq with h | h | h | h | h <;> omega
    exact ⟨f', by rw [xup_n this]; exact h7⟩
  have me : arr6 (xup X (p + q) (.inr (.inl (0, 6, f)))) (p + q) ν b := ⟨f, xup_s, hf⟩
  rcases hq with ⟨rfl, rfl⟩ | ⟨rfl, rfl⟩ | ⟨rfl, rfl⟩ | ⟨rfl, rfl⟩ | ⟨rfl, rfl⟩
  · exact ⟨h1', me, oth 3 29 (by omega) (by omega) (by omega) h3, oth 4 17 (by omega) (by omega) (by omega) h4, oth 5 23 (by omega) (by omega) (by omega) h5, oth 6 35 (by omega) (by omega) (by omega) h6, h7'⟩
  · exact ⟨h1', oth 2 11 (by omega) (by omega) (by omega) h2, me, oth 4 17 (by omega) (by omega) (by omega) h4, oth 5 23 (by omega) (by omega) (by omega) h5, oth 6 35 (by omega) (by omega) (by omega) h6, h7'⟩
  · exact ⟨h1', oth 2 11 (by omega) (by omega) (by omega) h2, oth 3 29 (by omega) (by omega) (by omega) h3, me, oth 5 23 (by omega) (by omega) (by omega) h5, oth 6 35 (by omega) (by omega) (by omega) h6, h7'⟩
  · exact ⟨h1', oth 2 11 (by omega) (by omega) (by omega) h2, oth 3 29 (by omega) (by omega) (by omega) h3, oth 4 17 (by omega) (by omega) (by omega) h4, me, oth 6 35 (by omega) (by omega) (by omega) h6, h7'⟩
  · exact ⟨h1', oth 2 11 (by omega) (by omega) (by omega) h2, oth 3 29 (by omega) (by omega) (by omega) h3, oth 4 17 (by omega) (by omega) (by omega) h4, oth 5 23 (by omega) (by omega) (by omega) h5, me, h7'⟩
theorem mOff.lt {q b : Nat} (h : mOff q b) : 2 ≤ q ∧ q ≤ 6 := by rcases h with h | h | h | h | h <;> omega
theorem mOff.lb {q b : Nat} (h : mOff q b) : 11 ≤ b ∧ b ≤ 35 := by rcases h with h | h | h | h | h <;> omega
/-- one int of an array is written -/
theorem MinAt.put {q b c : Nat} {x : Int32} (h : MinAt X p la μ tf tk) (hw : wfX X) (hq : mOff q b) (hc : c < 6) : ∃ Y, pA X (p + q) 0 (nI c) x = some Y ∧ MinAt Y p la (upd μ (b + c) x) tf tk ∧ AgX (blk p) X Y ∧ Y.2.2 (p + 7) = X.2.2 (p + 7) := by
  obtain ⟨f, h1, h2⟩ := h.arr hq
  have hl := hq.lt
  refine ⟨_, pA_of h1 hc (by omega), h.newArr hq (fun j hj => ?_) (fun k hk hn => ?_), AgX.up hw h1 ni_a ⟨by omega, by omega⟩, xup_n (by omega)⟩
  · by_cases e : j = c
    · subst e; rw [upd_s, upd_s]
    · rw [upd_n e, upd_n (by omega), h2 j hj]
  · rw [upd_n (by omega)]
theorem MinAt.rd {q b c : Nat} (h : MinAt X p la μ tf tk) (hq : mOff q b) (hc : c < 6) : gA X (p + q) 0 (nI c) = some (μ (b + c)) := arr6_rd (h.arr hq) hc
/-- an array is copied -/
def cpr (μ ν : Nat → Int32) (b : Nat) : Nat → Int32 := fun k => if b ≤ k ∧ k < b + 6 then ν k else μ k
theorem MinAt.cp {q b a0 : Nat} (h : MinAt X p la μ tf tk) (hw : wfX X) (hq : mOff q b) (hs : arr6 X a0 ν b) : ∃ Y, cpA X a0 0 (p + q) 0 6 = some Y ∧ MinAt Y p la (cpr μ ν b) tf tk ∧ AgX (blk p) X Y := by
  obtain ⟨f, h1, h2⟩ := hs
  obtain ⟨g, g1, g2⟩ := h.arr hq
  have hl := hq.lt
  refine ⟨_, cpA_of (sp := 0) (dp := 0) (n := 6) h1 g1 (by omega) (by omega) (by omega) (by omega), h.newArr hq (fun j hj => ?_) (fun k hk hn => ?_), AgX.up hw g1 ni_a ⟨by omega, by omega⟩⟩
  · rw [pk_cpy_in (by omega) (by omega), show 0 + (j - 0) = j by omega, h2 j hj]
    unfold cpr
    rw [if_pos (by omega)]
  · unfold cpr
    rw [if_neg hn]
theorem minAt_field {fs : List Value} (h : MinAt X p la μ tf tk) (hw : wfX X) {la' : Nat} {tf' : Int32} {tk' : Value} (hf : fs = minF p la' ν tf' tk') (ho : ∀ k, 11 ≤ k → ν k = μ k) : MinAt (xup X p (.inl (1, fs))) p la' ν tf' tk' ∧ AgX (blk p) X (xup X p (.inl (1, fs))) := by
  obtain ⟨h1, h2, h3, h4, h5, h6, f, h7⟩ := h
  have oth : ∀ (q' b' : Nat), 1 ≤ q' → 11 ≤ b' → arr6 X (p + q') μ b' → arr6 (xup X p (.inl (1, fs))) (p + q') ν b' := by
    intro q' b' e1 e2 ⟨f', k1, k2⟩
    exact ⟨f', by rw [xup_n (by omega)]; exact k1, fun j hj => (k2 j hj).trans (ho _ (by omega)).symm⟩
  exact ⟨⟨by rw [xup_s, hf], oth 2 11 (by omega) (by omega) h2, oth 3 29 (by omega) (by omega) h3, oth 4 17 (by omega) (by omega) h4, oth 5 23 (by omega) (by omega) h5, oth 6 35 (by omega) (by omega) h6, f, by rw [xup_n (by omega)]; exact h7⟩, AgX.up hw h1 (ni_o (by omega)) ⟨by omega, by omega⟩⟩
theorem MinAt.put0 {x : Int32} (h : MinAt X p la μ tf tk) (hw : wfX X) : ∃ Y, pF X p 1 0 (.int x) = some Y ∧ MinAt Y p la (upd μ 0 x) tf tk ∧ AgX (blk p) X Y :=
  ⟨_, pF_of h.1 (Nat.le_of_ble_eq_true rfl), minAt_field h hw rfl (fun k hk => upd_n (by omega))⟩
theorem MinAt.put1 {x : Int32} (h : MinAt X p la μ tf tk) (hw : wfX X) : ∃ Y, pF X p 1 1 (.int x) = some Y ∧ MinAt Y p la (upd μ 1 x) tf tk ∧ AgX (blk p) X Y :=
  ⟨_, pF_of h.1 (Nat.le_of_ble_eq_true rfl), minAt_field h hw rfl (fun k hk => upd_n (by omega))⟩
theorem MinAt.put2 {l2 : Nat} (h : MinAt X p la μ tf tk) (hw : wfX X) : ∃ Y, pF X p 1 2 (.ref l2) = some Y ∧ MinAt Y p l2 μ tf tk ∧ AgX (blk p) X Y :=
  ⟨_, pF_of h.1 (Nat.le_of_ble_eq_true rfl), minAt_field h hw rfl (fun k hk => rfl)⟩
theorem MinAt.put8 {x : Int32} (h : MinAt X p la μ tf tk) (hw : wfX X) : ∃ Y, pF X p 1 8 (.int x) = some Y ∧ MinAt Y p la (upd μ 4 x) tf tk ∧ AgX (blk p) X Y :=
  ⟨_, pF_of h.1 (Nat.le_of_ble_eq_true rfl), minAt_field h hw rfl (fun k hk => upd_n (by omega))⟩
theorem MinAt.put9 {x : Int32} (h : MinAt X p la μ tf tk) (hw : wfX X) : ∃ Y, pF X p 1 9 (.int x) = some Y ∧ MinAt Y p la (upd μ 3 x) tf tk ∧ AgX (blk p) X Y :=
  ⟨_, pF_of h.1 (Nat.le_of_ble_eq_true rfl), minAt_field h hw rfl (fun k hk => upd_n (by omega))⟩
theorem MinAt.put11 {x : Int32} (h : MinAt X p la μ tf tk) (hw : wfX X) : ∃ Y, pF X p 1 11 (.int x) = some Y ∧ MinAt Y p la μ x tk ∧ AgX (blk p) X Y :=
  ⟨_, pF_of h.1 (Nat.le_of_ble_eq_true rfl), minAt_field h hw rfl (fun k hk => rfl)⟩
theorem MinAt.put12 {t2 : Value} (h : MinAt X p la μ tf tk) (hw : wfX X) : ∃ Y, pF X p 1 12 t2 = some Y ∧ MinAt Y p la μ tf t2 ∧ AgX (blk p) X Y :=
  ⟨_, pF_of h.1 (Nat.le_of_ble_eq_true rfl), minAt_field h hw rfl (fun k hk => rfl)⟩
end MW
/-- become -/
theorem x_become {X : AH} {p q la0 la : Nat} {μ0 μ : Nat → Int32} {tf0 tf : Int32} {tk0 tk : Value} (hw : wfX X) (hp : MinAt X p la0 μ0 tf0 tk0) (hq : MinAt X q la μ tf tk) (hd : p + 8 ≤ q ∨ q + 8 ≤ p) : ∃ Y, fX1_become X p q = some (p, Y) ∧ MinAt Y p la μ NO tk0 ∧ AgX (blk p) X Y := by
  have nb : ∀ a, q ≤ a → a < q + 8 → ¬ blk p a := fun a h1 h2 h3 => by unfold blk at h3; omega
  obtain ⟨X2, e2, p2, g2⟩ := hp.put0 (x := μ 0) hw
  have q2 := hq.ag g2 hw nb
  obtain ⟨X4, e4, p4, g4⟩ := p2.put1 (x := μ 1) g2.w
  have q4 := q2.ag g4 g2.w nb
  obtain ⟨X6, e6, p6, g6⟩ := p4.put2 (l2 := la) g4.w
  have q6 := q4.ag g6 g4.w nb
  obtain ⟨X9, e9, p9, g9⟩ := p6.cp (q := 2) (b := 11) g6.w (Or.inl ⟨rfl, rfl⟩) (q6.arr (q := 2) (Or.inl ⟨rfl, rfl⟩))
  have q9 := q6.ag g9 g6.w nb
  obtain ⟨X12, e12, p12, g12⟩ := p9.cp (q := 3) (b := 29) g9.w (Or.inr (Or.inl ⟨rfl, rfl⟩)) (q9.arr (q := 3) (Or.inr (Or.inl ⟨rfl, rfl⟩)))
  have q12 := q9.ag g12 g9.w nb
  obtain ⟨X15, e15, p15, g15⟩ := p12.cp (q := 4) (b := 17) g12.w (Or.inr (Or.inr (Or.inl ⟨rfl, rfl⟩))) (q12.arr (q := 4) (Or.inr (Or.inr (Or.inl ⟨rfl, rfl⟩))))
  have q15 := q12.ag g15 g12.w nb
  obtain ⟨X18, e18, p18, g18⟩ := p15.cp (q := 5) (b := 23) g15.w (Or.inr (Or.inr (Or.inr (Or.inl ⟨rfl, rfl⟩)))) (q15.arr (q := 5) (Or.inr (Or.inr (Or.inr (Or.inl ⟨rfl, rfl⟩)))))
  have q18 := q15.ag g18 g15.w nb
  obtain ⟨X21, e21, p21, g21⟩ := p18.cp (q := 6) (b := 35) g18.w (Or.inr (Or.inr (Or.inr (Or.inr ⟨rfl, rfl⟩)))) (q18.arr (q := 6) (Or.inr (Or.inr (Or.inr (Or.inr ⟨rfl, rfl⟩)))))
  have q21 := q18.ag g21 g18.w nb
  obtain ⟨X23, e23, p23, g23⟩ := p21.put8 (x := μ 4) g21.w
  have q23 := q21.ag g23 g21.w nb
  obtain ⟨X25, e25, p25, g25⟩ := p23.put9 (x := μ 3) g23.w
  have q25 := q23.ag g25 g23.w nb
  obtain ⟨X26, e26, p26, g26⟩ := p25.put11 (x := -1000000) g25.w
  refine ⟨X26, ?_, p26.cg fun j h1 h2 h3 => ?_, ((((((((((g2.tr g4).tr g6).tr g9).tr g12).tr g15).tr g18).tr g21).tr g23).tr g25).tr g26)⟩
  · unfold fX1_become
    simp only [gI_of hq.1 (k := 0) (v := μ 0) rfl, gI_of q2.1 (k := 1) (v := μ 1) rfl, gR_of q4.1 (k := 2) (v := la) rfl, gR_of q6.1 (k := 3) (v := q + 2) rfl, gR_of p6.1 (k := 3) (v := p + 2) rfl, gR_of q9.1 (k := 4) (v := q + 3) rfl, gR_of p9.1 (k := 4) (v := p + 3) rfl, gR_of q12.1 (k := 5) (v := q + 4) rfl, gR_of p12.1 (k := 5) (v := p + 4) rfl, gR_of q15.1 (k := 6) (v := q + 5) rfl, gR_of p15.1 (k := 6) (v := p + 5) rfl, gR_of q18.1 (k := 7) (v := q + 6) rfl, gR_of p18.1 (k := 7) (v := p + 6) rfl, gI_of q21.1 (k := 8) (v := μ 4) rfl, gI_of q23.1 (k := 9) (v := μ 3) rfl, e2, e4, e6, e9, e12, e15, e18, e21, e23, e25, e26, Option.bind_some]
  · simp only [upd, cpr]
    rcases (show j = 0 ∨ j = 1 ∨ j = 3 ∨ j = 4 ∨ (11 ≤ j ∧ j < 17) ∨ (17 ≤ j ∧ j < 23) ∨ (23 ≤ j ∧ j < 29) ∨ (29 ≤ j ∧ j < 35) ∨ (35 ≤ j ∧ j < 41) by omega) with rfl | rfl | rfl | rfl | h | h | h | h | h
    · simp
    · simp
    · simp
    · simp
    · rw [if_neg (by omega), if_neg (by omega), if_neg (by omega), if_neg (by omega), if_neg (by omega), if_neg (by omega), if_pos (by omega)]
    · rw [if_neg (by omega), if_neg (by omega), if_neg (by omega), if_neg (by omega), if_pos (by omega)]
    · rw [if_neg (by omega), if_neg (by omega), if_neg (by omega), if_pos (by omega)]
    · rw [if_neg (by omega), if_neg (by omega), if_neg (by omega), if_neg (by omega), if_neg (by omega), if_pos (by omega)]
    · rw [if_neg (by omega), if_neg (by omega), if_pos (by omega)]
