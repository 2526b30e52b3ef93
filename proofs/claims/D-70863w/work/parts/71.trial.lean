/-! trials, in both: the component's trial ministry against the model's st, taken back from aside -/
def Tsm (σ0 σ : MS) : Prop := (∀ k, k ≠ 0 → k ≠ 4 → k ≠ 8 → k ≠ 10 → σ k = σ0 k) ∧ ∀ j, j ≠ 17 → σ 0 j = σ0 0 j
theorem Tsm.tr {a b c : MS} (h : Tsm a b) (g : Tsm b c) : Tsm a c := ⟨fun k k0 k4 k8 k10 => (g.1 k k0 k4 k8 k10).trans (h.1 k k0 k4 k8 k10), fun j hj => (g.2 j hj).trans (h.2 j hj)⟩
/-- between trials: the model, the component -/
def MB (σ0 σ : MS) : Prop := σ 4 = σ0 4 ∧ (∀ j, j < 41 → σ 10 j = σ0 4 j) ∧ Tsm σ0 σ
def BT (o : Nat) (X0 X : AH) : Prop := AgX (blk (o + 11)) X0 X ∧ Shp X (o + 11)
/-- in a trial -/
def PT (o : Nat) (X0 : AH) (σ0 : MS) (n : Nat) (X : AH) (σ : MS) (τ : Nat → Int32) : Prop := AgX (blk (o + 11)) X0 X ∧ Mn X (o + 11) n τ ∧ goodM n τ ∧ σ 4 = τ ∧ (∀ j, j < 41 → σ 10 j = σ0 4 j) ∧ (∀ j, 41 ≤ j → τ j = σ0 4 j) ∧ Tsm σ0 σ
theorem MB.req {σ0 σ : MS} (h : MB σ0 σ) : Req σ0 σ := ⟨fun k hk => by
  by_cases e : k = 4
  · rw [e]; exact h.1
  · exact h.2.2.1 k (by omega) e (by omega) (by omega), fun j hj => h.2.2.2 j (by omega)⟩
theorem cp_row {σ : MS} {k : Nat} {ν : Nat → Int32} (h1 : ∀ j, 41 ≤ j → σ k j = ν j) (h2 : ∀ j, j < 41 → σ k j = ν j) : σ k = ν := by
  funext j
  by_cases e : j < 41
  · exact h2 j e
  · exact h1 j (by omega)
theorem m_putL (σ0 : MS) : ∀ (d j fuel : Nat) (i : Int32) (σ : MS), d < fuel → j + d = 41 → i = nI j → (∀ k, k ≠ 10 → σ k = σ0 k) → (∀ q, q < j → σ 10 q = σ0 4 q) → ∃ σ', fX9_putAside_L2 fuel σ i = some σ' ∧ (∀ k, k ≠ 10 → σ' k = σ0 k) ∧ ∀ q, q < 41 → σ' 10 q = σ0 4 q := by
  intro d
  induction d with
  | zero =>
    intro j fuel i σ hf hj hi h1 h2
    obtain ⟨f, rfl⟩ : ∃ f, fuel = f + 1 := ⟨fuel - 1, by omega⟩
    subst hi
    refine ⟨σ, ?_, h1, fun q hq => h2 q (by omega)⟩
    unfold fX9_putAside_L2
    rw [if_pos (show (41 : Int32) ≤ nI j from nI_le (a := 41) (by omega) (by omega))]
  | succ d ih =>
    intro j fuel i σ hf hj hi h1 h2
    obtain ⟨f, rfl⟩ : ∃ f, fuel = f + 1 := ⟨fuel - 1, by omega⟩
    subst hi
    obtain ⟨σ', e, k1, k2⟩ := ih (j + 1) f (nI (j + 1)) (up2 σ 10 j (σ 4 j)) (by omega) (by omega) rfl (fun k hk => by rw [up2_n hk]; exact h1 k hk) (fun q hq => by
      rw [up2_s]
      by_cases z : q = j
      · rw [z, upd_s, h1 4 (by omega)]
      · rw [upd_n z]; exact h2 q (by omega))
    refine ⟨σ', ?_, k1, k2⟩
    unfold fX9_putAside_L2
    rw [if_neg (show ¬ (41 : Int32) ≤ nI j from nI_ge (b := 41) (by omega) (by omega)), rd_nI (by omega) (by omega), Option.bind_some, mwr_nI (by omega) (by omega), Option.bind_some, nI_1]
    exact e
theorem m_putAside (σ : MS) : ∃ σ', fX9_putAside σ = some σ' ∧ MB σ σ' := by
  obtain ⟨σ', e, k1, k2⟩ := m_putL σ 41 0 2000 0 σ (by omega) (by omega) rfl (fun _ _ => rfl) (fun q hq => by omega)
  exact ⟨σ', e, k1 4 (by omega), k2, fun k _ _ _ k10 => k1 k k10, fun j _ => by rw [k1 0 (by omega)]⟩
theorem m_takeL (σ0 : MS) : ∀ (d j fuel : Nat) (i : Int32) (σ : MS), d < fuel → j + d = 41 → i = nI j → (∀ k, k ≠ 4 → σ k = σ0 k) → (∀ q, q < j → σ 4 q = σ0 10 q) → (∀ q, 41 ≤ q → σ 4 q = σ0 4 q) → ∃ σ', fX9_takeBack_L2 fuel σ i = some σ' ∧ (∀ k, k ≠ 4 → σ' k = σ0 k) ∧ (∀ q, q < 41 → σ' 4 q = σ0 10 q) ∧ ∀ q, 41 ≤ q → σ' 4 q = σ0 4 q := by
  intro d
  induction d with
  | zero =>
    intro j fuel i σ hf hj hi h1 h2 h3
    obtain ⟨f, rfl⟩ : ∃ f, fuel = f + 1 := ⟨fuel - 1, by omega⟩
    subst hi
    refine ⟨σ, ?_, h1, fun q hq => h2 q (by omega), h3⟩
    unfold fX9_takeBack_L2
    rw [if_pos (show (41 : Int32) ≤ nI j from nI_le (a := 41) (by omega) (by omega))]
  | succ d ih =>
    intro j fuel i σ hf hj hi h1 h2 h3
    obtain ⟨f, rfl⟩ : ∃ f, fuel = f + 1 := ⟨fuel - 1, by omega⟩
    subst hi
    obtain ⟨σ', e, k1, k2, k3⟩ := ih (j + 1) f (nI (j + 1)) (up2 σ 4 j (σ 10 j)) (by omega) (by omega) rfl (fun k hk => by rw [up2_n hk]; exact h1 k hk) (fun q hq => by
      rw [up2_s]
      by_cases z : q = j
      · rw [z, upd_s, h1 10 (by omega)]
      · rw [upd_n z]; exact h2 q (by omega)) (fun q hq => by rw [up2_s, upd_n (by omega)]; exact h3 q hq)
    refine ⟨σ', ?_, k1, k2, k3⟩
    unfold fX9_takeBack_L2
    rw [if_neg (show ¬ (41 : Int32) ≤ nI j from nI_ge (b := 41) (by omega) (by omega)), rd_nI (by omega) (by omega), Option.bind_some, mwr_nI (by omega) (by omega), Option.bind_some, nI_1]
    exact e
theorem m_takeBack {σ0 σ : MS} (h1 : ∀ j, j < 41 → σ 10 j = σ0 4 j) (h2 : ∀ j, 41 ≤ j → σ 4 j = σ0 4 j) (h3 : Tsm σ0 σ) : ∃ σ', fX9_takeBack σ = some σ' ∧ MB σ0 σ' := by
  obtain ⟨σ', e, k1, k2, k3⟩ := m_takeL σ 41 0 2000 0 σ (by omega) (by omega) rfl (fun _ _ => rfl) (fun q hq => by omega) (fun _ _ => rfl)
  refine ⟨σ', e, cp_row (fun j hj => (k3 j hj).trans (h2 j hj)) (fun j hj => (k2 j hj).trans (h1 j hj)), fun j hj => by rw [k1 10 (by omega)]; exact h1 j hj, fun k k0 k4 k8 k10 => (k1 k k4).trans (h3.1 k k0 k4 k8 k10), fun j hj => by rw [k1 0 (by omega)]; exact h3.2 j hj⟩
section TR
variable {o t n : Nat} {g h h2 : Nat → Option Nat} {X0 X : AH} {σ0 σ : MS} {τ : Nat → Int32}
theorem Rl.bt (R : Rl o t g h h2 X0 σ0) : BT o X0 X0 := ⟨AgX.rf R.w, R.tri⟩
theorem PT.bt (P : PT o X0 σ0 n X σ τ) : BT o X0 X := ⟨P.1, P.2.1.shp⟩
theorem PT.m (P : PT o X0 σ0 n X σ τ) : Mn X (o + 11) n τ := P.2.1
theorem PT.gd (P : PT o X0 σ0 n X σ τ) : goodM n τ := P.2.2.1
theorem PT.e (P : PT o X0 σ0 n X σ τ) : σ 4 = τ := P.2.2.2.1
theorem PT.w (P : PT o X0 σ0 n X σ τ) : wfX X := P.1.w
/-- the end of all trials -/
theorem BT.rel (R : Rl o t g h h2 X0 σ0) (B : BT o X0 X) (M : MB σ0 σ) : Rl o t g h h2 X σ := (R.trial B.1 B.2).req M.req
theorem BT.r (R : Rl o t g h h2 X0 σ0) (B : BT o X0 X) : Rl o t g h h2 X σ0 := R.trial B.1 B.2
theorem BT.sv (hS : Sv X0 (o + 3) n (σ0 4)) (hw : wfX X0) (B : BT o X0 X) : Sv X (o + 3) n (σ0 4) := hS.ag B.1 hw (fun a h1 h2 h3 => by unfold blk at h3; omega)
/-- tried -/
theorem x_tried (R : Rl o t g h h2 X0 σ0) (hS : Sv X0 (o + 3) n (σ0 4)) (B : BT o X0 X) : ∃ Y, fX0_tried X o = some (o + 11, Y) ∧ AgX (blk (o + 11)) X0 Y ∧ Sv Y (o + 11) n (σ0 4) := by
  have R1 : Rl o t g h h2 X σ0 := B.r R
  obtain ⟨hg, la, tk, hM, hL⟩ := B.sv hS R.w
  obtain ⟨la', μ', tf', tk', hT⟩ := B.2
  obtain ⟨Y, e, m, G⟩ := x_become R1.w hT hM (by omega)
  refine ⟨Y, ?_, B.1.tr G, hg, la, tk', m, hL.ag G⟩
  unfold fX0_tried
  simp only [R1.r5, R1.r4, Option.bind_some, ck_of hT.1, e]
theorem p_tried (R : Rl o t g h h2 X0 σ0) (hS : Sv X0 (o + 3) n (σ0 4)) (B : BT o X0 X) (M : MB σ0 σ) : ∃ Y, fX0_tried X o = some (o + 11, Y) ∧ PT o X0 σ0 n Y σ (σ0 4) := by
  obtain ⟨Y, e, G, s⟩ := x_tried R hS B
  exact ⟨Y, e, G, s.Mn, hS.1, M.1, M.2.1, fun _ _ => rfl, M.2.2⟩
theorem PT.r (P : PT o X0 σ0 n X σ τ) (R : Rl o t g h h2 X0 σ0) : Rl o t g h h2 X σ0 := P.bt.r R
/-- one night -/
theorem PT.pass (P : PT o X0 σ0 n X σ τ) (h1 : 1 ≤ n) : ∃ Y σ', fX1_pass X (o + 11) = some (o + 11, Y) ∧ fX9_oneNight σ = some σ' ∧ PT o X0 σ0 n Y σ' (nit τ n) := by
  obtain ⟨G, m, hg, e4, a10, t41, ts⟩ := P
  obtain ⟨Y, ex, my, G2⟩ := x_pass G.w m hg h1
  obtain ⟨σ', em, n4, nk, nj⟩ := m_night σ h1 hg.1 (by rw [e4]; exact hg.2.1)
  have hn := hg.1
  refine ⟨Y, σ', ex, em, G.tr G2, my, nit_good hg, by rw [n4, e4], fun j hj => by rw [nk 10 (by omega) (by omega) (by omega)]; exact a10 j hj, fun j hj => ?_, ts.tr ⟨fun k k0 k4 k8 _ => nk k k4 k8 k0, nj⟩⟩
  unfold nit
  rw [if_neg (by omega), if_neg (by omega), if_neg (by omega), if_neg (by omega)]
  exact t41 j hj
theorem PT.goL (h1 : 1 ≤ n) (R : Rl o t g h h2 X0 σ0) (k : Nat) (hk : k ≤ 60) : ∀ (d j f1 f2 : Nat) (i1 i2 : Int32) (X : AH) (σ : MS) (τ : Nat → Int32), d < f1 → d < f2 → j + d = k → i1 = nI j → i2 = nI j → PT o X0 σ0 n X σ τ → ∃ Y σ' τ', fX0_goOn_L2 f1 X o (nI k) i1 = some (o + 11, Y) ∧ fX9_goOn_L2 f2 σ (nI k) i2 = some σ' ∧ PT o X0 σ0 n Y σ' τ' := by
  intro d
  induction d with
  | zero =>
    intro j f1 f2 i1 i2 X σ τ hf1 hf2 hj e1 e2 P
    obtain ⟨f1, rfl⟩ : ∃ f, f1 = f + 1 := ⟨f1 - 1, by omega⟩
    obtain ⟨f2, rfl⟩ : ∃ f, f2 = f + 1 := ⟨f2 - 1, by omega⟩
    subst e1 e2
    refine ⟨X, σ, τ, ?_, ?_, P⟩
    · unfold fX0_goOn_L2
      rw [if_pos (nI_le (by omega) (by omega)), (P.r R).r5]; rfl
    · unfold fX9_goOn_L2
      rw [if_pos (nI_le (by omega) (by omega))]
  | succ d ih =>
    intro j f1 f2 i1 i2 X σ τ hf1 hf2 hj e1 e2 P
    obtain ⟨f1, rfl⟩ : ∃ f, f1 = f + 1 := ⟨f1 - 1, by omega⟩
    obtain ⟨f2, rfl⟩ : ∃ f, f2 = f + 1 := ⟨f2 - 1, by omega⟩
    subst e1 e2
    obtain ⟨Y, σ1, ex, em, P1⟩ := P.pass h1
    obtain ⟨Z, σ2, τ2, ex2, em2, P2⟩ := ih (j + 1) f1 f2 (nI (j + 1)) (nI (j + 1)) Y σ1 _ (by omega) (by omega) (by omega) rfl rfl P1
    refine ⟨Z, σ2, τ2, ?_, ?_, P2⟩
    · unfold fX0_goOn_L2
      rw [if_neg (nI_ge (by omega) (by omega))]
      simp only [(P.r R).r5, P.m.ck1, Option.bind_some, ex, nI_1]
      exact ex2
    · unfold fX9_goOn_L2
      rw [if_neg (nI_ge (by omega) (by omega)), em, Option.bind_some, nI_1]
      exact em2
theorem PT.goOn (P : PT o X0 σ0 n X σ τ) (h1 : 1 ≤ n) (R : Rl o t g h h2 X0 σ0) {k : Nat} (hk : k ≤ 60) : ∃ Y σ' τ', fX0_goOn X o (nI k) = some (o + 11, Y) ∧ fX9_goOn σ (nI k) = some σ' ∧ PT o X0 σ0 n Y σ' τ' :=
  PT.goL h1 R k hk k 0 2000 2000 0 0 X σ τ (by omega) (by omega) (by omega) rfl rfl P
theorem PT.take (P : PT o X0 σ0 n X σ τ) : ∃ σ', fX9_takeBack σ = some σ' ∧ MB σ0 σ' := by
  obtain ⟨G, m, hg, e4, a10, t41, ts⟩ := P
  exact m_takeBack a10 (fun j hj => by rw [e4]; exact t41 j hj) ts
theorem PT.mrank (P : PT o X0 σ0 n X σ τ) {c : Nat} (hc : c < n) : fX9_rankOf σ (nI c) = some (nI (rk τ n c), σ) := by
  have hn := P.gd.1
  have := m_rank σ hn (show c < 6 by omega) (by rw [P.e]; exact P.gd.2.1)
  rw [P.e] at this
  exact this
theorem PT.mhigh (P : PT o X0 σ0 n X σ τ) {c : Nat} (hc : c < n) : fX9_highOf σ (nI c) = some (hi τ c, σ) := by
  have hn := P.gd.1
  have := m_high σ (show c < 6 by omega)
  rw [P.e] at this
  exact this
theorem PT.mat (P : PT o X0 σ0 n X σ τ) (r : Int32) : fX9_atRank σ r = some (atR τ n r, σ) := by
  have := m_atRank σ r P.gd.1 (by rw [P.e]; exact P.gd.2.1)
  rw [P.e] at this
  exact this
theorem PT.msum (P : PT o X0 σ0 n X σ τ) {b : Nat} (hb : b ≤ 35) : fX9_sumOf σ (nI b) = some (smF τ b 0 n 0, σ) := by
  have := m_sum σ hb P.gd.1 (by rw [P.e]; exact P.gd.2.1)
  rw [P.e] at this
  exact this
theorem PT.mrd (P : PT o X0 σ0 n X σ τ) {k : Nat} (hk : k < 41) : rd (σ 4) 41 (nI k) = some (τ k) := by
  rw [P.e]; exact rd_nI hk (by omega)
/-- the watched ones are set -/
theorem PT.watch (P : PT o X0 σ0 n X σ τ) {w : Nat} {x : Int32} (hx : x = nI w) (hw : w < 64) : ∃ Y, pF X (o + 11) 1 8 (.int x) = some Y ∧ mwr σ 4 41 4 x = some (up2 σ 4 4 x) ∧ PT o X0 σ0 n Y (up2 σ 4 4 x) (upd τ 4 x) := by
  obtain ⟨G, m, hg, e4, a10, t41, ts⟩ := P
  obtain ⟨Y, e, my, G2⟩ := m.put8 (x := x) G.w
  refine ⟨Y, e, mwr_nI (j := 4) (by omega) (by omega), G.tr G2, my, ⟨hg.1, by rw [upd_n (by omega)]; exact hg.2.1, fun c hc => ?_, ⟨w, hw, by rw [upd_s, hx]⟩, by rw [upd_n (by omega)]; exact hg.2.2.2.2⟩, by rw [up2_s, e4], fun j hj => by rw [up2_n (by omega)]; exact a10 j hj, fun j hj => by rw [upd_n (by omega)]; exact t41 j hj, ts.tr ⟨fun k k0 k4 k8 k10 => up2_n k4, fun j hj => by rw [up2_n (by omega)]⟩⟩
  have := hg.2.2.1 c hc
  rw [upd_n (by omega), upd_n (by omega), upd_n (by omega), upd_n (by omega)]
  exact this
/-- one int of a chair or a sitter is set -/
theorem PT.put (P : PT o X0 σ0 n X σ τ) {q b c v : Nat} {x : Int32} (hq : mOff q b) (hc : c < 6) (hx : x = nI v) (hv : (b = 11 → v ≤ 60) ∧ (b = 17 → v ≤ 9) ∧ (b = 23 → v ≤ 3) ∧ (b = 29 → v ≤ 20)) : ∃ Y, pA X (o + 11 + q) 0 (nI c) x = some Y ∧ mwr σ 4 41 (nI (b + c)) x = some (up2 σ 4 (b + c) x) ∧ PT o X0 σ0 n Y (up2 σ 4 (b + c) x) (upd τ (b + c) x) := by
  obtain ⟨G, m, hg, e4, a10, t41, ts⟩ := P
  obtain ⟨Y, e, my, G2⟩ := m.put (x := x) G.w hq hc hg.1
  have hb := hq.lb
  refine ⟨Y, e, mwr_nI (by omega) (by omega), G.tr G2, my, ⟨hg.1, by rw [upd_n (by omega)]; exact hg.2.1, fun c' hc' => ?_, by rw [upd_n (by omega)]; exact hg.2.2.2.1, by rw [upd_n (by omega)]; exact hg.2.2.2.2⟩, by rw [up2_s, e4], fun j hj => by rw [up2_n (by omega)]; exact a10 j hj, fun j hj => by rw [upd_n (by omega)]; exact t41 j hj, ts.tr ⟨fun k k0 k4 k8 k10 => up2_n k4, fun j hj => by rw [up2_n (by omega)]⟩⟩
  obtain ⟨k1, k2, k3, k4⟩ := hg.2.2.1 c' hc'
  have key : ∀ (b' M : Nat), (b = b' → v ≤ M) → (b = b' ∨ b + 6 ≤ b' ∨ b' + 6 ≤ b) → (∃ a, a ≤ M ∧ τ (b' + c') = nI a) → ∃ a, a ≤ M ∧ upd τ (b + c) x (b' + c') = nI a := by
    intro b' M h1 h2 h3
    by_cases e : b' + c' = b + c
    · rw [e, upd_s]
      exact ⟨v, h1 (by omega), hx⟩
    · rw [upd_n e]; exact h3
  have hb2 : b = 11 ∨ b = 17 ∨ b = 23 ∨ b = 29 ∨ b = 35 := by rcases hq with h | h | h | h | h <;> omega
  exact ⟨key 11 60 hv.1 (by omega) k1, key 17 9 hv.2.1 (by omega) k2, key 23 3 hv.2.2.1 (by omega) k3, key 29 20 hv.2.2.2 (by omega) k4⟩
theorem PT.mend (P : PT o X0 σ0 n X σ τ) {c : Nat} (hc : c < 6) : ∃ Y v, fX1_mend X (o + 11) (nI c) = some (v, Y) ∧ fX9_glue σ (nI c) = some (up2 σ 4 (11 + c) (jmin 60 (σ 4 (11 + c) + σ 4 1))) ∧ PT o X0 σ0 n Y (up2 σ 4 (11 + c) (jmin 60 (σ 4 (11 + c) + σ 4 1))) (gle τ c) := by
  obtain ⟨G, m, hg, e4, a10, t41, ts⟩ := P
  obtain ⟨Y, e, my, G2⟩ := m.mend G.w hc hg.1
  refine ⟨Y, _, e, m_glue σ hc, G.tr G2, my, gle_good hg hc, by rw [up2_s, e4]; rfl, fun j hj => by rw [up2_n (by omega)]; exact a10 j hj, fun j hj => by unfold gle; rw [upd_n (by omega)]; exact t41 j hj, ts.tr ⟨fun k k0 k4 k8 k10 => up2_n k4, fun j hj => by rw [up2_n (by omega)]⟩⟩
/-- one's rank behind some nights -/
theorem PT.rankBy (P : PT o X0 σ0 n X σ τ) (h1 : 1 ≤ n) (R : Rl o t g h h2 X0 σ0) {c k : Nat} (hc : c < n) (hk : k ≤ 60) (r : Int32) : ∃ Y σ' q, fX0_isHighIn X o (nI c) r (nI k) = some (if r < nI q then 0 else 1, Y) ∧ fX9_rankBy σ (nI c) (nI k) = some (nI q, σ') ∧ BT o X0 Y ∧ MB σ0 σ' := by
  obtain ⟨Y, σ1, τ1, ex, em, P1⟩ := P.goOn h1 R hk
  obtain ⟨σ2, et, M⟩ := P1.take
  refine ⟨Y, σ2, rk τ1 n c, ?_, ?_, P1.bt, M⟩
  · unfold fX0_isHighIn
    simp only [(P.r R).ck0, Option.bind_some, ex, P1.m.ck1, P1.m.rank P1.gd hc]
    split <;> rfl
  · unfold fX9_rankBy
    simp only [em, Option.bind_some, P1.mrank hc, et]
end TR
