/-! the component's night: its loops -/
def Ecs (X : AH) (n : Nat) (κ τ : Nat → Int32) (tf : Int32) (tk : Value) : Prop := ∀ c, c < n → (nI c ≠ tf ∧ τ (5 + c) = κ (5 + c)) ∨ (nI c = tf ∧ ∃ (a k : Nat) (fs : List Value), 1 ≤ k ∧ k ≤ 5 ∧ tk = .ref a ∧ τ (5 + c) = nI k ∧ X.2.2 a = some (.inl (3 + k, fs)))
theorem Ecs.ag {S : Nat → Prop} {X Y : AH} {n : Nat} {κ τ : Nat → Int32} {tf : Int32} {tk : Value} (h : Ecs X n κ τ tf tk) (g : AgX S X Y) : Ecs Y n κ τ tf tk := by
  intro c hc
  rcases h c hc with h | ⟨h, a, k, fs, k1, k2, k3, k4, k5⟩
  · exact Or.inl h
  · exact Or.inr ⟨h, a, k, fs, k1, k2, k3, k4, g.2.2.2.1 _ _ k5 (im_o (by omega) (by omega))⟩
theorem Ecs.cg {X : AH} {n : Nat} {κ τ ρ : Nat → Int32} {tf : Int32} {tk : Value} (h : Ecs X n κ τ tf tk) (e : ∀ c, c < n → ρ (5 + c) = τ (5 + c)) : Ecs X n κ ρ tf tk := by
  intro c hc
  rcases h c hc with ⟨h1, h2⟩ | ⟨h, a, k, fs, k1, k2, k3, k4, k5⟩
  · exact Or.inl ⟨h1, (e c hc).trans h2⟩
  · exact Or.inr ⟨h, a, k, fs, k1, k2, k3, (e c hc).trans k4, k5⟩
theorem Ecs.EC {X : AH} {p la n : Nat} {κ τ : Nat → Int32} {tf : Int32} {tk : Value} (h : Ecs X n κ τ tf tk) (hM : MinAt X p la τ tf tk) (hL : ChL X la n κ) : EC X p n τ := by
  intro c hc
  rcases h c hc with ⟨h1, h2⟩ | ⟨h, a, k, fs, k1, k2, k3, k4, k5⟩
  · obtain ⟨a, k, k1, k2, k3, k4, k5⟩ := x_get hL hc
    obtain ⟨mc, E, cap, g, l1, -⟩ := hL
    refine ⟨a, k, _, k1, k2, h2.trans k3, k4, ?_⟩
    unfold fX1_chair
    rw [gI_of hM.1 (k := 11) (v := tf) rfl, Option.bind_some, if_neg h1, gR_of hM.1 (k := 2) (v := la) rfl, Option.bind_some, ck_of l1, Option.bind_some, k5]
    simp only [Option.bind_some, gCh_of k4 k1 k2]
  · refine ⟨a, k, fs, k1, k2, k4, k5, ?_⟩
    unfold fX1_chair
    rw [gI_of hM.1 (k := 11) (v := tf) rfl, Option.bind_some, if_pos h, gR_of hM.1 (k := 12) (v := a) (by rw [k3]; rfl), Option.bind_some]
section PL
variable {p la n : Nat} {κ τ : Nat → Int32} {tf : Int32} {tk : Value}
theorem MinAt.vic {X : AH} {μ v : Nat → Int32} {c : Nat} {x : Int32} (h : MinAt X p la μ tf tk) (hw : wfX X) (hv : arr6 X (p + 7) v 0) (hc : c < 6) : ∃ Y, pA X (p + 7) 0 (nI c) x = some Y ∧ MinAt Y p la μ tf tk ∧ arr6 Y (p + 7) (upd v c x) 0 ∧ AgX (blk p) X Y := by
  obtain ⟨f, h1, h2⟩ := hv
  have g : AgX (fun a => a = p + 7) X (xup X (p + 7) (.inr (.inl (0, 6, upd f c x)))) := AgX.up hw h1 ni_a rfl
  refine ⟨_, pA_of h1 hc (by omega), ?_, ⟨_, xup_s, fun j hj => ?_⟩, g.mono fun a ha => ⟨by omega, by omega⟩⟩
  · obtain ⟨k1, k2, k3, k4, k5, k6, k7⟩ := h
    exact ⟨g.at hw k1 (by omega), k2.ag g hw (by omega), k3.ag g hw (by omega), k4.ag g hw (by omega), k5.ag g hw (by omega), k6.ag g hw (by omega), _, xup_s⟩
  · have := h2 j hj
    rw [Nat.zero_add] at this ⊢
    by_cases e : j = c
    · subst e; rw [upd_s, upd_s]
    · rw [upd_n e, upd_n e, this]
theorem x_isWatched {X : AH} {μ : Nat → Int32} {v : Int32} (h : MinAt X p la μ tf tk) : fX1_isWatched X p v = some (one1 (bitq (μ 4) v), X) := by
  unfold fX1_isWatched bitq one1
  rw [gI_of h.1 (k := 8) (v := μ 4) rfl, Option.bind_some]
  by_cases q : ((μ 4 >>> (v &&& 31)) &&& 1) = 1
  · rw [if_pos q, if_pos (decide_eq_true q)]
  · rw [if_neg q, if_neg (by simpa using q)]
theorem x_passL1 (h1 : 1 ≤ n) (hg : goodM n τ) : ∀ (d s fuel : Nat) (i : Int32) (X : AH) (v : Nat → Int32), d < fuel → s + d = n → i = nI s → wfX X → MinAt X p la τ tf tk → ChL X la n κ → Ecs X n κ τ tf tk → arr6 X (p + 7) v 0 → (∀ j, j < s → v j = tgt τ n j) →
    ∃ (Y : AH) (w : Nat → Int32), fX1_pass_L2 fuel X p i = fX1_pass_L29 2000 Y p 0 ∧ MinAt Y p la τ tf tk ∧ arr6 Y (p + 7) w 0 ∧ (∀ j, j < n → w j = tgt τ n j) ∧ AgX (blk p) X Y := by
  have hn := hg.1
  intro d
  induction d with
  | zero =>
    intro s fuel i X v hf hs hi hw hM hL hE hv hvj
    obtain ⟨f, rfl⟩ : ∃ f, fuel = f + 1 := ⟨fuel - 1, by omega⟩
    subst hi
    refine ⟨X, v, ?_, hM, hv, fun j hj => hvj j (by omega), AgX.rf hw⟩
    conv => lhs; unfold fX1_pass_L2
    simp only [ck_of hM.1, Option.bind_some, x_many hM hL]
    rw [if_pos (nI_le (by omega) (by omega))]
  | succ d ih =>
    intro s fuel i X v hf hs hi hw hM hL hE hv hvj
    obtain ⟨f, rfl⟩ : ∃ f, fuel = f + 1 := ⟨fuel - 1, by omega⟩
    subst hi
    obtain ⟨Y1, e1, m1, v1, g1⟩ := hM.vic (c := s) (x := tgt τ n s) hw hv (by omega)
    obtain ⟨Y, w, e2, m2, v2, w2, g2⟩ := ih (s + 1) f (nI (s + 1)) Y1 (upd v s (tgt τ n s)) (by omega) (by omega) rfl g1.w m1 (hL.ag g1) (hE.ag g1) v1 (fun j hj => by
      by_cases e : j = s
      · rw [e, upd_s]
      · rw [upd_n e]; exact hvj j (by omega))
    refine ⟨Y, w, ?_, m2, v2, w2, g1.tr g2⟩
    rw [← e2]
    conv => lhs; unfold fX1_pass_L2
    simp only [ck_of hM.1, Option.bind_some, x_many hM hL, gR_of hM.1 (k := 10) (v := p + 7) rfl, x_victim hM hL (hE.EC hM hL) hn hg.legs (show s < n by omega), e1, nI_1]
    rw [if_neg (nI_ge (by omega) (by omega))]
theorem x_passL2 (h1 : 1 ≤ n) (hg : goodM n τ) {v : Nat → Int32} (hvj : ∀ j, j < n → v j = tgt τ n j) : ∀ (d s fuel : Nat) (i : Int32) (X : AH), d < fuel → s + d = n → i = nI s → wfX X → MinAt X p la (pg τ n s 0) tf tk → ChL X la n κ → Ecs X n κ τ tf tk → arr6 X (p + 7) v 0 →
    ∃ Y : AH, fX1_pass_L29 fuel X p i = fX1_pass_L100 2000 Y p 0 ∧ MinAt Y p la (pg τ n n 0) tf tk ∧ arr6 Y (p + 7) v 0 ∧ AgX (blk p) X Y := by
  have hn := hg.1
  intro d
  induction d with
  | zero =>
    intro s fuel i X hf hs hi hw hM hL hE hv
    obtain ⟨f, rfl⟩ : ∃ f, fuel = f + 1 := ⟨fuel - 1, by omega⟩
    subst hi
    have : s = n := by omega
    subst this
    refine ⟨X, ?_, hM, hv, AgX.rf hw⟩
    conv => lhs; unfold fX1_pass_L29
    simp only [ck_of hM.1, Option.bind_some, x_many hM hL]
    rw [if_pos (nI_le (by omega) (by omega))]
  | succ d ih =>
    intro s fuel i X hf hs hi hw hM hL hE hv
    obtain ⟨f, rfl⟩ : ∃ f, fuel = f + 1 := ⟨fuel - 1, by omega⟩
    subst hi
    have rv : gA X (p + 7) 0 (nI s) = some (tgt τ n s) := by
      rw [arr6_rd hv (show s < 6 by omega), Nat.zero_add, hvj s (by omega)]
    have p4 : pg τ n s 0 4 = τ 4 := pg_o (by omega) (by omega) (by omega)
    -- skipping
    have skip : (∀ c, c < n → ¬ (tgt τ n s = nI c ∧ cgt τ n s = false)) → fX1_pass_L29 (f + 1) X p (nI s) = fX1_pass_L29 f X p (nI (s + 1)) → ∃ Y : AH, fX1_pass_L29 (f + 1) X p (nI s) = fX1_pass_L100 2000 Y p 0 ∧ MinAt Y p la (pg τ n n 0) tf tk ∧ arr6 Y (p + 7) v 0 ∧ AgX (blk p) X Y := by
      intro hsk he
      obtain ⟨Y, e2, m2, v2, g2⟩ := ih (s + 1) f (nI (s + 1)) X (by omega) (by omega) rfl hw (by rw [pg_skip hsk]; exact hM) hL hE hv
      exact ⟨Y, he.trans e2, m2, v2, g2⟩
    rcases tgt_in τ s h1 with ht | ⟨j, hj, ht⟩
    · refine skip (fun c hc z => NO_ne (show c < 6 by omega) (ht.symm.trans z.1)) ?_
      conv => lhs; unfold fX1_pass_L29
      simp only [ck_of hM.1, Option.bind_some, x_many hM hL, gR_of hM.1 (k := 10) (v := p + 7) rfl, rv, nI_1]
      rw [if_neg (nI_ge (by omega) (by omega)), if_pos (show tgt τ n s = -1000000 from ht)]
    · have h0j : decide (0 ≤ tgt τ n s) = true := by rw [ht]; exact decide_eq_true (nI_pos' (by omega))
      have hne : ¬ tgt τ n s = -1000000 := fun z => NO_ne (show j < 6 by omega) (z.symm.trans ht)
      cases q : bitq (τ 4) (tgt τ n s) with
      | true =>
        have hc : cgt τ n s = true := by unfold cgt; rw [h0j, q]; rfl
        refine skip (fun c hcn z => by rw [hc] at z; exact absurd z.2 (by decide)) ?_
        conv => lhs; unfold fX1_pass_L29
        simp only [ck_of hM.1, Option.bind_some, x_many hM hL, gR_of hM.1 (k := 10) (v := p + 7) rfl, rv, nI_1, x_isWatched hM, p4, q]
        rw [if_neg (nI_ge (by omega) (by omega)), if_neg hne, if_neg (show ¬ one1 true = 0 by decide)]
      | false =>
        have hc : cgt τ n s = false := by unfold cgt; rw [h0j, q]; rfl
        have hE' : Ecs X n κ (pg τ n s 0) tf tk := hE.cg fun c hc => pg_o (by omega) (by omega) (by omega)
        obtain ⟨a, k, fs, k1, k2, k3, k4, k5⟩ := hE'.EC hM hL j hj
        rw [pg_o (by omega) (by omega) (by omega)] at k3
        have r17 : gA X (p + 4) 0 (nI s) = some (τ (17 + s)) := by
          rw [hM.rd (q := 4) (b := 17) (Or.inr (Or.inr (Or.inl ⟨rfl, rfl⟩))) (show s < 6 by omega), pg_o (by omega) (by omega) (by omega)]
        have r11 : gA X (p + 2) 0 (nI j) = some (pg τ n s 0 (11 + j)) := hM.rd (q := 2) (b := 11) (Or.inl ⟨rfl, rfl⟩) (show j < 6 by omega)
        obtain ⟨Y1, e1, m1, g1, f1⟩ := hM.put (q := 2) (b := 11) (c := j) (x := jmax 0 (pg τ n s 0 (11 + j) - swn τ s j)) hw (Or.inl ⟨rfl, rfl⟩) (show j < 6 by omega)
        rw [pg_cut hg (by omega) hj ht hc] at m1
        have hv1 : arr6 Y1 (p + 7) v 0 := by
          obtain ⟨f', w1, w2⟩ := hv
          exact ⟨f', f1.trans w1, w2⟩
        obtain ⟨Y, e2, m2, v2, g2⟩ := ih (s + 1) f (nI (s + 1)) Y1 (by omega) (by omega) rfl g1.w m1 (hL.ag g1) (hE.ag g1) hv1
        refine ⟨Y, ?_, m2, v2, g1.tr g2⟩
        rw [← e2]
        rw [ht] at rv hne q
        conv => lhs; unfold fX1_pass_L29
        simp only [ck_of hM.1, Option.bind_some, x_many hM hL, gR_of hM.1 (k := 10) (v := p + 7) rfl, rv, nI_1, x_isWatched hM, p4, q, gR_of hM.1 (k := 3) (v := p + 2) rfl, gR_of hM.1 (k := 5) (v := p + 4) rfl, r11, r17, k5, gC_of k4]
        rw [if_neg (nI_ge (by omega) (by omega)), if_neg hne, if_pos (show one1 false = 0 from rfl)]
        have sw : swn τ s j = if k = 4 ∨ k = 5 then τ (17 + s) / 2 else τ (17 + s) := by
          unfold swn
          rw [k3]
          rcases (show k = 1 ∨ k = 2 ∨ k = 3 ∨ k = 4 ∨ k = 5 by omega) with rfl | rfl | rfl | rfl | rfl <;> rfl
        rw [sw] at e1
        rcases (show k = 1 ∨ k = 2 ∨ k = 3 ∨ k = 4 ∨ k = 5 by omega) with rfl | rfl | rfl | rfl | rfl
        · rw [if_pos rfl, show fX3_sawn X a (τ (17 + s)) = some (τ (17 + s), X) from rfl]
          simp only [Option.bind_some]
          rw [if_neg (by omega)] at e1
          rw [e1, Option.bind_some]
        · rw [if_neg (by omega), if_pos rfl, show fX3_sawn X a (τ (17 + s)) = some (τ (17 + s), X) from rfl]
          simp only [Option.bind_some]
          rw [if_neg (by omega)] at e1
          rw [e1, Option.bind_some]
        · rw [if_neg (by omega), if_neg (by omega), if_pos rfl, show fX3_sawn X a (τ (17 + s)) = some (τ (17 + s), X) from rfl]
          simp only [Option.bind_some]
          rw [if_neg (by omega)] at e1
          rw [e1, Option.bind_some]
        · rw [if_neg (by omega), if_neg (by omega), if_neg (by omega), if_pos rfl]
          have : fX7_sawn X a (τ (17 + s)) = some (τ (17 + s) / 2, X) := by
            unfold fX7_sawn
            rw [gC_of k4, Option.bind_some, if_pos rfl]; rfl
          rw [this]
          simp only [Option.bind_some]
          rw [if_pos (by omega)] at e1
          rw [e1, Option.bind_some]
        · rw [if_neg (by omega), if_neg (by omega), if_neg (by omega), if_neg (by omega), if_pos rfl]
          have : fX7_sawn X a (τ (17 + s)) = some (τ (17 + s) / 2, X) := by
            unfold fX7_sawn
            rw [gC_of k4, Option.bind_some, if_neg (by omega), if_pos rfl]; rfl
          rw [this]
          simp only [Option.bind_some]
          rw [if_pos (by omega)] at e1
          rw [e1, Option.bind_some]
theorem x_passL3 (h1 : 1 ≤ n) (hg : goodM n τ) {v : Nat → Int32} (hvj : ∀ j, j < n → v j = tgt τ n j) : ∀ (d s fuel : Nat) (i : Int32) (X : AH), d < fuel → s + d = n → i = nI s → wfX X → MinAt X p la (pg τ n n s) tf tk → ChL X la n κ → arr6 X (p + 7) v 0 →
    ∃ Y : AH, fX1_pass_L100 fuel X p i = some (p, Y) ∧ MinAt Y p la (nit τ n) tf tk ∧ AgX (blk p) X Y := by
  have hn := hg.1
  intro d
  induction d with
  | zero =>
    intro s fuel i X hf hs hi hw hM hL hv
    obtain ⟨f, rfl⟩ : ∃ f, fuel = f + 1 := ⟨fuel - 1, by omega⟩
    subst hi
    have : s = n := by omega
    subst this
    obtain ⟨Y, e1, m1, g1⟩ := hM.put9 (x := τ 3 + 1) hw
    rw [pg_end hn] at m1
    refine ⟨Y, ?_, m1, g1⟩
    have r3 : pg τ s s s 3 = τ 3 := pg_o (by omega) (by omega) (by omega)
    unfold fX1_pass_L100
    simp only [ck_of hM.1, Option.bind_some, x_many hM hL, gI_of hM.1 (k := 9) (v := pg τ s s s 3) rfl, r3, e1]
    rw [if_pos (nI_le (by omega) (by omega))]
  | succ d ih =>
    intro s fuel i X hf hs hi hw hM hL hv
    obtain ⟨f, rfl⟩ : ∃ f, fuel = f + 1 := ⟨fuel - 1, by omega⟩
    subst hi
    have rv : gA X (p + 7) 0 (nI s) = some (tgt τ n s) := by
      rw [arr6_rd hv (show s < 6 by omega), Nat.zero_add, hvj s (by omega)]
    have p4 : pg τ n n s 4 = τ 4 := pg_o (by omega) (by omega) (by omega)
    have skip : cgt τ n s = false → fX1_pass_L100 (f + 1) X p (nI s) = fX1_pass_L100 f X p (nI (s + 1)) → ∃ Y : AH, fX1_pass_L100 (f + 1) X p (nI s) = some (p, Y) ∧ MinAt Y p la (nit τ n) tf tk ∧ AgX (blk p) X Y := by
      intro hsk he
      obtain ⟨Y, e2, m2, g2⟩ := ih (s + 1) f (nI (s + 1)) X (by omega) (by omega) rfl hw (by rw [pg_nc (by omega) hn hsk]; exact hM) hL hv
      exact ⟨Y, he.trans e2, m2, g2⟩
    rcases tgt_in τ s h1 with ht | ⟨j, hj, ht⟩
    · refine skip (by unfold cgt; rw [ht, show decide (0 ≤ NO) = false by decide]; rfl) ?_
      conv => lhs; unfold fX1_pass_L100
      simp only [ck_of hM.1, Option.bind_some, x_many hM hL, gR_of hM.1 (k := 10) (v := p + 7) rfl, rv, nI_1]
      rw [if_neg (nI_ge (by omega) (by omega)), if_pos (show tgt τ n s = -1000000 from ht)]
    · have h0j : decide (0 ≤ tgt τ n s) = true := by rw [ht]; exact decide_eq_true (nI_pos' (by omega))
      have hne : ¬ tgt τ n s = -1000000 := fun z => NO_ne (show j < 6 by omega) (z.symm.trans ht)
      cases q : bitq (τ 4) (tgt τ n s) with
      | false =>
        refine skip (by unfold cgt; rw [h0j, q]; rfl) ?_
        conv => lhs; unfold fX1_pass_L100
        simp only [ck_of hM.1, Option.bind_some, x_many hM hL, gR_of hM.1 (k := 10) (v := p + 7) rfl, rv, nI_1, x_isWatched hM, p4, q]
        rw [if_neg (nI_ge (by omega) (by omega)), if_neg hne, if_pos (show one1 false = 0 from rfl)]
      | true =>
        have hc : cgt τ n s = true := by unfold cgt; rw [h0j, q]; rfl
        have w35 : pg τ n n s (35 + s) = τ (35 + s) := pg_o (by omega) (by omega) (by omega)
        have w17 : pg τ n n s (17 + s) = τ (17 + s) := pg_o (by omega) (by omega) (by omega)
        obtain ⟨Y1, e1, m1, g1, f1⟩ := hM.put (q := 6) (b := 35) (c := s) (x := τ (35 + s) + 1) hw (Or.inr (Or.inr (Or.inr (Or.inr ⟨rfl, rfl⟩)))) (show s < 6 by omega)
        obtain ⟨Y2, e2, m2, g2, f2⟩ := m1.put (q := 4) (b := 17) (c := s) (x := τ (17 + s) - 1) g1.w (Or.inr (Or.inr (Or.inl ⟨rfl, rfl⟩))) (show s < 6 by omega)
        have r1 : gA X (p + 6) 0 (nI s) = some (τ (35 + s)) := by
          rw [hM.rd (q := 6) (b := 35) (Or.inr (Or.inr (Or.inr (Or.inr ⟨rfl, rfl⟩)))) (show s < 6 by omega), w35]
        have r2 : gA Y1 (p + 4) 0 (nI s) = some (τ (17 + s)) := by
          rw [m1.rd (q := 4) (b := 17) (Or.inr (Or.inr (Or.inl ⟨rfl, rfl⟩))) (show s < 6 by omega), upd_n (by omega), w17]
        have key : upd (upd (pg τ n n s) (35 + s) (τ (35 + s) + 1)) (17 + s) (τ (17 + s) - 1) = pg τ n n (s + 1) := by
          rw [← pg_cgt (by omega) hn, hc]; rfl
        rw [key] at m2
        have hv2 : arr6 Y2 (p + 7) v 0 := by
          obtain ⟨f', w1, w2⟩ := hv
          exact ⟨f', f2.trans (f1.trans w1), w2⟩
        obtain ⟨Y, e3, m3, g3⟩ := ih (s + 1) f (nI (s + 1)) Y2 (by omega) (by omega) rfl g2.w m2 ((hL.ag g1).ag g2) hv2
        refine ⟨Y, ?_, m3, (g1.tr g2).tr g3⟩
        rw [← e3]
        conv => lhs; unfold fX1_pass_L100
        simp only [ck_of hM.1, Option.bind_some, x_many hM hL, gR_of hM.1 (k := 10) (v := p + 7) rfl, rv, nI_1, x_isWatched hM, p4, q, gR_of hM.1 (k := 7) (v := p + 6) rfl, r1, e1, gR_of m1.1 (k := 5) (v := p + 4) rfl, r2, e2]
        rw [if_neg (nI_ge (by omega) (by omega)), if_neg hne, if_neg (show ¬ one1 true = 0 by decide)]
end PL
/-- a ministry of n chairs, of value τ -/
def Mn (X : AH) (p n : Nat) (τ : Nat → Int32) : Prop := ∃ (la : Nat) (κ : Nat → Int32) (tf : Int32) (tk : Value), MinAt X p la τ tf tk ∧ ChL X la n κ ∧ Ecs X n κ τ tf tk
theorem x_pass0 {X : AH} {p la n : Nat} {κ τ : Nat → Int32} {tf : Int32} {tk : Value} (hw : wfX X) (hM : MinAt X p la τ tf tk) (hL : ChL X la n κ) (hE : Ecs X n κ τ tf tk) (hg : goodM n τ) (h1 : 1 ≤ n) : ∃ Y, fX1_pass X p = some (p, Y) ∧ MinAt Y p la (nit τ n) tf tk ∧ AgX (blk p) X Y := by
  have hn := hg.1
  obtain ⟨f, hv⟩ := hM.2.2.2.2.2.2
  obtain ⟨Y1, w, e1, m1, v1, w1, g1⟩ := x_passL1 h1 hg n 0 2000 0 X f (by omega) (by omega) rfl hw hM hL hE ⟨f, hv, fun j hj => by rw [Nat.zero_add]⟩ (fun j hj => by omega)
  obtain ⟨Y2, e2, m2, v2, g2⟩ := x_passL2 h1 hg w1 n 0 2000 0 Y1 (by omega) (by omega) rfl g1.w (by rw [pg_00 hg]; exact m1) (hL.ag g1) (hE.ag g1) v1
  obtain ⟨Y3, e3, m3, g3⟩ := x_passL3 h1 hg w1 n 0 2000 0 Y2 (by omega) (by omega) rfl g2.w m2 ((hL.ag g1).ag g2) v2
  exact ⟨Y3, (e1.trans e2).trans e3, m3, (g1.tr g2).tr g3⟩
theorem nit_k {τ : Nat → Int32} {n c : Nat} (hn : n ≤ 6) (hc : c < 6) : nit τ n (5 + c) = τ (5 + c) := by
  unfold nit
  rw [if_neg (by omega), if_neg (by omega), if_neg (by omega), if_neg (by omega)]
theorem x_pass {X : AH} {p n : Nat} {τ : Nat → Int32} (hw : wfX X) (h : Mn X p n τ) (hg : goodM n τ) (h1 : 1 ≤ n) : ∃ Y, fX1_pass X p = some (p, Y) ∧ Mn Y p n (nit τ n) ∧ AgX (blk p) X Y := by
  have hn := hg.1
  obtain ⟨la, κ, tf, tk, hM, hL, hE⟩ := h
  obtain ⟨Y, e, m, g⟩ := x_pass0 hw hM hL hE hg h1
  exact ⟨Y, e, ⟨la, κ, tf, tk, m, hL.ag g, (hE.ag g).cg fun c hc => nit_k hn (by omega)⟩, g⟩
