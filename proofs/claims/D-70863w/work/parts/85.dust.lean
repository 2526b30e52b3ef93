/-! sawdust -/
theorem o1f : one1 false = 0 := rfl
def XT (o : Nat) (X0 X : AH) (n : Nat) (τ : Nat → Int32) : Prop := AgX (blk (o + 11)) X0 X ∧ Mn X (o + 11) n τ ∧ goodM n τ
theorem XT.bt {o n : Nat} {X0 X : AH} {τ : Nat → Int32} (T : XT o X0 X n τ) : BT o X0 X := ⟨T.1, T.2.1.shp⟩
theorem XT.put {o n q b c v : Nat} {X0 X : AH} {τ : Nat → Int32} {x : Int32} (T : XT o X0 X n τ) (hq : mOff q b) (hc : c < 6) (hx : x = nI v) (hv : (b = 11 → v ≤ 60) ∧ (b = 17 → v ≤ 9) ∧ (b = 23 → v ≤ 3) ∧ (b = 29 → v ≤ 20)) : ∃ Y, pA X (o + 11 + q) 0 (nI c) x = some Y ∧ XT o X0 Y n (upd τ (b + c) x) := by
  obtain ⟨G, m, hg⟩ := T
  obtain ⟨Y, e, my, G2⟩ := m.put (x := x) G.w hq hc hg.1
  exact ⟨Y, e, G.tr G2, my, hg.put hq hc (Or.inl hx) hv⟩
theorem upd_upd {f : Nat → Int32} {k : Nat} {x y : Int32} : upd (upd f k x) k y = upd f k y := by
  funext j
  by_cases e : j = k
  · rw [e, upd_s, upd_s]
  · rw [upd_n e, upd_n e, upd_n e]
theorem upd_same {f : Nat → Int32} {k : Nat} : upd f k (f k) = f := by
  funext j
  by_cases e : j = k
  · rw [e, upd_s]
  · rw [upd_n e]
theorem m_isAbove (h1 h2 : Int32) {a c : Nat} (ha : a < 6) (hc : c < 6) : fX9_isAbove h1 (nI a) h2 (nI c) = some (one1 (decide (h2 < h1) || (decide (h1 = h2) && decide (a < c)))) := by
  unfold fX9_isAbove
  by_cases c1 : h2 < h1
  · rw [if_pos c1]; simp [c1, one1]
  · rw [if_neg c1]
    by_cases c2 : h1 = h2
    · rw [if_pos c2]
      by_cases c3 : c ≤ a
      · rw [if_pos (nI_le c3 (by omega))]
        have : ¬ a < c := by omega
        simp [c1, this, one1]
      · rw [if_neg (nI_ge (by omega) (by omega))]
        have : a < c := by omega
        simp [c1, c2, this, one1]
    · rw [if_neg c2]; simp [c1, c2, one1]
theorem hi_o {τ : Nat → Int32} {a c b : Nat} {x : Int32} (h : a ≠ c) (ha : a < 6) (hc : c < 6) (hb : b = 11 ∨ b = 29) : hi (upd τ (b + c) x) a = hi τ a := by
  unfold hi
  rw [upd_n (by omega), upd_n (by omega), upd_n (by omega)]
theorem hi_l {τ : Nat → Int32} {c : Nat} {x : Int32} (hc : c < 6) : hi (upd τ (11 + c) x) c = hb (τ (5 + c)) x (τ (29 + c)) := by
  unfold hi
  rw [upd_n (by omega), upd_s, upd_n (by omega)]
theorem hi_c {τ : Nat → Int32} {c : Nat} {x : Int32} (hc : c < 6) : hi (upd τ (29 + c) x) c = hb (τ (5 + c)) (τ (11 + c)) x := by
  unfold hi
  rw [upd_n (by omega), upd_n (by omega), upd_s]
section DU
variable {o t n : Nat} {g h h2 : Nat → Option Nat} {X0 X Y : AH} {σ σ' : MS} {τ : Nat → Int32}
theorem XT.r (T : XT o X0 X n τ) (R : Rl o t g h h2 X0 σ) : Rl o t g h h2 X σ := T.bt.r R
theorem cutL (R : Rl o t g h h2 X0 σ) {a c : Nat} (ha : a < n) (hc : c < n) (hac : a ≠ c) (k5 : σ 4 (5 + c) = τ (5 + c)) (k29 : σ 4 (29 + c) = τ (29 + c)) (was : Int32) : ∀ (l f1 f2 : Nat) (X : AH), l < f1 → l + 1 < f2 → l ≤ 60 → XT o X0 X n (upd τ (11 + c) (nI l)) →
    (∃ l' Y, l' ≤ l ∧ fX0_cutBelow_L10 f1 X o (nI c) (nI a) was = some (was - nI l', Y) ∧ (∀ K x4 s x8, fX9_sawdust_L84 K f2 σ x4 s (nI a) (hi τ a) x8 (nI c) (nI l) = fX9_sawdust_b131 K σ x4 s x8 (nI c) (nI l')) ∧ XT o X0 Y n (upd τ (11 + c) (nI l'))) ∨
    (∃ Y, fX0_cutBelow_L10 f1 X o (nI c) (nI a) was = some (-1000000, Y) ∧ (∀ K x4 s x8, fX9_sawdust_L84 K f2 σ x4 s (nI a) (hi τ a) x8 (nI c) (nI l) = fX9_sawdust_b131 K σ x4 s x8 (nI c) (-1)) ∧ BT o X0 Y) := by
  intro l
  induction l with
  | zero =>
    intro f1 f2 X hf1 hf2 hl T
    have hn := T.2.2.1
    have rk5 : rd (σ 4) 41 (nI (5 + c)) = some (τ (5 + c)) := by rw [st_rd σ (show 5 + c < 41 by omega), k5]
    have rk29 : rd (σ 4) 41 (nI (29 + c)) = some (τ (29 + c)) := by rw [st_rd σ (show 29 + c < 41 by omega), k29]
    obtain ⟨f1, rfl⟩ : ∃ f, f1 = f + 1 := ⟨f1 - 1, by omega⟩
    obtain ⟨f2, rfl⟩ : ∃ f, f2 = f + 1 := ⟨f2 - 1, by omega⟩
    obtain ⟨f2, rfl⟩ : ∃ f, f2 = f + 1 := ⟨f2 - 1, by omega⟩
    have m := T.2.1
    have ih := m.isHigher T.2.2 ha hc
    have hab : abv (upd τ (11 + c) (nI 0)) a c = (decide (hb (τ (5 + c)) (nI 0) (τ (29 + c)) < hi τ a) || (decide (hi τ a = hb (τ (5 + c)) (nI 0) (τ (29 + c))) && decide (a < c))) := by
      unfold abv; rw [hi_l (by omega), hi_o hac (by omega) (by omega) (Or.inl rfl)]
    have hia := m_isAbove (hi τ a) (hb (τ (5 + c)) (nI 0) (τ (29 + c))) (show a < 6 by omega) (show c < 6 by omega)
    rw [← hab] at hia
    have lg : gA X (o + 11 + 2) 0 (nI c) = some (nI 0) := by rw [m.rd mo2 (show c < 6 by omega), upd_s]
    cases hv : abv (upd τ (11 + c) (nI 0)) a c with
    | true =>
      rw [hv] at ih hia
      refine Or.inl ⟨0, X, Nat.le_refl _, ?_, fun K x4 s x8 => ?_, T⟩
      · unfold fX0_cutBelow_L10 fX0_cutBelow_b50
        simp only [(T.r R).r5, m.ck1, ih, bsm, m.r3, lg]
        rw [if_neg (by decide), if_neg (by decide)]
      · conv => lhs; unfold fX9_sawdust_L84
        rw [if_neg (nI_pos (by omega))]
        simp only [a5, a29, rk5, rk29, m_highBy, hia, bsm]
        rw [if_neg (by decide)]
    | false =>
      rw [hv] at ih hia
      refine Or.inr ⟨X, ?_, fun K x4 s x8 => ?_, T.bt⟩
      · unfold fX0_cutBelow_L10 fX0_cutBelow_b50
        simp only [(T.r R).r5, m.ck1, ih, bsm, m.r3, lg]
        rw [if_pos o1f, if_pos (by decide), if_pos o1f]
      · conv => lhs; unfold fX9_sawdust_L84
        rw [if_neg (nI_pos (by omega))]
        simp only [a5, a29, rk5, rk29, m_highBy, hia, bsm]
        rw [if_pos o1f, show nI 0 + (-1) = (-1 : Int32) by decide]
        unfold fX9_sawdust_L84
        rw [if_pos (by decide)]
  | succ l ihl =>
    intro f1 f2 X hf1 hf2 hl T
    have hn := T.2.2.1
    have rk5 : rd (σ 4) 41 (nI (5 + c)) = some (τ (5 + c)) := by rw [st_rd σ (show 5 + c < 41 by omega), k5]
    have rk29 : rd (σ 4) 41 (nI (29 + c)) = some (τ (29 + c)) := by rw [st_rd σ (show 29 + c < 41 by omega), k29]
    obtain ⟨f1, rfl⟩ : ∃ f, f1 = f + 1 := ⟨f1 - 1, by omega⟩
    obtain ⟨f2, rfl⟩ : ∃ f, f2 = f + 1 := ⟨f2 - 1, by omega⟩
    have m := T.2.1
    have ih := m.isHigher T.2.2 ha hc
    have hab : abv (upd τ (11 + c) (nI (l + 1))) a c = (decide (hb (τ (5 + c)) (nI (l + 1)) (τ (29 + c)) < hi τ a) || (decide (hi τ a = hb (τ (5 + c)) (nI (l + 1)) (τ (29 + c))) && decide (a < c))) := by
      unfold abv; rw [hi_l (by omega), hi_o hac (by omega) (by omega) (Or.inl rfl)]
    have hia := m_isAbove (hi τ a) (hb (τ (5 + c)) (nI (l + 1)) (τ (29 + c))) (show a < 6 by omega) (show c < 6 by omega)
    rw [← hab] at hia
    have lg : gA X (o + 11 + 2) 0 (nI c) = some (nI (l + 1)) := by rw [m.rd mo2 (show c < 6 by omega), upd_s]
    cases hv : abv (upd τ (11 + c) (nI (l + 1))) a c with
    | true =>
      rw [hv] at ih hia
      refine Or.inl ⟨l + 1, X, Nat.le_refl _, ?_, fun K x4 s x8 => ?_, T⟩
      · unfold fX0_cutBelow_L10 fX0_cutBelow_b50
        simp only [(T.r R).r5, m.ck1, ih, bsm, m.r3, lg]
        rw [if_neg (by decide), if_neg (by decide)]
      · conv => lhs; unfold fX9_sawdust_L84
        rw [if_neg (nI_pos (by omega))]
        simp only [a5, a29, rk5, rk29, m_highBy, hia, bsm]
        rw [if_neg (by decide)]
    | false =>
      rw [hv] at ih hia
      obtain ⟨Z, ez, T2⟩ := T.put (c := c) (v := l) (x := nI l) mo2 (by omega) rfl ⟨by omega, by omega, by omega, by omega⟩
      rw [upd_upd] at T2
      have e1 : fX0_cutBelow_L10 (f1 + 1) X o (nI c) (nI a) was = fX0_cutBelow_L10 f1 Z o (nI c) (nI a) was := by
        conv => lhs; unfold fX0_cutBelow_L10
        simp only [(T.r R).r5, m.ck1, ih, bsm, m.r3, lg, nI_pred, ez]
        rw [if_pos o1f, if_neg (nI_nle (by omega) (by omega))]
      have e2 : ∀ K x4 s x8, fX9_sawdust_L84 K (f2 + 1) σ x4 s (nI a) (hi τ a) x8 (nI c) (nI (l + 1)) = fX9_sawdust_L84 K f2 σ x4 s (nI a) (hi τ a) x8 (nI c) (nI l) := fun K x4 s x8 => by
        conv => lhs; unfold fX9_sawdust_L84
        rw [if_neg (nI_pos (by omega))]
        simp only [a5, a29, rk5, rk29, m_highBy, hia, bsm, pk_m1]
        rw [if_pos o1f]
      rcases ihl f1 f2 Z (by omega) (by omega) (by omega) T2 with ⟨l', Y, w1, w2, w3, w4⟩ | ⟨Y, w2, w3, w4⟩
      · exact Or.inl ⟨l', Y, by omega, e1.trans w2, fun K x4 s x8 => (e2 K x4 s x8).trans (w3 K x4 s x8), w4⟩
      · exact Or.inr ⟨Y, e1.trans w2, fun K x4 s x8 => (e2 K x4 s x8).trans (w3 K x4 s x8), w4⟩
theorem m_dustEnd (hg : goodM n (σ 4)) (x4 x6 x7 i : Int32) {v : Int32} (hv : v < 0) (f : Nat) : fX9_sawdust_L44 (f + 1) σ x4 v x6 x7 i = some (v, up2 σ 0 3 0) := by
  have e2 : rd (σ 4) 41 2 = some (nI n) := by rw [← hg.2.1]; exact st_rd σ (k := 2) (by omega)
  have e1 : fX9_sawdust_b204 σ v = some (v, up2 σ 0 3 0) := rfl
  unfold fX9_sawdust_L44
  rw [e2, bsm, if_pos hv, e1, ite_self]
theorem x_dustEnd {q : Nat} {f : Nat → Int32} (hq : X.2.2 q = some (.inr (.inl (0, n, f)))) (i : Int32) (fu : Nat) : fX0_dustOf_L9 (fu + 1) X o q (-1000000) i = some (-1000000, X) := by
  unfold fX0_dustOf_L9
  rw [gL_of hq, bsm, if_pos rfl, ite_self]
theorem dustL (R : Rl o t g h h2 X0 σ) (hg : goodM n (σ 4)) {q b : Nat} {f : Nat → Int32} (hq : X0.2.2 q = some (.inr (.inl (0, n, f)))) (hq29 : o + 29 ≤ q) (hb : b + n ≤ 320) (hf : ∀ j, j < n → f j = σ 3 (b + j)) (hO : OrdF n f) :
    ∀ (d j f1 f2 s a : Nat) (i1 i2 x5 y5 x6 x7 : Int32) (X : AH) (τ : Nat → Int32), d + 1 < f1 → d + 1 < f2 → j + d = n → 1 ≤ j → i1 = nI j → i2 = nI j → s ≤ 60 * j → x5 = nI s → y5 = nI s → a < n → f (j - 1) = nI a → x6 = nI a → x7 = hi τ a → XT o X0 X n τ → (∀ c, c < 6 → τ (5 + c) = σ 4 (5 + c) ∧ τ (29 + c) = σ 4 (29 + c)) → (∀ p c, j ≤ p → p < n → f p = nI c → c < n → τ (11 + c) = σ 4 (11 + c)) →
    ∃ r Y, fX0_dustOf_L9 f1 X o q x5 i1 = some (r, Y) ∧ fX9_sawdust_L44 f2 σ (nI b) y5 x6 x7 i2 = some (r, up2 σ 0 3 0) ∧ BT o X0 Y := by
  have hn := hg.1
  have e2 : rd (σ 4) 41 2 = some (nI n) := by rw [← hg.2.1]; exact st_rd σ (k := 2) (by omega)
  have qa : ∀ X : AH, AgX (blk (o + 11)) X0 X → X.2.2 q = some (.inr (.inl (0, n, f))) := fun X G => G.at R.w hq (fun z => by unfold blk at z; omega)
  intro d
  induction d with
  | zero =>
    intro j f1 f2 s a i1 i2 x5 y5 x6 x7 X τ hf1 hf2 hj h1j z1 z2 hs z3 z4 ha hfa z5 z6 T hk hl
    obtain ⟨f1, rfl⟩ : ∃ f, f1 = f + 1 := ⟨f1 - 1, by omega⟩
    obtain ⟨f2, rfl⟩ : ∃ f, f2 = f + 1 := ⟨f2 - 1, by omega⟩
    subst z1 z2 z3 z4 z5 z6
    have hle : nI n ≤ nI j := nI_le (by omega) (by omega)
    have e1 : fX9_sawdust_b204 σ (nI s) = some (nI s, up2 σ 0 3 0) := rfl
    refine ⟨nI s, X, ?_, ?_, T.bt⟩
    · unfold fX0_dustOf_L9
      rw [gL_of (qa X T.1), bsm, if_pos hle]
    · unfold fX9_sawdust_L44
      rw [e2, bsm, if_pos hle, e1]
  | succ d ih =>
    intro j f1 f2 s a i1 i2 x5 y5 x6 x7 X τ hf1 hf2 hj h1j z1 z2 hs z3 z4 ha hfa z5 z6 T hk hl
    obtain ⟨f1, rfl⟩ : ∃ f, f1 = f + 1 := ⟨f1 - 1, by omega⟩
    obtain ⟨f2, rfl⟩ : ∃ f, f2 = f + 1 := ⟨f2 - 1, by omega⟩
    subst z1 z2 z3 z4 z5 z6
    have hnle : ¬ nI n ≤ nI j := nI_ge (by omega) (by omega)
    have hsn : ¬ nI s = -1000000 := fun z => absurd (show nI s < 0 by rw [z]; decide) (nI_pos (by omega))
    obtain ⟨c, hc, ec⟩ := hO.1 j (by omega)
    have hac : a ≠ c := fun z => hO.2 (j - 1) j (by omega) (by omega) (by omega) (by rw [hfa, ec, z])
    have hlc := hl j c (Nat.le_refl _) (by omega) ec hc
    obtain ⟨l, hl60, el⟩ := (hg.2.2.1 c (by omega)).1
    have hq' := qa X T.1
    have ga : gA X q 0 (nI j) = some (nI c) := by rw [gA_of hq' (by omega) (by omega), ec]
    have ga1 : gA X q 0 (nI j - 1) = some (nI a) := by
      rw [show nI j - 1 = nI (j - 1) from pk_sub (b := 1) (by omega), gA_of hq' (by omega) (by omega), hfa]
    have er : rd (σ 3) 320 (nI b + nI j) = some (nI c) := by rw [nI_add, rd_nI (by omega) (by omega), ← hf j (by omega), ec]
    have el11 : rd (σ 4) 41 (nI (11 + c)) = some (nI l) := by rw [st_rd σ (show 11 + c < 41 by omega), el]
    have eτ : upd τ (11 + c) (nI l) = τ := by rw [← el, ← hlc]; exact upd_same
    have m := T.2.1
    have ec0 : ∀ z, fX0_cutBelow_L10 2000 X o (nI c) (nI a) (nI l) = z → fX0_cutBelow X o (nI c) (nI a) = z := fun z hz => by
      unfold fX0_cutBelow
      simp only [(T.r R).r5, m.r3, m.rd mo2 (show c < 6 by omega), bsm, hlc, el]
      exact hz
    have hx : ∀ v Z, fX0_cutBelow X o (nI c) (nI a) = some (v, Z) → fX0_dustOf_L9 (f1 + 1) X o q (nI s) (nI j) = if v = -1000000 then fX0_dustOf_L9 f1 Z o q (-1000000) (nI (j + 1)) else fX0_dustOf_L9 f1 Z o q (nI s + v) (nI (j + 1)) := fun v Z hv => by
      conv => lhs; unfold fX0_dustOf_L9
      rw [gL_of hq', bsm, if_neg hnle, if_neg hsn]
      simp only [ga, ga1, (T.r R).ck0, bsm, hv, nI_1]
    have hm : fX9_sawdust_L44 (f2 + 1) σ (nI b) (nI s) (nI a) (hi τ a) (nI j) = fX9_sawdust_L84 (fX9_sawdust_L44 f2) 2000 σ (nI b) (nI s) (nI a) (hi τ a) (nI j) (nI c) (nI l) := by
      conv => lhs; unfold fX9_sawdust_L44
      rw [e2, bsm, if_neg hnle, if_neg (nI_pos (by omega))]
      simp only [er, bsm, a11, el11]
    rcases cutL R ha hc hac (hk c (by omega)).1.symm (hk c (by omega)).2.symm (nI l) l 2000 2000 X (by omega) (by omega) hl60 (by rw [eτ]; exact T) with ⟨l', Z, w1, w2, w3, w4⟩ | ⟨Z, w2, w3, w4⟩
    · have es : nI l - nI l' = nI (l - l') := pk_sub w1
      have hnv : ¬ nI (l - l') = -1000000 := fun z => absurd (show nI (l - l') < 0 by rw [z]; decide) (nI_pos (by omega))
      rw [es] at w2
      rw [hx _ Z (ec0 _ w2), if_neg hnv, nI_add, hm, w3]
      have rk5 : rd (σ 4) 41 (nI (5 + c)) = some (τ (5 + c)) := by rw [st_rd σ (show 5 + c < 41 by omega), (hk c (by omega)).1]
      have rk29 : rd (σ 4) 41 (nI (29 + c)) = some (τ (29 + c)) := by rw [st_rd σ (show 29 + c < 41 by omega), (hk c (by omega)).2]
      have hb131 : fX9_sawdust_b131 (fX9_sawdust_L44 f2) σ (nI b) (nI s) (nI j) (nI c) (nI l') = fX9_sawdust_L44 f2 σ (nI b) (nI (s + (l - l'))) (nI c) (hi (upd τ (11 + c) (nI l')) c) (nI (j + 1)) := by
        unfold fX9_sawdust_b131 fX9_sawdust_b157
        rw [if_pos (nI_pos' (by omega))]
        simp only [a11, el11, bsm, a5, a29, rk5, rk29, m_highBy, nI_1]
        rw [if_pos (nI_pos' (by omega)), nI_add, pk_sub (by omega), hi_l (by omega), show s + l - l' = s + (l - l') by omega]
      rw [hb131]
      refine ih (j + 1) f1 f2 (s + (l - l')) c _ _ _ _ _ _ Z (upd τ (11 + c) (nI l')) (by omega) (by omega) (by omega) (by omega) rfl rfl (by omega) rfl rfl hc (by rw [show j + 1 - 1 = j by omega]; exact ec) rfl rfl w4 (fun c' hc' => ?_) (fun p c' hp1 hp2 ep hc' => ?_)
      · rw [upd_n (by omega), upd_n (by omega)]; exact hk c' hc'
      · have : c' ≠ c := fun z => hO.2 p j hp2 (by omega) (by omega) (by rw [ep, ec, z])
        rw [upd_n (by omega)]
        exact hl p c' (by omega) hp2 ep hc'
    · rw [hx _ Z (ec0 _ w2), if_pos rfl, hm, w3]
      have hb131 : fX9_sawdust_b131 (fX9_sawdust_L44 f2) σ (nI b) (nI s) (nI j) (nI c) (-1) = fX9_sawdust_L44 f2 σ (nI b) (-1000000) (nI c) 0 (nI j + 1) := by
        unfold fX9_sawdust_b131 fX9_sawdust_b157
        rw [if_neg (by decide), if_neg (by decide)]
      rw [hb131]
      obtain ⟨f1, rfl⟩ : ∃ f, f1 = f + 1 := ⟨f1 - 1, by omega⟩
      obtain ⟨f2, rfl⟩ : ∃ f, f2 = f + 1 := ⟨f2 - 1, by omega⟩
      exact ⟨-1000000, Z, x_dustEnd (qa Z w4.1) _ _, m_dustEnd hg _ _ _ _ (by decide) _, w4⟩
theorem s_sawdust (R : Rel o X σ) (x1 x2 : Int32) : Same o (fX0_sawdust X o x1 x2) (fX9_sawdust σ x1 x2) := by
  obtain ⟨t, g, h, h2, R⟩ := R
  obtain ⟨n, hS, ht⟩ := R.min
  have hn := hS.1.1
  have sz := R.sz
  unfold fX0_sawdust fX9_sawdust
  simp only [R.ck0, bsm]
  rcases R.isMin hS ht with ⟨e1, e2⟩ | ⟨h1, e1, e04⟩
  · have em : fX9_lacksOrder σ x1 x2 = some (-1000002, σ) := by
      unfold fX9_lacksOrder
      rw [e2, if_pos rfl]
    simp only [e1, em, bsm, if_true]
    rw [if_neg (by decide)]
    exact Same.mk rfl rfl R.rel
  simp only [e1, bsm, one0, if_false]
  rcases rowD x1 with ⟨r1, r2⟩ | ⟨k, hk, rfl, r1, r2⟩
  · have em : fX9_lacksOrder σ x1 x2 = some (-1000001, σ) := by
      unfold fX9_lacksOrder fX9_lacksOrder_b34
      rw [e04, if_neg (by decide), r2, bsm, if_pos rfl]
      exact m_ordFail hS.1 _ _ _ (by decide) 1999 _
    simp only [r1, em, bsm, if_true]
    rw [if_neg (by decide)]
    exact Same.mk rfl rfl R.rel
  simp only [r1, bsm, one0, if_false, R.ck0]
  rcases p_order R hS h1 e04 (show k < 8 by omega) r2 x2 with ⟨v, y, Y, Z, σ1, o1, o2, o3, z1, z2, z3, z4⟩ | ⟨i, Y, f, rfl, hib, o1, o2, hq, hf, hO, G⟩
  · simp only [o1, o2, bsm, z1, z2, z3]
    rw [if_neg o3]
    exact Same.mk rfl rfl z4
  · have R1 := R.new G
    have S1 : Sv Y (o + 3) n (σ 4) := hS.ag G R.w (fun _ _ _ z => z)
    obtain ⟨Z, ez, GZ, SZ⟩ := x_tried R1 S1 R1.bt
    obtain ⟨a, ha, ea⟩ := hO.1 0 (by omega)
    have T : XT o Y Z n (σ 4) := ⟨GZ, SZ.Mn, SZ.1⟩
    have er : rd (σ 3) 320 (nI (40 * k + i)) = some (nI a) := by
      have := hf 0 (by omega)
      rw [Nat.add_zero] at this
      rw [rd_nI (by omega) (by omega), ← this, ea]
    obtain ⟨r, V, q1, q2, B⟩ := dustL R1 hS.1 (q := X.1) (b := 40 * k + i) hq (by omega) (by omega) hf hO (n - 1) 1 2000 2000 0 a 1 1 0 0 (nI a) (hi (σ 4) a) Z (σ 4) (by omega) (by omega) (by omega) (by omega) rfl rfl (by omega) rfl rfl ha (by rw [show 1 - 1 = 0 by omega]; exact ea) rfl rfl T (fun _ _ => ⟨rfl, rfl⟩) (fun _ _ _ _ _ _ => rfl)
    obtain ⟨W, w1, w2, w3, -⟩ := (B.r R1).well r
    have ed : fX0_dustOf Y o X.1 = some (r, V) := by
      unfold fX0_dustOf
      rw [R1.ck0, bsm, ez, bsm]
      exact q1
    simp only [o1, o2, bsm, R1.ck0, ed, (B.r R1).ck0, w1, ix40, er, m_high σ (show a < 6 by omega)]
    rw [if_pos (by decide)]
    exact Same.mk rfl q2 w3.rel
end DU
