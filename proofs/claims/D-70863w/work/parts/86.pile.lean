/-! pile -/
section PI
variable {o t n : Nat} {g h h2 : Nat → Option Nat} {X0 X Y : AH} {σ σ' : MS} {τ : Nat → Int32}
theorem pileAL (R : Rl o t g h h2 X0 σ) {a c : Nat} (ha : a < n) (hc : c < n) (hac : a ≠ c) (k5 : σ 4 (5 + c) = τ (5 + c)) (k11 : σ 4 (11 + c) = τ (11 + c)) (was : Int32) : ∀ (d l f1 f2 : Nat) (X : AH), d < f1 → d + 1 < f2 → l + d = 20 → XT o X0 X n (upd τ (29 + c) (nI l)) →
    (∃ l' Y, l ≤ l' ∧ l' ≤ 20 ∧ fX0_pileAbove_L10 f1 X o (nI c) (nI a) was = some (nI l' - was, Y) ∧ (∀ K x4 s x8, fX9_pile_L94 K f2 σ x4 s (nI a) (hi τ a) x8 (nI c) (nI l) = fX9_pile_b143 K σ x4 s x8 (nI c) (nI l')) ∧ XT o X0 Y n (upd τ (29 + c) (nI l'))) ∨
    (∃ Y, fX0_pileAbove_L10 f1 X o (nI c) (nI a) was = some (-1000000, Y) ∧ (∀ K x4 s x8, fX9_pile_L94 K f2 σ x4 s (nI a) (hi τ a) x8 (nI c) (nI l) = fX9_pile_b143 K σ x4 s x8 (nI c) (nI 21)) ∧ BT o X0 Y) := by
  intro d
  induction d with
  | zero =>
    intro l f1 f2 X hf1 hf2 hl T
    have : l = 20 := by omega
    subst this
    have hn := T.2.2.1
    have rk5 : rd (σ 4) 41 (nI (5 + c)) = some (τ (5 + c)) := by rw [st_rd σ (show 5 + c < 41 by omega), k5]
    have rk11 : rd (σ 4) 41 (nI (11 + c)) = some (τ (11 + c)) := by rw [st_rd σ (show 11 + c < 41 by omega), k11]
    obtain ⟨f1, rfl⟩ : ∃ f, f1 = f + 1 := ⟨f1 - 1, by omega⟩
    obtain ⟨f2, rfl⟩ : ∃ f, f2 = f + 1 := ⟨f2 - 1, by omega⟩
    obtain ⟨f2, rfl⟩ : ∃ f, f2 = f + 1 := ⟨f2 - 1, by omega⟩
    have m := T.2.1
    have ih := m.isHigher T.2.2 hc ha
    have hab : abv (upd τ (29 + c) (nI 20)) c a = (decide (hi τ a < hb (τ (5 + c)) (τ (11 + c)) (nI 20)) || (decide (hb (τ (5 + c)) (τ (11 + c)) (nI 20) = hi τ a) && decide (c < a))) := by
      unfold abv; rw [hi_c (by omega), hi_o hac (by omega) (by omega) (Or.inr rfl)]
    have hia := m_isAbove (hb (τ (5 + c)) (τ (11 + c)) (nI 20)) (hi τ a) (show c < 6 by omega) (show a < 6 by omega)
    rw [← hab] at hia
    have lg : gA X (o + 11 + 3) 0 (nI c) = some (nI 20) := by rw [m.rd mo3 (show c < 6 by omega), upd_s]
    have h20 : ¬ (20 : Int32) < nI 20 := by decide
    cases hv : abv (upd τ (29 + c) (nI 20)) c a with
    | true =>
      rw [hv] at ih hia
      refine Or.inl ⟨20, X, Nat.le_refl _, Nat.le_refl _, ?_, fun K x4 s x8 => ?_, T⟩
      · unfold fX0_pileAbove_L10 fX0_pileAbove_b52
        simp only [(T.r R).r5, m.ck1, ih, bsm, m.r4, lg]
        rw [if_neg (by decide), if_neg (by decide)]
      · conv => lhs; unfold fX9_pile_L94
        rw [if_neg h20]
        simp only [a5, a11, rk5, rk11, m_highBy, hia, bsm]
        rw [if_neg (by decide)]
    | false =>
      rw [hv] at ih hia
      refine Or.inr ⟨X, ?_, fun K x4 s x8 => ?_, T.bt⟩
      · unfold fX0_pileAbove_L10 fX0_pileAbove_b52
        simp only [(T.r R).r5, m.ck1, ih, bsm, m.r4, lg]
        rw [if_pos o1f, if_pos (by decide), if_pos o1f]
      · conv => lhs; unfold fX9_pile_L94
        rw [if_neg h20]
        simp only [a5, a11, rk5, rk11, m_highBy, hia, bsm]
        rw [if_pos o1f, show nI 20 + 1 = nI 21 by decide]
        unfold fX9_pile_L94
        rw [if_pos (by decide)]
  | succ d ihd =>
    intro l f1 f2 X hf1 hf2 hl T
    have hn := T.2.2.1
    have rk5 : rd (σ 4) 41 (nI (5 + c)) = some (τ (5 + c)) := by rw [st_rd σ (show 5 + c < 41 by omega), k5]
    have rk11 : rd (σ 4) 41 (nI (11 + c)) = some (τ (11 + c)) := by rw [st_rd σ (show 11 + c < 41 by omega), k11]
    obtain ⟨f1, rfl⟩ : ∃ f, f1 = f + 1 := ⟨f1 - 1, by omega⟩
    obtain ⟨f2, rfl⟩ : ∃ f, f2 = f + 1 := ⟨f2 - 1, by omega⟩
    have m := T.2.1
    have ih := m.isHigher T.2.2 hc ha
    have hab : abv (upd τ (29 + c) (nI l)) c a = (decide (hi τ a < hb (τ (5 + c)) (τ (11 + c)) (nI l)) || (decide (hb (τ (5 + c)) (τ (11 + c)) (nI l) = hi τ a) && decide (c < a))) := by
      unfold abv; rw [hi_c (by omega), hi_o hac (by omega) (by omega) (Or.inr rfl)]
    have hia := m_isAbove (hb (τ (5 + c)) (τ (11 + c)) (nI l)) (hi τ a) (show c < 6 by omega) (show a < 6 by omega)
    rw [← hab] at hia
    have lg : gA X (o + 11 + 3) 0 (nI c) = some (nI l) := by rw [m.rd mo3 (show c < 6 by omega), upd_s]
    have h20 : ¬ (20 : Int32) < nI l := nI_nlt (a := 20) (by omega) (by omega)
    cases hv : abv (upd τ (29 + c) (nI l)) c a with
    | true =>
      rw [hv] at ih hia
      refine Or.inl ⟨l, X, Nat.le_refl _, by omega, ?_, fun K x4 s x8 => ?_, T⟩
      · unfold fX0_pileAbove_L10 fX0_pileAbove_b52
        simp only [(T.r R).r5, m.ck1, ih, bsm, m.r4, lg]
        rw [if_neg (by decide), if_neg (by decide)]
      · conv => lhs; unfold fX9_pile_L94
        rw [if_neg h20]
        simp only [a5, a11, rk5, rk11, m_highBy, hia, bsm]
        rw [if_neg (by decide)]
    | false =>
      rw [hv] at ih hia
      obtain ⟨Z, ez, T2⟩ := T.put (c := c) (v := l + 1) (x := nI (l + 1)) mo3 (by omega) rfl ⟨by omega, by omega, by omega, by omega⟩
      rw [upd_upd] at T2
      have e1 : fX0_pileAbove_L10 (f1 + 1) X o (nI c) (nI a) was = fX0_pileAbove_L10 f1 Z o (nI c) (nI a) was := by
        conv => lhs; unfold fX0_pileAbove_L10
        simp only [(T.r R).r5, m.ck1, ih, bsm, m.r4, lg, nI_1, ez]
        rw [if_pos o1f, if_neg (show ¬ (20 : Int32) ≤ nI l from nI_ge (b := 20) (by omega) (by omega))]
      have e2 : ∀ K x4 s x8, fX9_pile_L94 K (f2 + 1) σ x4 s (nI a) (hi τ a) x8 (nI c) (nI l) = fX9_pile_L94 K f2 σ x4 s (nI a) (hi τ a) x8 (nI c) (nI (l + 1)) := fun K x4 s x8 => by
        conv => lhs; unfold fX9_pile_L94
        rw [if_neg h20]
        simp only [a5, a11, rk5, rk11, m_highBy, hia, bsm, nI_1]
        rw [if_pos o1f]
      rcases ihd (l + 1) f1 f2 Z (by omega) (by omega) (by omega) T2 with ⟨l', Y, w0, w1, w2, w3, w4⟩ | ⟨Y, w2, w3, w4⟩
      · exact Or.inl ⟨l', Y, by omega, w1, e1.trans w2, fun K x4 s x8 => (e2 K x4 s x8).trans (w3 K x4 s x8), w4⟩
      · exact Or.inr ⟨Y, e1.trans w2, fun K x4 s x8 => (e2 K x4 s x8).trans (w3 K x4 s x8), w4⟩
theorem m_pileEnd (x4 x6 x7 i : Int32) {v : Int32} (hv : v < 0) (f : Nat) : fX9_pile_L60 (f + 1) σ x4 v x6 x7 i = some (v, up2 σ 0 3 0) := by
  have e1 : fX9_pile_b209 σ v = some (v, up2 σ 0 3 0) := rfl
  unfold fX9_pile_L60
  rw [if_pos hv, e1, ite_self]
theorem x_pileEnd {q : Nat} (i : Int32) (fu : Nat) : fX0_pileOf_L12 (fu + 1) X o q (-1000000) i = some (-1000000, X) := by
  unfold fX0_pileOf_L12
  rw [if_pos rfl, ite_self]
theorem pm1 (r : Nat) : nI r + (-1) = nI r - 1 := (Int32.sub_eq_add_neg ..).symm
theorem pileL (R : Rl o t g h h2 X0 σ) (hg : goodM n (σ 4)) {q b : Nat} {f : Nat → Int32} (hq : X0.2.2 q = some (.inr (.inl (0, n, f)))) (hq29 : o + 29 ≤ q) (hb : b + n ≤ 320) (hf : ∀ j, j < n → f j = σ 3 (b + j)) (hO : OrdF n f) :
    ∀ (r f1 f2 s a : Nat) (i1 i2 x5 y5 x6 x7 : Int32) (X : AH) (τ : Nat → Int32), r + 1 < f1 → r + 1 < f2 → r < n → i1 = nI r - 1 → i2 = nI r - 1 → s ≤ 20 * (n - r) → x5 = nI s → y5 = nI s → a < n → f r = nI a → x6 = nI a → x7 = hi τ a → XT o X0 X n τ → (∀ c, c < 6 → τ (5 + c) = σ 4 (5 + c) ∧ τ (11 + c) = σ 4 (11 + c)) → (∀ p c, p < r → f p = nI c → c < n → τ (29 + c) = σ 4 (29 + c)) →
    ∃ v Y, fX0_pileOf_L12 f1 X o q x5 i1 = some (v, Y) ∧ fX9_pile_L60 f2 σ (nI b) y5 x6 x7 i2 = some (v, up2 σ 0 3 0) ∧ BT o X0 Y := by
  have hn := hg.1
  have qa : ∀ X : AH, AgX (blk (o + 11)) X0 X → X.2.2 q = some (.inr (.inl (0, n, f))) := fun X G => G.at R.w hq (fun z => by unfold blk at z; omega)
  intro r
  induction r with
  | zero =>
    intro f1 f2 s a i1 i2 x5 y5 x6 x7 X τ hf1 hf2 hr z1 z2 hs z3 z4 ha hfa z5 z6 T hk hl
    obtain ⟨f1, rfl⟩ : ∃ f, f1 = f + 1 := ⟨f1 - 1, by omega⟩
    obtain ⟨f2, rfl⟩ : ∃ f, f2 = f + 1 := ⟨f2 - 1, by omega⟩
    subst z1 z2 z3 z4 z5 z6
    have hlt : nI 0 - 1 < 0 := by decide
    have e1 : fX9_pile_b209 σ (nI s) = some (nI s, up2 σ 0 3 0) := rfl
    refine ⟨nI s, X, ?_, ?_, T.bt⟩
    · unfold fX0_pileOf_L12
      rw [if_pos hlt]
    · unfold fX9_pile_L60
      rw [if_pos hlt, e1]
  | succ r ih =>
    intro f1 f2 s a i1 i2 x5 y5 x6 x7 X τ hf1 hf2 hr z1 z2 hs z3 z4 ha hfa z5 z6 T hk hl
    obtain ⟨f1, rfl⟩ : ∃ f, f1 = f + 1 := ⟨f1 - 1, by omega⟩
    obtain ⟨f2, rfl⟩ : ∃ f, f2 = f + 1 := ⟨f2 - 1, by omega⟩
    rw [nI_pred] at z1 z2
    subst z1 z2 z3 z4 z5 z6
    have hnlt : ¬ nI r < 0 := nI_pos (by omega)
    have hsn : ¬ nI s = -1000000 := fun z => absurd (show nI s < 0 by rw [z]; decide) (nI_pos (by omega))
    obtain ⟨c, hc, ec⟩ := hO.1 r (by omega)
    have hac : a ≠ c := fun z => hO.2 (r + 1) r (by omega) (by omega) (by omega) (by rw [hfa, ec, z])
    have hlc := hl r c (by omega) ec hc
    obtain ⟨l, hl20, el⟩ := (hg.2.2.1 c (by omega)).2.2.2
    have hq' := qa X T.1
    have ga : gA X q 0 (nI r) = some (nI c) := by rw [gA_of hq' (by omega) (by omega), ec]
    have ga1 : gA X q 0 (nI r + 1) = some (nI a) := by rw [nI_1, gA_of hq' (by omega) (by omega), hfa]
    have er : rd (σ 3) 320 (nI b + nI r) = some (nI c) := by rw [nI_add, rd_nI (by omega) (by omega), ← hf r (by omega), ec]
    have el29 : rd (σ 4) 41 (nI (29 + c)) = some (nI l) := by rw [st_rd σ (show 29 + c < 41 by omega), el]
    have eτ : upd τ (29 + c) (nI l) = τ := by rw [← el, ← hlc]; exact upd_same
    have m := T.2.1
    have ec0 : ∀ z, fX0_pileAbove_L10 2000 X o (nI c) (nI a) (nI l) = z → fX0_pileAbove X o (nI c) (nI a) = z := fun z hz => by
      unfold fX0_pileAbove
      simp only [(T.r R).r5, m.r4, m.rd mo3 (show c < 6 by omega), bsm, hlc, el]
      exact hz
    have hx : ∀ v Z, fX0_pileAbove X o (nI c) (nI a) = some (v, Z) → fX0_pileOf_L12 (f1 + 1) X o q (nI s) (nI r) = if v = -1000000 then fX0_pileOf_L12 f1 Z o q (-1000000) (nI r - 1) else fX0_pileOf_L12 f1 Z o q (nI s + v) (nI r - 1) := fun v Z hv => by
      conv => lhs; unfold fX0_pileOf_L12
      rw [if_neg hnlt, if_neg hsn]
      simp only [ga, ga1, (T.r R).ck0, bsm, hv, pm1]
    have hm : fX9_pile_L60 (f2 + 1) σ (nI b) (nI s) (nI a) (hi τ a) (nI r) = fX9_pile_L94 (fX9_pile_L60 f2) 2000 σ (nI b) (nI s) (nI a) (hi τ a) (nI r) (nI c) (nI l) := by
      conv => lhs; unfold fX9_pile_L60
      rw [if_neg hnlt, if_neg (nI_pos (by omega))]
      simp only [er, bsm, a29, el29]
    have rk5 : rd (σ 4) 41 (nI (5 + c)) = some (τ (5 + c)) := by rw [st_rd σ (show 5 + c < 41 by omega), (hk c (by omega)).1]
    have rk11 : rd (σ 4) 41 (nI (11 + c)) = some (τ (11 + c)) := by rw [st_rd σ (show 11 + c < 41 by omega), (hk c (by omega)).2]
    rcases pileAL R ha hc hac (hk c (by omega)).1.symm (hk c (by omega)).2.symm (nI l) (20 - l) l 2000 2000 X (by omega) (by omega) (by omega) (by rw [eτ]; exact T) with ⟨l', Z, w0, w1, w2, w3, w4⟩ | ⟨Z, w2, w3, w4⟩
    · have es : nI l' - nI l = nI (l' - l) := pk_sub w0
      have hnv : ¬ nI (l' - l) = -1000000 := fun z => absurd (show nI (l' - l) < 0 by rw [z]; decide) (nI_pos (by omega))
      rw [es] at w2
      rw [hx _ Z (ec0 _ w2), if_neg hnv, nI_add, hm, w3]
      have hb143 : fX9_pile_b143 (fX9_pile_L60 f2) σ (nI b) (nI s) (nI r) (nI c) (nI l') = fX9_pile_L60 f2 σ (nI b) (nI (s + (l' - l))) (nI c) (hi (upd τ (29 + c) (nI l')) c) (nI r - 1) := by
        unfold fX9_pile_b143 fX9_pile_b171
        rw [if_pos (show nI l' ≤ 20 from nI_le (b := 20) w1 (by omega))]
        simp only [a29, el29, bsm, a5, a11, rk5, rk11, m_highBy, pm1]
        rw [nI_add, pk_sub (by omega), hi_c (by omega), show s + l' - l = s + (l' - l) by omega]
      rw [hb143]
      refine ih f1 f2 (s + (l' - l)) c _ _ _ _ _ _ Z (upd τ (29 + c) (nI l')) (by omega) (by omega) (by omega) rfl rfl (by omega) rfl rfl hc ec rfl rfl w4 (fun c' hc' => ?_) (fun p c' hp1 ep hc' => ?_)
      · rw [upd_n (by omega), upd_n (by omega)]; exact hk c' hc'
      · have : c' ≠ c := fun z => hO.2 p r (by omega) (by omega) (by omega) (by rw [ep, ec, z])
        rw [upd_n (by omega)]
        exact hl p c' (by omega) ep hc'
    · rw [hx _ Z (ec0 _ w2), if_pos rfl, hm, w3]
      have hb143 : ∃ v7, fX9_pile_b143 (fX9_pile_L60 f2) σ (nI b) (nI s) (nI r) (nI c) (nI 21) = fX9_pile_L60 f2 σ (nI b) (-1000000) (nI c) v7 (nI r + (-1)) := by
        unfold fX9_pile_b143 fX9_pile_b171
        rw [if_neg (by decide)]
        simp only [bsm, a5, a11, rk5, rk11, m_highBy]
        exact ⟨_, rfl⟩
      obtain ⟨v7, hb143⟩ := hb143
      rw [hb143]
      obtain ⟨f1, rfl⟩ : ∃ f, f1 = f + 1 := ⟨f1 - 1, by omega⟩
      obtain ⟨f2, rfl⟩ : ∃ f, f2 = f + 1 := ⟨f2 - 1, by omega⟩
      exact ⟨-1000000, Z, x_pileEnd _ _, m_pileEnd _ _ _ _ (by decide) _, w4⟩
theorem s_pile (R : Rel o X σ) (x1 x2 : Int32) : Same o (fX0_pile X o x1 x2) (fX9_pile σ x1 x2) := by
  obtain ⟨t, g, h, h2, R⟩ := R
  obtain ⟨n, hS, ht⟩ := R.min
  have hn := hS.1.1
  have sz := R.sz
  unfold fX0_pile fX9_pile
  simp only [R.ck0, bsm]
  rcases R.isMin hS ht with ⟨e1, e2⟩ | ⟨h1, e1, e04⟩
  · have em : fX9_lacksOrder σ x1 x2 = some (-1000002, σ) := by
      unfold fX9_lacksOrder
      rw [e2, if_pos rfl]
    simp only [e1, em, bsm, if_true]
    rw [if_neg (by decide)]
    exact Same.mk rfl rfl R.rel
  simp only [e1, bsm, one0, if_false]
  rcases rowD x1 with ⟨r1, r2⟩ | ⟨k, hk, rfl, r1, r2⟩
  · have em : fX9_lacksOrder σ x1 x2 = some (-1000001, σ) := by
      unfold fX9_lacksOrder fX9_lacksOrder_b34
      rw [e04, if_neg (by decide), r2, bsm, if_pos rfl]
      exact m_ordFail hS.1 _ _ _ (by decide) 1999 _
    simp only [r1, em, bsm, if_true]
    rw [if_neg (by decide)]
    exact Same.mk rfl rfl R.rel
  simp only [r1, bsm, one0, if_false, R.ck0]
  rcases p_order R hS h1 e04 (show k < 8 by omega) r2 x2 with ⟨v, y, Y, Z, σ1, o1, o2, o3, z1, z2, z3, z4⟩ | ⟨i, Y, f, rfl, hib, o1, o2, hq, hf, hO, G⟩
  · simp only [o1, o2, bsm, z1, z2, z3]
    rw [if_neg o3]
    exact Same.mk rfl rfl z4
  · have R1 := R.new G
    have S1 : Sv Y (o + 3) n (σ 4) := hS.ag G R.w (fun _ _ _ z => z)
    obtain ⟨Z, ez, GZ, SZ⟩ := x_tried R1 S1 R1.bt
    obtain ⟨a, ha, ea⟩ := hO.1 (n - 1) (by omega)
    have T : XT o Y Z n (σ 4) := ⟨GZ, SZ.Mn, SZ.1⟩
    have hqZ : Z.2.2 X.1 = some (.inr (.inl (0, n, f))) := GZ.at R1.w hq (fun z => by unfold blk at z; omega)
    have ix : nI (40 * k + i) + nI n - 1 = nI (40 * k + i + (n - 1)) := by
      rw [nI_add, show (1 : Int32) = nI 1 from rfl, pk_sub (by omega), show 40 * k + i + n - 1 = 40 * k + i + (n - 1) by omega]
    have er : rd (σ 3) 320 (nI (40 * k + i) + nI n - 1) = some (nI a) := by
      rw [ix, rd_nI (by omega) (by omega), ← hf (n - 1) (by omega), ea]
    have i0 : nI n - 2 = nI (n - 1) - 1 := by
      rcases (show n = 1 ∨ n = 2 ∨ n = 3 ∨ n = 4 ∨ n = 5 ∨ n = 6 by omega) with rfl | rfl | rfl | rfl | rfl | rfl <;> decide
    obtain ⟨r, V, q1, q2, B⟩ := pileL R1 hS.1 (q := X.1) (b := 40 * k + i) hq (by omega) (by omega) hf hO (n - 1) 2000 2000 0 a (nI n - 2) (nI n - 2) 0 0 (nI a) (hi (σ 4) a) Z (σ 4) (by omega) (by omega) (by omega) i0 i0 (by omega) rfl rfl ha ea rfl rfl T (fun _ _ => ⟨rfl, rfl⟩) (fun _ _ _ _ _ => rfl)
    obtain ⟨W, w1, w2, w3, -⟩ := (B.r R1).well r
    have ed : fX0_pileOf Y o X.1 = some (r, V) := by
      unfold fX0_pileOf
      rw [R1.ck0, bsm, ez, bsm]
      simp only [gL_of hqZ, bsm]
      exact q1
    simp only [o1, o2, bsm, R1.ck0, ed, (B.r R1).ck0, w1, ix40, hS.rd2, er, m_high σ (show a < 6 by omega)]
    rw [if_pos (by decide)]
    exact Same.mk rfl q2 w3.rel
end PI
