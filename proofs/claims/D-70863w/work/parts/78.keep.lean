/-! acts: what is kept -/
theorem Sv.cg {X : AH} {p n : Nat} {μ ν : Nat → Int32} (h : Sv X p n μ) (e : ∀ j, j < 41 → μ j = ν j) : Sv X p n ν := by
  obtain ⟨hg, la, tk, hM, hL⟩ := h
  refine ⟨⟨hg.1, by rw [← e 2 (by omega)]; exact hg.2.1, fun c hc => ?_, by rw [← e 4 (by omega)]; exact hg.2.2.2.1, by rw [← e 1 (by omega)]; exact hg.2.2.2.2⟩, la, tk, hM.cg fun j h1 _ _ => e j h1, hL.cg fun i hi => e _ (by have := hg.1; omega)⟩
  have := hg.2.2.1 c hc
  rw [← e (11 + c) (by omega), ← e (17 + c) (by omega), ← e (23 + c) (by omega), ← e (29 + c) (by omega)]; exact this
section BS
variable {g h h2 : Nat → Option Nat} {t k : Nat}
theorem bse_g (hk : k < 8) : bse g h h2 t k = g k := by unfold bse; rw [if_pos hk]
theorem bse_h (hk : k < 24) : bse g h h2 t (8 + k) = h k := by unfold bse; rw [if_neg (by omega), if_pos (by omega), show 8 + k - 8 = k by omega]
theorem bse_2 (hk : k < 2) : bse g h h2 t (32 + k) = h2 k := by unfold bse; rw [if_neg (by omega), if_neg (by omega), if_pos (by omega), show 32 + k - 32 = k by omega]
theorem bse_t : bse g h h2 t 34 = some t := rfl
theorem bse_x (hk : 34 < k) : bse g h h2 t k = none := by unfold bse; rw [if_neg (by omega), if_neg (by omega), if_neg (by omega), if_neg (by omega)]
theorem lenB_g (hk : k < 8) : lenB k = 2 := by unfold lenB; rw [if_pos (by omega)]
theorem lenB_h (h1 : 8 ≤ k) (h2 : k < 34) : lenB k = 8 := by unfold lenB; rw [if_neg (by omega)]
theorem lenB_t : lenB 34 = 2 := rfl
end BS
section KP
variable {o t n : Nat} {g h h2 : Nat → Option Nat} {X Y : AH} {σ σ' : MS}
/-- one kept ministry alone is touched -/
theorem Rl.touch (R : Rl o t g h h2 X σ) {i p : Nat} (hi : 8 ≤ i) (hi2 : i < 34) (hW : bse g h h2 t i = some p) (hp : o + 29 ≤ p) (G : AgX (blk p) X Y) :
    (pObj o t Y σ ∧ pRows o g Y σ ∧ pTape o Y σ ∧ pMin o Y σ ∧ Shp Y (o + 11) ∧ pTrl o t Y σ ∧ pTkn o Y ∧ pEmp o Y) ∧ Y.2.2 (o + 19) = X.2.2 (o + 19) ∧ Y.2.2 (o + 20) = X.2.2 (o + 20) ∧ (∀ k q, k < 24 → 8 + k ≠ i → h k = some q → ∀ a, q ≤ a → a < q + 8 → ¬ blk p a) ∧ (∀ k q, k < 2 → 32 + k ≠ i → h2 k = some q → ∀ a, q ≤ a → a < q + 8 → ¬ blk p a) := by
  have n : ∀ a, a < o + 29 → ¬ blk p a := fun a h z => by unfold blk at z; omega
  have li := lenB_h hi hi2
  have sz := R.sz
  refine ⟨⟨G.at R.w R.obj (n _ (by omega)), ⟨G.at R.w R.rows.1 (n _ (by omega)), fun k hk => (R.rows.2 k hk).ag G R.w fun r e => ?_⟩, R.tape.ag G R.w (n _ (by omega)), R.min.ag G R.w (fun a _ _ => n a (by omega)), R.tri.ag G R.w (fun a _ _ => n a (by omega)), ?_, R.tkn.ag G, R.emp.ag G⟩, G.2.2.1 _ (by omega) (n _ (by omega)), G.2.2.1 _ (by omega) (n _ (by omega)), fun k q hk hki e a a1 a2 z => ?_, fun k q hk hki e a a1 a2 z => ?_⟩
  · have := R.dsj k i r p (by omega) (by rw [bse_g hk]; exact e) hW
    rw [lenB_g hk, li] at this
    constructor <;> intro z <;> unfold blk at z <;> omega
  · have := R.dsj 34 i t p (by omega) bse_t hW
    rw [lenB_t, li] at this
    refine R.trl.ag G R.w ?_ ?_ <;> intro z <;> unfold blk at z <;> omega
  · have := R.dsj (8 + k) i q p hki (by rw [bse_h hk]; exact e) hW
    rw [lenB_h (by omega) (by omega), li] at this
    unfold blk at z; omega
  · have := R.dsj (32 + k) i q p hki (by rw [bse_2 hk]; exact e) hW
    rw [lenB_h (by omega) (by omega), li] at this
    unfold blk at z; omega
theorem p_b90 (R : Rl o t g h h2 X σ) {a p : Nat} (ha : a < 24) (h19 : σ 0 19 = nI a) (hp : h a = some p) (hS : Sv X (o + 3) n (σ 4)) (h1 : 1 ≤ n) (h04 : σ 0 4 = 1) (hgl : ¬ σ 4 1 ≤ 0) : ∃ Y σ', fX0_keep_b90 X o = some Y ∧ fX9_note_L51 2000 σ 0 = some σ' ∧ Rl o t g h h2 Y σ' ∧ Sv Y (o + 3) n (σ' 4) ∧ σ' 4 = σ 4 ∧ σ' 0 4 = 1 := by
  obtain ⟨a', k1, k2, k3, k4, k5, k6⟩ := R.past
  have ea : a' = a := (nI_eq (by omega) (by omega)).mp (k2.symm.trans h19)
  subst ea
  obtain ⟨hp29, la', μ', tf', tk', hT⟩ := k6 a' p ha hp
  obtain ⟨hg, la, tk, hM, hL⟩ := hS
  obtain ⟨Y, e, m, G⟩ := x_become R.w hT hM (by omega)
  obtain ⟨⟨q1, q2, q3, q4, q5, q6, q7, q8⟩, c19, c20, d1, d2⟩ := R.touch (i := 8 + a') (by omega) (by omega) (by rw [bse_h ha]; exact hp) hp29 G
  obtain ⟨σ1, em, n1, n2, n3⟩ := m_note51 σ ha h19 41 0 2000 0 σ (by omega) (by omega) rfl (fun _ _ => rfl) (fun q hq => by omega) (fun _ _ => rfl)
  have z0 := n1 0 (by omega)
  have z4 := n1 4 (by omega)
  have sN : Sv Y p n (slc (σ1 9) (41 * a')) := Sv.cg (μ := σ 4) ⟨hg, la, tk', m, hL.ag G⟩ (fun j hj => by
    show σ 4 j = σ1 9 (41 * a' + j)
    rw [n2 j hj, Nat.zero_add])
  have oth : ∀ k j, k < 24 → k ≠ a' → j < 41 → slc (σ 9) (41 * k) j = slc (σ1 9) (41 * k) j := fun k j hk hka hj => by
    show σ 9 (41 * k + j) = σ1 9 (41 * k + j)
    rw [n3 _ (by omega)]
  have shp' : ∀ k q, k < 24 → h k = some q → o + 29 ≤ q ∧ Shp Y q := fun k q hk e => by
    by_cases z : k = a'
    · subst z
      cases hp.symm.trans e
      exact ⟨hp29, sN.shp⟩
    · obtain ⟨w1, w2⟩ := k6 k q hk e
      exact ⟨w1, w2.ag G R.w (d1 k q hk (by omega) e)⟩
  have old : ∀ k, k < a' → ∃ q m, h k = some q ∧ Sv Y q m (slc (σ1 9) (41 * k)) ∧ 1 ≤ m ∧ ¬ slc (σ1 9) (41 * k) 1 ≤ 0 := fun k hk => by
    obtain ⟨q, m, e, w1, w2, w3⟩ := k5 k hk
    refine ⟨q, m, e, (w1.ag G R.w (d1 k q (by omega) (by omega) e)).cg (fun j hj => oth k j (by omega) (by omega) hj), w2, ?_⟩
    rw [← oth k 1 (by omega) (by omega) (by omega)]; exact w3
  have R1 : Rl o t g h h2 Y σ1 := by
    refine ⟨G.w, Nat.le_trans R.sz G.2.1, ?_, ?_, ?_, ?_, q5, ⟨a', c19.trans k1, by rw [z0]; exact k2, k3, fun hh => by rw [z0]; exact k4 hh, old, shp'⟩, ⟨c20.trans R.img.1, fun k hk => ?_⟩, ?_, q7, q8, R.dsj⟩
    · unfold pObj crF at q1 ⊢; rw [z0]; exact q1
    · unfold pRows pRow at q2 ⊢; rw [n1 1 (by omega), n1 2 (by omega), n1 3 (by omega)]; exact q2
    · unfold pTape at q3 ⊢; rw [z0, n1 6 (by omega)]; exact q3
    · unfold pMin at q4 ⊢; rw [z0, z4]; exact q4
    · rw [n1 11 (by omega), n1 12 (by omega), z0]
      rcases R.img.2 k hk with w | ⟨q, m, e, w1, w2, w3, w4, w5⟩
      · exact Or.inl w
      · exact Or.inr ⟨q, m, e, w1, w2, w3, w4.ag G R.w (d2 k q hk (by omega) e), w5⟩
    · unfold pTrl at q6 ⊢; rw [z0, n1 13 (by omega)]; exact q6
  have u : ∀ x j, j ≠ 19 → up2 σ1 0 19 x 0 j = σ1 0 j := fun x j hj => by rw [up2_s, upd_n hj]
  have uk : ∀ x k, k ≠ 0 → up2 σ1 0 19 x k = σ1 k := fun x k hk => up2_n hk
  have v19 : σ1 0 19 = nI a' := by rw [z0]; exact h19
  obtain ⟨R2, G2⟩ := R1.fld (σ' := up2 σ1 0 19 (nI a' + 1)) (fs := (crF o σ1 t).set 7 (.int (nI a' + 1))) (by
      show _ = crF o (up2 σ1 0 19 (nI a' + 1)) t
      unfold crF
      rw [u _ 8 (by omega), u _ 9 (by omega), u _ 3 (by omega), up2_s, upd_s]; rfl) (uk _) (u _ 4 (by omega)) (u _ 24 (by omega)) (by
      have q := R1.tape
      unfold pTape at q ⊢; rw [u _ 8 (by omega), uk _ 6 (by omega)]; exact q) (by
      obtain ⟨a2, r1, r2, r3, r4, r5, r6⟩ := R1.past
      refine ⟨a' + 1, r1, by rw [up2_s, upd_s, nI_1], by omega, fun _ => by rw [u _ 4 (by omega), z0]; exact h04, fun k hk => ?_, r6⟩
      rw [uk _ 9 (by omega)]
      by_cases z : k = a'
      · subst z
        refine ⟨p, n, hp, sN, h1, ?_⟩
        show ¬ σ1 9 (41 * k + 1) ≤ 0
        rw [n2 1 (by omega)]; exact hgl
      · exact old k (by omega))
  refine ⟨_, _, ?_, by rw [em, v19], R2, ?_, by rw [uk _ 4 (by omega)]; exact z4, by rw [u _ 4 (by omega), z0]; exact h04⟩
  · unfold fX0_keep_b90
    simp only [R.r6, R.i7, h19, gQn_of k1 ha (by omega) hp, R.r4, ck_of hT.1, e, Option.bind_some, R1.i7, v19, pF_of R1.obj (k := 7) (v := .int (nI a' + 1)) (Nat.le_of_ble_eq_true rfl)]
  · rw [uk _ 4 (by omega), z4]
    have sY : Sv Y (o + 3) n (σ 4) := Sv.ag ⟨hg, la, tk, hM, hL⟩ G R.w (fun a a1 a2 z => by unfold blk at z; omega)
    exact sY.ag G2 G.w (fun a a1 a2 z => by have z : a = o := z; omega)
theorem Dsj.new {W W' : Nat → Option Nat} {i p : Nat} (H : Dsj W) (hb : ∀ j a, W j = some a → a + lenB j ≤ p) (hi : W' i = some p) (ho : ∀ j, j ≠ i → W' j = W j) : Dsj W' := by
  intro x y a b hxy hx hy
  by_cases e1 : x = i
  · subst e1
    cases hi.symm.trans hx
    rw [ho y (by omega)] at hy
    exact Or.inr (hb y b hy)
  · rw [ho x e1] at hx
    by_cases e2 : y = i
    · subst e2
      cases hi.symm.trans hy
      exact Or.inl (hb x a hx)
    · rw [ho y e2] at hy
      exact H x y a b hxy hx hy
/-- all that is held lies below the next address -/
theorem Rl.below (R : Rl o t g h h2 X σ) : ∀ j a, bse g h h2 t j = some a → a + lenB j ≤ X.1 := by
  intro j a e
  by_cases c1 : j < 8
  · rw [bse_g c1] at e
    rw [lenB_g c1]
    rcases R.rows.2 j c1 with ⟨w, -⟩ | ⟨r, len, f, w, w1, w2, w3, w4, w5, w6⟩
    · rw [w] at e; cases e
    · cases w.symm.trans e
      have := R.w.lt w5
      omega
  · by_cases c2 : j < 32
    · obtain ⟨k, rfl⟩ : ∃ k, j = 8 + k := ⟨j - 8, by omega⟩
      rw [bse_h (by omega)] at e
      rw [lenB_h (by omega) (by omega)]
      obtain ⟨a', k1, k2, k3, k4, k5, k6⟩ := R.past
      exact (k6 k a (by omega) e).2.lt R.w
    · by_cases c3 : j < 34
      · obtain ⟨k, rfl⟩ : ∃ k, j = 32 + k := ⟨j - 32, by omega⟩
        rw [bse_2 (by omega)] at e
        rw [lenB_h (by omega) (by omega)]
        rcases R.img.2 k (by omega) with ⟨w, -⟩ | ⟨q, m, w, w1, w2, w3, w4, w5⟩
        · rw [w] at e; cases e
        · cases w.symm.trans e
          exact w4.shp.lt R.w
      · by_cases c4 : j = 34
        · subst c4
          rw [bse_t] at e
          cases e
          obtain ⟨f, q, w1, w2, w3, -⟩ := R.trl
          have := R.w.lt w3
          rw [lenB_t]; omega
        · rw [bse_x (by omega)] at e; cases e
/-- the array of what is kept is written -/
theorem Rl.parr (R : Rl o t g h h2 X σ) {h' : Nat → Option Nat} (G : AgX (fun a => a = o + 19) X Y) (hd : Dsj (bse g h' h2 t)) (hp : pPast o h' Y σ) : Rl o t g h' h2 Y σ := by
  have n : ∀ a, a ≠ o + 19 → ¬ (fun a => a = o + 19) a := fun a h z => h z
  have ht := R.trl.dj
  exact ⟨G.w, Nat.le_trans R.sz G.2.1, G.at R.w R.obj (n _ (by omega)), R.rows.ag G R.w (n _ (by omega)) (fun a _ => n a (by omega)), R.tape.ag G R.w (n _ (by omega)), R.min.ag G R.w (fun a _ _ => n a (by omega)), R.tri.ag G R.w (fun a _ _ => n a (by omega)), hp, R.img.ag G R.w (n _ (by omega)) (fun a _ => n a (by omega)), R.trl.ag G R.w (n _ (by omega)) (n _ (by omega)), R.tkn.ag G, R.emp.ag G, hd⟩
theorem p_b62 (R : Rl o t g h h2 X σ) {a : Nat} (ha : a < 24) (h19 : σ 0 19 = nI a) (hS : Sv X (o + 3) n (σ 4)) (h1 : 1 ≤ n) (h04 : σ 0 4 = 1) (hgl : ¬ σ 4 1 ≤ 0) : ∃ Y σ' h', fX0_keep_b62 X o = some Y ∧ fX9_note_L51 2000 σ 0 = some σ' ∧ Rl o t g h' h2 Y σ' ∧ Sv Y (o + 3) n (σ' 4) ∧ σ' 4 = σ 4 ∧ σ' 0 4 = 1 := by
  obtain ⟨a', k1, k2, k3, k4, k5, k6⟩ := R.past
  have ea : a' = a := (nI_eq (by omega) (by omega)).mp (k2.symm.trans h19)
  subst ea
  cases hh : h a' with
  | some p =>
    obtain ⟨Y, σ', e1, e2, R2, S2, z⟩ := p_b90 R ha h19 hh hS h1 h04 hgl
    refine ⟨Y, σ', h, ?_, e2, R2, S2, z⟩
    unfold fX0_keep_b62
    simp only [R.r6, R.i7, h19, gQ_of k1 ha (by omega), Option.bind_some, hh]
    exact e1
  | none =>
    obtain ⟨Y1, i1, m1, l1, s1, G1⟩ := x_newMin R.w
    have R1 := R.new G1
    have c1 : Y1.2.2 (o + 19) = some (.inr (.inr (3, 24, h))) := R1.past.choose_spec.1
    have sz := R.sz
    have G2 : AgX (fun a => a = o + 19) Y1 (xup Y1 (o + 19) (.inr (.inr (3, 24, va_up h a' (some X.1))))) := AgX.up G1.w c1 (ni_q (by omega)) rfl
    have ht := R.trl.dj
    have vs : ∀ k, va_up h a' (some X.1) k = if k = a' then some X.1 else h k := fun k => rfl
    have R2 : Rl o t g (va_up h a' (some X.1)) h2 (xup Y1 (o + 19) (.inr (.inr (3, 24, va_up h a' (some X.1))))) σ := by
      refine R1.parr G2 ?_ ⟨a', xup_s, h19, k3, k4, fun k hk => ?_, fun k q hk e => ?_⟩
      · refine Dsj.new (i := 8 + a') (p := X.1) R.dsj R.below (by rw [bse_h ha, vs, if_pos rfl]) (fun j hj => ?_)
        by_cases c1 : j < 8
        · rw [bse_g c1, bse_g c1]
        · by_cases c2 : j < 32
          · obtain ⟨k, rfl⟩ : ∃ k, j = 8 + k := ⟨j - 8, by omega⟩
            rw [bse_h (by omega), bse_h (by omega), vs, if_neg (by omega)]
          · unfold bse
            rw [if_neg c1, if_neg c1, if_neg c2, if_neg c2]
      · obtain ⟨a2, w1, w2, w3, w4, w5, w6⟩ := R1.past
        have ea2 : a2 = a' := (nI_eq (by omega) (by omega)).mp (w2.symm.trans h19)
        subst ea2
        obtain ⟨q, m, e, v1, v2⟩ := w5 k hk
        have := (w6 k q (by omega) e).1
        refine ⟨q, m, by rw [vs, if_neg (by omega)]; exact e, v1.ag G2 G1.w (fun a b1 b2 z => by have z : a = o + 19 := z; omega), v2⟩
      · rw [vs] at e
        by_cases z : k = a'
        · rw [if_pos z] at e
          cases e
          exact ⟨by omega, Shp.ag (⟨_, _, _, _, m1⟩ : Shp Y1 X.1) G2 G1.w (fun a b1 b2 z => by have z : a = o + 19 := z; omega)⟩
        · rw [if_neg z] at e
          obtain ⟨v1, v2⟩ := R1.past.choose_spec.2.2.2.2.2 k q hk e
          exact ⟨v1, v2.ag G2 G1.w (fun a b1 b2 z => by have z : a = o + 19 := z; omega)⟩
    have S2 : Sv (xup Y1 (o + 19) (.inr (.inr (3, 24, va_up h a' (some X.1))))) (o + 3) n (σ 4) := (hS.ag G1 R.w (fun _ _ _ z => z)).ag G2 G1.w (fun a b1 b2 z => by have z : a = o + 19 := z; omega)
    obtain ⟨Y, σ', e1, e2, R3, S3, z⟩ := p_b90 R2 ha h19 (p := X.1) (by rw [vs, if_pos rfl]) S2 h1 h04 hgl
    refine ⟨Y, σ', _, ?_, e2, R3, S3, z⟩
    unfold fX0_keep_b62
    simp only [R.r6, R.i7, h19, gQ_of k1 ha (by omega), Option.bind_some, hh, i1, ck_of m1.1, pQ_of c1 ha (by omega)]
    exact e1
end KP
