/-! undo, image, restore, feed -/
section UN
variable {o t n : Nat} {g h h2 : Nat → Option Nat} {X Y : AH} {σ σ' : MS}
/-- the object and the ministry are written -/
theorem Rl.objM (R : Rl o t g h h2 X σ) (G : AgX (fun a => a = o ∨ blk (o + 3) a) X Y) (ho : pObj o t Y σ') (hm : pMin o Y σ') (hp : pPast o h Y σ') (e : ∀ k, k ≠ 0 → k ≠ 4 → σ' k = σ k) (e4 : σ' 0 4 = σ 0 4) (e8 : σ' 0 8 = σ 0 8) (e24 : σ' 0 24 = σ 0 24) : Rl o t g h h2 Y σ' := by
  have nn : ∀ a, a < o ∨ (o < a ∧ a < o + 3) ∨ o + 11 ≤ a → ¬ (fun a => a = o ∨ blk (o + 3) a) a := fun a h z => by
    rcases z with z | z
    · omega
    · unfold blk at z; omega
  have ht := R.trl.dj
  have q1 := R.rows.ag G R.w (nn _ (by omega)) (fun a _ => nn a (by omega))
  have q2 := R.tape.ag G R.w (nn _ (by omega))
  have q4 := R.img.ag G R.w (nn _ (by omega)) (fun a _ => nn a (by omega))
  have q5 := R.trl.ag G R.w (nn _ (by omega)) (nn _ (by omega))
  refine ⟨G.w, Nat.le_trans R.sz G.2.1, ho, ?_, ?_, hm, R.tri.ag G R.w (fun a _ _ => nn a (by omega)), hp, ?_, ?_, R.tkn.ag G, R.emp.ag G, R.dsj⟩
  · unfold pRows pRow at q1 ⊢; rw [e 1 (by omega) (by omega), e 2 (by omega) (by omega), e 3 (by omega) (by omega)]; exact q1
  · unfold pTape at q2 ⊢; rw [e8, e 6 (by omega) (by omega)]; exact q2
  · unfold pImg at q4 ⊢; rw [e4, e 11 (by omega) (by omega), e 12 (by omega) (by omega)]; exact q4
  · unfold pTrl at q5 ⊢; rw [e24, e 13 (by omega) (by omega)]; exact q5
/-- the ministry becomes a kept one; acts may change -/
theorem p_back (R : Rl o t g h h2 X σ) {p a : Nat} {ν : Nat → Int32} (hp : o + 29 ≤ p) (hS : Sv X p n ν) (h1 : 1 ≤ n) (hgl : ¬ ν 1 ≤ 0) (h04 : σ 0 4 = 1) (e4 : ∀ j, j < 41 → ν j = σ' 4 j) (e : ∀ k, k ≠ 0 → k ≠ 4 → σ' k = σ k) (e0 : ∀ j, j ≠ 19 → σ' 0 j = σ 0 j) (e19 : σ' 0 19 = nI a) (ha : ∀ b, σ 0 19 = nI b → a ≤ b) :
    ∃ Y, fX1_become X (o + 3) p = some (o + 3, Y) ∧ Sv Y (o + 3) n (σ' 4) ∧ AgX (blk (o + 3)) X Y ∧ Y.2.2 o = some (.inl (0, crF o σ t)) ∧ (∀ Z, AgX (fun a => a = o) Y Z → pObj o t Z σ' → Rl o t g h h2 Z σ') := by
  obtain ⟨m0, hS0, ht0⟩ := R.min
  obtain ⟨_, la0, tk0, hM0, _⟩ := hS0
  obtain ⟨hg, la, tk, hM, hL⟩ := hS
  obtain ⟨Y, ex, m, G⟩ := x_become R.w hM0 hM (by omega)
  have S1 : Sv Y (o + 3) n (σ' 4) := Sv.cg (μ := ν) ⟨hg, la, tk0, m, hL.ag G⟩ e4
  have nb : ∀ a, a < o + 3 ∨ o + 11 ≤ a → ¬ blk (o + 3) a := fun a h z => by unfold blk at z; omega
  refine ⟨Y, ex, S1, G, G.at R.w R.obj (nb _ (by omega)), fun Z G2 hO => ?_⟩
  have G3 : AgX (fun a => a = o ∨ blk (o + 3) a) X Z := (G.mono fun a h => Or.inr h).tr (G2.mono fun a h => Or.inl h)
  have nn : ∀ a, a < o ∨ (o < a ∧ a < o + 3) ∨ o + 11 ≤ a → ¬ (fun a => a = o ∨ blk (o + 3) a) a := fun a h z => by
    rcases z with z | z
    · omega
    · unfold blk at z; omega
  have S2 : Sv Z (o + 3) n (σ' 4) := S1.ag G2 G.w (fun a a1 a2 z => by have z : a = o := z; omega)
  refine R.objM G3 hO ⟨n, S2, Or.inr ⟨by rw [e0 4 (by omega)]; exact h04, h1, by rw [← e4 1 (by omega)]; exact hgl⟩⟩ ?_ e (e0 4 (by omega)) (e0 8 (by omega)) (e0 24 (by omega))
  obtain ⟨b, k1, k2, k3, k4, k5, k6⟩ := R.past.ag G3 R.w (nn _ (by omega)) (fun a _ => nn a (by omega))
  have hab := ha b k2
  refine ⟨a, k1, e19, by omega, fun _ => by rw [e0 4 (by omega)]; exact h04, fun k hk => ?_, k6⟩
  rw [e 9 (by omega) (by omega)]
  exact k5 k (by omega)
theorem s_undo (R : Rel o X σ) : Same o (fX0_undo X o) (fX9_undo σ) := by
  obtain ⟨t, g, h, h2, R⟩ := R
  obtain ⟨a, k1, k2, k3, k4, k5, k6⟩ := R.past
  unfold fX0_undo fX9_undo
  simp only [R.i7, Option.bind_some]
  by_cases q : σ 0 19 = 0
  · rw [if_pos q, if_pos q]; exact Same.mk rfl rfl R.rel
  rw [if_neg q, if_neg q]
  have a0 : a ≠ 0 := fun z => q (by rw [k2, z]; rfl)
  have es : σ 0 19 - 1 = nI (a - 1) := by rw [k2]; exact pk_sub (b := 1) (by omega)
  obtain ⟨p, n, hp, hS, h1, hgl⟩ := k5 (a - 1) (by omega)
  have hp29 := (k6 (a - 1) p (by omega) hp).1
  -- the model
  have u : ∀ j, j ≠ 19 → up2 σ 0 19 (nI (a - 1)) 0 j = σ 0 j := fun j hj => by rw [up2_s, upd_n hj]
  obtain ⟨σ1, em, n1, n2, n3⟩ := m_undo22 (up2 σ 0 19 (nI (a - 1))) (a := a - 1) (by omega) (by rw [up2_s, upd_s]) 41 0 2000 0 (up2 σ 0 19 (nI (a - 1))) (by omega) (by omega) rfl (fun _ _ => rfl) (fun q hq => by omega) (fun _ _ => rfl)
  have z0 : ∀ j, j ≠ 19 → σ1 0 j = σ 0 j := fun j hj => by rw [n1 0 (by omega)]; exact u j hj
  have z19 : σ1 0 19 = nI (a - 1) := by rw [n1 0 (by omega), up2_s, upd_s]
  have zk : ∀ k, k ≠ 0 → k ≠ 4 → σ1 k = σ k := fun k hk h4 => by rw [n1 k h4, up2_n hk]
  -- the object first
  have G1 : AgX (fun a => a = o) X (xup X o (.inl (0, crF o (up2 σ 0 19 (nI (a - 1))) t))) := AgX.up R.w R.obj (ni_o (by omega)) rfl
  have eF : pF X o 0 7 (.int (nI (a - 1))) = some (xup X o (.inl (0, crF o (up2 σ 0 19 (nI (a - 1))) t))) := by
    refine pF_o R.obj (Nat.le_of_ble_eq_true rfl) ?_
    show _ = crF o (up2 σ 0 19 (nI (a - 1))) t
    unfold crF
    rw [u 8 (by omega), u 9 (by omega), u 3 (by omega), up2_s, upd_s]; rfl
  obtain ⟨R1, -⟩ := R.fld (σ' := up2 σ 0 19 (nI (a - 1))) rfl (fun k hk => up2_n hk) (u 4 (by omega)) (u 24 (by omega)) (by
      have q := R.tape
      unfold pTape at q ⊢; rw [u 8 (by omega), up2_n (by omega)]; exact q) ⟨a - 1, k1, by rw [up2_s, upd_s], by omega, fun _ => by rw [u 4 (by omega)]; exact k4 (by omega), fun k hk => by rw [up2_n (by omega)]; exact k5 k (by omega), k6⟩
  have h04 : σ 0 4 = 1 := k4 (by omega)
  have hS1 : Sv (xup X o (.inl (0, crF o (up2 σ 0 19 (nI (a - 1))) t))) p n (slc (σ 9) (41 * (a - 1))) := hS.ag G1 R.w (fun b b1 b2 z => by have z : b = o := z; omega)
  obtain ⟨Y, ex, SY, GY, oY, fin⟩ := p_back R1 (σ' := σ1) (a := a - 1) hp29 hS1 h1 hgl (by rw [u 4 (by omega)]; exact h04) (fun j hj => by
      show σ 9 (41 * (a - 1) + j) = σ1 4 j
      have := n2 j hj
      rw [Nat.zero_add, up2_n (by omega)] at this
      exact this.symm) (fun k hk h4 => by rw [zk k hk h4, up2_n hk]) (fun j hj => by rw [z0 j hj, u j hj]) z19 (fun b hb => by
      rw [up2_s, upd_s] at hb
      by_cases hbb : b < 2 ^ 31
      · have := (nI_eq (by omega) hbb).mp hb
        omega
      · omega)
  have RY : Rl o t g h h2 Y σ1 := fin Y (AgX.rf GY.w) (by
    unfold pObj
    rw [oY]
    unfold crF
    rw [u 8 (by omega), u 9 (by omega), u 3 (by omega), up2_s, upd_s, z0 8 (by omega), z0 9 (by omega), z0 3 (by omega), z19])
  have c1 : (xup X o (.inl (0, crF o (up2 σ 0 19 (nI (a - 1))) t))).2.2 (o + 19) = some (.inr (.inr (3, 24, h))) := by rw [xup_n (by omega)]; exact k1
  obtain ⟨_, la0, tk0, hM0, _⟩ := R1.min.choose_spec.1
  have i7 : gI (xup X o (.inl (0, crF o (up2 σ 0 19 (nI (a - 1))) t))) o 0 7 = some (nI (a - 1)) := by rw [R1.i7, up2_s, upd_s]
  simp only [es, eF, Option.bind_some, R1.r4, R1.r6, i7, gQn_of c1 (show a - 1 < 24 by omega) (by omega) hp, ck_of hM0.1, ex, RY.i7, z19]
  refine Same.mk rfl ?_ RY.rel
  rw [em, z19]
/-! images -/
theorem s_restore (R : Rel o X σ) (x1 : Int32) : Same o (fX0_restore X o x1) (fX9_restore σ x1) := by
  obtain ⟨t, g, h, h2, R⟩ := R
  unfold fX0_restore fX9_restore
  simp only [isIn_eq]
  rcases inN x1 (a := 0) (b := 1) 0 1 rfl rfl (by decide) (by decide) with f1 | ⟨f1, k, k0, hk, rfl⟩
  · simp only [f1, Option.bind_some, if_true]
    exact Same.mk rfl rfl R.rel
  have r11 : rd (σ 11) 2 (nI k) = some (σ 11 k) := rd_nI (by omega) (by omega)
  simp only [f1, Option.bind_some, one0, if_false, R.r8, gQ_of R.img.1 (show k < 2 by omega) (by omega), r11]
  rcases R.img.2 k (by omega) with ⟨e1, e2⟩ | ⟨p, n, e1, e2, h04, hp29, hS, h1, hgl⟩
  · rw [e1, e2]
    exact Same.mk rfl rfl R.rel
  rw [e1, e2, if_neg (by decide)]
  obtain ⟨σ1, em, n1, n2, n3⟩ := m_restore27 σ (b := k) (by omega) 41 0 2000 0 σ (by omega) (by omega) rfl (fun _ _ => rfl) (fun q hq => by omega) (fun _ _ => rfl)
  have u : ∀ j, j ≠ 19 → up2 σ1 0 19 0 0 j = σ 0 j := fun j hj => by rw [up2_s, upd_n hj, n1 0 (by omega)]
  have u19 : up2 σ1 0 19 0 0 19 = nI 0 := by rw [up2_s, upd_s]; rfl
  have uk : ∀ k, k ≠ 0 → k ≠ 4 → up2 σ1 0 19 0 k = σ k := fun k hk h4 => by rw [up2_n hk, n1 k h4]
  obtain ⟨Y, ex, SY, GY, oY, fin⟩ := p_back R (σ' := up2 σ1 0 19 0) (a := 0) hp29 hS h1 hgl h04 (fun j hj => by
      show σ 12 (41 * k + j) = up2 σ1 0 19 0 4 j
      rw [up2_n (by omega)]
      have := n2 j hj
      rw [Nat.zero_add] at this
      exact this.symm) uk u u19 (fun b _ => Nat.zero_le _)
  obtain ⟨_, la0, tk0, hM0, _⟩ := R.min.choose_spec.1
  have eF : pF Y o 0 7 (.int 0) = some (xup Y o (.inl (0, crF o (up2 σ1 0 19 0) t))) := by
    refine pF_o oY (Nat.le_of_ble_eq_true rfl) ?_
    show _ = crF o (up2 σ1 0 19 0) t
    unfold crF
    rw [u 8 (by omega), u 9 (by omega), u 3 (by omega), u19]; rfl
  have RY : Rl o t g h h2 (xup Y o (.inl (0, crF o (up2 σ1 0 19 0) t))) (up2 σ1 0 19 0) := fin _ (AgX.up GY.w oY (ni_o (by omega)) rfl) xup_s
  simp only [R.r4, R.r8, gQn_of R.img.1 (show k < 2 by omega) (by omega) e1, ck_of hM0.1, ex, Option.bind_some, eF]
  exact Same.mk rfl em RY.rel
theorem p_img (R : Rl o t g h h2 X σ) {h2' : Nat → Option Nat} {k p : Nat} (hk : k < 2) (G : AgX (fun a => a = o + 20 ∨ blk p a) X Y) (c : Y.2.2 (o + 20) = some (.inr (.inr (3, 2, h2')))) (hp : h2' k = some p) (ho : ∀ j, j ≠ k → h2' j = h2 j) (hp29 : o + 29 ≤ p) (hS : Sv Y p n (slc (σ' 12) (41 * k))) (h1 : 1 ≤ n) (hgl : ¬ slc (σ' 12) (41 * k) 1 ≤ 0) (h04 : σ 0 4 = 1) (hd : Dsj (bse g h h2' t)) (ha : ∀ i a, i ≠ 32 + k → bse g h h2 t i = some a → a + lenB i ≤ p ∨ p + 8 ≤ a) (e : ∀ k, k ≠ 11 → k ≠ 12 → σ' k = σ k) (e11 : σ' 11 k = 1) (o11 : ∀ j, j ≠ k → σ' 11 j = σ 11 j) (o12 : ∀ j q, j < 2 → j ≠ k → q < 41 → σ' 12 (41 * j + q) = σ 12 (41 * j + q)) : Rl o t g h h2' Y σ' := by
  have nn : ∀ a, a ≠ o + 20 → a < o + 29 → ¬ (fun a => a = o + 20 ∨ blk p a) a := fun a h h' z => by
    rcases z with z | z
    · omega
    · unfold blk at z; omega
  have np : ∀ a, o + 29 ≤ a → (a < p ∨ p + 8 ≤ a) → ¬ (fun a => a = o + 20 ∨ blk p a) a := fun a h h' z => by
    rcases z with z | z
    · omega
    · unfold blk at z; omega
  have e0 := e 0 (by omega) (by omega)
  have q2 := R.tape.ag G R.w (nn _ (by omega) (by omega))
  have q3 := R.min.ag G R.w (fun a _ _ => nn a (by omega) (by omega))
  obtain ⟨b, k1, k2, k3, k4, k5, k6⟩ := R.past
  have pst : ∀ k q, k < 24 → h k = some q → ∀ a, q ≤ a → a < q + 8 → ¬ (fun a => a = o + 20 ∨ blk p a) a := fun k q hk e a a1 a2 => by
    have h29 := (k6 k q hk e).1
    have := ha (8 + k) q (by omega) (by rw [bse_h hk]; exact e)
    rw [lenB_h (by omega) (by omega)] at this
    exact np a (by omega) (by omega)
  refine ⟨G.w, Nat.le_trans R.sz G.2.1, ?_, ⟨G.at R.w R.rows.1 (nn _ (by omega) (by omega)), fun k hk => ?_⟩, ?_, ?_, R.tri.ag G R.w (fun a _ _ => nn a (by omega) (by omega)), ⟨b, G.at R.w k1 (nn _ (by omega) (by omega)), by rw [e0]; exact k2, k3, fun h => by rw [e0]; exact k4 h, fun k hk => ?_, fun k q hk e => ⟨(k6 k q hk e).1, (k6 k q hk e).2.ag G R.w (pst k q hk e)⟩⟩, ⟨c, fun j hj => ?_⟩, ?_, R.tkn.ag G, R.emp.ag G, hd⟩
  · have := G.at R.w R.obj (nn _ (by omega) (by omega))
    unfold pObj crF at *; rw [e0]; exact this
  · have q := (R.rows.2 k hk).ag G R.w (fun r er => by
      rcases R.rows.2 k hk with w | ⟨r', len, f, w, w1, w2, w3, -⟩
      · rw [w.1] at er; cases er
      · cases w.symm.trans er
        have := ha k r (by omega) (by rw [bse_g hk]; exact er)
        rw [lenB_g hk] at this
        exact ⟨np _ (by omega) (by omega), np _ (by omega) (by omega)⟩)
    unfold pRow at q ⊢; rw [e 1 (by omega) (by omega), e 2 (by omega) (by omega), e 3 (by omega) (by omega)]; exact q
  · unfold pTape at q2 ⊢; rw [e0, e 6 (by omega) (by omega)]; exact q2
  · unfold pMin at q3 ⊢; rw [e0, e 4 (by omega) (by omega)]; exact q3
  · obtain ⟨q, m, w, w1, w2⟩ := k5 k hk
    rw [e 9 (by omega) (by omega)]
    exact ⟨q, m, w, w1.ag G R.w (pst k q (by omega) w), w2⟩
  · rw [e0]
    by_cases z : j = k
    · subst z
      exact Or.inr ⟨p, n, hp, e11, h04, hp29, hS, h1, hgl⟩
    · rw [ho j z, o11 j z]
      rcases R.img.2 j hj with w | ⟨q, m, w, w1, w2, w3, w4, w5, w6⟩
      · exact Or.inl w
      · refine Or.inr ⟨q, m, w, w1, w2, w3, (w4.ag G R.w (fun a a1 a2 => ?_)).cg (fun i hi => (o12 j i hj z hi).symm), w5, ?_⟩
        · have := ha (32 + j) q (by omega) (by rw [bse_2 hj]; exact w)
          rw [lenB_h (by omega) (by omega)] at this
          exact np a (by omega) (by omega)
        · show ¬ σ' 12 (41 * j + 1) ≤ 0
          rw [o12 j 1 hj z (by omega)]; exact w6
  · have hdj := R.trl.dj
    have := ha 34 t (by omega) bse_t
    rw [lenB_t] at this
    have q := R.trl.ag G R.w (by
      rcases hdj with z | z
      · exact nn _ (by omega) (by omega)
      · exact np _ (by omega) (by omega)) (by
      rcases hdj with z | z
      · exact nn _ (by omega) (by omega)
      · exact np _ (by omega) (by omega))
    unfold pTrl at q ⊢; rw [e0, e 13 (by omega) (by omega)]; exact q
theorem s_image (R : Rel o X σ) (x1 : Int32) : Same o (fX0_image X o x1) (fX9_image σ x1) := by
  obtain ⟨t, g, h, h2, R⟩ := R
  obtain ⟨n, hS, ht⟩ := R.min
  unfold fX0_image fX9_image
  simp only [isIn_eq]
  rcases inN x1 (a := 0) (b := 1) 0 1 rfl rfl (by decide) (by decide) with f1 | ⟨f1, k, k0, hk, rfl⟩
  · simp only [f1, Option.bind_some, if_true]
    exact Same.mk rfl rfl R.rel
  simp only [f1, Option.bind_some, one0, if_false, R.ck0]
  rcases R.isMin hS ht with ⟨e1, e2⟩ | ⟨h1, e1, e2⟩
  · simp only [e1, e2, Option.bind_some, if_true]
    exact Same.mk rfl rfl R.rel
  have hgl : ¬ σ 4 1 ≤ 0 := by
    rcases ht with ⟨_, e, _⟩ | ⟨_, _, e3⟩
    · omega
    · exact e3
  simp only [e1, e2, Option.bind_some, one0, if_false, R.r8, gQ_of R.img.1 (show k < 2 by omega) (by omega)]
  -- the model
  obtain ⟨σ1, em, n1, n2, n3⟩ := m_image25 σ (b := k) (by omega) 41 0 2000 0 σ (by omega) (by omega) rfl (fun _ _ => rfl) (fun q hq => by omega) (fun _ _ => rfl)
  have ew : mwr σ1 11 2 (nI k) 1 = some (up2 σ1 11 k 1) := mwr_nI (by omega) (by omega)
  rw [em, ew, Option.bind_some]
  have f : ∀ q, q ≠ 11 → q ≠ 12 → up2 σ1 11 k 1 q = σ q := fun q q1 q2 => by rw [up2_n q1, n1 q q2]
  have f11 : up2 σ1 11 k 1 11 k = 1 := by rw [up2_s, upd_s]
  have g11 : ∀ j, j ≠ k → up2 σ1 11 k 1 11 j = σ 11 j := fun j hj => by rw [up2_s, upd_n hj, n1 11 (by omega)]
  have g12 : ∀ j q, j < 2 → j ≠ k → q < 41 → up2 σ1 11 k 1 12 (41 * j + q) = σ 12 (41 * j + q) := fun j q hj hjk hq => by rw [up2_n (by omega), n3 _ (by omega)]
  have sl : ∀ j, j < 41 → σ 4 j = slc (up2 σ1 11 k 1 12) (41 * k) j := fun j hj => by
    show σ 4 j = up2 σ1 11 k 1 12 (41 * k + j)
    rw [up2_n (by omega), n2 j hj, Nat.zero_add]
  have hgl' : ¬ slc (up2 σ1 11 k 1 12) (41 * k) 1 ≤ 0 := by rw [← sl 1 (by omega)]; exact hgl
  obtain ⟨hg, la, tk, hM, hL⟩ := hS
  rcases R.img.2 k (by omega) with ⟨c1, c2⟩ | ⟨p, n', c1, c2, -, hp29, hSp, -, -⟩
  · rw [c1]
    obtain ⟨Y1, i1, m1, l1, s1, G1⟩ := x_newMin R.w
    have sz := R.sz
    have cY : Y1.2.2 (o + 20) = some (.inr (.inr (3, 2, h2))) := G1.at R.w R.img.1 (fun z => z)
    have G2 : AgX (fun a => a = o + 20) Y1 (xup Y1 (o + 20) (.inr (.inr (3, 2, va_up h2 k (some X.1))))) := AgX.up G1.w cY (ni_q (by omega)) rfl
    have mA : MinAt (xup Y1 (o + 20) (.inr (.inr (3, 2, va_up h2 k (some X.1))))) X.1 (X.1 + 1) (fun _ => 0) NO .null := m1.ag G2 G1.w (fun a a1 a2 z => by have z : a = o + 20 := z; omega)
    have mM : MinAt (xup Y1 (o + 20) (.inr (.inr (3, 2, va_up h2 k (some X.1))))) (o + 3) la (σ 4) NO tk := (hM.ag G1 R.w (fun _ _ _ z => z)).ag G2 G1.w (fun a a1 a2 z => by have z : a = o + 20 := z; omega)
    obtain ⟨Y, ex, mY, G3⟩ := x_become G2.w mA mM (by omega)
    have oZ : (xup Y1 (o + 20) (.inr (.inr (3, 2, va_up h2 k (some X.1))))).2.2 o = some (.inl (0, crF o σ t)) := by rw [xup_n (by omega)]; exact G1.at R.w R.obj (fun z => z)
    have GG : AgX (fun a => a = o + 20 ∨ blk X.1 a) X Y := ((G1.mono fun a z => z.elim).tr (G2.mono fun a z => Or.inl z)).tr (G3.mono fun a z => Or.inr z)
    have cE : Y.2.2 (o + 20) = some (.inr (.inr (3, 2, va_up h2 k (some X.1)))) := G3.at G2.w xup_s (fun z => by unfold blk at z; omega)
    have RY : Rl o t g h (va_up h2 k (some X.1)) Y (up2 σ1 11 k 1) := by
      refine p_img R (by omega) GG cE (by show (if k = k then _ else _) = _; rw [if_pos rfl]) (fun j hj => by show (if j = k then _ else _) = _; rw [if_neg hj]) (by omega) (Sv.cg (μ := σ 4) ⟨hg, la, .null, mY, ((hL.ag G1).ag G2).ag G3⟩ sl) h1 hgl' e2 ?_ (fun i a _ hi => Or.inl (R.below i a hi)) f f11 g11 g12
      refine Dsj.new (i := 32 + k) (p := X.1) R.dsj R.below (by rw [bse_2 (by omega)]; show (if k = k then _ else _) = _; rw [if_pos rfl]) (fun j hj => ?_)
      unfold bse
      by_cases c1 : j < 8
      · rw [if_pos c1, if_pos c1]
      · rw [if_neg c1, if_neg c1]
        by_cases c2 : j < 32
        · rw [if_pos c2, if_pos c2]
        · rw [if_neg c2, if_neg c2]
          by_cases c3 : j < 34
          · rw [if_pos c3, if_pos c3]
            show (if j - 32 = k then _ else _) = _
            rw [if_neg (by omega)]
          · rw [if_neg c3, if_neg c3]
    simp only [i1, ck_of m1.1, pQ_of cY (show k < 2 by omega) (by omega), Option.bind_some, fX0_image_b45, gR_of oZ (k := 8) (v := o + 20) rfl, gQn_of (g := va_up h2 k (some X.1)) xup_s (show k < 2 by omega) (by omega) (v := X.1) (by show (if k = k then _ else _) = _; rw [if_pos rfl]), gR_of oZ (k := 4) (v := o + 3) rfl, ck_of mA.1, ex]
    exact Same.mk rfl rfl RY.rel
  · rw [c1]
    obtain ⟨la', μ', tf', tk', hT⟩ := hSp.shp
    obtain ⟨Y, ex, mY, G3⟩ := x_become R.w hT hM (by omega)
    have cE : Y.2.2 (o + 20) = some (.inr (.inr (3, 2, h2))) := G3.at R.w R.img.1 (fun z => by unfold blk at z; omega)
    have RY : Rl o t g h h2 Y (up2 σ1 11 k 1) := by
      refine p_img R (by omega) (G3.mono fun a z => Or.inr z) cE c1 (fun _ _ => rfl) hp29 (Sv.cg (μ := σ 4) ⟨hg, la, tk', mY, hL.ag G3⟩ sl) h1 hgl' e2 R.dsj (fun i a hi hia => ?_) f f11 g11 g12
      have := R.dsj i (32 + k) a p hi hia (by rw [bse_2 (by omega)]; exact c1)
      rw [lenB_h (k := 32 + k) (by omega) (by omega)] at this
      exact this
    simp only [Option.bind_some, fX0_image_b45, R.r8, gQn_of R.img.1 (show k < 2 by omega) (by omega) c1, R.r4, ck_of hT.1, ex]
    exact Same.mk rfl rfl RY.rel
/-! feed -/
theorem byte256 : ∀ v : Fin 256, (nI v.1).toInt8.toInt32 &&& 255 = nI v.1 := by decide +kernel
theorem s_feed (R : Rel o X σ) (x1 : Int32) : Same o (fX0_feed X o x1) (fX9_feed σ x1) := by
  obtain ⟨t, g, h, h2, R⟩ := R
  obtain ⟨f, b, c1, c2, c3, c4⟩ := R.tape
  unfold fX0_feed fX9_feed
  simp only [isIn_eq]
  rcases inN x1 (a := 0) (b := 255) 0 255 rfl rfl (by decide) (by decide) with f1 | ⟨f1, v, v0, hv, rfl⟩
  · simp only [f1, Option.bind_some, if_true]
    exact Same.mk rfl rfl R.rel
  simp only [f1, Option.bind_some, one0, if_false, R.i2]
  by_cases q : σ 0 8 = 120
  · rw [if_pos q, if_pos q]; exact Same.mk rfl rfl R.rel
  rw [if_neg q, if_neg q]
  have hb : b < 120 := by
    have : b ≠ 120 := fun z => q (by rw [c2, z]; rfl)
    omega
  let σ2 : MS := up2 (up2 σ 6 b (nI v)) 0 8 (nI (b + 1))
  have ew : mwr σ 6 120 (σ 0 8) (nI v) = some (up2 σ 6 b (nI v)) := by rw [c2]; exact mwr_nI (by omega) (by omega)
  have u : ∀ j, j ≠ 8 → σ2 0 j = σ 0 j := fun j hj => by show up2 (up2 σ 6 b (nI v)) 0 8 _ 0 j = _; rw [up2_s, upd_n hj, up2_n (by omega)]
  have u8 : σ2 0 8 = nI (b + 1) := by show up2 (up2 σ 6 b (nI v)) 0 8 _ 0 8 = _; rw [up2_s, upd_s]
  have uk : ∀ k, k ≠ 0 → k ≠ 6 → σ2 k = σ k := fun k hk h6 => by show up2 (up2 σ 6 b (nI v)) 0 8 _ k = _; rw [up2_n hk, up2_n h6]
  have u6 : σ2 6 = upd (σ 6) b (nI v) := by show up2 (up2 σ 6 b (nI v)) 0 8 _ 6 = _; rw [up2_n (by omega), up2_s]
  have G1 : AgX (fun a => a = o ∨ a = o + 2) X (xup X o (.inl (0, crF o σ2 t))) := AgX.up R.w R.obj (ni_o (by omega)) (Or.inl rfl)
  have eF : pF X o 0 2 (.int (nI (b + 1))) = some (xup X o (.inl (0, crF o σ2 t))) := by
    refine pF_o R.obj (Nat.le_of_ble_eq_true rfl) ?_
    show _ = crF o σ2 t
    unfold crF
    rw [u8, u 9 (by omega), u 19 (by omega), u 3 (by omega)]; rfl
  have t1 : (xup X o (.inl (0, crF o σ2 t))).2.2 (o + 2) = some (.inr (.inl (1, 120, f))) := by rw [xup_n (by omega)]; exact c1
  have G2 : AgX (fun a => a = o ∨ a = o + 2) (xup X o (.inl (0, crF o σ2 t))) (xup (xup X o (.inl (0, crF o σ2 t))) (o + 2) (.inr (.inl (1, 120, upd f b (vp_nar .byte (nI v).toInt8.toInt32))))) := AgX.up G1.w t1 ni_a (Or.inr rfl)
  have G := G1.tr G2
  have nn : ∀ a, a ≠ o → a ≠ o + 2 → ¬ (fun a => a = o ∨ a = o + 2) a := fun a h h' z => by rcases z with z | z <;> omega
  have ht := R.trl.dj
  have oE : (xup (xup X o (.inl (0, crF o σ2 t))) (o + 2) (.inr (.inl (1, 120, upd f b (vp_nar .byte (nI v).toInt8.toInt32))))).2.2 o = some (.inl (0, crF o σ2 t)) := by rw [xup_n (by omega)]; exact xup_s
  have q1 := R.rows.ag G R.w (nn _ (by omega) (by omega)) (fun a _ => nn a (by omega) (by omega))
  have q3 := R.min.ag G R.w (fun a _ _ => nn a (by omega) (by omega))
  have q4 := R.img.ag G R.w (nn _ (by omega) (by omega)) (fun a _ => nn a (by omega) (by omega))
  have q5 := R.trl.ag G R.w (nn _ (by omega) (by omega)) (nn _ (by omega) (by omega))
  have q6 := R.past.ag G R.w (nn _ (by omega) (by omega)) (fun a _ => nn a (by omega) (by omega))
  have RY : Rl o t g h h2 (xup (xup X o (.inl (0, crF o σ2 t))) (o + 2) (.inr (.inl (1, 120, upd f b (vp_nar .byte (nI v).toInt8.toInt32))))) σ2 := by
    refine ⟨G.w, Nat.le_trans R.sz G.2.1, oE, ?_, ⟨_, b + 1, xup_s, u8, by omega, fun j hj => ?_⟩, ?_, R.tri.ag G R.w (fun a _ _ => nn a (by omega) (by omega)), ?_, ?_, ?_, R.tkn.ag G, R.emp.ag G, R.dsj⟩
    · unfold pRows pRow at q1 ⊢; rw [uk 1 (by omega) (by omega), uk 2 (by omega) (by omega), uk 3 (by omega) (by omega)]; exact q1
    · rw [u6]
      by_cases z : j = b
      · subst z
        refine ⟨v, by omega, ?_, upd_s⟩
        rw [upd_s, pk_vb]
        exact byte256 ⟨v, by omega⟩
      · rw [upd_n z, upd_n z]
        exact c4 j (by omega)
    · unfold pMin at q3 ⊢; rw [u 4 (by omega), uk 4 (by omega) (by omega)]; exact q3
    · unfold pPast at q6 ⊢; rw [u 19 (by omega), u 4 (by omega), uk 9 (by omega) (by omega)]; exact q6
    · unfold pImg at q4 ⊢; rw [u 4 (by omega), uk 11 (by omega) (by omega), uk 12 (by omega) (by omega)]; exact q4
    · unfold pTrl at q5 ⊢; rw [u 24 (by omega), uk 13 (by omega) (by omega)]; exact q5
  have i2 : ∀ (s : MS), up2 σ 6 b (nI v) 0 8 = σ 0 8 := fun _ => by rw [up2_n (by omega)]
  simp only [R.r1, R.i2, Option.bind_some, c2, nI_1, eF, pA_of t1 hb (by omega), RY.i2, u8, mwr_nI (σ := σ) (k := 6) (n := 120) (j := b) (x := nI v) hb (by omega), i2 σ]
  exact Same.mk rfl (by rw [show up2 (up2 σ 6 b (nI v)) 0 8 (nI (b + 1)) 0 8 = nI (b + 1) from u8]) RY.rel
end UN
