/-! ministry: a read one is taken -/
theorem m_min32 (σ0 : MS)  : ∀ (d j fuel : Nat) (i : Int32) (σ : MS), d < fuel → j + d = 41 → i = nI j → (∀ k, k ≠ 4 → σ k = σ0 k) → (∀ q, q < j → σ 4 (0 + q) = σ0 7 (0 + q)) → (∀ q, ¬ (0 ≤ q ∧ q < 0 + 41) → σ 4 q = σ0 4 q) → ∃ σ' : MS, fX9_ministry_L32 fuel σ i = ((rd (σ' 4) 41 2).bind fun v4 => some (v4, up2 (up2 σ' 0 4 1) 0 19 0)) ∧ (∀ k, k ≠ 4 → σ' k = σ0 k) ∧ (∀ q, q < 41 → σ' 4 (0 + q) = σ0 7 (0 + q)) ∧ (∀ q, ¬ (0 ≤ q ∧ q < 0 + 41) → σ' 4 q = σ0 4 q) := by
  intro d
  induction d with
  | zero =>
    intro j fuel i σ hf hj hi h1 h2 h3
    obtain ⟨f, rfl⟩ : ∃ f, fuel = f + 1 := ⟨fuel - 1, by omega⟩
    subst hi
    refine ⟨σ, ?_, h1, fun q hq => h2 q (by omega), h3⟩
    unfold fX9_ministry_L32
    rw [if_pos (show (41 : Int32) ≤ nI j from nI_le (a := 41) (by omega) (by omega)), bsm, bsm, up2_n (by omega), up2_n (by omega)]
  | succ d ih =>
    intro j fuel i σ hf hj hi h1 h2 h3
    obtain ⟨f, rfl⟩ : ∃ f, fuel = f + 1 := ⟨fuel - 1, by omega⟩
    subst hi
    obtain ⟨σ', e, k1, k2, k3⟩ := ih (j + 1) f (nI (j + 1)) (up2 σ 4 (0 + j) (σ 7 (0 + j))) (by omega) (by omega) rfl (fun k hk => by rw [up2_n hk]; exact h1 k hk) (fun q hq => by
      rw [up2_s]
      by_cases z : q = j
      · rw [z, upd_s, h1 7 (by omega)]
      · rw [upd_n (by omega)]; exact h2 q (by omega)) (fun q hq => by rw [up2_s, upd_n (by omega)]; exact h3 q hq)
    refine ⟨σ', ?_, k1, k2, k3⟩
    have er : rd (σ 7) 41 (nI j) = some (σ 7 (0 + j)) := by rw [show nI j = nI (0 + j) by rw [Nat.zero_add]]; exact rd_nI (by omega) (by omega)
    have ew : mwr σ 4 41 (nI j) (σ 7 (0 + j)) = some (up2 σ 4 (0 + j) (σ 7 (0 + j))) := by rw [show nI j = nI (0 + j) by rw [Nat.zero_add]]; exact mwr_nI (by omega) (by omega)
    unfold fX9_ministry_L32
    rw [if_neg (show ¬ (41 : Int32) ≤ nI j from nI_ge (b := 41) (by omega) (by omega))]
    simp only [er, ew, Option.bind_some, nI_1]
    exact e
section MI
variable {o t n b : Nat} {g h h2 : Nat → Option Nat} {X Y : AH} {σ σ' : MS}
theorem Rl.fldA (R : Rl o t g h h2 X σ) (G : AgX (fun a => a = o) X Y) (ho : pObj o t Y σ') (e : ∀ k, k ≠ 0 → σ' k = σ k) (z4 : σ' 0 4 = σ 0 4) (z24 : σ' 0 24 = σ 0 24) (ht : pTape o X σ') (hp : pPast o h X σ') : Rl o t g h h2 Y σ' := by
  have n : ∀ a, a < o ∨ o + 1 ≤ a → ¬ (fun a => a = o) a := fun a h z => by have z : a = o := z; omega
  have hd := R.trl.dj
  have e1 := e 1 (by omega)
  have e2 := e 2 (by omega)
  have e3 := e 3 (by omega)
  have e4 := e 4 (by omega)
  have e11 := e 11 (by omega)
  have e12 := e 12 (by omega)
  have e13 := e 13 (by omega)
  have q2 := R.rows.ag G R.w (n _ (by omega)) (fun a _ => n a (by omega))
  have q5 := R.img.ag G R.w (n _ (by omega)) (fun a _ => n a (by omega))
  have q6 := R.trl.ag G R.w (n _ (by omega)) (n _ (by omega))
  have q7 := R.min.ag G R.w (fun a _ _ => n a (by omega))
  refine ⟨G.w, Nat.le_trans R.sz G.2.1, ho, ?_, ht.ag G R.w (n _ (by omega)), ?_, R.tri.ag G R.w (fun a _ _ => n a (by omega)), hp.ag G R.w (n _ (by omega)) (fun a _ => n a (by omega)), ?_, ?_, R.tkn.ag G, R.emp.ag G, R.dsj⟩
  · unfold pRows pRow at q2 ⊢; rw [e1, e2, e3]; exact q2
  · unfold pMin at q7 ⊢; rw [z4, e4]; exact q7
  · unfold pImg at q5 ⊢; rw [z4, e11, e12]; exact q5
  · unfold pTrl at q6 ⊢; rw [z24, e13]; exact q6
/-- the base, seen from the relation -/
theorem BR.rl (R : Rl o t g h h2 X σ) (B : BR o t X.1 X σ Y σ') : Rl o t g h h2 Y (up2 σ' 0 8 0) := by
  obtain ⟨b1, b2, b3, b4, b5, b6, b7⟩ := B
  have hlt := R.w.lt R.obj
  have G : AgX (fun a => a = o) X Y := by
    refine ⟨b2, b3, fun a ha hn => b4 a ha hn, fun a e ha hi => ?_, b1⟩
    by_cases z : a = o
    · subst z
      have := R.obj
      unfold pObj at this
      rw [this] at ha
      cases ha
      exact absurd hi (ni_o (by omega))
    · rw [b4 a (R.w.lt ha) z]; exact ha
  have u : ∀ j, j ≠ 8 → up2 σ 0 8 0 0 j = σ 0 j := fun j hj => by rw [u0, if_neg hj]
  obtain ⟨f, b, c1, c2, c3, c4⟩ := R.tape
  have R1 : Rl o t g h h2 Y (up2 σ 0 8 0) := R.fldA G b5 (fun k hk => up2_n hk) (u 4 (by omega)) (u 24 (by omega)) ⟨f, 0, c1, by rw [u0, if_pos rfl]; rfl, by omega, fun j hj => by omega⟩ (by
    have q := R.past
    unfold pPast at q ⊢; rw [u 19 (by omega), u 4 (by omega), up2_n (by omega)]; exact q)
  refine R1.req ⟨fun k hk => ?_, fun j hj => ?_⟩
  · rw [up2_n (by omega), up2_n (by omega)]; exact b6 k (by omega) (by omega)
  · rw [u0, u0]
    by_cases z : j = 8
    · rw [if_pos z, if_pos z]
    · rw [if_neg z, if_neg z]; exact b7 j (by omega)
theorem p_take (R : Rl o t g h h2 X σ) {p : Nat} {ν : Nat → Int32} (hp : o + 29 ≤ p) (hS : Sv X p n ν) (h1 : 1 ≤ n) (hgl : ¬ ν 1 ≤ 0) (e4 : ∀ j, j < 41 → ν j = σ' 4 j) (e : ∀ k, k ≠ 0 → k ≠ 4 → σ' k = σ k) (z4 : σ' 0 4 = 1) (e0 : ∀ j, j ≠ 19 → j ≠ 4 → σ' 0 j = σ 0 j) (e19 : σ' 0 19 = nI 0) :
    ∃ Y, fX1_become X (o + 3) p = some (o + 3, Y) ∧ AgX (blk (o + 3)) X Y ∧ Y.2.2 o = some (.inl (0, crF o σ t)) ∧ (∀ Z, AgX (fun a => a = o) Y Z → pObj o t Z σ' → Rl o t g h h2 Z σ' ∧ Sv Z (o + 3) n (σ' 4)) := by
  obtain ⟨m0, hS0, ht0⟩ := R.min
  obtain ⟨_, la0, tk0, hM0, _⟩ := hS0
  obtain ⟨hg, la, tk, hM, hL⟩ := hS
  obtain ⟨Y, ex, m, G⟩ := x_become R.w hM0 hM (by omega)
  have S1 : Sv Y (o + 3) n (σ' 4) := Sv.cg (μ := ν) ⟨hg, la, tk0, m, hL.ag G⟩ e4
  have nb : ∀ a, a < o + 3 ∨ o + 11 ≤ a → ¬ blk (o + 3) a := fun a h z => by unfold blk at z; omega
  refine ⟨Y, ex, G, G.at R.w R.obj (nb _ (by omega)), fun Z G2 hO => ?_⟩
  have G3 : AgX (fun a => a = o ∨ blk (o + 3) a) X Z := (G.mono fun a h => Or.inr h).tr (G2.mono fun a h => Or.inl h)
  have nn : ∀ a, a < o ∨ (o < a ∧ a < o + 3) ∨ o + 11 ≤ a → ¬ (fun a => a = o ∨ blk (o + 3) a) a := fun a h z => by
    rcases z with z | z
    · omega
    · unfold blk at z; omega
  have S2 : Sv Z (o + 3) n (σ' 4) := S1.ag G2 G.w (fun a a1 a2 z => by have z : a = o := z; omega)
  have ht := R.trl.dj
  have q1 := R.rows.ag G3 R.w (nn _ (by omega)) (fun a _ => nn a (by omega))
  have q2 := R.tape.ag G3 R.w (nn _ (by omega))
  have q4 := R.img.ag G3 R.w (nn _ (by omega)) (fun a _ => nn a (by omega))
  have q5 := R.trl.ag G3 R.w (nn _ (by omega)) (nn _ (by omega))
  have q6 := R.past.ag G3 R.w (nn _ (by omega)) (fun a _ => nn a (by omega))
  refine ⟨⟨G3.w, Nat.le_trans R.sz G3.2.1, hO, ?_, ?_, ⟨n, S2, Or.inr ⟨z4, h1, by rw [← e4 1 (by omega)]; exact hgl⟩⟩, R.tri.ag G3 R.w (fun a _ _ => nn a (by omega)), ?_, ?_, ?_, R.tkn.ag G3, R.emp.ag G3, R.dsj⟩, S2⟩
  · unfold pRows pRow at q1 ⊢; rw [e 1 (by omega) (by omega), e 2 (by omega) (by omega), e 3 (by omega) (by omega)]; exact q1
  · unfold pTape at q2 ⊢; rw [e0 8 (by omega) (by omega), e 6 (by omega) (by omega)]; exact q2
  · obtain ⟨b, k1, k2, k3, k4, k5, k6⟩ := q6
    exact ⟨0, k1, e19, by omega, fun h => by omega, fun k hk => by omega, k6⟩
  · refine ⟨q4.1, fun k hk => ?_⟩
    rw [e 11 (by omega) (by omega), e 12 (by omega) (by omega)]
    rcases q4.2 k hk with w | ⟨p, m, w1, w2, w3, w4⟩
    · exact Or.inl w
    · exact Or.inr ⟨p, m, w1, w2, z4, w4⟩
  · unfold pTrl at q5 ⊢; rw [e0 24 (by omega) (by omega), e 13 (by omega) (by omega)]; exact q5
theorem s_ministry (R : Rel o X σ) : Same o (fX0_ministry X o) (fX9_ministry σ) := by
  obtain ⟨t, g, h, h2, R⟩ := R
  obtain ⟨f, b, c1, c2, c3, c4⟩ := R.tape
  have hsz := R.sz
  obtain ⟨ho1, f0, hf0⟩ := R.emp
  -- the values on the tape
  let vs : Nat → Nat := fun j => (σ 6 j).toBitVec.toNat
  have hvs : ∀ j, j < b → f j &&& 255 = nI (vs j) ∧ vs j < 256 ∧ σ 6 j = nI (vs j) := fun j hj => by
    obtain ⟨v, v1, v2, v3⟩ := c4 j hj
    have : vs j = v := by
      show (σ 6 j).toBitVec.toNat = v
      rw [v3]; exact pk_tn (by omega)
    rw [this]; exact ⟨v2, v1, v3⟩
  -- the reader is made
  let X1 : AH := xnw X (.inl (12, [.null, .int 0, .int 0, .int 0, .int 0, .int 0, .null]))
  have G0 : AgX (fun _ => False) X X1 := AgX.nw R.w
  have r1 : X1.2.2 X.1 = some (.inl (12, [.null, .int 0, .int 0, .int 0, .int 0, .int 0, .null])) := xnw_s
  obtain ⟨Y1, i1, m1, l1, s1, G1⟩ := x_newMin G0.w
  have s1 : Y1.1 = X.1 + 1 + 8 := s1
  have i1 : fX1_init (xnw X1 (.inl (1, [.int 0, .int 0, .null, .null, .null, .null, .null, .null, .int 0, .int 0, .null, .int 0, .null]))) X1.1 = some Y1 := i1
  have m1 : MinAt Y1 (X.1 + 1) (X.1 + 2) (fun _ => 0) NO .null := m1
  have l1 : Y1.2.2 (X.1 + 2) = some (.inl (9, [.int 0, .ref X1.2.1.1, .int 0])) := l1
  have r2 : Y1.2.2 X.1 = some (.inl (12, [.null, .int 0, .int 0, .int 0, .int 0, .int 0, .null])) := G1.at G0.w r1 (fun z => z)
  let Y2 : AH := xup Y1 X.1 (.inl (12, [.null, .int 0, .int 0, .int 0, .int 0, .int 0, .ref (X.1 + 1)]))
  have e2 : pF Y1 X.1 12 6 (.ref X1.1) = some Y2 := pF_of r2 (Nat.le_of_ble_eq_true rfl)
  have r3 : Y2.2.2 X.1 = some (.inl (12, [.null, .int 0, .int 0, .int 0, .int 0, .int 0, .ref (X.1 + 1)])) := xup_s
  have G2 : AgX (fun a => a = X.1) Y1 Y2 := AgX.up G1.w r2 (ni_o (Or.inr (by decide))) rfl
  let Y3 : AH := xup Y2 X.1 (.inl (12, [.ref (o + 2), .int 0, .int 0, .int 0, .int 0, .int 0, .ref (X.1 + 1)]))
  have e3 : pF Y2 X.1 12 0 (.ref (o + 2)) = some Y3 := pF_of r3 (Nat.le_of_ble_eq_true rfl)
  have r4 : Y3.2.2 X.1 = some (.inl (12, [.ref (o + 2), .int 0, .int 0, .int 0, .int 0, .int 0, .ref (X.1 + 1)])) := xup_s
  have G3 : AgX (fun a => a = X.1) Y2 Y3 := AgX.up G2.w r3 (ni_o (Or.inr (by decide))) rfl
  let Y4 : AH := xup Y3 X.1 (.inl (12, rdF o b (X.1 + 1) 0 0 0 0))
  have e4 : pF Y3 X.1 12 1 (.int (nI b)) = some Y4 := pF_of r4 (Nat.le_of_ble_eq_true rfl)
  have r5 : Y4.2.2 X.1 = some (.inl (12, rdF o b (X.1 + 1) 0 0 0 0)) := xup_s
  have G4 : AgX (fun a => a = X.1) Y3 Y4 := AgX.up G3.w r4 (ni_o (Or.inr (by decide))) rfl
  have GA : AgX (fun a => a = X.1) X Y4 := ((((G0.mono fun a z => z.elim).tr (G1.mono fun a z => z.elim)).tr G2).tr G3).tr G4
  have olt := R.w.lt R.obj
  have o5 : Y4.2.2 o = some (.inl (0, crF o σ t)) := GA.at R.w R.obj (fun z => by have z : o = X.1 := z; omega)
  let Y5 : AH := xup Y4 o (.inl (0, crF o (up2 σ 0 8 0) t))
  have u : ∀ j, j ≠ 8 → up2 σ 0 8 0 0 j = σ 0 j := fun j hj => by rw [u0, if_neg hj]
  have e5 : pF Y4 o 0 2 (.int 0) = some Y5 := by
    refine pF_o o5 (Nat.le_of_ble_eq_true rfl) ?_
    show _ = crF o (up2 σ 0 8 0) t
    unfold crF
    rw [u 9 (by omega), u 19 (by omega), u 3 (by omega), u0, if_pos rfl]; rfl
  have G5 : AgX (fun a => a = o) Y4 Y5 := AgX.up GA.w o5 (ni_o (by omega)) rfl
  have no : ∀ a, a ≠ o → ¬ (fun a => a = o) a := fun a h z => h z
  have np : ∀ a, a ≠ X.1 → ¬ (fun a => a = X.1) a := fun a h z => h z
  have m5 : MinAt Y5 (X.1 + 1) (X.1 + 2) (fun _ => 0) NO .null := (((m1.ag G2 G1.w (fun a _ _ => np a (by omega))).ag G3 G2.w (fun a _ _ => np a (by omega))).ag G4 G3.w (fun a _ _ => np a (by omega))).ag G5 GA.w (fun a _ _ => no a (by omega))
  have l5 : Y5.2.2 (X.1 + 2) = some (.inl (9, [.int 0, .ref Y5.2.1.1, .int 0])) := by
    have q : Y5.2.1 = X1.2.1 := by rw [G5.1, G4.1, G3.1, G2.1, G1.1]
    rw [q]
    exact G5.2.2.2.1 _ _ (G4.2.2.2.1 _ _ (G3.2.2.2.1 _ _ (G2.2.2.2.1 _ _ l1 (im_o (by omega) (by omega))) (im_o (by omega) (by omega))) (im_o (by omega) (by omega))) (im_o (by omega) (by omega))
  have C5 : RC o X.1 (X.1 + 1) b vs Y5 (nI 0) 0 0 0 := ⟨G5.at GA.w r5 (no _ (by omega)), G5.w, hsz, c3, f, G5.at GA.w (GA.at R.w c1 (np _ (by omega))) (no _ (by omega)), fun j hj => ⟨(hvs j hj).1, (hvs j hj).2.1⟩⟩
  have B5 : BR o t X.1 X σ Y5 σ := ⟨G5.w, by rw [G5.1, GA.1], Nat.le_trans GA.2.1 G5.2.1, fun z hz hzo => by rw [G5.2.2.1 z (Nat.lt_of_lt_of_le hz GA.2.1) (no z hzo), GA.2.2.1 z hz (np z (by omega))], xup_s, fun _ _ _ => rfl, fun _ _ => rfl⟩
  have sz5 : X.1 + 9 ≤ Y5.1 := by
    have : Y5.1 = Y1.1 := rfl
    omega
  have hinit : fX12_init X1 X.1 (o + 2) (nI b) = some Y4 := by
    unfold fX12_init
    rw [bsm, i1, bsm, e2, bsm, e3, bsm, e4, bsm]
  have R1 : gR X1 o 0 1 = some (o + 2) := gR_of (G0.at R.w R.obj (fun z => z)) rfl
  have R2 : gI X1 o 0 2 = some (nI b) := by rw [← c2]; exact gI_of (G0.at R.w R.obj (fun z => z)) rfl
  have hX : ∀ (Z : AH) (z : Unit ⊕ Nat), fX12_all Y5 X.1 = some (z, Z) → fX0_ministry X o = (match z with
      | .inl _ => ((gR Z o 0 4).bind fun v11 =>
    (gR Z X.1 12 6).bind fun v12 =>
    (ck Z v11 1).bind fun _ =>
    (fX1_become Z v11 v12).bind fun w =>
    (pF w.2 o 0 7 (.int 0)).bind fun X16 =>
    (gR X16 o 0 4).bind fun v17 =>
    (ck X16 v17 1).bind fun _ =>
    (fX1_many X16 v17).bind fun w =>
    some (w.1, w.2))
      | .inr y10 => ((ck Z y10 13).bind fun _ =>
    (gI Z y10 13 6).bind fun v23 =>
    (pF Z o 0 3 (.int v23)).bind fun X24 =>
    (gI X24 y10 13 7).bind fun v25 =>
    some (((-1000100) - v25), X24))) := by
    intro Z z hz
    unfold fX0_ministry
    rw [bsm, R1, bsm, R2, bsm, hinit, bsm, e5, bsm, C5.ck, bsm, hz, bsm]
    cases z <;> rfl
  rcases p_all (o := o) (t := t) (p := X.1) hsz ho1 hf0 C5 (fun j hj => (hvs j hj).2.2) c2 B5 m5 l5 sz5 with ⟨Y, σ1, a1, a2, B, k, k1, k2, k3, k4, k5⟩ | ⟨y, Y, σ1, a1, a2, ⟨fs, y1, y2, y3⟩, B, yo⟩
  · -- well read
    have RY := BR.rl R B
    obtain ⟨σ2, em, n1, n2, n3⟩ := m_min32 (up2 σ1 0 8 0) 41 0 2000 0 (up2 σ1 0 8 0) (by omega) (by omega) rfl (fun _ _ => rfl) (fun q hq => by omega) (fun _ _ => rfl)
    let σ3 : MS := up2 (up2 σ2 0 4 1) 0 19 0
    have v4 : ∀ j, j < 41 → σ1 7 j = σ3 4 j := fun j hj => by
      show _ = up2 (up2 σ2 0 4 1) 0 19 0 4 j
      rw [up2_n (by omega), up2_n (by omega)]
      have := n2 j hj
      rw [Nat.zero_add, up2_n (by omega)] at this
      exact this.symm
    have v0 : ∀ j, j ≠ 19 → j ≠ 4 → σ3 0 j = up2 σ1 0 8 0 0 j := fun j j1 j2 => by
      show up2 (up2 σ2 0 4 1) 0 19 0 0 j = _
      rw [u0, if_neg j1, u0, if_neg j2, n1 0 (by omega)]
    have v19 : σ3 0 19 = nI 0 := by
      show up2 (up2 σ2 0 4 1) 0 19 0 0 19 = _
      rw [u0, if_pos rfl]; rfl
    obtain ⟨Z, ex, GZ, oZ, fin⟩ := p_take RY (σ' := σ3) (p := X.1 + 1) (by omega) k3 k1 k2 v4 (fun k hk h4 => by
      show up2 (up2 σ2 0 4 1) 0 19 0 k = _
      rw [up2_n hk, up2_n hk, n1 k h4]) (by
      show up2 (up2 σ2 0 4 1) 0 19 0 0 4 = _
      rw [u0, if_neg (by omega), u0, if_pos rfl]) v0 v19
    have eF : pF Z o 0 7 (.int 0) = some (xup Z o (.inl (0, crF o σ3 t))) := by
      refine pF_o oZ (Nat.le_of_ble_eq_true rfl) ?_
      show _ = crF o σ3 t
      unfold crF
      rw [v0 8 (by omega) (by omega), v0 9 (by omega) (by omega), v0 3 (by omega) (by omega), v19]; rfl
    obtain ⟨RZ, hg, la, tk, hM, hL⟩ := fin (xup Z o (.inl (0, crF o σ3 t))) (AgX.up GZ.w oZ (ni_o (by omega)) rfl) xup_s
    obtain ⟨_, la0, tk0, hM0, _⟩ := RY.min.choose_spec.1
    refine ⟨nI k, _, σ3, ?_, ?_, RZ.rel⟩
    · rw [hX _ _ a1]
      show ((gR Y o 0 4).bind fun v11 => _) = _
      rw [RY.r4, bsm, k5, bsm, ck_of hM0.1, bsm, ex, bsm]
      show ((pF Z o 0 7 (.int 0)).bind fun X16 => _) = _
      rw [eF, bsm, RZ.r4, bsm, ck_of hM.1, bsm, x_many hM hL, bsm]
    · unfold fX9_ministry
      rw [a2, bsm]
      show ((some (up2 σ1 0 8 0)).bind fun σ3 => _) = _
      rw [bsm, if_neg (show ¬ (1 : Int32) = 0 by decide), em]
      have q : rd (σ2 4) 41 2 = some (nI k) := by
        have : σ2 4 2 = nI k := by
          have h7 := v4 2 (by omega)
          have h8 : σ3 4 2 = σ2 4 2 := by
            show up2 (up2 σ2 0 4 1) 0 19 0 4 2 = _
            rw [up2_n (by omega), up2_n (by omega)]
          rw [← h8, ← h7]; exact k3.1.2.1
        rw [← this]; exact rd_nI (j := 2) (by omega) (by omega)
      rw [q, bsm]
  · -- a fault
    have RY := BR.rl R B
    let σ3 : MS := up2 (up2 σ1 0 8 0) 0 9 (σ1 0 14)
    have w : ∀ j, j ≠ 9 → σ3 0 j = up2 σ1 0 8 0 0 j := fun j hj => by
      show up2 (up2 σ1 0 8 0) 0 9 _ 0 j = _
      rw [u0, if_neg hj]
    have w9 : σ3 0 9 = σ1 0 14 := by
      show up2 (up2 σ1 0 8 0) 0 9 _ 0 9 = _
      rw [u0, if_pos rfl]
    have wk : ∀ k, k ≠ 0 → σ3 k = up2 σ1 0 8 0 k := fun k hk => up2_n hk
    have eF : pF Y o 0 3 (.int (σ1 0 14)) = some (xup Y o (.inl (0, crF o σ3 t))) := by
      refine pF_o RY.obj (Nat.le_of_ble_eq_true rfl) ?_
      show _ = crF o σ3 t
      unfold crF
      rw [w 8 (by omega), w 19 (by omega), w 3 (by omega), w9]; rfl
    have RZ : Rl o t g h h2 (xup Y o (.inl (0, crF o σ3 t))) σ3 := (RY.fld (σ' := σ3) rfl wk (w 4 (by omega)) (w 24 (by omega)) (by
      have q := RY.tape
      unfold pTape at q ⊢; rw [w 8 (by omega), wk 6 (by omega)]; exact q) (by
      have q := RY.past
      unfold pPast at q ⊢; rw [w 19 (by omega), w 4 (by omega), wk 9 (by omega)]; exact q)).1
    refine ⟨-1000100 - σ1 0 13, _, σ3, ?_, ?_, RZ.rel⟩
    · rw [hX _ _ a1]
      show ((ck Y y 13).bind fun _ => _) = _
      rw [ck_of y1, bsm, gI_of y1 y2, bsm, eF, bsm, gI_of (X := xup Y o (.inl (0, crF o σ3 t))) (by rw [xup_n yo]; exact y1) y3, bsm]
    · unfold fX9_ministry
      rw [a2, bsm]
      show ((some (up2 σ1 0 8 0)).bind fun σ3 => _) = _
      rw [bsm, if_pos rfl, bsm]
      have q : up2 σ1 0 8 0 0 14 = σ1 0 14 := by rw [u0, if_neg (by omega)]
      rw [q]
      have q2 : σ3 0 13 = σ1 0 13 := by rw [w 13 (by omega), u0, if_neg (by omega)]
      show some (-1000100 - σ3 0 13, σ3) = _
      rw [q2]
end MI
