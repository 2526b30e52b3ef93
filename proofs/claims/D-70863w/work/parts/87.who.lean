/-! who, guarded -/
theorem o1z (b : Bool) : bz (one1 b) = some (one1 b) := by cases b <;> rfl
theorem o1and (b : Bool) : one1 b &&& 1 = one1 b := by cases b <;> decide
theorem o1and0 (b : Bool) : one1 b &&& 0 = one1 false := by cases b <;> decide
section WH
variable {o t n : Nat} {g h h2 : Nat → Option Nat} {X0 X Y : AH} {σ0 σ : MS} {τ : Nat → Int32}
theorem seenL (R : Rl o t g h h2 X0 σ0) (h1 : 1 ≤ n) {q b m c : Nat} {f : Nat → Int32} (hc : c < n) (hq : X0.2.2 q = some (.inr (.inl (0, m, f)))) (hq29 : o + 29 ≤ q) (hm : m ≤ 12) (hb : b + m ≤ 320) (hf : ∀ j, j < m → f j = σ0 3 (b + j)) :
    ∀ (d j f1 f2 : Nat) (i1 i2 x3 x4 : Int32) (fl : Bool) (X : AH) (σ : MS) (τ : Nat → Int32), d < f1 → d < f2 → j + d = m → i1 = nI j → i2 = nI j → x3 = one1 fl → x4 = one1 fl → PT o X0 σ0 n X σ τ → ∃ fl' Y σ', fX0_isSeen_L5 f1 X o (nI c) q x3 i1 = some (one1 fl', Y) ∧ fX9_isSo_L6 f2 σ (nI c) (nI b) (nI m) x4 i2 = some (one1 fl', σ') ∧ BT o X0 Y ∧ MB σ0 σ' := by
  have qa : ∀ X : AH, AgX (blk (o + 11)) X0 X → X.2.2 q = some (.inr (.inl (0, m, f))) := fun X G => G.at R.w hq (fun z => by unfold blk at z; omega)
  intro d
  induction d with
  | zero =>
    intro j f1 f2 i1 i2 x3 x4 fl X σ τ hf1 hf2 hj z1 z2 z3 z4 P
    obtain ⟨f1, rfl⟩ : ∃ f, f1 = f + 1 := ⟨f1 - 1, by omega⟩
    obtain ⟨f2, rfl⟩ : ∃ f, f2 = f + 1 := ⟨f2 - 1, by omega⟩
    subst z1 z2 z3 z4
    have hle : nI m ≤ nI j := nI_le (by omega) (by omega)
    obtain ⟨σ3, et, M3⟩ := P.take
    refine ⟨fl, X, σ3, ?_, ?_, P.bt, M3⟩
    · unfold fX0_isSeen_L5
      rw [gL_of (qa X P.1), bsm, if_pos hle, o1z, bsm]
    · unfold fX9_isSo_L6
      rw [if_pos hle, et, bsm, o1z, bsm]
  | succ d ih =>
    intro j f1 f2 i1 i2 x3 x4 fl X σ τ hf1 hf2 hj z1 z2 z3 z4 P
    obtain ⟨f1, rfl⟩ : ∃ f, f1 = f + 1 := ⟨f1 - 1, by omega⟩
    obtain ⟨f2, rfl⟩ : ∃ f, f2 = f + 1 := ⟨f2 - 1, by omega⟩
    subst z1 z2 z3 z4
    have hnle : ¬ nI m ≤ nI j := nI_ge (by omega) (by omega)
    obtain ⟨Z, σ1, ex, em, P1⟩ := P.pass h1
    have ga : gA Z q 0 (nI j) = some (f j) := gA_of (qa Z P1.1) (by omega) (by omega)
    have er : rd (σ1 3) 320 (nI b + nI j) = some (f j) := by
      rw [nI_add, rd_nI (by omega) (by omega), P1.2.2.2.2.2.2.1 3 (by omega) (by omega) (by omega) (by omega), hf j (by omega)]
    have hx : fX0_isSeen_L5 (f1 + 1) X o (nI c) q (one1 fl) (nI j) = fX0_isSeen_L5 f1 Z o (nI c) q (one1 (fl && decide (hi (nit τ n) c = f j))) (nI (j + 1)) := by
      conv => lhs; unfold fX0_isSeen_L5
      rw [gL_of (qa X P.1), bsm, if_neg hnle]
      simp only [(P.r R).r5, P.m.ck1, ex, bsm, P1.m.ck1, P1.m.high P1.gd hc, ga, nI_1, o1and, o1and0]
      by_cases e : hi (nit τ n) c = f j
      · rw [if_pos e]; simp [e]
      · rw [if_neg e]; simp [e]
    have hm' : fX9_isSo_L6 (f2 + 1) σ (nI c) (nI b) (nI m) (one1 fl) (nI j) = fX9_isSo_L6 f2 σ1 (nI c) (nI b) (nI m) (one1 (fl && decide (hi (nit τ n) c = f j))) (nI (j + 1)) := by
      conv => lhs; unfold fX9_isSo_L6
      rw [if_neg hnle, em, bsm]
      cases fl with
      | false =>
        rw [if_pos o1f, nI_1]; rfl
      | true =>
        rw [if_neg (show ¬ one1 true = 0 by decide)]
        simp only [er, bsm, P1.mhigh hc, nI_1]
        by_cases e : hi (nit τ n) c = f j
        · rw [if_pos e.symm]; simp [e, one1]
        · rw [if_neg (fun z => e z.symm)]; simp [e, one1]
    rw [hx, hm']
    exact ih (j + 1) f1 f2 _ _ _ _ _ Z σ1 _ (by omega) (by omega) (by omega) rfl rfl rfl rfl P1
theorem p_seen (R : Rl o t g h h2 X0 σ0) (h1 : 1 ≤ n) {q b m c : Nat} {f : Nat → Int32} (hc : c < n) (hq : X0.2.2 q = some (.inr (.inl (0, m, f)))) (hq29 : o + 29 ≤ q) (hm : m ≤ 12) (hb : b + m ≤ 320) (hf : ∀ j, j < m → f j = σ0 3 (b + j)) (P : PT o X0 σ0 n X σ τ) : ∃ fl' Y σ', fX0_isSeen X o (nI c) q = some (one1 fl', Y) ∧ fX9_isSo σ (nI c) (nI b) (nI m) = some (one1 fl', σ') ∧ BT o X0 Y ∧ MB σ0 σ' :=
  seenL R h1 hc hq hq29 hm hb hf m 0 2000 2000 0 0 1 1 true X σ τ (by omega) (by omega) (by omega) rfl rfl rfl rfl P
/-- the trial's chair is of another kind -/
theorem p_alt0 (R : Rl o t g h h2 X0 σ0) (hS : Sv X0 (o + 3) n (σ0 4)) (B : BT o X0 X) (M : MB σ0 σ) {c v : Nat} (hc : c < n) (v1 : 1 ≤ v) (v5 : v ≤ 5) : ∃ Y, fX0_alters X o (nI c) 0 (nI v) = some Y ∧ mwr σ 4 41 (nI (5 + c)) (nI v) = some (up2 σ 4 (5 + c) (nI v)) ∧ PT o X0 σ0 n Y (up2 σ 4 (5 + c) (nI v)) (upd (σ0 4) (5 + c) (nI v)) := by
  have hn := hS.1.1
  obtain ⟨Y, e, G, s⟩ := x_tried R hS B
  obtain ⟨hg, la, tk, hM, hL⟩ := s
  have RY : Rl o t g h h2 Y σ0 := R.trial G ⟨_, _, _, _, hM⟩
  obtain ⟨Z, ez, mz, Gz⟩ := hM.put11 (x := nI c) G.w
  have RZ : Rl o t g h h2 Z σ0 := R.trial (G.tr Gz) ⟨_, _, _, _, mz⟩
  obtain ⟨gt, c1, c2⟩ := RZ.tkn
  obtain ⟨W, ew, mw, Gw⟩ := mz.put12 (t2 := .ref (o + 24 + (v - 1))) Gz.w
  have GG := (G.tr Gz).tr Gw
  have eq : gQn Z (o + 23) 4 (nI v - 1) = some (o + 24 + (v - 1)) := by
    rw [show nI v - 1 = nI (v - 1) from pk_sub (b := 1) (by omega)]
    exact gQn_of c1 (by omega) (by omega) (c2 (v - 1) (by omega)).1
  have cW := (RZ.tkn.ag Gw)
  refine ⟨W, ?_, mwr_nI (by omega) (by omega), GG, ⟨la, σ0 4, nI c, _, mw.cg (fun j j1 j2 j3 => (upd_n (by omega)).symm), (hL.ag Gz).ag Gw, fun c' hc' => ?_⟩, ?_, by rw [up2_s, M.1], fun j hj => by rw [up2_n (by omega)]; exact M.2.1 j hj, fun j hj => upd_n (by omega), M.2.2.tr ⟨fun k k0 k4 k8 k10 => up2_n k4, fun j hj => by rw [up2_n (by omega)]⟩⟩
  · unfold fX0_alters
    simp only [(B.r R).ck0, bsm, e, if_true, RY.r5, ez, RZ.r5, RZ.r11, eq, ew]
  · by_cases z : c' = c
    · subst z
      refine Or.inr ⟨rfl, o + 24 + (v - 1), v, [.int 0], v1, v5, rfl, upd_s, ?_⟩
      obtain ⟨gt2, d1, d2⟩ := cW
      rw [(d2 (v - 1) (by omega)).2, show 4 + (v - 1) = 3 + v by omega]
    · exact Or.inl ⟨fun w => z ((nI_eq (by omega) (by omega)).mp w), upd_n (by omega)⟩
  · refine ⟨hg.1, by rw [upd_n (by omega)]; exact hg.2.1, fun c' hc' => ?_, by rw [upd_n (by omega)]; exact hg.2.2.2.1, by rw [upd_n (by omega)]; exact hg.2.2.2.2⟩
    have := hg.2.2.1 c' hc'
    rw [upd_n (by omega), upd_n (by omega), upd_n (by omega), upd_n (by omega)]; exact this
theorem p_alt (R : Rl o t g h h2 X0 σ0) (hS : Sv X0 (o + 3) n (σ0 4)) (B : BT o X0 X) (M : MB σ0 σ) {c v w b T : Nat} (hc : c < n) (hw : (w = 0 ∧ b = 5 ∧ T = 5 ∧ 1 ≤ v) ∨ (w = 1 ∧ b = 17 ∧ T = 9) ∨ (w = 2 ∧ b = 23 ∧ T = 3)) (hv : v ≤ T) : ∃ Y, fX0_alters X o (nI c) (nI w) (nI v) = some Y ∧ mwr σ 4 41 (nI (b + c)) (nI v) = some (up2 σ 4 (b + c) (nI v)) ∧ PT o X0 σ0 n Y (up2 σ 4 (b + c) (nI v)) (upd (σ0 4) (b + c) (nI v)) := by
  have hn := hS.1.1
  rcases hw with ⟨rfl, rfl, rfl, v1⟩ | ⟨rfl, rfl, rfl⟩ | ⟨rfl, rfl, rfl⟩
  · exact p_alt0 R hS B M hc v1 hv
  · obtain ⟨Y, e, P⟩ := p_tried R hS B M
    obtain ⟨Z, ez, em, P2⟩ := P.put (c := c) (v := v) (x := nI v) mo4 (by omega) rfl ⟨by omega, by omega, by omega, by omega⟩
    refine ⟨Z, ?_, em, P2⟩
    unfold fX0_alters
    simp only [(B.r R).ck0, bsm, e]
    rw [if_neg (by decide), if_pos (by decide)]
    simp only [(P.r R).r5, P.m.r5, bsm, ez]
  · obtain ⟨Y, e, P⟩ := p_tried R hS B M
    obtain ⟨Z, ez, em, P2⟩ := P.put (c := c) (v := v) (x := nI v) mo5 (by omega) rfl ⟨by omega, by omega, by omega, by omega⟩
    refine ⟨Z, ?_, em, P2⟩
    unfold fX0_alters
    simp only [(B.r R).ck0, bsm, e]
    rw [if_neg (by decide), if_neg (by decide)]
    simp only [(P.r R).r5, P.m.r6, bsm, ez]
theorem whoL (R : Rl o t g h h2 X0 σ0) (hS : Sv X0 (o + 3) n (σ0 4)) (h1 : 1 ≤ n) {q k i m c c2 w b T : Nat} {f : Nat → Int32} (hc : c < n) (hc2 : c2 < n) (hq : X0.2.2 q = some (.inr (.inl (0, m, f)))) (hq29 : o + 29 ≤ q) (hk : k < 8) (hm : m ≤ 12) (hi : i + m ≤ 40) (hf : ∀ j, j < m → f j = σ0 3 (40 * k + i + j)) (hw : (w = 0 ∧ b = 5 ∧ T = 5) ∨ (w = 1 ∧ b = 17 ∧ T = 9) ∨ (w = 2 ∧ b = 23 ∧ T = 3)) :
    ∀ (d v f1 f2 : Nat) (i1 i2 s : Int32) (X : AH) (σ : MS), d < f1 → d < f2 → v + d = T + 1 → (w = 0 → 1 ≤ v) → i1 = nI v → i2 = nI v → BT o X0 X → MB σ0 σ → Same o (fX0_who_L101 f1 X o (nI c) (nI w) (nI c2) q (nI T) s i1) (fX9_who_L120 f2 σ (nI w) (nI c2) (nI k) (nI i) (nI m) (nI (b + c)) s i2) := by
  have hT : T ≤ 9 := by omega
  intro d
  induction d with
  | zero =>
    intro v f1 f2 i1 i2 s X σ hf1 hf2 hv hw0 z1 z2 B M
    obtain ⟨f1, rfl⟩ : ∃ f, f1 = f + 1 := ⟨f1 - 1, by omega⟩
    obtain ⟨f2, rfl⟩ : ∃ f, f2 = f + 1 := ⟨f2 - 1, by omega⟩
    subst z1 z2
    have hlt : nI T < nI v := nI_lt (by omega) (by omega)
    have R1 := B.rel R M
    obtain ⟨W, w1, w2, w3, -⟩ := R1.well s
    refine Same.mk (r := s) (Y := W) (σ' := up2 σ 0 3 0) ?_ ?_ w3.rel
    · unfold fX0_who_L101
      rw [if_pos hlt, R1.ck0, bsm, w1, bsm]
    · unfold fX9_who_L120 fX9_who_b141
      rcases hw with ⟨rfl, rfl, rfl⟩ | ⟨rfl, rfl, rfl⟩ | ⟨rfl, rfl, rfl⟩
      · rw [if_pos (show nI 0 = 0 from rfl), if_pos (show (5 : Int32) < nI v from hlt), w2, bsm]
      · rw [if_neg (show ¬ nI 1 = 0 by decide), if_pos (show nI 1 = 1 from rfl), if_pos (show (9 : Int32) < nI v from hlt), w2, bsm]
      · rw [if_neg (show ¬ nI 2 = 0 by decide), if_neg (show ¬ nI 2 = 1 by decide), if_pos (show (3 : Int32) < nI v from hlt), w2, bsm]
  | succ d ih =>
    intro v f1 f2 i1 i2 s X σ hf1 hf2 hv hw0 z1 z2 B M
    obtain ⟨f1, rfl⟩ : ∃ f, f1 = f + 1 := ⟨f1 - 1, by omega⟩
    obtain ⟨f2, rfl⟩ : ∃ f, f2 = f + 1 := ⟨f2 - 1, by omega⟩
    subst z1 z2
    have hnlt : ¬ nI T < nI v := nI_nlt (by omega) (by omega)
    obtain ⟨Y, ey, em, P⟩ := p_alt R hS B M (c := c) (v := v) (w := w) (b := b) (T := T) hc (by
      rcases hw with ⟨a1, a2, a3⟩ | h | h
      · exact Or.inl ⟨a1, a2, a3, hw0 a1⟩
      · exact Or.inr (Or.inl h)
      · exact Or.inr (Or.inr h)) (by omega)
    obtain ⟨fl, Z, σ3, es, eo, B3, M3⟩ := p_seen R h1 hc2 hq hq29 hm (b := 40 * k + i) (by omega) hf P
    have hx : fX0_who_L101 (f1 + 1) X o (nI c) (nI w) (nI c2) q (nI T) s (nI v) = fX0_who_L101 f1 Z o (nI c) (nI w) (nI c2) q (nI T) (s ||| (if fl = true then (1 : Int32) <<< (nI v &&& 31) else 0)) (nI (v + 1)) := by
      conv => lhs; unfold fX0_who_L101
      rw [if_neg hnlt]
      simp only [(B.r R).ck0, ey, bsm, (P.r R).ck0, es, nI_1]
      cases fl with
      | true => rw [if_neg (show ¬ one1 true = 0 by decide)]; rfl
      | false => rw [if_pos o1f]; rfl
    have hm' : fX9_who_L120 (f2 + 1) σ (nI w) (nI c2) (nI k) (nI i) (nI m) (nI (b + c)) s (nI v) = fX9_who_L120 f2 σ3 (nI w) (nI c2) (nI k) (nI i) (nI m) (nI (b + c)) (s ||| (if fl = true then (1 : Int32) <<< (nI v &&& 31) else 0)) (nI (v + 1)) := by
      have key : ∀ T' : Int32, ¬ T' < nI v → fX9_who_b141 (fX9_who_L120 f2) σ (nI v) T' (nI w) (nI c2) (nI k) (nI i) (nI m) (nI (b + c)) s (nI v) = fX9_who_L120 f2 σ3 (nI w) (nI c2) (nI k) (nI i) (nI m) (nI (b + c)) (s ||| (if fl = true then (1 : Int32) <<< (nI v &&& 31) else 0)) (nI (v + 1)) := by
        intro T' hT'
        unfold fX9_who_b141
        rw [if_neg hT']
        simp only [em, bsm, ix40, eo, nI_1]
        cases fl with
        | true => rw [if_neg (show ¬ one1 true = 0 by decide)]; rfl
        | false => rw [if_pos o1f]; rfl
      conv => lhs; unfold fX9_who_L120
      rcases hw with ⟨rfl, rfl, rfl⟩ | ⟨rfl, rfl, rfl⟩ | ⟨rfl, rfl, rfl⟩
      · rw [if_pos (show nI 0 = 0 from rfl)]; exact key 5 hnlt
      · rw [if_neg (show ¬ nI 1 = 0 by decide), if_pos (show nI 1 = 1 from rfl)]; exact key 9 hnlt
      · rw [if_neg (show ¬ nI 2 = 0 by decide), if_neg (show ¬ nI 2 = 1 by decide)]; exact key 3 hnlt
    rw [hx, hm']
    exact ih (v + 1) f1 f2 _ _ _ Z σ3 (by omega) (by omega) (by omega) (fun _ => by omega) rfl rfl B3 M3
theorem toldD (x : Int32) : (fX0_isTold x = some 0 ∧ fX9_in x.toInt64 1 12 = some 0) ∨ ∃ j, 1 ≤ j ∧ j ≤ 12 ∧ x = nI j ∧ fX0_isTold x = some 1 ∧ fX9_in x.toInt64 1 12 = some 1 := inB x (F := fX0_isTold x) 1 12 rfl rfl rfl (by decide) (by decide)
theorem s_who (R : Rel o X σ) (x1 x2 x3 x4 x5 x6 : Int32) : Same o (fX0_who X o x1 x2 x3 x4 x5 x6) (fX9_who σ x1 x2 x3 x4 x5 x6) := by
  obtain ⟨t, g, h, h2, R⟩ := R
  obtain ⟨n, hS, ht⟩ := R.min
  have hn := hS.1.1
  have sz := R.sz
  have bad : ∀ y1 y2 y3 y4 y5 y6, fX9_who_b64 σ (-1000001) y1 y2 y3 y4 y5 y6 = some (-1000001, σ) := fun _ _ _ _ _ _ => by
    unfold fX9_who_b64
    rw [if_neg (by decide)]
  unfold fX0_who fX9_who
  simp only [R.ck0, bsm, isIn_eq]
  rcases R.isChair hS x1 with ⟨e1, e2⟩ | ⟨c, hc, rfl, e1, e2⟩
  · simp only [e1, e2, bsm, if_true, bad]
    exact Same.mk rfl rfl R.rel
  simp only [e1, e2, bsm, one0, if_false]
  rcases inN x2 (a := 0) (b := 2) 0 2 rfl rfl (by decide) (by decide) with f1 | ⟨f1, w, -, hw, rfl⟩
  · simp only [f1, bsm, if_true, bad]
    exact Same.mk rfl rfl R.rel
  simp only [f1, bsm, one0, if_false, R.ck0]
  rcases R.isChair hS x3 with ⟨d1, d2⟩ | ⟨c2, hc2, rfl, d1, d2⟩
  · simp only [d1, d2, bsm, if_true, bad]
    exact Same.mk rfl rfl R.rel
  simp only [d1, d2, bsm, one0, if_false]
  rcases rowD x4 with ⟨r1, r2⟩ | ⟨k, hk, rfl, r1, r2⟩
  · simp only [r1, r2, bsm, if_true, bad]
    exact Same.mk rfl rfl R.rel
  simp only [r1, r2, bsm, one0, if_false]
  rcases toldD x6 with ⟨t1, t2⟩ | ⟨m, m1, hm, rfl, t1, t2⟩
  · simp only [t1, t2, bsm, if_true, bad]
    exact Same.mk rfl rfl R.rel
  simp only [t1, t2, bsm, one0, if_false, R.ck0]
  rcases p_rowOf R (k := k) (m := m) (by omega) (by omega) x5 with ⟨cc, y, Y, l1, hcc, hF, G, hy, hw'⟩ | ⟨i, Y, r, f, rfl, hib, l1, ra, rc, rr, hq, hf, G⟩
  · obtain ⟨Z, z1, z2, z3, z4⟩ := p_thrown R G hF hy
    have hneg : ¬ 0 ≤ -1000010 - cc := by rcases hcc with rfl | rfl <;> decide
    have e9 : fX9_who_b64 (up2 σ 0 3 cc) (-1000010 - cc) (nI c) (nI w) (nI c2) (nI k) x5 (nI m) = some (-1000010 - cc, up2 σ 0 3 cc) := by
      unfold fX9_who_b64
      rw [if_neg hneg]
    rw [l1, bsm]
    simp only [e9]
    rcases hw' with hw' | ⟨r, ra, rc, rr⟩
    · simp only [hw', bsm, z1, fX0_who_b152, z2, z3]
      exact Same.mk rfl rfl z4
    · simp only [ra, bsm, rc, rr, z1, fX0_who_b152, z2, z3]
      exact Same.mk rfl rfl z4
  · have R1 := R.new G
    have S1 : Sv Y (o + 3) n (σ 4) := hS.ag G R.w (fun _ _ _ z => z)
    obtain ⟨σ1, em, M⟩ := m_putAside σ
    obtain ⟨gt, c1, -⟩ := R1.tkn
    rw [l1, bsm]
    simp only [ra, bsm, rc, rr, R1.r11, gLq_of c1]
    unfold fX9_who_b64
    rw [if_pos (show (0 : Int32) ≤ 0 by decide), em, bsm]
    rcases (show w = 0 ∨ w = 1 ∨ w = 2 by omega) with rfl | rfl | rfl
    · rw [if_pos (show nI 0 = 0 from rfl), if_pos (show nI 0 = 0 from rfl)]
      unfold fX0_who_b85 fX9_who_b104
      rw [if_pos (show nI 0 = 0 from rfl), if_pos (show nI 0 = 0 from rfl), a5]
      exact whoL R1 S1 (by omega) hc hc2 hq (by omega) (by omega) hm hib hf (Or.inl ⟨rfl, rfl, rfl⟩) 5 1 2000 2000 1 1 0 Y σ1 (by omega) (by omega) (by omega) (fun _ => by omega) rfl rfl R1.bt M
    · rw [if_neg (show ¬ nI 1 = 0 by decide), if_neg (show ¬ nI 1 = 0 by decide), if_pos (show nI 1 = 1 from rfl), if_pos (show nI 1 = 1 from rfl)]
      unfold fX0_who_b85 fX9_who_b104
      rw [if_neg (show ¬ nI 1 = 0 by decide), if_neg (show ¬ nI 1 = 0 by decide), a17]
      exact whoL R1 S1 (by omega) hc hc2 hq (by omega) (by omega) hm hib hf (Or.inr (Or.inl ⟨rfl, rfl, rfl⟩)) 10 0 2000 2000 0 0 0 Y σ1 (by omega) (by omega) (by omega) (fun z => by omega) rfl rfl R1.bt M
    · rw [if_neg (show ¬ nI 2 = 0 by decide), if_neg (show ¬ nI 2 = 0 by decide), if_neg (show ¬ nI 2 = 1 by decide), if_neg (show ¬ nI 2 = 1 by decide)]
      unfold fX0_who_b85 fX9_who_b104
      rw [if_neg (show ¬ nI 2 = 0 by decide), if_neg (show ¬ nI 2 = 0 by decide), a23]
      exact whoL R1 S1 (by omega) hc hc2 hq (by omega) (by omega) hm hib hf (Or.inr (Or.inr ⟨rfl, rfl, rfl⟩)) 4 0 2000 2000 0 0 0 Y σ1 (by omega) (by omega) (by omega) (fun z => by omega) rfl rfl R1.bt M
theorem guardedL (R : Rl o t g h h2 X0 σ0) (hS : Sv X0 (o + 3) n (σ0 4)) (h1 : 1 ≤ n) {q k i m c2 : Nat} {f : Nat → Int32} (hc2 : c2 < n) (hq : X0.2.2 q = some (.inr (.inl (0, m, f)))) (hq29 : o + 29 ≤ q) (hk : k < 8) (hm : m ≤ 12) (hi : i + m ≤ 40) (hf : ∀ j, j < m → f j = σ0 3 (40 * k + i + j)) :
    ∀ (d v f1 f2 : Nat) (i1 i2 s : Int32) (X : AH) (σ : MS), d < f1 → d < f2 → v + d = n → i1 = nI v → i2 = nI v → BT o X0 X → MB σ0 σ → Same o (fX0_guarded_L65 f1 X o (nI c2) q s i1) (fX9_guarded_L82 f2 σ (nI c2) (nI k) (nI i) (nI m) s i2) := by
  have hn := hS.1.1
  intro d
  induction d with
  | zero =>
    intro v f1 f2 i1 i2 s X σ hf1 hf2 hv z1 z2 B M
    obtain ⟨f1, rfl⟩ : ∃ f, f1 = f + 1 := ⟨f1 - 1, by omega⟩
    obtain ⟨f2, rfl⟩ : ∃ f, f2 = f + 1 := ⟨f2 - 1, by omega⟩
    subst z1 z2
    have hle : nI n ≤ nI v := nI_le (by omega) (by omega)
    have R1 := B.rel R M
    have S := B.sv hS R.w
    obtain ⟨W, w1, w2, w3, -⟩ := R1.well s
    refine Same.mk (r := s) (Y := W) (σ' := up2 σ 0 3 0) ?_ ?_ w3.rel
    · unfold fX0_guarded_L65
      simp only [R1.r4, S.Mn.ck1, S.Mn.many, bsm, R1.ck0, w1]
      rw [if_pos hle]
    · unfold fX9_guarded_L82
      rw [M.rd2 hS.1, bsm, if_pos hle, w2, bsm]
  | succ d ih =>
    intro v f1 f2 i1 i2 s X σ hf1 hf2 hv z1 z2 B M
    obtain ⟨f1, rfl⟩ : ∃ f, f1 = f + 1 := ⟨f1 - 1, by omega⟩
    obtain ⟨f2, rfl⟩ : ∃ f, f2 = f + 1 := ⟨f2 - 1, by omega⟩
    subst z1 z2
    have hnle : ¬ nI n ≤ nI v := nI_ge (by omega) (by omega)
    have S := B.sv hS R.w
    have RB := B.r R
    obtain ⟨w0, hw0, ew0⟩ := hS.1.2.2.2.1
    obtain ⟨u, hu, eu⟩ := or_lt hw0 (show v < 6 by omega)
    have e4 : σ0 4 4 ||| (1 : Int32) <<< (nI v &&& 31) = nI u := by rw [ew0]; exact eu
    obtain ⟨Y, ey, P⟩ := p_tried R hS B M
    obtain ⟨Z, ez, em, P2⟩ := P.watch (w := u) (x := σ0 4 4 ||| (1 : Int32) <<< (nI v &&& 31)) e4 hu
    obtain ⟨fl, V, σ3, es, eo, B3, M3⟩ := p_seen R h1 hc2 hq hq29 hm (b := 40 * k + i) (by omega) hf P2
    cases hb : bitq (σ0 4 4) (nI v) with
    | true =>
      have hx : fX0_guarded_L65 (f1 + 1) X o (nI c2) q s (nI v) = fX0_guarded_L65 f1 X o (nI c2) q s (nI (v + 1)) := by
        conv => lhs; unfold fX0_guarded_L65
        simp only [RB.r4, S.Mn.ck1, S.Mn.many, bsm, S.Mn.isWatched, hb, nI_1]
        rw [if_neg hnle, if_neg (show ¬ one1 true = 0 by decide)]
      have hm' : fX9_guarded_L82 (f2 + 1) σ (nI c2) (nI k) (nI i) (nI m) s (nI v) = fX9_guarded_L82 f2 σ (nI c2) (nI k) (nI i) (nI m) s (nI (v + 1)) := by
        conv => lhs; unfold fX9_guarded_L82
        simp only [M.rd2 hS.1, M.rd4, bsm, m_has, hb, nI_1, if_true]
        rw [if_neg hnle, if_neg (by decide)]
      rw [hx, hm']
      exact ih (v + 1) f1 f2 _ _ _ X σ (by omega) (by omega) (by omega) rfl rfl B M
    | false =>
      have hx : fX0_guarded_L65 (f1 + 1) X o (nI c2) q s (nI v) = fX0_guarded_L65 f1 V o (nI c2) q (s ||| (if fl = true then (1 : Int32) <<< (nI v &&& 31) else 0)) (nI (v + 1)) := by
        conv => lhs; unfold fX0_guarded_L65
        simp only [RB.r4, S.Mn.ck1, S.Mn.many, bsm, S.Mn.isWatched, hb, nI_1, RB.ck0, ey, P.m.g8, ez, (P2.r R).ck0, es]
        rw [if_neg hnle, if_pos o1f]
        cases fl with
        | true => rw [if_neg (show ¬ one1 true = 0 by decide)]; rfl
        | false => rw [if_pos o1f]; rfl
      have hm' : fX9_guarded_L82 (f2 + 1) σ (nI c2) (nI k) (nI i) (nI m) s (nI v) = fX9_guarded_L82 f2 σ3 (nI c2) (nI k) (nI i) (nI m) (s ||| (if fl = true then (1 : Int32) <<< (nI v &&& 31) else 0)) (nI (v + 1)) := by
        conv => lhs; unfold fX9_guarded_L82
        simp only [M.rd2 hS.1, M.rd4, bsm, m_has, hb, nI_1, Bool.false_eq_true, if_false, if_true, em, ix40, eo]
        rw [if_neg hnle]
        cases fl with
        | true => rw [if_neg (show ¬ one1 true = 0 by decide)]; rfl
        | false => rw [if_pos o1f]; rfl
      rw [hx, hm']
      exact ih (v + 1) f1 f2 _ _ _ V σ3 (by omega) (by omega) (by omega) rfl rfl B3 M3
theorem s_guarded (R : Rel o X σ) (x1 x2 x3 x4 : Int32) : Same o (fX0_guarded X o x1 x2 x3 x4) (fX9_guarded σ x1 x2 x3 x4) := by
  obtain ⟨t, g, h, h2, R⟩ := R
  obtain ⟨n, hS, ht⟩ := R.min
  have hn := hS.1.1
  have sz := R.sz
  have bad : ∀ y1 y2 y3 y4, fX9_guarded_b41 σ (-1000001) y1 y2 y3 y4 = some (-1000001, σ) := fun _ _ _ _ => by
    unfold fX9_guarded_b41
    rw [if_neg (by decide)]
  unfold fX0_guarded fX9_guarded
  simp only [R.ck0, bsm]
  rcases R.isChair hS x1 with ⟨e1, e2⟩ | ⟨c, hc, rfl, e1, e2⟩
  · simp only [e1, e2, bsm, if_true, bad]
    exact Same.mk rfl rfl R.rel
  simp only [e1, e2, bsm, one0, if_false]
  rcases rowD x2 with ⟨r1, r2⟩ | ⟨k, hk, rfl, r1, r2⟩
  · simp only [r1, r2, bsm, if_true, bad]
    exact Same.mk rfl rfl R.rel
  simp only [r1, r2, bsm, one0, if_false]
  rcases toldD x4 with ⟨t1, t2⟩ | ⟨m, m1, hm, rfl, t1, t2⟩
  · simp only [t1, t2, bsm, if_true, bad]
    exact Same.mk rfl rfl R.rel
  simp only [t1, t2, bsm, one0, if_false, R.ck0]
  rcases p_rowOf R (k := k) (m := m) (by omega) (by omega) x3 with ⟨cc, y, Y, l1, hcc, hF, G, hy, hw'⟩ | ⟨i, Y, r, f, rfl, hib, l1, ra, rc, rr, hq, hf, G⟩
  · obtain ⟨Z, z1, z2, z3, z4⟩ := p_thrown R G hF hy
    have hneg : ¬ 0 ≤ -1000010 - cc := by rcases hcc with rfl | rfl <;> decide
    have e9 : fX9_guarded_b41 (up2 σ 0 3 cc) (-1000010 - cc) (nI c) (nI k) x3 (nI m) = some (-1000010 - cc, up2 σ 0 3 cc) := by
      unfold fX9_guarded_b41
      rw [if_neg hneg]
    rw [l1, bsm]
    simp only [e9]
    rcases hw' with hw' | ⟨r, ra, rc, rr⟩
    · simp only [hw', bsm, z1, fX0_guarded_b144, z2, z3]
      exact Same.mk rfl rfl z4
    · simp only [ra, bsm, rc, rr, z1, fX0_guarded_b144, z2, z3]
      exact Same.mk rfl rfl z4
  · have R1 := R.new G
    have S1 : Sv Y (o + 3) n (σ 4) := hS.ag G R.w (fun _ _ _ z => z)
    obtain ⟨σ1, em, M⟩ := m_putAside σ
    obtain ⟨Z, ez, P⟩ := p_tried R1 S1 R1.bt M
    obtain ⟨fl, V, σ3, es, eo, B3, M3⟩ := p_seen R1 (by omega) hc hq (by omega) hm (b := 40 * k + i) (by omega) hf P
    rw [l1, bsm]
    simp only [ra, bsm, rc, rr, R1.ck0, ez, (P.r R1).ck0, es]
    unfold fX9_guarded_b41
    rw [if_pos (show (0 : Int32) ≤ 0 by decide), em, bsm, ix40, eo, bsm]
    cases fl with
    | true =>
      simp only
      rw [if_neg (show ¬ one1 true = 0 by decide), if_neg (show ¬ one1 true = 0 by decide)]
      exact guardedL R1 S1 (by omega) hc hq (by omega) (by omega) hm hib hf n 0 2000 2000 0 0 64 V σ3 (by omega) (by omega) (by omega) rfl rfl B3 M3
    | false =>
      simp only
      rw [if_pos o1f, if_pos o1f]
      exact guardedL R1 S1 (by omega) hc hq (by omega) (by omega) hm hib hf n 0 2000 2000 0 0 0 V σ3 (by omega) (by omega) (by omega) rfl rfl B3 M3
end WH
