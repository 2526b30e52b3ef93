/-! acts: what is kept is turned when it is full; undo, and what is done -/
theorem pF_o {Z : AH} {a ci k : Nat} {fs fs' : List Value} {v : Value} (h : Z.2.2 a = some (.inl (ci, fs))) (hk : k < fs.length) (e : fs.set k v = fs') : pF Z a ci k v = some (xup Z a (.inl (ci, fs'))) := by rw [pF_of h hk, e]
theorem m_note11 (σ0 : MS) : ∀ (d j fuel : Nat) (i : Int32) (σ : MS), d < fuel → j + d = 943 → i = nI j → (∀ k, k ≠ 9 → σ k = σ0 k) → (∀ q, q < j → σ 9 q = σ0 9 (q + 41)) → (∀ q, j ≤ q → σ 9 q = σ0 9 q) → ∃ σ' : MS, fX9_note_L11 fuel σ i = fX9_note_L51 2000 (up2 σ' 0 19 (σ' 0 19 - 1)) 0 ∧ (∀ k, k ≠ 9 → σ' k = σ0 k) ∧ (∀ q, q < 943 → σ' 9 q = σ0 9 (q + 41)) := by
  intro d
  induction d with
  | zero =>
    intro j fuel i σ hf hj hi h1 h2 h3
    obtain ⟨f, rfl⟩ : ∃ f, fuel = f + 1 := ⟨fuel - 1, by omega⟩
    subst hi
    refine ⟨σ, ?_, h1, fun q hq => h2 q (by omega)⟩
    conv => lhs; unfold fX9_note_L11
    rw [if_pos (show (943 : Int32) ≤ nI j from nI_le (a := 943) (by omega) (by omega)), Option.bind_some]
  | succ d ih =>
    intro j fuel i σ hf hj hi h1 h2 h3
    obtain ⟨f, rfl⟩ : ∃ f, fuel = f + 1 := ⟨fuel - 1, by omega⟩
    subst hi
    obtain ⟨σ', e, k1, k2⟩ := ih (j + 1) f (nI (j + 1)) (up2 σ 9 j (σ 9 (j + 41))) (by omega) (by omega) rfl (fun k hk => by rw [up2_n hk]; exact h1 k hk) (fun q hq => by
      rw [up2_s]
      by_cases z : q = j
      · rw [z, upd_s, h3 _ (by omega)]
      · rw [upd_n z]; exact h2 q (by omega)) (fun q hq => by rw [up2_s, upd_n (by omega)]; exact h3 q (by omega))
    refine ⟨σ', ?_, k1, k2⟩
    rw [← e]
    have er : rd (σ 9) 984 (nI j + 41) = some (σ 9 (j + 41)) := by
      rw [show nI j + (41 : Int32) = nI (j + 41) from nI_add j 41]; exact rd_nI (by omega) (by omega)
    have ew : mwr σ 9 984 (nI j) (σ 9 (j + 41)) = some (up2 σ 9 j (σ 9 (j + 41))) := mwr_nI (by omega) (by omega)
    conv => lhs; unfold fX9_note_L11
    rw [if_neg (show ¬ (943 : Int32) ≤ nI j from nI_ge (b := 943) (by omega) (by omega))]
    simp only [er, ew, Option.bind_some, nI_1]
section RO
variable {o t n : Nat} {g h h2 : Nat → Option Nat} {X Y : AH} {σ σ' : MS}
/-- what is kept, turned by one -/
def rotH (h : Nat → Option Nat) : Nat → Option Nat := fun k => if k < 23 then h (k + 1) else if k = 23 then h 0 else h k
theorem x_rotL (R : Rl o t g h h2 X σ) (p0 : Nat) (hh : ∀ k, k < 24 → ∃ p, h k = some p ∧ Shp X p) : ∀ (d k fuel : Nat) (i : Int32) (Z : AH) (q : Nat → Option Nat), d < fuel → k + d = 24 → 1 ≤ k → i = nI k → AgX (fun a => a = o + 19) X Z → Z.2.2 (o + 19) = some (.inr (.inr (3, 24, q))) → (∀ j, j + 1 < k → q j = h (j + 1)) → (∀ j, k ≤ j + 1 → q j = h j) →
    ∃ (V : AH) (q' : Nat → Option Nat), fX0_keep_L18 fuel Z o p0 i = fX0_keep_L18 1 V o p0 24 ∧ AgX (fun a => a = o + 19) X V ∧ V.2.2 (o + 19) = some (.inr (.inr (3, 24, q'))) ∧ (∀ j, j < 23 → q' j = h (j + 1)) ∧ (∀ j, 23 ≤ j → q' j = h j) := by
  intro d
  induction d with
  | zero =>
    intro k fuel i Z q hf hk h1k hi G c q1 q2
    obtain ⟨f, rfl⟩ : ∃ f, fuel = f + 1 := ⟨fuel - 1, by omega⟩
    subst hi
    have : k = 24 := by omega
    subst this
    refine ⟨Z, q, ?_, G, c, fun j hj => q1 j (by omega), fun j hj => q2 j (by omega)⟩
    have e24 : nI 24 = (24 : Int32) := rfl
    rw [e24]
    conv => lhs; unfold fX0_keep_L18
    conv => rhs; unfold fX0_keep_L18
    rw [if_pos (by decide), if_pos (by decide)]
  | succ d ih =>
    intro k fuel i Z q hf hk h1k hi G c q1 q2
    obtain ⟨f, rfl⟩ : ∃ f, fuel = f + 1 := ⟨fuel - 1, by omega⟩
    subst hi
    obtain ⟨p, hp, hs⟩ := hh k (by omega)
    have hpZ : Shp Z p := hs.ag G R.w (fun a a1 a2 z => by
      have z : a = o + 19 := z
      have := (R.past.choose_spec.2.2.2.2.2 k p (by omega) hp).1
      omega)
    obtain ⟨la, μ, tf, tk, hM⟩ := hpZ
    have oZ : Z.2.2 o = some (.inl (0, crF o σ t)) := G.at R.w R.obj (fun z => by have z : o = o + 19 := z; omega)
    have G2 : AgX (fun a => a = o + 19) Z (xup Z (o + 19) (.inr (.inr (3, 24, va_up q (k - 1) (some p))))) := AgX.up G.w c (ni_q (by omega)) rfl
    obtain ⟨V, q', e, GV, cV, w1, w2⟩ := ih (k + 1) f (nI (k + 1)) _ (va_up q (k - 1) (some p)) (by omega) (by omega) (by omega) rfl (G.tr G2) xup_s (fun j hj => by
      show (if j = k - 1 then some p else q j) = h (j + 1)
      by_cases z : j = k - 1
      · rw [if_pos z, z, show k - 1 + 1 = k by omega, hp]
      · rw [if_neg z]; exact q1 j (by omega)) (fun j hj => by
      show (if j = k - 1 then some p else q j) = h j
      rw [if_neg (by omega)]; exact q2 j (by omega))
    refine ⟨V, q', ?_, GV, cV, w1, w2⟩
    rw [← e]
    have es : nI k - 1 = nI (k - 1) := pk_sub (b := 1) (by omega)
    conv => lhs; unfold fX0_keep_L18
    rw [if_neg (show ¬ (24 : Int32) ≤ nI k from nI_ge (b := 24) (by omega) (by omega))]
    simp only [gR_of oZ (k := 6) (v := o + 19) rfl, gQn_of c (show k < 24 by omega) (by omega) ((q2 k (by omega)).trans hp), ck_of hM.1, es, pQ_of c (show k - 1 < 24 by omega) (by omega), Option.bind_some, nI_1]
theorem Dsj.perm {W W' : Nat → Option Nat} (π : Nat → Nat) (H : Dsj W) (hW : ∀ i, W' i = W (π i)) (hl : ∀ i, lenB (π i) = lenB i) (hi : ∀ i j, π i = π j → i = j) : Dsj W' := by
  intro i j a b hij ha hb
  rw [hW] at ha hb
  have := H (π i) (π j) a b (fun z => hij (hi i j z)) ha hb
  rw [hl, hl] at this
  exact this
theorem rot_dsj (H : Dsj (bse g h h2 t)) : Dsj (bse g (rotH h) h2 t) := by
  refine Dsj.perm (fun i => if 8 ≤ i ∧ i < 31 then i + 1 else if i = 31 then 8 else i) H (fun i => ?_) (fun i => ?_) (fun i j e => ?_)
  · show bse g (rotH h) h2 t i = bse g h h2 t (if 8 ≤ i ∧ i < 31 then i + 1 else if i = 31 then 8 else i)
    by_cases c1 : 8 ≤ i ∧ i < 31
    · rw [if_pos c1]
      obtain ⟨k, rfl⟩ : ∃ k, i = 8 + k := ⟨i - 8, by omega⟩
      rw [bse_h (by omega), show 8 + k + 1 = 8 + (k + 1) by omega, bse_h (by omega)]
      unfold rotH
      rw [if_pos (by omega)]
    · rw [if_neg c1]
      by_cases c2 : i = 31
      · rw [if_pos c2, c2]
        rfl
      · rw [if_neg c2]
        unfold bse
        by_cases c3 : i < 8
        · rw [if_pos c3, if_pos c3]
        · rw [if_neg c3, if_neg c3, if_neg (show ¬ i < 32 by omega), if_neg (show ¬ i < 32 by omega)]
  · show lenB (if 8 ≤ i ∧ i < 31 then i + 1 else if i = 31 then 8 else i) = lenB i
    by_cases c1 : 8 ≤ i ∧ i < 31
    · rw [if_pos c1, lenB_h (by omega) (by omega), lenB_h (by omega) (by omega)]
    · rw [if_neg c1]
      by_cases c2 : i = 31
      · rw [if_pos c2, c2]; rfl
      · rw [if_neg c2]
  · have e : (if 8 ≤ i ∧ i < 31 then i + 1 else if i = 31 then 8 else i) = (if 8 ≤ j ∧ j < 31 then j + 1 else if j = 31 then 8 else j) := e
    split at e
    · split at e
      · omega
      · split at e <;> omega
    · split at e
      · split at e
        · omega
        · split at e <;> omega
      · split at e
        · omega
        · split at e <;> omega
/-- it is full: turned -/
theorem p_rot (R : Rl o t g h h2 X σ) (h19 : σ 0 19 = nI 24) (hS : Sv X (o + 3) n (σ 4)) : ∃ Y σ1, fX0_keep X o = fX0_keep_b62 Y o ∧ fX9_note σ = fX9_note_L51 2000 σ1 0 ∧ Rl o t g (rotH h) h2 Y σ1 ∧ σ1 0 19 = nI 23 ∧ Sv Y (o + 3) n (σ1 4) ∧ σ1 4 = σ 4 ∧ σ1 0 4 = σ 0 4 := by
  obtain ⟨a', k1, k2, k3, k4, k5, k6⟩ := R.past
  have ea : a' = 24 := (nI_eq (by omega) (by omega)).mp (k2.symm.trans h19)
  subst ea
  have hh : ∀ k, k < 24 → ∃ p, h k = some p ∧ Shp X p := fun k hk => by
    obtain ⟨p, m, e, w1, w2⟩ := k5 k hk
    exact ⟨p, e, w1.shp⟩
  obtain ⟨p0, hp0, hs0⟩ := hh 0 (by omega)
  have hp29 := (k6 0 p0 (by omega) hp0).1
  obtain ⟨V, q', eL, GV, cV, w1, w2⟩ := x_rotL R p0 hh 23 1 2000 1 X h (by omega) (by omega) (by omega) rfl (AgX.rf R.w) k1 (fun j hj => by omega) (fun j hj => rfl)
  have oV : V.2.2 o = some (.inl (0, crF o σ t)) := GV.at R.w R.obj (fun z => by have z : o = o + 19 := z; omega)
  have sV : Shp V p0 := hs0.ag GV R.w (fun a a1 a2 z => by have z : a = o + 19 := z; omega)
  obtain ⟨la, μ, tf, tk, hM⟩ := sV
  have hq : va_up q' 23 (some p0) = rotH h := by
    funext k
    show (if k = 23 then some p0 else q' k) = rotH h k
    unfold rotH
    by_cases c1 : k = 23
    · rw [if_pos c1, if_neg (by omega), if_pos c1, hp0]
    · rw [if_neg c1]
      by_cases c2 : k < 23
      · rw [if_pos c2]; exact w1 k c2
      · rw [if_neg c2, if_neg c1]; exact w2 k (by omega)
  have G2 : AgX (fun a => a = o + 19) V (xup V (o + 19) (.inr (.inr (3, 24, rotH h)))) := AgX.up GV.w cV (ni_q (by omega)) rfl
  have G3 := GV.tr G2
  obtain ⟨σ1, em, n1, n2⟩ := m_note11 σ 943 0 2000 0 σ (by omega) (by omega) rfl (fun _ _ => rfl) (fun q hq => by omega) (fun _ _ => rfl)
  have z0 := n1 0 (by omega)
  have sl : ∀ k j, k < 23 → j < 41 → slc (σ 9) (41 * (k + 1)) j = slc (σ1 9) (41 * k) j := fun k j hk hj => by
    show σ 9 (41 * (k + 1) + j) = σ1 9 (41 * k + j)
    rw [n2 _ (by omega), show 41 * k + j + 41 = 41 * (k + 1) + j by omega]
  -- the relation at 23 kept ones, with the array turned
  let σ2 : MS := up2 σ1 0 19 (nI 23)
  have u : ∀ j, j ≠ 19 → σ2 0 j = σ 0 j := fun j hj => by show up2 σ1 0 19 _ 0 j = _; rw [up2_s, upd_n hj, z0]
  have uk : ∀ k, k ≠ 0 → k ≠ 9 → σ2 k = σ k := fun k hk h9 => by show up2 σ1 0 19 _ k = _; rw [up2_n hk]; exact n1 k h9
  have u9 : σ2 9 = σ1 9 := up2_n (by omega)
  have nn : ∀ a, a ≠ o + 19 → ¬ (fun a => a = o + 19) a := fun a h z => h z
  have ht := R.trl.dj
  have q1 := R.rows.ag G3 R.w (nn _ (by omega)) (fun a _ => nn a (by omega))
  have q2 := R.tape.ag G3 R.w (nn _ (by omega))
  have q3 := R.min.ag G3 R.w (fun a _ _ => nn a (by omega))
  have q4 := R.img.ag G3 R.w (nn _ (by omega)) (fun a _ => nn a (by omega))
  have q5 := R.trl.ag G3 R.w (nn _ (by omega)) (nn _ (by omega))
  have o3 : (xup V (o + 19) (.inr (.inr (3, 24, rotH h)))).2.2 o = some (.inl (0, crF o σ t)) := G3.at R.w R.obj (nn _ (by omega))
  have G4 : AgX (fun a => a = o) (xup V (o + 19) (.inr (.inr (3, 24, rotH h)))) (xup (xup V (o + 19) (.inr (.inr (3, 24, rotH h)))) o (.inl (0, crF o σ2 t))) := AgX.up G3.w o3 (ni_o (by omega)) rfl
  have mm : ∀ a, a ≠ o → ¬ (fun a => a = o) a := fun a h z => h z
  have R2 : Rl o t g (rotH h) h2 (xup (xup V (o + 19) (.inr (.inr (3, 24, rotH h)))) o (.inl (0, crF o σ2 t))) σ2 := by
    refine ⟨G4.w, Nat.le_trans R.sz (Nat.le_trans G3.2.1 G4.2.1), xup_s, ?_, ?_, ?_, (R.tri.ag G3 R.w (fun a _ _ => nn a (by omega))).ag G4 G3.w (fun a _ _ => mm a (by omega)), ⟨23, ?_, ?_, by omega, fun _ => ?_, fun k hk => ?_, fun k p hk e => ?_⟩, ?_, ?_, (R.tkn.ag G3).ag G4, (R.emp.ag G3).ag G4, rot_dsj R.dsj⟩
    · have q := q1.ag G4 G3.w (mm _ (by omega)) (fun a _ => mm a (by omega))
      unfold pRows pRow at q ⊢; rw [uk 1 (by omega) (by omega), uk 2 (by omega) (by omega), uk 3 (by omega) (by omega)]; exact q
    · have q := q2.ag G4 G3.w (mm _ (by omega))
      unfold pTape at q ⊢; rw [u 8 (by omega), uk 6 (by omega) (by omega)]; exact q
    · have q := q3.ag G4 G3.w (fun a _ _ => mm a (by omega))
      unfold pMin at q ⊢; rw [u 4 (by omega), uk 4 (by omega) (by omega)]; exact q
    · exact G4.at G3.w xup_s (mm _ (by omega))
    · show up2 σ1 0 19 (nI 23) 0 19 = nI 23
      rw [up2_s, upd_s]
    · rw [u 4 (by omega)]; exact k4 (by omega)
    · obtain ⟨p, m, e, w1, w2, w3⟩ := k5 (k + 1) (by omega)
      have := (k6 (k + 1) p (by omega) e).1
      rw [u9]
      refine ⟨p, m, ?_, (((w1.ag G3 R.w (fun a _ _ => nn a (by omega))).ag G4 G3.w (fun a _ _ => mm a (by omega)))).cg (fun j hj => sl k j hk hj), w2, ?_⟩
      · unfold rotH; rw [if_pos hk]; exact e
      · rw [← sl k 1 hk (by omega)]; exact w3
    · have key : ∃ k', k' < 24 ∧ h k' = some p := by
        unfold rotH at e
        by_cases c1 : k < 23
        · rw [if_pos c1] at e; exact ⟨k + 1, by omega, e⟩
        · rw [if_neg c1, if_pos (by omega)] at e; exact ⟨0, by omega, e⟩
      obtain ⟨k', hk', e'⟩ := key
      obtain ⟨v1, v2⟩ := k6 k' p hk' e'
      exact ⟨v1, (v2.ag G3 R.w (fun a _ _ => nn a (by omega))).ag G4 G3.w (fun a _ _ => mm a (by omega))⟩
    · have q := q4.ag G4 G3.w (mm _ (by omega)) (fun a _ => mm a (by omega))
      unfold pImg at q ⊢; rw [u 4 (by omega), uk 11 (by omega) (by omega), uk 12 (by omega) (by omega)]; exact q
    · have q := q5.ag G4 G3.w (mm _ (by omega)) (mm _ (by omega))
      unfold pTrl at q ⊢; rw [u 24 (by omega), uk 13 (by omega) (by omega)]; exact q
  refine ⟨_, σ2, ?_, ?_, R2, ?_, ?_, uk 4 (by omega) (by omega), u 4 (by omega)⟩
  · unfold fX0_keep
    simp only [R.i7, h19, R.r6, gQn_of k1 (j := 0) (by omega) (by omega) hp0, show (0 : Int32) = nI 0 from rfl, Option.bind_some]
    rw [if_pos (show nI 24 = 24 from rfl)]
    rw [eL]
    conv => lhs; unfold fX0_keep_L18
    rw [if_pos (by decide)]
    have e23 : pQ V (o + 19) 3 23 (some p0) = some (xup V (o + 19) (.inr (.inr (3, 24, rotH h)))) := by
      rw [← hq]; exact pQ_of (j := 23) cV (by omega) (by omega)
    have eF : pF (xup V (o + 19) (.inr (.inr (3, 24, rotH h)))) o 0 7 (.int (σ 0 19 - 1)) = some (xup (xup V (o + 19) (.inr (.inr (3, 24, rotH h)))) o (.inl (0, crF o σ2 t))) := by
      refine pF_o o3 (Nat.le_of_ble_eq_true rfl) ?_
      show _ = crF o σ2 t
      unfold crF
      rw [u 8 (by omega), u 9 (by omega), u 3 (by omega), show σ2 0 19 = nI 23 from by show up2 σ1 0 19 (nI 23) 0 19 = nI 23; rw [up2_s, upd_s], h19]; rfl
    simp only [gR_of oV (k := 6) (v := o + 19) rfl, ck_of hM.1, e23, gI_of o3 (k := 7) (v := σ 0 19) rfl, eF, Option.bind_some]
  · unfold fX9_note
    rw [h19, if_pos (show nI 24 = 24 from rfl), em]
    show fX9_note_L51 2000 (up2 σ1 0 19 (σ1 0 19 - 1)) 0 = fX9_note_L51 2000 (up2 σ1 0 19 (nI 23)) 0
    rw [z0, h19]; rfl
  · show up2 σ1 0 19 (nI 23) 0 19 = nI 23
    rw [up2_s, upd_s]
  · rw [uk 4 (by omega) (by omega)]
    exact (hS.ag G3 R.w (fun a _ _ => nn a (by omega))).ag G4 G3.w (fun a _ _ => mm a (by omega))
/-- the ministry is kept -/
theorem p_keep (R : Rl o t g h h2 X σ) (hS : Sv X (o + 3) n (σ 4)) (ht : thr (σ 0 4) n (σ 4)) (h1 : 1 ≤ n) : ∃ Y σ' h', fX0_keep X o = some Y ∧ fX9_note σ = some σ' ∧ Rl o t g h' h2 Y σ' ∧ Sv Y (o + 3) n (σ' 4) ∧ σ' 4 = σ 4 ∧ σ' 0 4 = 1 := by
  obtain ⟨h04, hgl⟩ : σ 0 4 = 1 ∧ ¬ σ 4 1 ≤ 0 := by
    rcases ht with ⟨_, e, _⟩ | ⟨e1, _, e3⟩
    · omega
    · exact ⟨e1, e3⟩
  obtain ⟨a, k1, k2, k3, -⟩ := R.past
  by_cases c : a = 24
  · subst c
    obtain ⟨Y, σ1, e1, e2, R1, z19, S1, z4, z04⟩ := p_rot R k2 hS
    obtain ⟨Z, σ2, h', f1, f2, R2, S2, y4, y04⟩ := p_b62 R1 (a := 23) (by omega) z19 S1 h1 (by rw [z04]; exact h04) (by rw [z4]; exact hgl)
    exact ⟨Z, σ2, h', e1.trans f1, e2.trans f2, R2, S2, y4.trans z4, y04⟩
  · obtain ⟨Z, σ2, h', f1, f2, R2, S2, y4, y04⟩ := p_b62 R (a := a) (by omega) k2 hS h1 h04 hgl
    have hne : ¬ σ 0 19 = 24 := by rw [k2]; exact fun z => c ((nI_eq (b := 24) (by omega) (by omega)).mp z)
    refine ⟨Z, σ2, h', ?_, ?_, R2, S2, y4, y04⟩
    · unfold fX0_keep
      rw [R.i7, Option.bind_some, if_neg hne]; exact f1
    · unfold fX9_note
      rw [if_neg hne]; exact f2
end RO
