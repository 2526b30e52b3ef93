/-! a ministry is read, whole -/
theorem nI_any (x : Int32) : ∃ n, x = nI n := by
  refine ⟨x.toBitVec.toNat, ?_⟩
  apply Int32.toBitVec_inj.mp
  apply BitVec.eq_of_toNat_eq
  rw [pk_tn x.toBitVec.isLt]
theorem m_zero (σ0 : MS) : ∀ (d j fuel : Nat) (i : Int32) (σ : MS), d < fuel → j + d = 41 → i = nI j → (∀ k, k ≠ 7 → σ k = σ0 k) → (∀ q, q < j → σ 7 q = 0) → ∃ σ', fX9_readMinistry_L7 fuel σ i = fX9_readMinistry_L7 1 σ' 41 ∧ (∀ k, k ≠ 7 → σ' k = σ0 k) ∧ ∀ q, q < 41 → σ' 7 q = 0 := by
  intro d
  induction d with
  | zero =>
    intro j fuel i σ hf hj hi h1 h2
    obtain ⟨f, rfl⟩ : ∃ f, fuel = f + 1 := ⟨fuel - 1, by omega⟩
    subst hi
    have : j = 41 := by omega
    subst this
    refine ⟨σ, ?_, h1, h2⟩
    conv => lhs; unfold fX9_readMinistry_L7
    conv => rhs; unfold fX9_readMinistry_L7
    rw [if_pos (show (41 : Int32) ≤ nI 41 by decide), if_pos (show (41 : Int32) ≤ 41 by decide)]
  | succ d ih =>
    intro j fuel i σ hf hj hi h1 h2
    obtain ⟨f, rfl⟩ : ∃ f, fuel = f + 1 := ⟨fuel - 1, by omega⟩
    subst hi
    obtain ⟨σ', e, k1, k2⟩ := ih (j + 1) f (nI (j + 1)) (up2 σ 7 j 0) (by omega) (by omega) rfl (fun k hk => by rw [up2_n hk]; exact h1 k hk) (fun q hq => by
      rw [up2_s]
      by_cases z : q = j
      · rw [z, upd_s]
      · rw [upd_n z]; exact h2 q (by omega))
    refine ⟨σ', ?_, k1, k2⟩
    rw [← e]
    have ew : mwr σ 7 41 (nI j) 0 = some (up2 σ 7 j 0) := mwr_nI (by omega) (by omega)
    conv => lhs; unfold fX9_readMinistry_L7
    rw [if_neg (show ¬ (41 : Int32) ≤ nI j from nI_ge (b := 41) (by omega) (by omega)), ew, bsm, nI_1]
theorem Rho.put0 {ρ μ : Nat → Int32} {x : Int32} (h : Rho ρ μ) : Rho (upd ρ 0 x) (upd μ 0 x) := by
  refine ⟨by rw [upd_n (by omega)]; exact h.1, fun j h1 h2 h3 h4 => ?_⟩
  by_cases e : j = 0
  · rw [e, upd_s, upd_s]
  · rw [upd_n e, upd_n e]; exact h.2 j h1 h2 h3 h4
theorem Rho.put1 {ρ μ : Nat → Int32} {x : Int32} (h : Rho ρ μ) : Rho ρ (upd μ 1 x) :=
  ⟨h.1, fun j h1 h2 h3 h4 => by rw [upd_n (by omega)]; exact h.2 j h1 h2 h3 h4⟩
section ALL
variable {o t p b : Nat} {vs : Nat → Nat} {X0 X : AH} {σ0 σ : MS} {f0 : Nat → Option Nat} {ct fr cv : Int32}
theorem p_all (hop : o + 29 ≤ p) (he1 : X0.2.1.1 < o) (he2 : X0.2.2 X0.2.1.1 = some (.inr (.inr (5, 0, f0)))) (C : RC o p (p + 1) b vs X (nI 0) ct fr cv) (h6 : ∀ j, j < b → σ 6 j = nI (vs j)) (h8 : σ 0 8 = nI b) (B : BR o t p X0 σ0 X σ) (hM : MinAt X (p + 1) (p + 2) (fun _ => 0) NO .null) (hL : X.2.2 (p + 2) = some (.inl (9, [.int 0, .ref X.2.1.1, .int 0]))) (sz : p + 9 ≤ X.1) :
    (∃ Y σ', fX12_all X p = some (.inl (), Y) ∧ fX9_readMinistry σ = some (1, σ') ∧ OK o t p X0 σ0 Y σ') ∨
    (∃ y Y σ', fX12_all X p = some (.inr y, Y) ∧ fX9_readMinistry σ = some (0, σ') ∧ FO o t p X0 σ0 Y y σ') := by
  have hop' : o < p := by omega
  have nz : ∀ z, z ≠ p → ¬ (fun z => z = p) z := fun z h w => h w
  have nb : ∀ z, z < p + 1 → ¬ blk (p + 1) z := fun z h w => by unfold blk at w; omega
  obtain ⟨σz, ez, zk, z7⟩ := m_zero (up2 σ 0 10 0) 41 0 2000 0 (up2 σ 0 10 0) (by omega) (by omega) rfl (fun _ _ => rfl) (fun q hq => by omega)
  have z0 : σz 0 = up2 σ 0 10 0 0 := zk 0 (by omega)
  obtain ⟨fr0, hfr0⟩ := nI_any (σz 0 13)
  have Mz : MC b vs σz 0 fr0 := ⟨by rw [z0, u0, if_neg (by omega)]; exact h8, by rw [z0, u0, if_pos rfl]; rfl, hfr0, fun j hj => by rw [zk 6 (by omega), up2_n (by omega)]; exact h6 j hj⟩
  have Bz : BR o t p X0 σ0 X σz := B.m (fun k k0 k7 => by rw [zk k k7, up2_n k0]) (fun i hi => by rw [z0, u0, if_neg (by omega)])
  -- the first token
  obtain ⟨Y1, σ1, a1, ct1, cv1, n1, t1, S1, G1, M1⟩ := p_next C Mz (Nat.zero_le _)
  have B1 : BR o t p X0 σ0 Y1 σ1 := (Bz.ag hop' G1 (fun z hz => nz z (by omega))).ms M1
  have hmod : ∀ z, fX9_takes σ1 109 = z → fX9_readMinistry σ = (z.bind fun (v4, σ3) =>
      if v4 = 0 then ((some (0, σ3)) : Option (Int32 × MS)) else ((fX9_takesNumber σ3 0 5 0 44).bind fun (v7, σ6) =>
      if v7 = 0 then (some (0, σ6)) else ((fX9_takesNumber σ6 1 9 1 59).bind fun (v10, σ9) =>
      if v10 = 0 then (some (0, σ9)) else (fX9_readMinistry_L68 2000 σ9 1)))) := fun z hz => by
    unfold fX9_readMinistry
    rw [bsm, ez]
    unfold fX9_readMinistry_L7
    rw [if_pos (by decide), t1, bsm, hz]
  obtain ⟨bo, l1, l2, l3⟩ := p_let S1 (v := 109) (by omega) (by omega)
  have l1 : fX12_isLetter Y1 p 109 = some (one1 bo, Y1) := l1
  have l2 : fX9_isLetter σ1 109 = some (one1 bo, σ1) := l2
  cases bo with
  | false =>
    refine Or.inr ?_
    obtain ⟨Y, ef, hF, G⟩ := x_fault S1.1 1
    refine ⟨_, Y, up2 σ1 0 14 1, ?_, ?_, fault_out hop' S1 B1 hF G⟩
    · unfold fX12_all
      simp only [C.ck, n1, S1.1.ck, l1, bsm, o1f, ef]
    · have : fX9_takes σ1 109 = some (0, up2 σ1 0 14 1) := by
        unfold fX9_takes
        rw [l2, bsm]
        rfl
      rw [hmod _ this, bsm]
      simp only [if_true]
  | true =>
    have o1t : one1 true = 1 := rfl
    obtain ⟨Y2, σ2, a2, ct2, cv2, n2, t2, S2, G2, M2⟩ := p_next S1.1 S1.2.1 S1.2.2.1
    have B2 : BR o t p X0 σ0 Y2 σ2 := (B1.ag hop' G2 (fun z hz => nz z (by omega))).ms M2
    have htk : fX9_takes σ1 109 = some (1, σ2) := by
      unfold fX9_takes
      rw [l2, bsm]
      simp only [o1t, one0, if_false, t2, bsm]
    have s27 : ∀ q, q < 41 → σ2 7 q = 0 := fun q hq => by rw [M2.1 7 (by omega), M1.1 7 (by omega)]; exact z7 q hq
    have m2 : MinAt Y2 (p + 1) (p + 2) (fun _ => 0) NO .null := (hM.ag G1 C.2.1 (fun z _ _ => nz z (by omega))).ag G2 S1.1.2.1 (fun z _ _ => nz z (by omega))
    rcases p_fig S2 (lo := 0) (hi := 5) (by omega) (by omega) with ⟨v, Y3, v1, v2, f3, G3, H3⟩ | ⟨k3, Y3, f3, t3, hF, G3⟩
    · obtain ⟨σ4, a4, ct4, cv4, t4, S4, M4⟩ := H3 0 (by omega)
      have f3 : fX12_figure Y2 p 0 5 = some (.inl (nI v), Y3) := f3
      have t4 : ∀ ch, fX9_takesNumber σ2 0 5 0 ch = (fX9_takes σ4 ch).bind fun (v7, σ6) => (bz v7).bind fun v8 => some (v8, σ6) := t4
      have s47 : σ4 7 = upd (σ2 7) 0 (nI v) := by rw [M4.1 7 (by omega), up2_s]
      have m3 : MinAt Y3 (p + 1) (p + 2) (fun _ => 0) NO .null := m2.ag G3 S2.1.2.1 (fun z _ _ => nz z (by omega))
      obtain ⟨Y4, e4, m4, G4⟩ := m3.put0 (x := nI v) S4.1.2.1
      have S5 : RS o p (p + 1) b vs Y4 σ4 a4 a2 ct4 cv4 := S4.ag G4 (nb _ (by omega)) (nb _ (by omega))
      have B5 : BR o t p X0 σ0 Y4 σ4 := ((B2.ag hop' G3 (fun z hz => nz z (by omega))).ag hop' G4 (fun z hz => nb z (by omega))).m (fun k k0 k7 => by rw [M4.1 k k0, up2_n k7]) (fun i hi => by rw [M4.2 i (by omega), up2_n (by omega)])
      rcases p_sign S5 (w := 3) (ch := 44) (Or.inl ⟨rfl, rfl⟩) with ⟨Y5, σ5, a5', ct5, cv5, n5, t5, S6, G5, M5⟩ | ⟨Y5, n5, t5, hF, G5⟩
      · have B6 : BR o t p X0 σ0 Y5 σ5 := (B5.ag hop' G5 (fun z hz => nz z (by omega))).ms M5
        rcases p_fig S6 (lo := 1) (hi := 9) (by omega) (by omega) with ⟨u, Y6, u1, u2, f6, G6, H6⟩ | ⟨k6, Y6, f6, t6, hF, G6⟩
        · obtain ⟨σ6, a6, ct6, cv6, t6, S7, M6⟩ := H6 1 (by omega)
          have f6 : fX12_figure Y5 p 1 9 = some (.inl (nI u), Y6) := f6
          have t6 : ∀ ch, fX9_takesNumber σ5 1 9 1 ch = (fX9_takes σ6 ch).bind fun (v7, σ6) => (bz v7).bind fun v8 => some (v8, σ6) := t6
          have s67 : σ6 7 = upd (upd (σ2 7) 0 (nI v)) 1 (nI u) := by rw [M6.1 7 (by omega), up2_s, M5.1 7 (by omega), s47]
          have B7 : BR o t p X0 σ0 Y6 σ6 := (B6.ag hop' G6 (fun z hz => nz z (by omega))).m (fun k k0 k7 => by rw [M6.1 k k0, up2_n k7]) (fun i hi => by rw [M6.2 i (by omega), up2_n (by omega)])
          rcases p_sign S7 (w := 4) (ch := 59) (Or.inr ⟨rfl, rfl⟩) with ⟨Y7, σ7, a7, ct7, cv7, n7, t7, S8, G7, M7⟩ | ⟨Y7, n7, t7, hF, G7⟩
          · have s77 : σ7 7 = upd (upd (σ2 7) 0 (nI v)) 1 (nI u) := by rw [M7.1 7 (by omega)]; exact s67
            have B8 : BR o t p X0 σ0 Y7 σ7 := (B7.ag hop' G7 (fun z hz => nz z (by omega))).ms M7
            have D : RD o t p b vs X0 σ0 Y7 σ7 a7 a6 ct7 cv7 0 := by
              refine ⟨S8, B8, ⟨_, ((m4.ag G5 S5.1.2.1 (fun z _ _ => nz z (by omega))).ag G6 S6.1.2.1 (fun z _ _ => nz z (by omega))).ag G7 S7.1.2.1 (fun z _ _ => nz z (by omega)), ?_⟩, ?_, ?_, ?_, ?_⟩
              · rw [s77]
                exact (Rho.put0 (μ := σ2 7) ⟨rfl, fun i h1 _ _ _ => (s27 i h1).symm⟩).put1
              · exact (((((((Lst.ag (Or.inl ⟨rfl, hL⟩ : Lst X (p + 2) 0 (σ7 7)) G1).ag G2).ag G3).ag G4).ag G5).ag G6).ag G7)
              · exact Nat.le_trans sz (Nat.le_trans G1.2.1 (Nat.le_trans G2.2.1 (Nat.le_trans G3.2.1 (Nat.le_trans G4.2.1 (Nat.le_trans G5.2.1 (Nat.le_trans G6.2.1 G7.2.1))))))
              · rw [s77]
                refine ⟨by omega, by rw [upd_n (by omega), upd_n (by omega), s27 2 (by omega)]; rfl, fun i hi => ?_, ⟨0, by omega, by rw [upd_n (by omega), upd_n (by omega), s27 4 (by omega)]; rfl⟩, ⟨u, u2, by rw [upd_s]⟩⟩
                rw [upd_n (by omega), upd_n (by omega), upd_n (by omega), upd_n (by omega), upd_n (by omega), upd_n (by omega), upd_n (by omega), upd_n (by omega), s27 _ (by omega), s27 _ (by omega), s27 _ (by omega), s27 _ (by omega)]
                exact ⟨⟨0, by omega, rfl⟩, ⟨0, by omega, rfl⟩, ⟨0, by omega, rfl⟩, ⟨0, by omega, rfl⟩⟩
              · rw [s77, upd_s]; exact nI_nle (by omega) (by omega)
            have hmm : fX9_readMinistry σ = fX9_readMinistry_L68 2000 σ7 1 := by
              rw [hmod _ htk, bsm]
              simp only [one0, if_false]
              rw [t4, t5, bzb _ _ (Or.inr rfl), bsm]
              simp only [one0, if_false]
              rw [t6, t7, bzb _ _ (Or.inr rfl), bsm]
              simp only [one0, if_false]
            have hx : ∀ (x : Int32) (z : Option ((Unit ⊕ Nat) × AH)), fX12_sortOf Y7 p Y7.2.1.2.2.2.1 = some (x, Y7) → (if x = -1000000 then fX12_all_b62 Y7 p 0 p (nI u) else fX12_all_b62 Y7 p 1 p (nI u)) = z → fX12_all X p = z := by
              intro x z hs hz
              unfold fX12_all fX12_more
              simp only [C.ck, n1, S1.1.ck, l1, bsm, o1t, must1, n2, S2.1.g6, S2.1.ck, f3, e4, S5.1.ck, n5, S6.1.ck, f6, S7.1.ck, n7, S8.1.ck, hs]
              exact hz
            rcases p_sort S8 with ⟨j, hj, hs, hr, hct⟩ | ⟨hs, hr⟩
            · have hnj : ¬ nI j = -1000000 := fun z => absurd (show nI j < 0 by rw [z]; decide) (nI_pos (by omega))
              have hb62 : ∀ z, fX12_all_L66 9 Y7 p (nI u) = z → fX12_all X p = z := fun z hz => hx _ z hs (by
                rw [if_neg hnj]
                unfold fX12_all_b62
                simp only [S8.1.ck, bsm, must1]
                exact hz)
              rcases allL hop he1 he2 (nI u) 7 9 2000 0 a7 a6 Y7 σ7 ct7 cv7 (by omega) (by omega) (by omega) D (by rw [s77, upd_s]) (fun _ w => by rw [hs] at w; exact hnj (congrArg Prod.fst (Option.some.inj w))) with ⟨Y, σ', q1, q2, q3⟩ | ⟨y, Y, σ', q1, q2, q3⟩
              · exact Or.inl ⟨Y, σ', hb62 _ q1, hmm.trans q2, q3⟩
              · exact Or.inr ⟨y, Y, σ', hb62 _ q1, hmm.trans q2, q3⟩
            · -- no chair at all
              refine Or.inr ?_
              obtain ⟨Y, ef, hF, G⟩ := x_fault S8.1 1
              refine ⟨_, Y, up2 σ7 0 14 1, hx _ _ hs ?_, hmm.trans ?_, fault_out hop' S8 B8 hF G⟩
              · rw [if_pos rfl]
                unfold fX12_all_b62
                simp only [S8.1.ck, bsm, ef]
              · have e2 : rd (σ7 7) 41 2 = some 0 := by
                  show rd _ 41 (nI 2) = _
                  rw [rd_nI (by omega) (by omega), s77, upd_n (by omega), upd_n (by omega), s27 2 (by omega)]
                have e66 : fX9_readChair_b66 σ7 0 = some (0, up2 σ7 0 14 1) := by
                  unfold fX9_readChair_b66 fX9_readChair_b84 fX9_readChair_b94
                  rw [e2, bsm, if_pos rfl, if_pos rfl]
                  rfl
                have e89 : fX9_readMinistry_b89 (fX9_readMinistry_L68 1999) σ7 = some (0, up2 σ7 0 14 1) := by
                  unfold fX9_readMinistry_b89
                  rw [hr, e66, bsm]
                  exact m_good0 1998
                show fX9_readMinistry_L68 (1999 + 1) σ7 1 = _
                conv => lhs; unfold fX9_readMinistry_L68
                rw [if_neg (by decide), e2, bsm, if_pos rfl, ite_self]
                exact e89
          · refine Or.inr ⟨_, Y7, up2 σ6 0 14 1, ?_, ?_, fault_out hop' S7 B7 hF G7⟩
            · unfold fX12_all fX12_more
              simp only [C.ck, n1, S1.1.ck, l1, bsm, o1t, must1, n2, S2.1.g6, S2.1.ck, f3, e4, S5.1.ck, n5, S6.1.ck, f6, S7.1.ck, n7]
            · rw [hmod _ htk, bsm]
              simp only [one0, if_false]
              rw [t4, t5, bzb _ _ (Or.inr rfl), bsm]
              simp only [one0, if_false]
              rw [t6, t7, bzb _ _ (Or.inl rfl), bsm]
              simp only [if_true]
        · have f6 : fX12_figure Y5 p 1 9 = some (.inr Y5.1, Y6) := f6
          have t6 : ∀ at' ch, fX9_takesNumber σ5 1 9 at' ch = some (0, up2 σ5 0 14 k6) := t6
          refine Or.inr ⟨_, Y6, up2 σ5 0 14 k6, ?_, ?_, fault_out hop' S6 B6 hF G6⟩
          · unfold fX12_all fX12_more
            simp only [C.ck, n1, S1.1.ck, l1, bsm, o1t, must1, n2, S2.1.g6, S2.1.ck, f3, e4, S5.1.ck, n5, S6.1.ck, f6]
          · rw [hmod _ htk, bsm]
            simp only [one0, if_false]
            rw [t4, t5, bzb _ _ (Or.inr rfl), bsm]
            simp only [one0, if_false, t6, bsm, if_true]
      · refine Or.inr ⟨_, Y5, up2 σ4 0 14 1, ?_, ?_, fault_out hop' S5 B5 hF G5⟩
        · unfold fX12_all fX12_more
          simp only [C.ck, n1, S1.1.ck, l1, bsm, o1t, must1, n2, S2.1.g6, S2.1.ck, f3, e4, S5.1.ck, n5]
        · rw [hmod _ htk, bsm]
          simp only [one0, if_false]
          rw [t4, t5, bzb _ _ (Or.inl rfl), bsm]
          simp only [if_true]
    · have f3 : fX12_figure Y2 p 0 5 = some (.inr Y2.1, Y3) := f3
      have t3 : ∀ at' ch, fX9_takesNumber σ2 0 5 at' ch = some (0, up2 σ2 0 14 k3) := t3
      refine Or.inr ⟨_, Y3, up2 σ2 0 14 k3, ?_, ?_, fault_out hop' S2 B2 hF G3⟩
      · unfold fX12_all fX12_more
        simp only [C.ck, n1, S1.1.ck, l1, bsm, o1t, must1, n2, S2.1.g6, S2.1.ck, f3]
      · rw [hmod _ htk, bsm]
        simp only [one0, if_false, t3, bsm, if_true]
end ALL
