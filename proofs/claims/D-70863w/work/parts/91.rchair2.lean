/-! texts: a chair is read, in both -/
def Rho (ρ μ : Nat → Int32) : Prop := ρ 1 = 0 ∧ ∀ j, j < 41 → j ≠ 1 → j ≠ 2 → (j < 5 ∨ 11 ≤ j) → ρ j = μ j
theorem Rho.put {ρ μ : Nat → Int32} {k : Nat} {x : Int32} (h : Rho ρ μ) (hk : 11 ≤ k) : Rho (upd ρ k x) (upd μ k x) := by
  refine ⟨by rw [upd_n (by omega)]; exact h.1, fun j h1 h2 h3 h4 => ?_⟩
  by_cases e : j = k
  · rw [e, upd_s, upd_s]
  · rw [upd_n e, upd_n e]; exact h.2 j h1 h2 h3 h4
theorem Rho.put' {ρ μ : Nat → Int32} {k : Nat} {x : Int32} (h : Rho ρ μ) (hk : k = 2 ∨ (5 ≤ k ∧ k < 11)) : Rho ρ (upd μ k x) :=
  ⟨h.1, fun j h1 h2 h3 h4 => by rw [upd_n (by omega)]; exact h.2 j h1 h2 h3 h4⟩
/-- the state between two chairs: c of them are there -/
def RD (o t p b : Nat) (vs : Nat → Nat) (X0 : AH) (σ0 : MS) (X : AH) (σ : MS) (a fr : Nat) (ct cv : Int32) (c : Nat) : Prop := RS o p (p + 1) b vs X σ a fr ct cv ∧ BR o t p X0 σ0 X σ ∧ (∃ ρ, MinAt X (p + 1) (p + 2) ρ NO .null ∧ Rho ρ (σ 7)) ∧ Lst X (p + 2) c (σ 7) ∧ p + 9 ≤ X.1 ∧ goodM c (σ 7) ∧ ¬ σ 7 1 ≤ 0
section RCH
variable {o t p b a fr c j : Nat} {vs : Nat → Nat} {X0 X : AH} {σ0 σ : MS} {ct cv : Int32} {f0 : Nat → Option Nat}
theorem BR.emp (B : BR o t p X0 σ0 X σ) (hop : o < p) (h1 : X0.2.1.1 < o) (h2 : X0.2.2 X0.2.1.1 = some (.inr (.inr (5, 0, f0)))) : X.2.2 X.2.1.1 = some (.inr (.inr (5, 0, f0))) := by
  rw [B.2.1, B.2.2.2.1 _ (by omega) (by omega)]; exact h2
theorem bzb (x : Int32) (s : MS) (h : x = 0 ∨ x = 1) : ((some (x, s)).bind fun (v7, σ6) => (bz v7).bind fun v8 => some (v8, σ6)) = some (x, s) := by
  rcases h with rfl | rfl <;> rfl
theorem p_chair (hop : o + 29 ≤ p) (he1 : X0.2.1.1 < o) (he2 : X0.2.2 X0.2.1.1 = some (.inr (.inr (5, 0, f0)))) (D : RD o t p b vs X0 σ0 X σ a fr ct cv c) (hj : j < 5) (hsort : fX12_sortOf X p X.2.1.2.2.2.1 = some (nI j, X)) :
    (∃ Y σ' a' fr' ct' cv', fX12_chair X p = some (.inl (), Y) ∧ fX9_readChair_b66 σ (nI (j + 1)) = some (1, σ') ∧ RD o t p b vs X0 σ0 Y σ' a' fr' ct' cv' (c + 1)) ∨
    (∃ y Y σ', fX12_chair X p = some (.inr y, Y) ∧ fX9_readChair_b66 σ (nI (j + 1)) = some (0, σ') ∧ FO o t p X0 σ0 Y y σ') := by
  obtain ⟨S, B, ⟨ρ, hM, hρ⟩, L, sz, hg, hgl⟩ := D
  have hop' : o < p := by omega
  have c6 := hg.1
  have he := B.emp hop' he1 he2
  have hmany := x_many hM (L.ChL c6 he)
  have e2 : rd (σ 7) 41 2 = some (nI c) := by rw [← hg.2.1]; exact rd_nI (j := 2) (by omega) (by omega)
  have hk0 : ¬ nI (j + 1) = 0 := nI_ne0 (by omega) (by omega)
  by_cases c6' : c = 6
  · -- there is no room
    refine Or.inr ?_
    obtain ⟨Y, ef, hF, G⟩ := x_fault S.1 3
    refine ⟨X.1, Y, up2 σ 0 14 3, ?_, ?_, fault_out hop' S B hF G⟩
    · unfold fX12_chair fX12_begin fX12_begin_b11
      simp only [S.1.ck, hsort, bsm, S.1.g6, ck_of hM.1, hmany]
      rw [c6', if_pos (show (6 : Int32) ≤ nI 6 from by decide)]
      simp only [ef, bsm]
    · unfold fX9_readChair_b66 fX9_readChair_b84 fX9_readChair_b94
      rw [e2, bsm, if_neg hk0, c6', if_pos (show nI 6 = 6 from rfl), if_neg hk0]
      rfl
  have hc : c < 6 := by omega
  have hc6 : ¬ nI c = 6 := fun z => c6' ((nI_eq (b := 6) (by omega) (by omega)).mp z)
  have hb6 : ¬ (6 : Int32) ≤ nI c := nI_ge (b := 6) (by omega) (by omega)
  -- the token behind the letter
  obtain ⟨Y1, σ1, a1, ct1, cv1, en, em, S1, G1, M1⟩ := p_next S.1 S.2.1 S.2.2.1
  have nz : ∀ z, z ≠ p → ¬ (fun z => z = p) z := fun z h w => h w
  have B1 : BR o t p X0 σ0 Y1 σ1 := (B.ag hop' G1 (fun z hz => nz z (by omega))).ms M1
  have z7 : σ1 7 = σ 7 := M1.1 7 (by omega)
  let σ3 : MS := up2 (up2 σ1 7 (5 + c) (nI (j + 1))) 7 2 (nI (c + 1))
  have s3k : ∀ k, k ≠ 7 → σ3 k = σ1 k := fun k hk => by show up2 (up2 σ1 7 _ _) 7 2 _ k = _; rw [up2_n hk, up2_n hk]
  have s37 : σ3 7 = upd (upd (σ 7) (5 + c) (nI (j + 1))) 2 (nI (c + 1)) := by show up2 (up2 σ1 7 _ _) 7 2 _ 7 = _; rw [up2_s, up2_s, z7]
  have S3 : RS o p (p + 1) b vs Y1 σ3 a1 a ct1 cv1 := S1.m7 s3k
  have B3 : BR o t p X0 σ0 Y1 σ3 := B1.m (fun k _ k7 => s3k k k7) (fun i _ => by rw [s3k 0 (by omega)])
  have g3 : goodM (c + 1) (σ3 7) := by
    rw [s37]
    refine ⟨by omega, by rw [upd_s], fun i hi => ?_, by rw [upd_n (by omega), upd_n (by omega)]; exact hg.2.2.2.1, by rw [upd_n (by omega), upd_n (by omega)]; exact hg.2.2.2.2⟩
    have := hg.2.2.1 i hi
    rw [upd_n (by omega), upd_n (by omega), upd_n (by omega), upd_n (by omega), upd_n (by omega), upd_n (by omega), upd_n (by omega), upd_n (by omega)]
    exact this
  have l3 : ¬ σ3 7 1 ≤ 0 := by rw [s37, upd_n (by omega), upd_n (by omega)]; exact hgl
  have r3 : Rho ρ (σ3 7) := by rw [s37]; exact (hρ.put' (Or.inr (by omega))).put' (Or.inl rfl)
  have k3 : ∀ i, i < c → σ 7 (5 + i) = σ3 7 (5 + i) := fun i hi => by rw [s37, upd_n (by omega), upd_n (by omega)]
  have kc3 : σ3 7 (5 + c) = nI (j + 1) := by rw [s37, upd_n (by omega), upd_s]
  have m1 : MinAt Y1 (p + 1) (p + 2) ρ NO .null := hM.ag G1 S.1.2.1 (fun z _ _ => nz z (by omega))
  have L1 : Lst Y1 (p + 2) c (σ3 7) := (L.ag G1).cg k3
  have sz1 : p + 9 ≤ Y1.1 := Nat.le_trans sz G1.2.1
  have hmod : ∀ z, fX9_takesNumber σ3 0 60 (nI (11 + c)) 44 = z → fX9_readChair_b66 σ (nI (j + 1)) = (z.bind fun (v9, σ8) =>
      if v9 = 0 then ((some (0, σ8)) : Option (Int32 × MS)) else ((fX9_takesNumber σ8 0 9 (17 + nI c) 44).bind fun (v12, σ11) =>
      if v12 = 0 then (some (0, σ11)) else ((fX9_takesNumber σ11 0 3 (23 + nI c) 59).bind fun (v15, σ14) =>
      if v15 = 0 then (some (0, σ14)) else (some (1, σ14))))) := fun z hz => by
    have w1 : mwr σ1 7 41 (5 + nI c) (nI (j + 1)) = some (up2 σ1 7 (5 + c) (nI (j + 1))) := by rw [a5]; exact mwr_nI (by omega) (by omega)
    have w2 : rd (up2 σ1 7 (5 + c) (nI (j + 1)) 7) 41 2 = some (nI c) := by
      rw [up2_s, z7]
      show rd _ 41 (nI 2) = _
      rw [rd_nI (by omega) (by omega), upd_n (by omega), hg.2.1]
    have w3 : mwr (up2 σ1 7 (5 + c) (nI (j + 1))) 7 41 2 (nI c + 1) = some σ3 := by rw [nI_1]; exact mwr_nI (j := 2) (by omega) (by omega)
    unfold fX9_readChair_b66
    simp only [e2, bsm]
    rw [if_neg hk0, if_neg hc6]
    simp only [em, bsm, w1, w2, w3, a11, hz]

  have fin : ∀ {Xk : AH} {σk : MS} {ak fk : Nat} {ck1 cvk : Int32}, RS o p (p + 1) b vs Xk σk ak fk ck1 cvk → BR o t p X0 σ0 Xk σk → True := fun _ _ => trivial
  rcases p_fig S3 (lo := 0) (hi := 60) (by omega) (by omega) with ⟨v, Y2, v1, v2, f2, G2, H2⟩ | ⟨k2, Y2, f2, t2, hF, G2⟩
  · obtain ⟨σ4, a4, ct4, cv4, t4, S4, M4⟩ := H2 (11 + c) (by omega)
    have f2 : fX12_figure Y1 p 0 60 = some (.inl (nI v), Y2) := f2
    have t4 : ∀ ch, fX9_takesNumber σ3 0 60 (nI (11 + c)) ch = (fX9_takes σ4 ch).bind fun (v7, σ6) => (bz v7).bind fun v8 => some (v8, σ6) := t4
    have s47 : σ4 7 = upd (σ3 7) (11 + c) (nI v) := by rw [M4.1 7 (by omega), up2_s]
    have m2 : MinAt Y2 (p + 1) (p + 2) ρ NO .null := m1.ag G2 S1.1.2.1 (fun z _ _ => nz z (by omega))
    obtain ⟨Y3, e3, m3, G3, -⟩ := m2.put (q := 2) (b := 11) (c := c) (x := nI v) S4.1.2.1 mo2 (by omega)
    have nb : ∀ z, z < p + 1 → ¬ blk (p + 1) z := fun z h w => by unfold blk at w; omega
    have S5 : RS o p (p + 1) b vs Y3 σ4 a4 a1 ct4 cv4 := S4.ag G3 (nb _ (by omega)) (nb _ (by omega))
    have B5 : BR o t p X0 σ0 Y3 σ4 := (((B3.ag hop' G2 (fun z hz => nz z (by omega))).ag hop' G3 (fun z hz => nb z (by omega)))).m (fun k k0 k7 => by rw [M4.1 k k0, up2_n k7]) (fun i hi => by rw [M4.2 i (by omega), up2_n (by omega)])
    have L5 : Lst Y3 (p + 2) c (σ4 7) := ((L1.ag G2).ag G3).cg (fun i hi => by rw [s47, upd_n (by omega)])
    have r5 : Rho (upd ρ (11 + c) (nI v)) (σ4 7) := by rw [s47]; exact r3.put (by omega)
    have g5 : goodM (c + 1) (σ4 7) := by rw [s47]; exact g3.put mo2 (by omega) (Or.inl rfl) ⟨by omega, by omega, by omega, by omega⟩
    have l5 : ¬ σ4 7 1 ≤ 0 := by rw [s47, upd_n (by omega)]; exact l3
    have kc5 : σ4 7 (5 + c) = nI (j + 1) := by rw [s47, upd_n (by omega)]; exact kc3
    have q5 : gR Y3 p 12 6 = some (p + 1) := S5.1.g6
    have q5b : gR Y3 (p + 1) 1 5 = some (p + 1 + 4) := gR_of m3.1 rfl
    rcases p_sign S5 (w := 3) (ch := 44) (Or.inl ⟨rfl, rfl⟩) with ⟨Y4, σ5, a5', ct5, cv5, n4, t5, S6, G4, M5⟩ | ⟨Y4, n4, t5, hF, G4⟩
    · have B6 : BR o t p X0 σ0 Y4 σ5 := (B5.ag hop' G4 (fun z hz => nz z (by omega))).ms M5
      have s57 : σ5 7 = σ4 7 := M5.1 7 (by omega)
      rcases p_fig S6 (lo := 0) (hi := 9) (by omega) (by omega) with ⟨u, Y5, u1, u2, f5, G5, H5⟩ | ⟨k5, Y5, f5, t6, hF, G5⟩
      · obtain ⟨σ6, a6, ct6, cv6, t6, S7, M6⟩ := H5 (17 + c) (by omega)
        have f5 : fX12_figure Y4 p 0 9 = some (.inl (nI u), Y5) := f5
        have t6 : ∀ ch, fX9_takesNumber σ5 0 9 (nI (17 + c)) ch = (fX9_takes σ6 ch).bind fun (v7, σ6) => (bz v7).bind fun v8 => some (v8, σ6) := t6
        have s67 : σ6 7 = upd (σ4 7) (17 + c) (nI u) := by rw [M6.1 7 (by omega), up2_s, s57]
        have m5 : MinAt Y5 (p + 1) (p + 2) (upd ρ (11 + c) (nI v)) NO .null := (m3.ag G4 S5.1.2.1 (fun z _ _ => nz z (by omega))).ag G5 S6.1.2.1 (fun z _ _ => nz z (by omega))
        obtain ⟨Y6, e6, m6, G6, -⟩ := m5.put (q := 4) (b := 17) (c := c) (x := nI u) S7.1.2.1 mo4 (by omega)
        have S8 : RS o p (p + 1) b vs Y6 σ6 a6 a5' ct6 cv6 := S7.ag G6 (nb _ (by omega)) (nb _ (by omega))
        have B8 : BR o t p X0 σ0 Y6 σ6 := (((B6.ag hop' G5 (fun z hz => nz z (by omega))).ag hop' G6 (fun z hz => nb z (by omega)))).m (fun k k0 k7 => by rw [M6.1 k k0, up2_n k7]) (fun i hi => by rw [M6.2 i (by omega), up2_n (by omega)])
        have L8 : Lst Y6 (p + 2) c (σ6 7) := (((L5.ag G4).ag G5).ag G6).cg (fun i hi => by rw [s67, upd_n (by omega)])
        have r8 : Rho (upd (upd ρ (11 + c) (nI v)) (17 + c) (nI u)) (σ6 7) := by rw [s67]; exact r5.put (by omega)
        have g8 : goodM (c + 1) (σ6 7) := by rw [s67]; exact g5.put mo4 (by omega) (Or.inl rfl) ⟨by omega, by omega, by omega, by omega⟩
        have l8 : ¬ σ6 7 1 ≤ 0 := by rw [s67, upd_n (by omega)]; exact l5
        have kc8 : σ6 7 (5 + c) = nI (j + 1) := by rw [s67, upd_n (by omega)]; exact kc5
        have q8 : gR Y6 p 12 6 = some (p + 1) := S8.1.g6
        have q8b : gR Y6 (p + 1) 1 6 = some (p + 1 + 5) := gR_of m6.1 rfl
        rcases p_sign S8 (w := 3) (ch := 44) (Or.inl ⟨rfl, rfl⟩) with ⟨Y7, σ7, a7, ct7, cv7, n7, t7, S9, G7, M7⟩ | ⟨Y7, n7, t7, hF, G7⟩
        · have B9 : BR o t p X0 σ0 Y7 σ7 := (B8.ag hop' G7 (fun z hz => nz z (by omega))).ms M7
          have s77 : σ7 7 = σ6 7 := M7.1 7 (by omega)
          rcases p_fig S9 (lo := 0) (hi := 3) (by omega) (by omega) with ⟨x, Y8, x1, x2, f8, G8, H8⟩ | ⟨k8, Y8, f8, t8, hF, G8⟩
          · obtain ⟨σ8, a8, ct8, cv8, t8, S10, M8⟩ := H8 (23 + c) (by omega)
            have f8 : fX12_figure Y7 p 0 3 = some (.inl (nI x), Y8) := f8
            have t8 : ∀ ch, fX9_takesNumber σ7 0 3 (nI (23 + c)) ch = (fX9_takes σ8 ch).bind fun (v7, σ6) => (bz v7).bind fun v8 => some (v8, σ6) := t8
            have s87 : σ8 7 = upd (σ6 7) (23 + c) (nI x) := by rw [M8.1 7 (by omega), up2_s, s77]
            have m8 : MinAt Y8 (p + 1) (p + 2) (upd (upd ρ (11 + c) (nI v)) (17 + c) (nI u)) NO .null := (m6.ag G7 S8.1.2.1 (fun z _ _ => nz z (by omega))).ag G8 S9.1.2.1 (fun z _ _ => nz z (by omega))
            obtain ⟨Y9, e9, m9, G9, -⟩ := m8.put (q := 5) (b := 23) (c := c) (x := nI x) S10.1.2.1 mo5 (by omega)
            have S11 : RS o p (p + 1) b vs Y9 σ8 a8 a7 ct8 cv8 := S10.ag G9 (nb _ (by omega)) (nb _ (by omega))
            have B11 : BR o t p X0 σ0 Y9 σ8 := (((B9.ag hop' G8 (fun z hz => nz z (by omega))).ag hop' G9 (fun z hz => nb z (by omega)))).m (fun k k0 k7 => by rw [M8.1 k k0, up2_n k7]) (fun i hi => by rw [M8.2 i (by omega), up2_n (by omega)])
            have L11 : Lst Y9 (p + 2) c (σ8 7) := (((L8.ag G7).ag G8).ag G9).cg (fun i hi => by rw [s87, upd_n (by omega)])
            have r11 : Rho (upd (upd (upd ρ (11 + c) (nI v)) (17 + c) (nI u)) (23 + c) (nI x)) (σ8 7) := by rw [s87]; exact r8.put (by omega)
            have g11 : goodM (c + 1) (σ8 7) := by rw [s87]; exact g8.put mo5 (by omega) (Or.inl rfl) ⟨by omega, by omega, by omega, by omega⟩
            have l11 : ¬ σ8 7 1 ≤ 0 := by rw [s87, upd_n (by omega)]; exact l8
            have kc11 : σ8 7 (5 + c) = nI (j + 1) := by rw [s87, upd_n (by omega)]; exact kc8
            have sz9 : p + 9 ≤ Y9.1 := Nat.le_trans sz1 (Nat.le_trans G2.2.1 (Nat.le_trans G3.2.1 (Nat.le_trans G4.2.1 (Nat.le_trans G5.2.1 (Nat.le_trans G6.2.1 (Nat.le_trans G7.2.1 (Nat.le_trans G8.2.1 G9.2.1)))))))
            -- the chair, the list
            obtain ⟨Z1, eb, cb, sb, Gb⟩ := x_chairBy (c := c) S11.1.2.1 hj
            have S12 : RS o p (p + 1) b vs Z1 σ8 a8 a7 ct8 cv8 := S11.ag Gb (fun z => z) (fun z => z)
            have B12 : BR o t p X0 σ0 Z1 σ8 := B11.ag hop' Gb (fun _ _ z => z)
            have L12 : Lst Z1 (p + 2) c (σ8 7) := L11.ag Gb
            have m12 : MinAt Z1 (p + 1) (p + 2) (upd (upd (upd ρ (11 + c) (nI v)) (17 + c) (nI u)) (23 + c) (nI x)) NO .null := m9.ag Gb S11.1.2.1 (fun _ _ _ z => z)
            have he12 := B12.emp hop' he1 he2
            obtain ⟨Z2, ea, L13, w13, c13, n13, o13⟩ := x_add S12.1.2.1 L12 hc he12 (by rw [B12.2.1]; omega) (by omega) (by omega) cb (by omega) (by omega) kc11
            have S13 : RS o p (p + 1) b vs Z2 σ8 a8 a7 ct8 cv8 := S12.mv w13 (o13 p (by omega) (by omega)) (o13 (o + 2) (by omega) (by omega))
            have B13 : BR o t p X0 σ0 Z2 σ8 := B12.mv hop' w13 c13 n13 (fun z hz => o13 z (by omega) (by omega))
            have m13 : MinAt Z2 (p + 1) (p + 2) (upd (upd (upd ρ (11 + c) (nI v)) (17 + c) (nI u)) (23 + c) (nI x)) NO .null := by
              obtain ⟨h1, h2, h3, h4, h5, h6, f, h7⟩ := m12
              have ar : ∀ (z : Nat) (b : Nat), z < p + 9 → z ≠ p + 2 → arr6 Z1 z (upd (upd (upd ρ (11 + c) (nI v)) (17 + c) (nI u)) (23 + c) (nI x)) b → arr6 Z2 z (upd (upd (upd ρ (11 + c) (nI v)) (17 + c) (nI u)) (23 + c) (nI x)) b := fun z b hz hz2 ⟨f, k1, k2⟩ => ⟨f, (o13 z (by omega) hz2).trans k1, k2⟩
              exact ⟨(o13 _ (by omega) (by omega)).trans h1, ar _ _ (by omega) (by omega) h2, ar _ _ (by omega) (by omega) h3, ar _ _ (by omega) (by omega) h4, ar _ _ (by omega) (by omega) h5, ar _ _ (by omega) (by omega) h6, f, (o13 _ (by omega) (by omega)).trans h7⟩
            have q9 : gR Y9 p 12 6 = some (p + 1) := S11.1.g6
            have q9b : gR Y9 (p + 1) 1 2 = some (p + 2) := gR_of m9.1 rfl
            have ckl : ck Z1 (p + 2) 9 = some () := by
              rcases L12 with ⟨-, h⟩ | ⟨-, mc, E, g, h, -⟩
              · exact ck_of h
              · exact ck_of h
            rcases p_sign S13 (w := 4) (ch := 59) (Or.inr ⟨rfl, rfl⟩) with ⟨V, σ9, a9, ct9, cv9, n9, t9, S14, G14, M9⟩ | ⟨V, n9, t9, hF, G14⟩
            · refine Or.inl ⟨V, σ9, a9, a8, ct9, cv9, ?_, ?_, S14, (B13.ag hop' G14 (fun z hz => nz z (by omega))).ms M9, ⟨_, m13.ag G14 S13.1.2.1 (fun z _ _ => nz z (by omega)), by rw [M9.1 7 (by omega)]; exact r11⟩, by rw [M9.1 7 (by omega)]; exact L13.ag G14, Nat.le_trans (Nat.le_trans (Nat.le_trans sz9 Gb.2.1) n13) G14.2.1, by rw [M9.1 7 (by omega)]; exact g11, by rw [M9.1 7 (by omega)]; exact l11⟩
              · unfold fX12_chair fX12_begin fX12_begin_b11 fX12_more
                simp only [S.1.ck, hsort, bsm, S.1.g6, ck_of hM.1, hmany, must1, en, S1.1.ck, S1.1.g6, gR_of m1.1 (k := 3) (v := p + 1 + 2) rfl]
                rw [if_neg hb6]
                simp only [S.1.ck, hsort, bsm, S.1.g6, ck_of hM.1, hmany, must1, en, S1.1.ck, S1.1.g6, gR_of m1.1 (k := 3) (v := p + 1 + 2) rfl, f2, e3, q5, q5b, S5.1.ck, n4, S6.1.ck, f5, e6, q8, q8b, S8.1.ck, n7, S9.1.ck, f8, e9, q9, q9b, eb, ckl, ea, S13.1.ck, n9]
              · rw [hmod _ (t4 44), t5, bzb _ _ (Or.inr rfl), bsm]
                simp only [one0, if_false, a17]
                rw [t6, t7, bzb _ _ (Or.inr rfl), bsm]
                simp only [one0, if_false, a23]
                rw [t8, t9, bzb _ _ (Or.inr rfl), bsm]
                simp only [one0, if_false]
            · refine Or.inr ⟨_, V, up2 σ8 0 14 1, ?_, ?_, fault_out hop' S13 B13 hF G14⟩
              · unfold fX12_chair fX12_begin fX12_begin_b11 fX12_more
                simp only [S.1.ck, hsort, bsm, S.1.g6, ck_of hM.1, hmany, must1, en, S1.1.ck, S1.1.g6, gR_of m1.1 (k := 3) (v := p + 1 + 2) rfl]
                rw [if_neg hb6]
                simp only [S.1.ck, hsort, bsm, S.1.g6, ck_of hM.1, hmany, must1, en, S1.1.ck, S1.1.g6, gR_of m1.1 (k := 3) (v := p + 1 + 2) rfl, f2, e3, q5, q5b, S5.1.ck, n4, S6.1.ck, f5, e6, q8, q8b, S8.1.ck, n7, S9.1.ck, f8, e9, q9, q9b, eb, ckl, ea, S13.1.ck, n9]
              · rw [hmod _ (t4 44), t5, bzb _ _ (Or.inr rfl), bsm]
                simp only [one0, if_false, a17]
                rw [t6, t7, bzb _ _ (Or.inr rfl), bsm]
                simp only [one0, if_false, a23]
                rw [t8, t9, bzb _ _ (Or.inl rfl), bsm]
                simp only [if_true]
          · have f8 : fX12_figure Y7 p 0 3 = some (.inr Y7.1, Y8) := f8
            have t8 : ∀ at' ch, fX9_takesNumber σ7 0 3 at' ch = some (0, up2 σ7 0 14 k8) := t8
            refine Or.inr ⟨_, Y8, up2 σ7 0 14 k8, ?_, ?_, fault_out hop' S9 B9 hF G8⟩
            · unfold fX12_chair fX12_begin fX12_begin_b11 fX12_more
              simp only [S.1.ck, hsort, bsm, S.1.g6, ck_of hM.1, hmany, must1, en, S1.1.ck, S1.1.g6, gR_of m1.1 (k := 3) (v := p + 1 + 2) rfl]
              rw [if_neg hb6]
              simp only [S.1.ck, hsort, bsm, S.1.g6, ck_of hM.1, hmany, must1, en, S1.1.ck, S1.1.g6, gR_of m1.1 (k := 3) (v := p + 1 + 2) rfl, f2, e3, q5, q5b, S5.1.ck, n4, S6.1.ck, f5, e6, q8, q8b, S8.1.ck, n7, S9.1.ck, f8]
            · rw [hmod _ (t4 44), t5, bzb _ _ (Or.inr rfl), bsm]
              simp only [one0, if_false, a17]
              rw [t6, t7, bzb _ _ (Or.inr rfl), bsm]
              simp only [one0, if_false, t8, bsm, if_true]
        · refine Or.inr ⟨_, Y7, up2 σ6 0 14 1, ?_, ?_, fault_out hop' S8 B8 hF G7⟩
          · unfold fX12_chair fX12_begin fX12_begin_b11 fX12_more
            simp only [S.1.ck, hsort, bsm, S.1.g6, ck_of hM.1, hmany, must1, en, S1.1.ck, S1.1.g6, gR_of m1.1 (k := 3) (v := p + 1 + 2) rfl]
            rw [if_neg hb6]
            simp only [S.1.ck, hsort, bsm, S.1.g6, ck_of hM.1, hmany, must1, en, S1.1.ck, S1.1.g6, gR_of m1.1 (k := 3) (v := p + 1 + 2) rfl, f2, e3, q5, q5b, S5.1.ck, n4, S6.1.ck, f5, e6, q8, q8b, S8.1.ck, n7]
          · rw [hmod _ (t4 44), t5, bzb _ _ (Or.inr rfl), bsm]
            simp only [one0, if_false, a17]
            rw [t6, t7, bzb _ _ (Or.inl rfl), bsm]
            simp only [if_true]
      · have f5 : fX12_figure Y4 p 0 9 = some (.inr Y4.1, Y5) := f5
        have t6 : ∀ at' ch, fX9_takesNumber σ5 0 9 at' ch = some (0, up2 σ5 0 14 k5) := t6
        refine Or.inr ⟨_, Y5, up2 σ5 0 14 k5, ?_, ?_, fault_out hop' S6 B6 hF G5⟩
        · unfold fX12_chair fX12_begin fX12_begin_b11 fX12_more
          simp only [S.1.ck, hsort, bsm, S.1.g6, ck_of hM.1, hmany, must1, en, S1.1.ck, S1.1.g6, gR_of m1.1 (k := 3) (v := p + 1 + 2) rfl]
          rw [if_neg hb6]
          simp only [S.1.ck, hsort, bsm, S.1.g6, ck_of hM.1, hmany, must1, en, S1.1.ck, S1.1.g6, gR_of m1.1 (k := 3) (v := p + 1 + 2) rfl, f2, e3, q5, q5b, S5.1.ck, n4, S6.1.ck, f5]
        · rw [hmod _ (t4 44), t5, bzb _ _ (Or.inr rfl), bsm]
          simp only [one0, if_false, t6, bsm, if_true]
    · refine Or.inr ⟨_, Y4, up2 σ4 0 14 1, ?_, ?_, fault_out hop' S5 B5 hF G4⟩
      · unfold fX12_chair fX12_begin fX12_begin_b11 fX12_more
        simp only [S.1.ck, hsort, bsm, S.1.g6, ck_of hM.1, hmany, must1, en, S1.1.ck, S1.1.g6, gR_of m1.1 (k := 3) (v := p + 1 + 2) rfl]
        rw [if_neg hb6]
        simp only [S.1.ck, hsort, bsm, S.1.g6, ck_of hM.1, hmany, must1, en, S1.1.ck, S1.1.g6, gR_of m1.1 (k := 3) (v := p + 1 + 2) rfl, f2, e3, q5, q5b, S5.1.ck, n4]
      · rw [hmod _ (t4 44), t5, bzb _ _ (Or.inl rfl), bsm]
        simp only [if_true]
  · have f2 : fX12_figure Y1 p 0 60 = some (.inr Y1.1, Y2) := f2
    have t2 : ∀ at' ch, fX9_takesNumber σ3 0 60 at' ch = some (0, up2 σ3 0 14 k2) := t2
    refine Or.inr ⟨_, Y2, up2 σ3 0 14 k2, ?_, ?_, fault_out hop' S3 B3 hF G2⟩
    · unfold fX12_chair fX12_begin fX12_begin_b11 fX12_more
      simp only [S.1.ck, hsort, bsm, S.1.g6, ck_of hM.1, hmany, must1, en, S1.1.ck, S1.1.g6, gR_of m1.1 (k := 3) (v := p + 1 + 2) rfl]
      rw [if_neg hb6]
      simp only [S.1.ck, hsort, bsm, S.1.g6, ck_of hM.1, hmany, must1, en, S1.1.ck, S1.1.g6, gR_of m1.1 (k := 3) (v := p + 1 + 2) rfl, f2]
    · rw [hmod _ (t2 (nI (11 + c)) 44), bsm]
      simp only [if_true]
end RCH
