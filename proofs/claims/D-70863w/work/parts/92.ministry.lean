/-! a ministry is read -/
section MIN
variable {o t p b a fr c : Nat} {vs : Nat → Nat} {X0 X : AH} {σ0 σ : MS} {ct cv : Int32} {f0 : Nat → Option Nat}
/-- it ends well: the made one has the model's read value -/
def OK (o t p : Nat) (X0 : AH) (σ0 : MS) (Y : AH) (σ' : MS) : Prop := BR o t p X0 σ0 Y σ' ∧ ∃ n, 1 ≤ n ∧ ¬ σ' 7 1 ≤ 0 ∧ Sv Y (p + 1) n (σ' 7) ∧ Y.2.2 p ≠ none ∧ gR Y p 12 6 = some (p + 1)
theorem m_good0 (f : Nat) : fX9_readMinistry_L68 (f + 1) σ 0 = some (0, σ) := by
  unfold fX9_readMinistry_L68
  rw [if_pos rfl, bz0, bsm]
theorem allL (hop : o + 29 ≤ p) (he1 : X0.2.1.1 < o) (he2 : X0.2.2 X0.2.1.1 = some (.inr (.inr (5, 0, f0)))) (gl : Int32) :
    ∀ (d f1 f2 c a fr : Nat) (X : AH) (σ : MS) (ct cv : Int32), d < f1 → d + 1 < f2 → c + d = 7 → RD o t p b vs X0 σ0 X σ a fr ct cv c → σ 7 1 = gl → (c = 0 → fX12_sortOf X p X.2.1.2.2.2.1 ≠ some (-1000000, X)) →
    (∃ Y σ', fX12_all_L66 f1 X p gl = some (.inl (), Y) ∧ fX9_readMinistry_L68 f2 σ 1 = some (1, σ') ∧ OK o t p X0 σ0 Y σ') ∨
    (∃ y Y σ', fX12_all_L66 f1 X p gl = some (.inr y, Y) ∧ fX9_readMinistry_L68 f2 σ 1 = some (0, σ') ∧ FO o t p X0 σ0 Y y σ') := by
  intro d
  induction d with
  | zero =>
    intro f1 f2 c a fr X σ ct cv hf1 hf2 hc D
    have := D.2.2.2.2.2.1.1
    omega
  | succ d ih =>
    intro f1 f2 c a fr X σ ct cv hf1 hf2 hcd D hgl h0
    obtain ⟨f1, rfl⟩ : ∃ f, f1 = f + 1 := ⟨f1 - 1, by omega⟩
    obtain ⟨f2, rfl⟩ : ∃ f, f2 = f + 1 := ⟨f2 - 1, by omega⟩
    have D' := D
    obtain ⟨S, B, ⟨ρ, hM, hρ⟩, L, sz, hg, hg1⟩ := D'
    have hop' : o < p := by omega
    have c6 := hg.1
    have e2 : rd (σ 7) 41 2 = some (nI c) := by rw [← hg.2.1]; exact rd_nI (j := 2) (by omega) (by omega)
    rcases p_sort S with ⟨j, hj, hs, hr, hct⟩ | ⟨hs, hr⟩
    · -- a chair
      have hmt : ¬ σ 0 11 = 3 := by
        rcases S.2.2.2.2 with ⟨t1, t2⟩ | ⟨t1, t2, -⟩ | ⟨t1, t2, -⟩ | ⟨t1, t2, t3⟩ | ⟨t1, t2, t3⟩ | ⟨t1, t2⟩
        · rw [t1] at hct; exact absurd hct (by decide)
        all_goals rw [t2]; decide
      have hm : fX9_readMinistry_L68 (f2 + 1) σ 1 = (fX9_readChair_b66 σ (nI (j + 1))).bind fun (v2, σ1) => fX9_readMinistry_L68 f2 σ1 v2 := by
        conv => lhs; unfold fX9_readMinistry_L68
        rw [if_neg (by decide), if_neg hmt]
        unfold fX9_readMinistry_b89
        rw [hr]
      have hnj : ¬ nI j = -1000000 := fun z => absurd (show nI j < 0 by rw [z]; decide) (nI_pos (by omega))
      rcases p_chair hop he1 he2 D hj hs with ⟨Y, σ', a', fr', ct', cv', e1, e2', D2⟩ | ⟨y, Y, σ', e1, e2', F⟩
      · have hx : fX12_all_L66 (f1 + 1) X p gl = fX12_all_L66 f1 Y p gl := by
          conv => lhs; unfold fX12_all_L66
          simp only [S.1.ck, bsm, hs]
          rw [if_neg hnj]
          simp only [bsm, S.1.ck, e1]
        rw [hx, hm, e2', bsm]
        -- the glue is kept
        have hgl' : σ' 7 1 = gl := by
          have hq := D2.2.2.1
          -- by the model: a chair's reading writes no place 1
          exact (p_glue σ j hg.2.1 hj c6 e2').trans hgl
        exact ih f1 f2 (c + 1) a' fr' Y σ' ct' cv' (by omega) (by omega) (by omega) D2 hgl' (fun z => by omega)
      · refine Or.inr ⟨y, Y, σ', ?_, ?_, F⟩
        · unfold fX12_all_L66
          simp only [S.1.ck, bsm, hs]
          rw [if_neg hnj]
          simp only [bsm, S.1.ck, e1]
        · rw [hm, e2', bsm]
          obtain ⟨f2, rfl⟩ : ∃ f, f2 = f + 1 := ⟨f2 - 1, by omega⟩
          exact m_good0 f2
    · have c0 : c ≠ 0 := fun z => h0 z hs
      by_cases cE : ct = 0
      · -- the end
        have hmt : σ 0 11 = 3 := by
          rcases S.2.2.2.2 with ⟨t1, t2⟩ | ⟨t1, t2, -⟩ | ⟨t1, t2, -⟩ | ⟨t1, t2, t3⟩ | ⟨t1, t2, t3⟩ | ⟨t1, t2⟩
          · exact t2
          all_goals rw [t1] at cE; exact absurd cE (by decide)
        obtain ⟨Y, ey, mY, GY⟩ := hM.put1 (x := gl) S.1.2.1
        have nb : ∀ z, z < p + 1 → ¬ blk (p + 1) z := fun z h w => by unfold blk at w; omega
        have he := B.emp hop' he1 he2
        refine Or.inl ⟨Y, σ, ?_, ?_, B.ag hop' GY (fun z hz => nb z (by omega)), c, by omega, by rw [hgl] at hg1 ⊢; exact hg1, ⟨hg, p + 2, .null, mY.cg (fun i h1 h2 h3 => ?_), (L.ChL c6 he).ag GY⟩, ?_, ?_⟩
        · unfold fX12_all_L66 fX12_all_b97
          simp only [S.1.ck, bsm, hs, if_true, S.1.g3, cE, must1, S.1.g6, ey]
        · unfold fX9_readMinistry_L68
          rw [if_neg (by decide), if_pos hmt, e2, bsm, if_neg (nI_ne0 (by omega) (by omega)), bz1, bsm]
        · by_cases z : i = 1
          · rw [z, upd_s, hgl]
          · rw [upd_n z]; exact hρ.2 i h1 z h2 h3
        · rw [GY.at S.1.2.1 S.1.1 (nb _ (by omega))]; exact fun z => by cases z
        · exact gR_of (GY.at S.1.2.1 S.1.1 (nb _ (by omega))) rfl
      · -- something else stands there
        have hmt : ¬ σ 0 11 = 3 := by
          rcases S.2.2.2.2 with ⟨t1, t2⟩ | ⟨t1, t2, -⟩ | ⟨t1, t2, -⟩ | ⟨t1, t2, t3⟩ | ⟨t1, t2, t3⟩ | ⟨t1, t2⟩
          · exact absurd t1 cE
          all_goals rw [t2]; decide
        obtain ⟨Y, ef, hF, G⟩ := x_fault S.1 1
        refine Or.inr ⟨X.1, Y, up2 σ 0 14 1, ?_, ?_, fault_out hop' S B hF G⟩
        · unfold fX12_all_L66 fX12_all_b97
          simp only [S.1.ck, bsm, hs, if_true, S.1.g3, ef]
          rw [if_neg cE]
        · unfold fX9_readMinistry_L68
          rw [if_neg (by decide), if_neg hmt]
          unfold fX9_readMinistry_b89
          have e66 : fX9_readChair_b66 σ 0 = some (0, up2 σ 0 14 1) := by
            unfold fX9_readChair_b66 fX9_readChair_b84 fX9_readChair_b94
            rw [e2, bsm, if_pos rfl, if_pos rfl]
            rfl
          rw [hr, e66, bsm]
          obtain ⟨f2, rfl⟩ : ∃ f, f2 = f + 1 := ⟨f2 - 1, by omega⟩
          exact m_good0 f2
end MIN
