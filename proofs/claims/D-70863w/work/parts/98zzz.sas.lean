/-! as -/
section SAS
variable {o t n : Nat} {g h h2 : Nat → Option Nat} {X Y : AH} {σ σ' : MS}
theorem ag_sk (hw : wfX X) : AgX (fun _ => False) X (xsk X) := ⟨rfl, Nat.le_add_right _ 3, fun _ _ _ => rfl, fun _ _ h _ => h, fun a ha => hw a (Nat.le_trans (Nat.le_add_right _ 3) ha)⟩
theorem x_find (hw : wfX X) (k : Int32) : ∃ Y, fX10_init (xnw X (.inl (10, [.null, .null, .null, .null, .null, .int 0, .int 0]))) X.1 k = some Y ∧ Fnd Y X.1 k ∧ AgX (fun _ => False) X Y := by
  obtain ⟨Y, e, h1, h2⟩ := x_must0 hw k
  unfold fX0_must at e
  rw [if_pos rfl, bsm] at e
  obtain ⟨Y', e1, e2⟩ := bd_e e
  cases e2
  exact ⟨Y, e1, h1, h2⟩
/-- a Finding out of the machine's own exception -/
theorem p_vmfound (R : Rl o t g h h2 X σ) (k : Int32) : ∃ Y Z, fX10_init (xnw (xsk X) (.inl (10, [.null, .null, .null, .null, .null, .int 0, .int 0]))) (xsk X).1 k = some Y ∧ ck Y (xsk X).1 10 = some () ∧ ck Y o 0 = some () ∧ fX0_found Y o (xsk X).1 = some (-1000010 - k, Z) ∧ Rel o Z (up2 σ 0 3 k) := by
  have G0 := ag_sk R.w
  obtain ⟨Y, e, hF, G⟩ := x_find G0.w k
  have sz := R.sz
  have e1 : (xsk X).1 = X.1 + 3 := rfl
  obtain ⟨Z, z1, z2, z3, z4⟩ := p_thrown R (G0.tr G) hF (by rw [e1]; omega)
  exact ⟨Y, Z, e, z1, z2, z3, z4⟩
theorem isK : ∀ k : Fin 6, ∀ j : Fin 6, 1 ≤ k.1 → 1 ≤ j.1 → fX9_isKind (nI k.1) (nI j.1) = some (if casts (3 + k.1) (3 + j.1) = true then 1 else 0) := by decide +kernel
theorem s_as (R : Rel o X σ) (x1 x2 : Int32) : Same o (fX0_as X o x1 x2) (fX9_as σ x1 x2) := by
  obtain ⟨t, g, h, h2, R⟩ := R
  obtain ⟨n, hS, ht⟩ := R.min
  have hn := hS.1.1
  unfold fX0_as fX9_as
  simp only [R.ck0, bsm, isIn_eq]
  rcases R.isChair hS x1 with ⟨e1, e2⟩ | ⟨c, hc, rfl, e1, e2⟩
  · simp only [e1, e2, bsm, if_true]
    exact Same.mk rfl rfl R.rel
  simp only [e1, e2, bsm, one0, if_false]
  rcases inN x2 (a := 0) (b := 5) 0 5 rfl rfl (by decide) (by decide) with f1 | ⟨f1, j, j0, hj, rfl⟩
  · simp only [f1, bsm, if_true]
    exact Same.mk rfl rfl R.rel
  obtain ⟨hg, la, tk, hM, hL⟩ := hS
  obtain ⟨a, k, k1, k2, k3, k4, k5⟩ := x_get hL hc
  obtain ⟨mc, E, cap, gg, l1, -⟩ := hL
  simp only [f1, bsm, one0, if_false, R.r4, gR_of hM.1 (k := 2) (v := la) rfl, ck_of l1, k5, gCh_of k4 k1 k2, a5, st_rd σ (show 5 + c < 41 by omega), k3]
  obtain ⟨Y, ey1, ey2, RY, -⟩ := R.well (nI c)
  obtain ⟨Y2, Z, v1, v2, v3, v4, v5⟩ := p_vmfound R 3
  have good : fX0_as_b100 X a o = some (nI c, Y) := by
    unfold fX0_as_b100
    have nb : fX3_number X a = some (nI c, X) := by
      unfold fX3_number gN
      simp only [gCh_of k4 k1 k2, bsm, gI_of k4 (k := 0) (v := nI c) rfl]
    simp only [gC_of k4, bsm, nb, R.ck0, ey1]
    rcases (show k = 1 ∨ k = 2 ∨ k = 3 ∨ k = 4 ∨ k = 5 by omega) with rfl | rfl | rfl | rfl | rfl <;> rfl
  have bad : fX0_as_b112 (xsk X) (X.1 + 2) o = some (-1000010 - 3, Z) := by
    unfold fX0_as_b112
    simp only [bsm, v1, v2, v3, v4]
  by_cases j1 : j = 0
  · subst j1
    have : fX9_isKind (nI k) (nI 0) = some 1 := rfl
    rw [if_pos (show nI 0 = 0 from rfl), this, good, bsm]
    simp only [one0, if_false, ey2, bsm]
    exact Same.mk rfl rfl RY.rel
  have iK := isK ⟨k, by omega⟩ ⟨j, by omega⟩ k1 (by show 1 ≤ j; omega)
  have iK : fX9_isKind (nI k) (nI j) = some (if casts (3 + k) (3 + j) = true then 1 else 0) := iK
  have fin : ∀ b : Bool, Same o (if b = true then some (nI c, Y) else some (-1000010 - 3, Z)) (if (if b = true then (1 : Int32) else 0) = 0 then (fX9_find σ 3).bind fun x => some (x.fst, x.snd) else (fX9_well σ (nI c)).bind fun x => some (x.fst, x.snd)) := by
    intro b
    cases b with
    | true => rw [if_pos rfl, if_pos rfl, if_neg (by decide), ey2, bsm]; exact Same.mk rfl rfl RY.rel
    | false => exact Same.mk rfl rfl v5
  rw [iK, bsm, good, bad]
  rcases (show j = 1 ∨ j = 2 ∨ j = 3 ∨ j = 4 ∨ j = 5 by omega) with rfl | rfl | rfl | rfl | rfl
  all_goals
    simp only [show ¬ (nI 1 = 0) by decide, show ¬ (nI 2 = 0) by decide, show ¬ (nI 3 = 0) by decide, show ¬ (nI 4 = 0) by decide, show ¬ (nI 5 = 0) by decide, show nI 1 = 1 from rfl, show ¬ (nI 2 = 1) by decide, show ¬ (nI 3 = 1) by decide, show ¬ (nI 4 = 1) by decide, show ¬ (nI 5 = 1) by decide, show nI 2 = 2 from rfl, show ¬ (nI 3 = 2) by decide, show ¬ (nI 4 = 2) by decide, show ¬ (nI 5 = 2) by decide, show nI 3 = 3 from rfl, show ¬ (nI 4 = 3) by decide, show ¬ (nI 5 = 3) by decide, show nI 4 = 4 from rfl, show ¬ (nI 5 = 4) by decide, if_true, if_false, bsm]
    exact fin _
end SAS
