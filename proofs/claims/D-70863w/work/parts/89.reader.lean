/-! texts: faults, figures, signs, letters -/
def Flt (Y : AH) (y : Nat) (k pl : Int32) : Prop := ∃ fs, Y.2.2 y = some (.inl (13, fs)) ∧ fs[6]? = some (.int k) ∧ fs[7]? = some (.int pl)
theorem x_exc13 {Z : AH} {p k : Nat} {fs : List Value} {v : Value} (h : Z.2.2 p = some (.inl (13, fs))) (hk : k < fs.length) (hw : wfX Z) : ∃ Y, pF Z p 13 k v = some Y ∧ Y.2.2 p = some (.inl (13, fs.set k v)) ∧ AgX (fun a => p ≤ a) Z Y :=
  ⟨_, pF_of h hk, xup_s, AgX.up hw h (ni_o (Or.inr (by decide))) (Nat.le_refl p)⟩
section FI
variable {o p q b a fr : Nat} {vs : Nat → Nat} {X : AH} {σ : MS} {ct cv : Int32}
theorem x_fault {a' fr' : Int32} (C : RC o p q b vs X a' ct fr' cv) (k : Int32) : ∃ Y, fX12_must X p 0 k = some (.inr X.1, Y) ∧ Flt Y X.1 k fr' ∧ AgX (fun _ => False) X Y := by
  have hw := C.2.1
  have hlt := hw.lt C.1
  have g0 : AgX (fun a => X.1 ≤ a) X (xnw X (.inl (13, [.null, .null, .null, .null, .null, .int 0, .int 0, .int 0]))) := AgX.nw hw
  have c0 : (xnw X (.inl (13, [.null, .null, .null, .null, .null, .int 0, .int 0, .int 0]))).2.2 X.1 = some (.inl (13, [.null, .null, .null, .null, .null, .int 0, .int 0, .int 0])) := xnw_s
  have gi : gI (xnw X (.inl (13, [.null, .null, .null, .null, .null, .int 0, .int 0, .int 0]))) p 12 4 = some fr' := gI_of (by rw [xnw_n (by omega)]; exact C.1) rfl
  unfold fX12_must fX13_init fJ4_init fJ3_init_2
  rw [if_pos rfl, bsm]
  generalize xnw X (.inl (13, [.null, .null, .null, .null, .null, .int 0, .int 0, .int 0])) = X0 at g0 c0 gi
  obtain ⟨X1, e1, c1, g1⟩ := x_exc13 (k := 0) (v := .ref X.1) c0 (Nat.le_of_ble_eq_true rfl) g0.w
  obtain ⟨X2, e2, c2, g2⟩ := x_exc13 (k := 1) (v := va_rf X1.2.1.2.1) c1 (Nat.le_of_ble_eq_true rfl) g1.w
  obtain ⟨X3, e3, c3, g3⟩ := x_exc13 (k := 2) (v := va_rf X2.2.1.2.2.1) c2 (Nat.le_of_ble_eq_true rfl) g2.w
  obtain ⟨X4, e4, c4, g4⟩ := x_exc13 (k := 1) (v := .null) c3 (Nat.le_of_ble_eq_true rfl) g3.w
  obtain ⟨X5, e5, c5, g5⟩ := x_exc13 (k := 3) (v := .null) c4 (Nat.le_of_ble_eq_true rfl) g4.w
  obtain ⟨X6, e6, c6, g6⟩ := x_exc13 (k := 0) (v := .null) c5 (Nat.le_of_ble_eq_true rfl) g5.w
  obtain ⟨X7, e7, c7, g7⟩ := x_exc13 (k := 2) (v := .null) c6 (Nat.le_of_ble_eq_true rfl) g6.w
  obtain ⟨X8, e8, c8, g8⟩ := x_exc13 (k := 6) (v := .int k) c7 (Nat.le_of_ble_eq_true rfl) g7.w
  obtain ⟨X9, e9, c9, g9⟩ := x_exc13 (k := 7) (v := .int fr') c8 (Nat.le_of_ble_eq_true rfl) g8.w
  refine ⟨X9, ?_, ⟨_, c9, rfl, rfl⟩, AgX.fresh ((((((((((g0.tr g1).tr g2).tr g3).tr g4).tr g5).tr g6).tr g7).tr g8).tr g9)) hw⟩
  simp only [gi, gC_of c0, bsm, e1, e2, e3, e4, e5, e6, e7, e8, e9, if_true]
  rw [if_neg (show ¬ (13 : Nat) = 10 by decide)]
  simp only [bsm, e1, e2, e3, e4, e5, e6, e7, e8, e9, if_true]
theorem must1 (k : Int32) : fX12_must X p 1 k = some (.inl (), X) := rfl
/-- the token of the model that a sign is -/
theorem p_sign (S : RS o p q b vs X σ a fr ct cv) {w ch : Int32} (hw : (w = 3 ∧ ch = 44) ∨ (w = 4 ∧ ch = 59)) :
    (∃ Y σ' a' ct' cv', fX12_sign X p w = some (.inl (), Y) ∧ fX9_takes σ ch = some (1, σ') ∧ RS o p q b vs Y σ' a' a ct' cv' ∧ AgX (fun z => z = p) X Y ∧ Msm σ σ') ∨
    (∃ Y, fX12_sign X p w = some (.inr X.1, Y) ∧ fX9_takes σ ch = some (0, up2 σ 0 14 1) ∧ Flt Y X.1 1 (nI fr) ∧ AgX (fun _ => False) X Y) := by
  obtain ⟨C, M, h1, h2, T⟩ := S
  have hiff : ct = w ↔ (σ 0 11 = 1 ∧ σ 0 12 = ch) := by
    rcases T with ⟨t1, t2⟩ | ⟨t1, t2, v, v1, v2, v3, v4⟩ | ⟨t1, t2, v, v1, v3, v4⟩ | ⟨t1, t2, t3⟩ | ⟨t1, t2, t3⟩ | ⟨t1, t2⟩
    · rw [t1, t2]; rcases hw with ⟨rfl, rfl⟩ | ⟨rfl, rfl⟩ <;> exact ⟨fun z => absurd z (by decide), fun z => absurd z.1 (by decide)⟩
    · rw [t1, t2, v4]
      rcases hw with ⟨rfl, rfl⟩ | ⟨rfl, rfl⟩
      · exact ⟨fun z => absurd z (by decide), fun z => by have := (nI_eq (b := 44) (by omega) (by omega)).mp z.2; omega⟩
      · exact ⟨fun z => absurd z (by decide), fun z => by have := (nI_eq (b := 59) (by omega) (by omega)).mp z.2; omega⟩
    · rw [t1, t2]; rcases hw with ⟨rfl, rfl⟩ | ⟨rfl, rfl⟩ <;> exact ⟨fun z => absurd z (by decide), fun z => absurd z.1 (by decide)⟩
    · rw [t1, t2, t3]; rcases hw with ⟨rfl, rfl⟩ | ⟨rfl, rfl⟩
      · exact ⟨fun _ => ⟨rfl, rfl⟩, fun _ => rfl⟩
      · exact ⟨fun z => absurd z (by decide), fun z => absurd z.2 (by decide)⟩
    · rw [t1, t2, t3]; rcases hw with ⟨rfl, rfl⟩ | ⟨rfl, rfl⟩
      · exact ⟨fun z => absurd z (by decide), fun z => absurd z.2 (by decide)⟩
      · exact ⟨fun _ => ⟨rfl, rfl⟩, fun _ => rfl⟩
    · rw [t1, t2]; rcases hw with ⟨rfl, rfl⟩ | ⟨rfl, rfl⟩ <;> exact ⟨fun z => absurd z (by decide), fun z => absurd z.1 (by decide)⟩
  by_cases c : ct = w
  · refine Or.inl ?_
    obtain ⟨Y, σ', a', ct', cv', e1, e2, e3, e4, e5⟩ := p_next C M h1
    have hm := hiff.mp c
    refine ⟨Y, σ', a', ct', cv', ?_, ?_, e3, e4, e5⟩
    · unfold fX12_sign fX12_sign_b14
      simp only [C.g3, bsm, C.ck, must1, e1]
      rw [if_pos c]
    · unfold fX9_takes fX9_isLetter
      rw [if_pos hm.1, if_pos hm.2, bsm]
      simp only [one0, if_false, e2, bsm]
  · refine Or.inr ?_
    obtain ⟨Y, e1, hF, G⟩ := x_fault C 1
    refine ⟨Y, ?_, ?_, hF, G⟩
    · unfold fX12_sign fX12_sign_b14
      simp only [C.g3, bsm, C.ck, e1]
      rw [if_neg c]
    · have e0 : fX9_isLetter σ ch = some (0, σ) := by
        unfold fX9_isLetter
        by_cases c1 : σ 0 11 = 1
        · rw [if_pos c1, if_neg (fun z => c (hiff.mpr ⟨c1, z⟩))]
        · rw [if_neg c1]
      unfold fX9_takes
      rw [e0, bsm]
      rfl
theorem p_fig (S : RS o p q b vs X σ a fr ct cv) {lo hi : Nat} (hl : lo ≤ 99) (hh : hi ≤ 99) :
    (∃ v Y, lo ≤ v ∧ v ≤ hi ∧ fX12_figure X p (nI lo) (nI hi) = some (.inl (nI v), Y) ∧ AgX (fun z => z = p) X Y ∧ ∀ at', at' < 41 → ∃ σ' a' ct' cv', (∀ ch, fX9_takesNumber σ (nI lo) (nI hi) (nI at') ch = (fX9_takes σ' ch).bind fun (v7, σ6) => (bz v7).bind fun v8 => some (v8, σ6)) ∧ RS o p q b vs Y σ' a' a ct' cv' ∧ Msm (up2 σ 7 at' (nI v)) σ') ∨
    (∃ k Y, fX12_figure X p (nI lo) (nI hi) = some (.inr X.1, Y) ∧ (∀ at' ch, fX9_takesNumber σ (nI lo) (nI hi) at' ch = some (0, up2 σ 0 14 k)) ∧ Flt Y X.1 k (nI fr) ∧ AgX (fun _ => False) X Y) := by
  obtain ⟨C, M, h1, h2, T⟩ := S
  have hiff : ct = 2 ↔ σ 0 11 = 2 := by
    rcases T with ⟨t1, t2⟩ | ⟨t1, t2, -⟩ | ⟨t1, t2, -⟩ | ⟨t1, t2, t3⟩ | ⟨t1, t2, t3⟩ | ⟨t1, t2⟩ <;> rw [t1, t2] <;> decide
  by_cases c : ct = 2
  · have hv : ∃ v, v ≤ 99 ∧ cv = nI v ∧ σ 0 12 = nI v := by
      rcases T with ⟨t1, t2⟩ | ⟨t1, t2, -⟩ | ⟨t1, t2, h⟩ | ⟨t1, t2, t3⟩ | ⟨t1, t2, t3⟩ | ⟨t1, t2⟩
      · rw [t1] at c; exact absurd c (by decide)
      · rw [t1] at c; exact absurd c (by decide)
      · exact h
      · rw [t1] at c; exact absurd c (by decide)
      · rw [t1] at c; exact absurd c (by decide)
      · rw [t1] at c; exact absurd c (by decide)
    obtain ⟨v, v9, vc, vm⟩ := hv
    have hin : fX9_in (nI v).toInt64 (nI lo).toInt64 (nI hi).toInt64 = if lo ≤ v ∧ v ≤ hi then some 1 else some 0 := inV v lo hi (by omega) (by rw [Int32.toInt_toInt64, nI_toInt (by omega)]) (by rw [Int32.toInt_toInt64, nI_toInt (by omega)])
    by_cases r : lo ≤ v ∧ v ≤ hi
    · rw [if_pos r] at hin
      refine Or.inl ?_
      -- the component's step does not see what the model writes into its row 7
      obtain ⟨Y0, -, -, -, -, e0, -, -, G0, -⟩ := p_next C M h1
      refine ⟨v, Y0, r.1, r.2, ?_, G0, fun at' hat => ?_⟩
      · unfold fX12_figure fX12_figure_b14
        simp only [C.g3, bsm, C.ck, must1, C.g5, isIn_eq, vc, hin, e0]
        rw [if_pos c]
      · have M' : MC b vs (up2 σ 7 at' (nI v)) a fr := ⟨by rw [up2_n (by omega)]; exact M.1, by rw [up2_n (by omega)]; exact M.2.1, by rw [up2_n (by omega)]; exact M.2.2.1, fun j hj => by rw [up2_n (by omega)]; exact M.2.2.2 j hj⟩
        obtain ⟨Y, σ', a', ct', cv', e1, e2, e3, e4, e5⟩ := p_next C M' h1
        cases e0.symm.trans e1
        refine ⟨σ', a', ct', cv', fun ch => ?_, e3, e5⟩
        have ew : mwr σ 7 41 (nI at') (nI v) = some (up2 σ 7 at' (nI v)) := mwr_nI hat (by omega)
        unfold fX9_takesNumber
        rw [if_pos (hiff.mp c), vm, hin, bsm, if_neg (by decide), ew, bsm, e2, bsm]
    · rw [if_neg r] at hin
      refine Or.inr ?_
      obtain ⟨Y, e1, hF, G⟩ := x_fault C 2
      refine ⟨2, Y, ?_, fun at' ch => ?_, hF, G⟩
      · unfold fX12_figure fX12_figure_b14
        simp only [C.g3, bsm, C.ck, must1, C.g5, isIn_eq, vc, hin, e1]
        rw [if_pos c]
      · unfold fX9_takesNumber fX9_takesNumber_b23 fX9_takesNumber_b37
        rw [if_pos (hiff.mp c), vm, hin, bsm, if_pos rfl, if_pos (hiff.mp c)]
        rfl
  · refine Or.inr ?_
    obtain ⟨Y, e1, hF, G⟩ := x_fault C 1
    have hc9 : ¬ σ 0 11 = 2 := fun z => c (hiff.mpr z)
    refine ⟨1, Y, ?_, fun at' ch => ?_, hF, G⟩
    · unfold fX12_figure fX12_figure_b14
      simp only [C.g3, bsm, C.ck, e1]
      rw [if_neg c]
    · unfold fX9_takesNumber fX9_takesNumber_b23 fX9_takesNumber_b37
      rw [if_neg hc9, if_neg hc9]
      rfl
/-- a letter -/
theorem p_let (S : RS o p q b vs X σ a fr ct cv) {v : Nat} (v1 : 97 ≤ v) (v2 : v ≤ 122) : ∃ bo : Bool, fX12_isLetter X p (nI v) = some (one1 bo, X) ∧ fX9_isLetter σ (nI v) = some (one1 bo, σ) ∧ (bo = true ↔ ct = 1 ∧ cv = nI v) := by
  obtain ⟨C, M, h1, h2, T⟩ := S
  have hiff : (ct = 1 ∧ cv = nI v) ↔ (σ 0 11 = 1 ∧ σ 0 12 = nI v) := by
    rcases T with ⟨t1, t2⟩ | ⟨t1, t2, u, u1, u2, u3, u4⟩ | ⟨t1, t2, u, u1, u3, u4⟩ | ⟨t1, t2, t3⟩ | ⟨t1, t2, t3⟩ | ⟨t1, t2⟩
    · rw [t1, t2]; exact ⟨fun z => absurd z.1 (by decide), fun z => absurd z.1 (by decide)⟩
    · rw [t1, t2, u3, u4]
    · rw [t1, t2]; exact ⟨fun z => absurd z.1 (by decide), fun z => absurd z.1 (by decide)⟩
    · rw [t1, t2, t3]; exact ⟨fun z => absurd z.1 (by decide), fun z => by have := (nI_eq (a := 44) (by omega) (by omega)).mp z.2; omega⟩
    · rw [t1, t2, t3]; exact ⟨fun z => absurd z.1 (by decide), fun z => by have := (nI_eq (a := 59) (by omega) (by omega)).mp z.2; omega⟩
    · rw [t1, t2]; exact ⟨fun z => absurd z.1 (by decide), fun z => absurd z.1 (by decide)⟩
  refine ⟨decide (ct = 1 ∧ cv = nI v), ?_, ?_, by rw [decide_eq_true_eq]⟩
  · unfold fX12_isLetter
    rw [C.g3, bsm]
    by_cases c1 : ct = 1
    · rw [if_pos c1, C.g5, bsm]
      by_cases c2 : cv = nI v
      · rw [if_pos c2, decide_eq_true ⟨c1, c2⟩]; rfl
      · rw [if_neg c2, decide_eq_false (fun z => c2 z.2)]; rfl
    · rw [if_neg c1, decide_eq_false (fun z => c1 z.1)]; rfl
  · unfold fX9_isLetter
    by_cases c1 : σ 0 11 = 1
    · rw [if_pos c1]
      by_cases c2 : σ 0 12 = nI v
      · rw [if_pos c2, decide_eq_true (hiff.mpr ⟨c1, c2⟩)]; rfl
      · rw [if_neg c2, decide_eq_false (fun z => c2 (hiff.mp z).2)]; rfl
    · rw [if_neg c1, decide_eq_false (fun z => c1 (hiff.mp z).1)]; rfl
/-! the letters of kinds -/
def prc (k : Nat) : Nat := if k = 0 then 112 else if k = 1 then 114 else if k = 2 then 99 else if k = 3 then 111 else 116
theorem prc_in (k : Nat) : 97 ≤ prc k ∧ prc k ≤ 122 := by
  unfold prc
  repeat' split
  all_goals omega
theorem x_len (X : AH) : fJ8_length X X.2.1.2.2.2.1 = some (5, X) := by
  have e1 : strV X X.2.1.2.2.2.1 = some X.2.1.2.2.2.2 := by unfold strV; rw [if_pos rfl]
  have e2 : strL X X.2.1.2.2.2.2 = some 5 := by unfold strL; rw [if_pos rfl]
  have e3 : ckS X X.2.1.2.2.2.1 = some () := by unfold ckS; rw [if_pos rfl]
  have e4 : strC X X.2.1.2.2.2.1 = some 0 := by unfold strC; rw [if_pos rfl]
  have e5 : ngB 0 = some 0 := by decide
  unfold fJ8_length fJ8_coder
  simp only [e1, e2, e3, e4, bsm]
  rw [if_neg (by decide), e5, bsm, bsm]
  show some ((5 : Int32) >>> ((0 : Int32) &&& 31), X) = some (5, X)
  rw [show (5 : Int32) >>> ((0 : Int32) &&& 31) = 5 by decide]
theorem x_char (X : AH) {k : Nat} (hk : k < 5) : fJ8_charAt X X.2.1.2.2.2.1 (nI k) = some (nI (prc k), X) := by
  have e1 : strV X X.2.1.2.2.2.1 = some X.2.1.2.2.2.2 := by unfold strV; rw [if_pos rfl]
  have e2 : strL X X.2.1.2.2.2.2 = some 5 := by unfold strL; rw [if_pos rfl]
  have e3 : ckS X X.2.1.2.2.2.1 = some () := by unfold ckS; rw [if_pos rfl]
  have e4 : strC X X.2.1.2.2.2.1 = some 0 := by unfold strC; rw [if_pos rfl]
  have e6 : strB X X.2.1.2.2.2.2 (nI k) = some ([112, 114, 99, 111, 116].getD k 0) := by
    unfold strB
    rw [if_pos rfl, rd_nI hk (by omega)]
  have e7 : fJ10_checkIndex X (nI k) 5 = some (nI k, X) := by
    unfold fJ10_checkIndex
    rw [if_neg (nI_pos (by omega)), if_pos (show nI k < 5 from nI_lt (b := 5) hk (by omega))]
  have e8 : ngC ((((([112, 114, 99, 111, 116] : List Int32).getD k 0) &&& 255).toUInt32 % 65536).toInt32) = some (nI (prc k)) ∧ ngC (nI (prc k)) = some (nI (prc k)) := by
    rcases (show k = 0 ∨ k = 1 ∨ k = 2 ∨ k = 3 ∨ k = 4 by omega) with rfl | rfl | rfl | rfl | rfl <;> decide
  unfold fJ8_charAt fJ8_isLatin1 fJ9_charAt fJ8_checkIndex
  simp only [e1, e2, e3, e4, e6, e7, bsm, if_true]
  rw [if_neg (show ¬ (1 : Int32) = 0 by decide), bsm]
  simp only [one0, if_false, e1, e2, e7, e6, bsm, e8.1, e8.2]
theorem x_sortL (X : AH) (ct cv : Int32) : ∀ (d k fuel : Nat) (i : Int32), d < fuel → k + d = 5 → i = nI k → (∀ j, j < k → ¬ (ct = 1 ∧ cv = nI (prc j))) → (∃ j, j < 5 ∧ fX12_sortIn_L2 fuel X X.2.1.2.2.2.1 ct cv i = some (nI j, X) ∧ ct = 1 ∧ cv = nI (prc j)) ∨ (fX12_sortIn_L2 fuel X X.2.1.2.2.2.1 ct cv i = some (-1000000, X) ∧ ∀ j, j < 5 → ¬ (ct = 1 ∧ cv = nI (prc j))) := by
  have e3 : ckS X X.2.1.2.2.2.1 = some () := by unfold ckS; rw [if_pos rfl]
  intro d
  induction d with
  | zero =>
    intro k fuel i hf hk hi hn
    obtain ⟨f, rfl⟩ : ∃ f, fuel = f + 1 := ⟨fuel - 1, by omega⟩
    subst hi
    have h5 : (5 : Int32) ≤ nI k := nI_le (a := 5) (by omega) (by omega)
    refine Or.inr ⟨?_, fun j hj => hn j (by omega)⟩
    unfold fX12_sortIn_L2 fX12_sortIn_b30
    simp only [e3, x_len, bsm]
    rw [if_pos h5, if_pos h5]
  | succ d ih =>
    intro k fuel i hf hk hi hn
    obtain ⟨f, rfl⟩ : ∃ f, fuel = f + 1 := ⟨fuel - 1, by omega⟩
    subst hi
    have h5 : ¬ (5 : Int32) ≤ nI k := nI_ge (b := 5) (by omega) (by omega)
    by_cases c : ct = 1 ∧ cv = nI (prc k)
    · refine Or.inl ⟨k, by omega, ?_, c⟩
      unfold fX12_sortIn_L2 fX12_sortIn_b30
      simp only [e3, x_len, bsm, x_char X (show k < 5 by omega)]
      rw [if_neg h5, if_pos c.1, if_pos c.2.symm, if_neg h5]
    · have e : fX12_sortIn_L2 (f + 1) X X.2.1.2.2.2.1 ct cv (nI k) = fX12_sortIn_L2 f X X.2.1.2.2.2.1 ct cv (nI (k + 1)) := by
        conv => lhs; unfold fX12_sortIn_L2
        simp only [e3, x_len, bsm, x_char X (show k < 5 by omega), nI_1]
        rw [if_neg h5]
        by_cases c1 : ct = 1
        · rw [if_pos c1, if_neg (fun z => c ⟨c1, z.symm⟩)]
        · rw [if_neg c1]
      rw [e]
      refine ih (k + 1) f _ (by omega) (by omega) rfl (fun j hj => ?_)
      by_cases z : j = k
      · rw [z]; exact c
      · exact hn j (by omega)
/-- which kind begins here, in both -/
theorem p_sort (S : RS o p q b vs X σ a fr ct cv) : (∃ j, j < 5 ∧ fX12_sortOf X p X.2.1.2.2.2.1 = some (nI j, X) ∧ fX9_readChair σ = fX9_readChair_b66 σ (nI (j + 1)) ∧ ct = 1) ∨ (fX12_sortOf X p X.2.1.2.2.2.1 = some (-1000000, X) ∧ fX9_readChair σ = fX9_readChair_b66 σ 0) := by
  have hx : ∀ z, fX12_sortIn_L2 2000 X X.2.1.2.2.2.1 ct cv 0 = some z → fX12_sortOf X p X.2.1.2.2.2.1 = some z := fun z hz => by
    unfold fX12_sortOf fX12_sortIn
    rw [S.1.g3, bsm, S.1.g5, bsm, hz, bsm]
  have l : ∀ j, j < 5 → ∃ bo : Bool, fX9_isLetter σ (nI (prc j)) = some (one1 bo, σ) ∧ (bo = true ↔ ct = 1 ∧ cv = nI (prc j)) := fun j hj => by
    obtain ⟨bo, -, h2, h3⟩ := p_let S (prc_in j).1 (prc_in j).2
    exact ⟨bo, h2, h3⟩
  obtain ⟨b0, l0, i0⟩ := l 0 (by omega)
  obtain ⟨b1, l1, i1⟩ := l 1 (by omega)
  obtain ⟨b2, l2, i2⟩ := l 2 (by omega)
  obtain ⟨b3, l3, i3⟩ := l 3 (by omega)
  obtain ⟨b4, l4, i4⟩ := l 4 (by omega)
  have l0 : fX9_isLetter σ 112 = some (one1 b0, σ) := l0
  have l1 : fX9_isLetter σ 114 = some (one1 b1, σ) := l1
  have l2 : fX9_isLetter σ 99 = some (one1 b2, σ) := l2
  have l3 : fX9_isLetter σ 111 = some (one1 b3, σ) := l3
  have l4 : fX9_isLetter σ 116 = some (one1 b4, σ) := l4
  have o1 : ∀ b : Bool, one1 b = 0 ↔ b = false := fun b => by cases b <;> decide
  have rc : fX9_readChair σ = if b0 = false then (if b1 = false then (if b2 = false then (if b3 = false then (if b4 = false then fX9_readChair_b66 σ 0 else fX9_readChair_b66 σ 5) else fX9_readChair_b66 σ 4) else fX9_readChair_b66 σ 3) else fX9_readChair_b66 σ 2) else fX9_readChair_b66 σ 1 := by
    unfold fX9_readChair
    simp only [l0, l1, l2, l3, l4, bsm, o1]
  have inj : ∀ i j, i < 5 → j < 5 → nI (prc i) = nI (prc j) → i = j := by
    intro i j hi hj e
    have := (nI_eq (by have := prc_in i; omega) (by have := prc_in j; omega)).mp e
    rcases (show i = 0 ∨ i = 1 ∨ i = 2 ∨ i = 3 ∨ i = 4 by omega) with rfl | rfl | rfl | rfl | rfl <;> rcases (show j = 0 ∨ j = 1 ∨ j = 2 ∨ j = 3 ∨ j = 4 by omega) with rfl | rfl | rfl | rfl | rfl <;> first | rfl | exact absurd this (by decide)
  rcases x_sortL X ct cv 5 0 2000 0 (by omega) (by omega) rfl (fun j hj => by omega) with ⟨j, hj, e, c1, c2⟩ | ⟨e, hn⟩
  · refine Or.inl ⟨j, hj, hx _ e, ?_, c1⟩
    have key : ∀ i (bo : Bool), i < 5 → (bo = true ↔ ct = 1 ∧ cv = nI (prc i)) → (bo = decide (i = j)) := by
      intro i bo hi h
      by_cases z : i = j
      · subst z
        rw [h.mpr ⟨c1, c2⟩]; simp
      · have : ¬ bo = true := fun w => z (inj i j hi hj ((h.mp w).2.symm.trans c2))
        simp [z, this]
    rw [rc, key 0 b0 (by omega) i0, key 1 b1 (by omega) i1, key 2 b2 (by omega) i2, key 3 b3 (by omega) i3, key 4 b4 (by omega) i4]
    rcases (show j = 0 ∨ j = 1 ∨ j = 2 ∨ j = 3 ∨ j = 4 by omega) with rfl | rfl | rfl | rfl | rfl <;> rfl
  · refine Or.inr ⟨hx _ e, ?_⟩
    have key : ∀ i (bo : Bool), i < 5 → (bo = true ↔ ct = 1 ∧ cv = nI (prc i)) → bo = false := by
      intro i bo hi h
      cases bo with
      | false => rfl
      | true => exact absurd (h.mp rfl) (hn i hi)
    rw [rc, key 0 b0 (by omega) i0, key 1 b1 (by omega) i1, key 2 b2 (by omega) i2, key 3 b3 (by omega) i3, key 4 b4 (by omega) i4]
    rfl
end FI
