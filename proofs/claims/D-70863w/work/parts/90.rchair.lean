/-! texts: a chair is read -/
/-- the base: what lies below the reader is as before, but for the tape's count; the model's words of reading alone change -/
def BR (o t p : Nat) (X0 : AH) (σ0 : MS) (X : AH) (σ : MS) : Prop := wfX X ∧ X.2.1 = X0.2.1 ∧ p ≤ X.1 ∧ (∀ z, z < p → z ≠ o → X.2.2 z = X0.2.2 z) ∧ X.2.2 o = some (.inl (0, crF o (up2 σ0 0 8 0) t)) ∧ (∀ k, k ≠ 0 → k ≠ 7 → σ k = σ0 k) ∧ ∀ j, ¬ (10 ≤ j ∧ j ≤ 14) → σ 0 j = σ0 0 j
section BRs
variable {o t p q b a fr : Nat} {vs : Nat → Nat} {X0 X Y : AH} {σ0 σ σ' : MS} {ct cv : Int32}
theorem BR.mv (B : BR o t p X0 σ0 X σ) (hop : o < p) (hw : wfX Y) (h1 : Y.2.1 = X.2.1) (h2 : X.1 ≤ Y.1) (h : ∀ z, z < p → Y.2.2 z = X.2.2 z) : BR o t p X0 σ0 Y σ :=
  ⟨hw, h1.trans B.2.1, Nat.le_trans B.2.2.1 h2, fun z hz hzo => (h z hz).trans (B.2.2.2.1 z hz hzo), (h o hop).trans B.2.2.2.2.1, B.2.2.2.2.2⟩
theorem BR.ag {S : Nat → Prop} (B : BR o t p X0 σ0 X σ) (hop : o < p) (G : AgX S X Y) (hs : ∀ z, z < p → ¬ S z) : BR o t p X0 σ0 Y σ :=
  B.mv hop G.w G.1 G.2.1 (fun z hz => G.2.2.1 z (Nat.lt_of_lt_of_le hz B.2.2.1) (hs z hz))
theorem BR.m (B : BR o t p X0 σ0 X σ) (h1 : ∀ k, k ≠ 0 → k ≠ 7 → σ' k = σ k) (h2 : ∀ j, ¬ (10 ≤ j ∧ j ≤ 14) → σ' 0 j = σ 0 j) : BR o t p X0 σ0 X σ' :=
  ⟨B.1, B.2.1, B.2.2.1, B.2.2.2.1, B.2.2.2.2.1, fun k k0 k7 => (h1 k k0 k7).trans (B.2.2.2.2.2.1 k k0 k7), fun j hj => (h2 j hj).trans (B.2.2.2.2.2.2 j hj)⟩
theorem BR.ms (B : BR o t p X0 σ0 X σ) (h : Msm σ σ') : BR o t p X0 σ0 X σ' := B.m (fun k k0 _ => h.1 k k0) (fun j hj => h.2 j (by omega))
theorem RS.m7 (S : RS o p q b vs X σ a fr ct cv) (h : ∀ k, k ≠ 7 → σ' k = σ k) : RS o p q b vs X σ' a fr ct cv := by
  obtain ⟨C, M, h1, h2, T⟩ := S
  have e0 := h 0 (by omega)
  exact ⟨C, ⟨by rw [e0]; exact M.1, by rw [e0]; exact M.2.1, by rw [e0]; exact M.2.2.1, fun j hj => by rw [h 6 (by omega)]; exact M.2.2.2 j hj⟩, h1, h2, by rw [e0]; exact T⟩
theorem RS.mv (S : RS o p q b vs X σ a fr ct cv) (hw : wfX Y) (h1 : Y.2.2 p = X.2.2 p) (h2 : Y.2.2 (o + 2) = X.2.2 (o + 2)) : RS o p q b vs Y σ a fr ct cv := by
  obtain ⟨⟨k1, k2, k3, k4, f, k5, k6⟩, h⟩ := S
  exact ⟨⟨h1.trans k1, hw, k3, k4, f, h2.trans k5, k6⟩, h⟩
theorem RS.ag {S' : Nat → Prop} (S : RS o p q b vs X σ a fr ct cv) (G : AgX S' X Y) (h1 : ¬ S' p) (h2 : ¬ S' (o + 2)) : RS o p q b vs Y σ a fr ct cv := ⟨S.1.ag G h1 h2, S.2⟩
/-- it ends with a fault -/
def FO (o t p : Nat) (X0 : AH) (σ0 : MS) (Y : AH) (y : Nat) (σ' : MS) : Prop := Flt Y y (σ' 0 14) (σ' 0 13) ∧ BR o t p X0 σ0 Y σ' ∧ y ≠ o
theorem fault_out (hop : o < p) (S : RS o p q b vs X σ a fr ct cv) (B : BR o t p X0 σ0 X σ) {k : Int32} (hF : Flt Y X.1 k (nI fr)) (G : AgX (fun _ => False) X Y) : FO o t p X0 σ0 Y X.1 (up2 σ 0 14 k) := by
  refine ⟨?_, (B.ag hop G (fun _ _ z => z)).m (fun k k0 _ => up2_n k0) (fun j hj => by rw [u0, if_neg (by omega)]), ?_⟩
  · rw [u0, if_pos rfl, u0, if_neg (by omega), S.2.1.2.2.1]; exact hF
  · have := S.1.2.1.lt S.1.1
    omega
end BRs
/-! the list of chairs that is made -/
def Lst (X : AH) (la c : Nat) (κ : Nat → Int32) : Prop := (c = 0 ∧ X.2.2 la = some (.inl (9, [.int 0, .ref X.2.1.1, .int 0]))) ∨ (1 ≤ c ∧ ∃ (mc : Int32) (E : Nat) (g : Nat → Option Nat), X.2.2 la = some (.inl (9, [.int mc, .ref E, .int (nI c)])) ∧ la + 7 ≤ E ∧ X.2.2 E = some (.inr (.inr (5, 10, g))) ∧ ∀ i, i < c → ∃ (a k : Nat), 1 ≤ k ∧ k ≤ 5 ∧ κ (5 + i) = nI k ∧ g i = some a ∧ la + 7 ≤ a ∧ X.2.2 a = some (.inl (3 + k, [.int (nI i)])))
theorem Lst.ChL {X : AH} {la c : Nat} {κ : Nat → Int32} {f : Nat → Option Nat} (h : Lst X la c κ) (hc : c ≤ 6) (he : X.2.2 X.2.1.1 = some (.inr (.inr (5, 0, f)))) : ChL X la c κ := by
  rcases h with ⟨rfl, h⟩ | ⟨h1, mc, E, g, h2, h3, h4, h5⟩
  · exact ⟨0, X.2.1.1, 0, f, h, he, Nat.le_refl _, by omega, fun i hi => by omega⟩
  · refine ⟨mc, E, 10, g, h2, h4, by omega, by omega, fun i hi => ?_⟩
    obtain ⟨a, k, k1, k2, k3, k4, k5, k6⟩ := h5 i hi
    exact ⟨a, k, k1, k2, k3, k4, k6⟩
theorem Lst.ag {S : Nat → Prop} {X Y : AH} {la c : Nat} {κ : Nat → Int32} (h : Lst X la c κ) (G : AgX S X Y) : Lst Y la c κ := by
  rcases h with ⟨h0, h⟩ | ⟨h1, mc, E, g, h2, h3, h4, h5⟩
  · exact Or.inl ⟨h0, by rw [G.1]; exact G.2.2.2.1 _ _ h (im_o (by omega) (by omega))⟩
  · refine Or.inr ⟨h1, mc, E, g, G.2.2.2.1 _ _ h2 (im_o (by omega) (by omega)), h3, G.2.2.2.1 _ _ h4 (im_q (by omega)), fun i hi => ?_⟩
    obtain ⟨a, k, k1, k2, k3, k4, k5, k6⟩ := h5 i hi
    exact ⟨a, k, k1, k2, k3, k4, k5, G.2.2.2.1 _ _ k6 (im_o (by omega) (by omega))⟩
theorem Lst.cg {X : AH} {la c : Nat} {κ κ' : Nat → Int32} (h : Lst X la c κ) (e : ∀ i, i < c → κ (5 + i) = κ' (5 + i)) : Lst X la c κ' := by
  rcases h with h | ⟨h1, mc, E, g, h2, h3, h4, h5⟩
  · exact Or.inl h
  · refine Or.inr ⟨h1, mc, E, g, h2, h3, h4, fun i hi => ?_⟩
    obtain ⟨a, k, k1, k2, k3, k4⟩ := h5 i hi
    exact ⟨a, k, k1, k2, (e i hi).symm.trans k3, k4⟩
theorem x_chairBy {X : AH} (hw : wfX X) {j c : Nat} (hj : j < 5) : ∃ Y, fX0_chairBy X (nI j) (nI c) = some (X.1, Y) ∧ Y.2.2 X.1 = some (.inl (3 + (j + 1), [.int (nI c)])) ∧ Y.1 = X.1 + 1 ∧ AgX (fun _ => False) X Y := by
  have key : ∀ ci, 4 ≤ ci → ci ≤ 8 → pN (xnw X (.inl (ci, [.int 0]))) X.1 (nI c) = some (xup (xnw X (.inl (ci, [.int 0]))) X.1 (.inl (ci, [.int (nI c)]))) ∧ AgX (fun _ => False) X (xup (xnw X (.inl (ci, [.int 0]))) X.1 (.inl (ci, [.int (nI c)]))) := by
    intro ci h4 h8
    have c0 : (xnw X (.inl (ci, [.int 0]))).2.2 X.1 = some (.inl (ci, [.int 0])) := xnw_s
    have gc : gCh (xnw X (.inl (ci, [.int 0]))) X.1 = some ci := by
      unfold gCh
      rw [gC_of c0, bsm]
      rcases (show ci = 4 ∨ ci = 5 ∨ ci = 6 ∨ ci = 7 ∨ ci = 8 by omega) with rfl | rfl | rfl | rfl | rfl <;> rfl
    refine ⟨?_, rfl, Nat.le_succ _, fun a ha _ => by rw [xup_n (by omega), xnw_n (by omega)], fun a e ha _ => ?_, fun a ha => ?_⟩
    · unfold pN
      rw [gc, bsm, pF_of c0 (Nat.le_of_ble_eq_true rfl)]; rfl
    · have := hw.lt ha
      rw [xup_n (by omega), xnw_n (by omega)]; exact ha
    · have ha : X.1 + 1 ≤ a := ha
      rw [xup_n (by omega), xnw_n (by omega)]; exact hw a (by omega)
  unfold fX0_chairBy
  rcases (show j = 0 ∨ j = 1 ∨ j = 2 ∨ j = 3 ∨ j = 4 by omega) with rfl | rfl | rfl | rfl | rfl
  · obtain ⟨e, G⟩ := key 4 (by omega) (by omega)
    refine ⟨_, ?_, xup_s, rfl, G⟩
    rw [if_pos (show nI 0 = 0 from rfl)]
    unfold fX4_init fX3_init
    simp only [bsm, e]
  · obtain ⟨e, G⟩ := key 5 (by omega) (by omega)
    refine ⟨_, ?_, xup_s, rfl, G⟩
    rw [if_neg (show ¬ nI 1 = 0 by decide), if_pos (show nI 1 = 1 from rfl)]
    unfold fX5_init fX4_init fX3_init
    simp only [bsm, e]
  · obtain ⟨e, G⟩ := key 6 (by omega) (by omega)
    refine ⟨_, ?_, xup_s, rfl, G⟩
    rw [if_neg (show ¬ nI 2 = 0 by decide), if_neg (show ¬ nI 2 = 1 by decide), if_pos (show nI 2 = 2 from rfl)]
    unfold fX6_init fX4_init fX3_init
    simp only [bsm, e]
  · obtain ⟨e, G⟩ := key 7 (by omega) (by omega)
    refine ⟨_, ?_, xup_s, rfl, G⟩
    rw [if_neg (show ¬ nI 3 = 0 by decide), if_neg (show ¬ nI 3 = 1 by decide), if_neg (show ¬ nI 3 = 2 by decide), if_pos (show nI 3 = 3 from rfl)]
    unfold fX7_init fX3_init
    simp only [bsm, e]
  · obtain ⟨e, G⟩ := key 8 (by omega) (by omega)
    refine ⟨_, ?_, xup_s, rfl, G⟩
    rw [if_neg (show ¬ nI 4 = 0 by decide), if_neg (show ¬ nI 4 = 1 by decide), if_neg (show ¬ nI 4 = 2 by decide), if_neg (show ¬ nI 4 = 3 by decide)]
    unfold fX8_init fX7_init fX3_init
    simp only [bsm, e]
theorem wfX.up {X : AH} {a : Nat} {e0 e : XC} (hw : wfX X) (h : X.2.2 a = some e0) : wfX (xup X a e) := fun b hb => by
  have h1 := hw.lt h
  have hb : X.1 ≤ b := hb
  rw [xup_n (by omega)]; exact hw b hb
theorem x_add {X : AH} {la c a k : Nat} {κ : Nat → Int32} {f : Nat → Option Nat} (hw : wfX X) (h : Lst X la c κ) (hc : c < 6) (he : X.2.2 X.2.1.1 = some (.inr (.inr (5, 0, f)))) (hel : X.2.1.1 < la) (hx : la + 7 ≤ X.1) (ha7 : la + 7 ≤ a) (ha : X.2.2 a = some (.inl (3 + k, [.int (nI c)]))) (k1 : 1 ≤ k) (k5 : k ≤ 5) (hk : κ (5 + c) = nI k) :
    ∃ Y, fJ2_add X la a = some (1, Y) ∧ Lst Y la (c + 1) κ ∧ wfX Y ∧ Y.2.1 = X.2.1 ∧ X.1 ≤ Y.1 ∧ ∀ z, z < la + 7 → z ≠ la → Y.2.2 z = X.2.2 z := by
  have gch : ∀ Z : AH, Z.2.2 a = some (.inl (3 + k, [.int (nI c)])) → gCh Z a = some (3 + k) := fun Z hZ => gCh_of hZ k1 k5
  rcases h with ⟨rfl, h⟩ | ⟨h1, mc, E, g, h2, h3, h4, h5⟩
  · -- the first one: the array is made
    have la_lt := hw.lt h
    have a_lt := hw.lt ha
    let X1 : AH := xup X la (.inl (9, [.int 1, .ref X.2.1.1, .int 0]))
    have w1 : wfX X1 := hw.up h
    have e1 : pF X la 9 0 (.int (0 + 1)) = some X1 := pF_of h (Nat.le_of_ble_eq_true rfl)
    have c1 : X1.2.2 la = some (.inl (9, [.int 1, .ref X.2.1.1, .int 0])) := xup_s
    have d1 : X1.2.2 X.2.1.1 = some (.inr (.inr (5, 0, f))) := by show (xup X la _).2.2 _ = _; rw [xup_n (by omega)]; exact he
    let X2 : AH := xnw X1 (.inr (.inr (5, 10, fun _ => none)))
    have c2 : X2.2.2 la = some (.inl (9, [.int 1, .ref X.2.1.1, .int 0])) := by show (xnw X1 _).2.2 _ = _; rw [xnw_n (show la ≠ X1.1 from Nat.ne_of_lt la_lt)]; exact c1
    have w2 : wfX X2 := fun b hb => by
      have hb : X1.1 + 1 ≤ b := hb
      show (xnw X1 _).2.2 b = none
      rw [xnw_n (by omega)]; exact w1 b (by omega)
    let X3 : AH := xup X2 la (.inl (9, [.int 1, .ref X.1, .int 0]))
    have e3 : pF X2 la 9 1 (.ref X.1) = some X3 := pF_of c2 (Nat.le_of_ble_eq_true rfl)
    have w3 : wfX X3 := w2.up c2
    have c3 : X3.2.2 la = some (.inl (9, [.int 1, .ref X.1, .int 0])) := xup_s
    have q3 : X3.2.2 X.1 = some (.inr (.inr (5, 10, fun _ => none))) := by
      show (xup X2 la _).2.2 X.1 = _
      rw [xup_n (by omega)]
      show (xnw X1 _).2.2 X1.1 = _
      exact xnw_s
    have a3 : X3.2.2 a = some (.inl (3 + k, [.int (nI 0)])) := by
      show (xup X2 la _).2.2 a = _
      rw [xup_n (by omega)]
      show (xnw X1 _).2.2 a = _
      rw [xnw_n (show a ≠ X1.1 from Nat.ne_of_lt a_lt)]
      show (xup X la _).2.2 a = _
      rw [xup_n (by omega)]; exact ha
    let X4 : AH := xup X3 X.1 (.inr (.inr (5, 10, va_up (fun _ => none) 0 (some a))))
    have e4 : pQ X3 X.1 5 0 (some a) = some X4 := pQ_of (j := 0) q3 (by omega) (by omega)
    have w4 : wfX X4 := w3.up q3
    have c4 : X4.2.2 la = some (.inl (9, [.int 1, .ref X.1, .int 0])) := by show (xup X3 X.1 _).2.2 la = _; rw [xup_n (by omega)]; exact c3
    have e5 : pF X4 la 9 2 (.int (0 + 1)) = some (xup X4 la (.inl (9, [.int 1, .ref X.1, .int (0 + 1)]))) := pF_of c4 (Nat.le_of_ble_eq_true rfl)
    refine ⟨xup X4 la (.inl (9, [.int 1, .ref X.1, .int (0 + 1)])), ?_, Or.inr ⟨by omega, 1, X.1, va_up (fun _ => none) 0 (some a), xup_s, hx, by rw [xup_n (by omega)]; exact xup_s, fun i hi => ?_⟩, w4.up c4, rfl, Nat.le_succ _, fun z hz hzl => ?_⟩
    · have gl : gL X1 X.2.1.1 5 = some 0 := gLq_of d1
      have szz : szg (jmax 10 (0 + 1)) 40 = some 10 := by decide
      have g10 : gI X1 la 9 2 = some 0 := gI_of c1 rfl
      have g11 : gR X1 la 9 1 = some X.2.1.1 := gR_of c1 rfl
      unfold fJ2_add fJ2_add_2 fJ2_grow fJ2_grow_2 fJ2_add_2_b11
      simp only [gI_of h (k := 0) (v := 0) rfl, bsm, e1, g11, g10, ck_of c1, gl, if_true]
      rw [if_neg (by decide), if_pos (show X.2.1.1 = X1.2.1.1 from rfl), szz, bsm]
      have e3' : pF (xnw X1 (.inr (.inr (5, 10, fun _ => none)))) la 9 1 (.ref X1.1) = some X3 := e3
      have e4' : pQ X3 X1.1 5 0 (some a) = some X4 := e4
      simp only [e3', bsm, gch X3 a3, e4', e5]
    · have : i = 0 := by omega
      subst this
      refine ⟨a, k, k1, k5, hk, rfl, ha7, ?_⟩
      rw [xup_n (by omega)]
      show (xup X3 X.1 _).2.2 a = _
      rw [xup_n (by omega)]; exact a3
    · rw [xup_n hzl]
      show (xup X3 X.1 _).2.2 z = _
      rw [xup_n (by omega)]
      show (xup X2 la _).2.2 z = _
      rw [xup_n hzl]
      show (xnw X1 _).2.2 z = _
      rw [xnw_n (show z ≠ X1.1 from Nat.ne_of_lt (Nat.lt_of_lt_of_le hz hx))]
      show (xup X la _).2.2 z = _
      rw [xup_n hzl]
  · have la_lt := hw.lt h2
    have E_lt := hw.lt h4
    have haE : a ≠ E := fun z => by rw [z, h4] at ha; cases ha
    let X1 : AH := xup X la (.inl (9, [.int (mc + 1), .ref E, .int (nI c)]))
    have w1 : wfX X1 := hw.up h2
    have e1 : pF X la 9 0 (.int (mc + 1)) = some X1 := pF_of h2 (Nat.le_of_ble_eq_true rfl)
    have c1 : X1.2.2 la = some (.inl (9, [.int (mc + 1), .ref E, .int (nI c)])) := xup_s
    have q1 : X1.2.2 E = some (.inr (.inr (5, 10, g))) := by show (xup X la _).2.2 E = _; rw [xup_n (by omega)]; exact h4
    have a1 : X1.2.2 a = some (.inl (3 + k, [.int (nI c)])) := by show (xup X la _).2.2 a = _; rw [xup_n (by omega)]; exact ha
    let X2 : AH := xup X1 E (.inr (.inr (5, 10, va_up g c (some a))))
    have e2 : pQ X1 E 5 (nI c) (some a) = some X2 := pQ_of q1 (by omega) (by omega)
    have w2 : wfX X2 := w1.up q1
    have c2 : X2.2.2 la = some (.inl (9, [.int (mc + 1), .ref E, .int (nI c)])) := by show (xup X1 E _).2.2 la = _; rw [xup_n (by omega)]; exact c1
    have e3 : pF X2 la 9 2 (.int (nI c + 1)) = some (xup X2 la (.inl (9, [.int (mc + 1), .ref E, .int (nI c + 1)]))) := pF_of c2 (Nat.le_of_ble_eq_true rfl)
    refine ⟨xup X2 la (.inl (9, [.int (mc + 1), .ref E, .int (nI c + 1)])), ?_, Or.inr ⟨by omega, mc + 1, E, va_up g c (some a), by rw [xup_s, nI_1], h3, by rw [xup_n (by omega)]; exact xup_s, fun i hi => ?_⟩, w2.up c2, rfl, Nat.le_refl _, fun z hz hzl => ?_⟩
    · have gl : gL X1 E 5 = some (nI 10) := gLq_of q1
      unfold fJ2_add fJ2_add_2 fJ2_add_2_b11
      simp only [gI_of h2 (k := 0) (v := mc) rfl, bsm, e1, gR_of c1 (k := 1) (v := E) rfl, gI_of c1 (k := 2) (v := nI c) rfl, ck_of c1, gl]
      rw [if_neg (fun z => by have := (nI_eq (by omega) (by omega)).mp z; omega)]
      simp only [gch X1 a1, bsm, e2, e3]
    · have oth : ∀ z e, X.2.2 z = some e → z ≠ la → z ≠ E → (xup X2 la (.inl (9, [.int (mc + 1), .ref E, .int (nI c + 1)]))).2.2 z = some e := fun z e hz z1 z2 => by
        rw [xup_n z1]
        show (xup X1 E _).2.2 z = _
        rw [xup_n z2]
        show (xup X la _).2.2 z = _
        rw [xup_n z1]; exact hz
      by_cases z : i = c
      · subst z
        exact ⟨a, k, k1, k5, hk, by show (if i = i then _ else _) = _; rw [if_pos rfl], ha7, oth a _ ha (by omega) haE⟩
      · obtain ⟨a', k', r1, r2, r3, r4, r5, r6⟩ := h5 i (by omega)
        refine ⟨a', k', r1, r2, r3, by show (if i = c then _ else _) = _; rw [if_neg z]; exact r4, r5, oth a' _ r6 (by omega) (fun w => by rw [w, h4] at r6; cases r6)⟩
    · rw [xup_n hzl]
      show (xup X1 E _).2.2 z = _
      rw [xup_n (by omega)]
      show (xup X la _).2.2 z = _
      rw [xup_n hzl]
