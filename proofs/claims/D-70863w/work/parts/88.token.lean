/-! texts: the next token, in both -/
def Tk (ct cv mt mv : Int32) : Prop := (ct = 0 ∧ mt = 3) ∨ (ct = 1 ∧ mt = 1 ∧ ∃ v, 97 ≤ v ∧ v ≤ 122 ∧ cv = nI v ∧ mv = nI v) ∨ (ct = 2 ∧ mt = 2 ∧ ∃ v, v ≤ 99 ∧ cv = nI v ∧ mv = nI v) ∨ (ct = 3 ∧ mt = 1 ∧ mv = 44) ∨ (ct = 4 ∧ mt = 1 ∧ mv = 59) ∨ (ct = 5 ∧ mt = 0)
abbrev rdF (o b q : Nat) (a ct fr cv : Int32) : List Value := [.ref (o + 2), .int (nI b), .int a, .int ct, .int fr, .int cv, .ref q]
/-- the reader's cell, and the tape that it reads -/
def RC (o p q b : Nat) (vs : Nat → Nat) (X : AH) (a ct fr cv : Int32) : Prop := X.2.2 p = some (.inl (12, rdF o b q a ct fr cv)) ∧ wfX X ∧ o + 29 ≤ p ∧ b ≤ 120 ∧ ∃ f : Nat → Int32, X.2.2 (o + 2) = some (.inr (.inl (1, 120, f))) ∧ ∀ j, j < b → f j &&& 255 = nI (vs j) ∧ vs j < 256
/-- the model's reader: the place, where the token begins -/
def MC (b : Nat) (vs : Nat → Nat) (σ : MS) (a fr : Nat) : Prop := σ 0 8 = nI b ∧ σ 0 10 = nI a ∧ σ 0 13 = nI fr ∧ ∀ j, j < b → σ 6 j = nI (vs j)
def RS (o p q b : Nat) (vs : Nat → Nat) (X : AH) (σ : MS) (a fr : Nat) (ct cv : Int32) : Prop := RC o p q b vs X (nI a) ct (nI fr) cv ∧ MC b vs σ a fr ∧ a ≤ b ∧ fr ≤ b ∧ Tk ct cv (σ 0 11) (σ 0 12)
/-- the model's own words of reading may change -/
def Msm (σ σ' : MS) : Prop := (∀ k, k ≠ 0 → σ' k = σ k) ∧ ∀ j, ¬ (10 ≤ j ∧ j ≤ 13) → σ' 0 j = σ 0 j
theorem Msm.rf (σ : MS) : Msm σ σ := ⟨fun _ _ => rfl, fun _ _ => rfl⟩
theorem Msm.tr {a b c : MS} (h : Msm a b) (g : Msm b c) : Msm a c := ⟨fun k hk => (g.1 k hk).trans (h.1 k hk), fun j hj => (g.2 j hj).trans (h.2 j hj)⟩
theorem u0 {σ : MS} {i j : Nat} {x : Int32} : up2 σ 0 i x 0 j = if j = i then x else σ 0 j := by rw [up2_s]; rfl
theorem Msm.u {σ : MS} {i : Nat} {x : Int32} (h : 10 ≤ i ∧ i ≤ 13) : Msm σ (up2 σ 0 i x) := ⟨fun k hk => up2_n hk, fun j hj => by rw [u0, if_neg (by omega)]⟩
theorem inV (v lo hi : Nat) (hv : v < 256) {a b : Int64} (ha : a.toInt = lo) (hb : b.toInt = hi) : fX9_in (nI v).toInt64 a b = if lo ≤ v ∧ v ≤ hi then some 1 else some 0 := by
  rw [in_def, ha, hb, nI_toInt (by omega)]
  by_cases c : lo ≤ v ∧ v ≤ hi
  · rw [if_pos c, if_pos (by omega)]
  · rw [if_neg c, if_neg (by omega)]
section RC
variable {o p q b : Nat} {vs : Nat → Nat} {X : AH} {a ct fr cv : Int32}
theorem RC.set {fs : List Value} {a' ct' fr' cv' : Int32} (h : RC o p q b vs X a ct fr cv) (hf : fs = rdF o b q a' ct' fr' cv') : RC o p q b vs (xup X p (.inl (12, fs))) a' ct' fr' cv' ∧ AgX (fun z => z = p) X (xup X p (.inl (12, fs))) := by
  obtain ⟨h1, h2, h3, h4, f, h5, h6⟩ := h
  have G : AgX (fun z => z = p) X (xup X p (.inl (12, fs))) := AgX.up h2 h1 (ni_o (Or.inr (by decide))) rfl
  exact ⟨⟨by rw [xup_s, hf], G.w, h3, h4, f, by rw [xup_n (by omega)]; exact h5, h6⟩, G⟩
theorem RC.p2 (h : RC o p q b vs X a ct fr cv) (x : Int32) : ∃ Y, pF X p 12 2 (.int x) = some Y ∧ RC o p q b vs Y x ct fr cv ∧ AgX (fun z => z = p) X Y := ⟨_, pF_of h.1 (Nat.le_of_ble_eq_true rfl), h.set rfl⟩
theorem RC.p3 (h : RC o p q b vs X a ct fr cv) (x : Int32) : ∃ Y, pF X p 12 3 (.int x) = some Y ∧ RC o p q b vs Y a x fr cv ∧ AgX (fun z => z = p) X Y := ⟨_, pF_of h.1 (Nat.le_of_ble_eq_true rfl), h.set rfl⟩
theorem RC.p4 (h : RC o p q b vs X a ct fr cv) (x : Int32) : ∃ Y, pF X p 12 4 (.int x) = some Y ∧ RC o p q b vs Y a ct x cv ∧ AgX (fun z => z = p) X Y := ⟨_, pF_of h.1 (Nat.le_of_ble_eq_true rfl), h.set rfl⟩
theorem RC.p5 (h : RC o p q b vs X a ct fr cv) (x : Int32) : ∃ Y, pF X p 12 5 (.int x) = some Y ∧ RC o p q b vs Y a ct fr x ∧ AgX (fun z => z = p) X Y := ⟨_, pF_of h.1 (Nat.le_of_ble_eq_true rfl), h.set rfl⟩
theorem RC.g2 (h : RC o p q b vs X a ct fr cv) : gI X p 12 2 = some a := gI_of h.1 rfl
theorem RC.g3 (h : RC o p q b vs X a ct fr cv) : gI X p 12 3 = some ct := gI_of h.1 rfl
theorem RC.g4 (h : RC o p q b vs X a ct fr cv) : gI X p 12 4 = some fr := gI_of h.1 rfl
theorem RC.g5 (h : RC o p q b vs X a ct fr cv) : gI X p 12 5 = some cv := gI_of h.1 rfl
theorem RC.g6 (h : RC o p q b vs X a ct fr cv) : gR X p 12 6 = some q := gR_of h.1 rfl
theorem RC.ck (h : RC o p q b vs X a ct fr cv) : ck X p 12 = some () := ck_of h.1
theorem RC.look {k : Nat} (h : RC o p q b vs X (nI k) ct fr cv) (hk : k ≤ b) : fX12_look X p = some (if b ≤ k then -1000000 else nI (vs k), X) := by
  obtain ⟨h1, h2, h3, h4, f, h5, h6⟩ := h
  unfold fX12_look
  simp only [gI_of h1 (k := 2) (v := nI k) rfl, gI_of h1 (k := 1) (v := nI b) rfl, bsm]
  by_cases c : b ≤ k
  · rw [if_pos (nI_le c (by omega)), if_pos c]
  · rw [if_neg (nI_ge (by omega) (by omega)), if_neg c]
    simp only [gR_of h1 (k := 0) (v := o + 2) rfl, bsm, gA_of h5 (show k < 120 by omega) (by omega), (h6 k (by omega)).1]
theorem RC.ag {S : Nat → Prop} {Y : AH} (h : RC o p q b vs X a ct fr cv) (G : AgX S X Y) (h1 : ¬ S p) (h2 : ¬ S (o + 2)) : RC o p q b vs Y a ct fr cv := by
  obtain ⟨k1, k2, k3, k4, f, k5, k6⟩ := h
  exact ⟨G.at k2 k1 h1, G.w, k3, k4, f, G.at k2 k5 h2, k6⟩
end RC
section TOK
variable {o p q b : Nat} {vs : Nat → Nat}
theorem digL (fr : Nat) : ∀ (d k a f1 f2 : Nat) (X : AH) (σ : MS) (ct cv : Int32), d < f1 → d < f2 → a + d = b → a = fr + k → RC o p q b vs X (nI a) ct (nI fr) cv → MC b vs σ a fr → (k ≤ 2 → ∃ v, v < 10 ^ k ∧ cv = nI v ∧ σ 0 12 = nI v) → (k = 0 → a < b ∧ 48 ≤ vs a ∧ vs a ≤ 57) →
    ∃ Y σ' a' ct' cv', fX12_next_L51 f1 X p = some Y ∧ fX9_nextToken_L33 f2 σ = some σ' ∧ RS o p q b vs Y σ' a' fr ct' cv' ∧ AgX (fun z => z = p) X Y ∧ Msm σ σ' := by
  intro d
  induction d with
  | zero =>
    intro k a f1 f2 X σ ct cv hf1 hf2 ha hk C M hv h0
    obtain ⟨f1, rfl⟩ : ∃ f, f1 = f + 1 := ⟨f1 - 1, by omega⟩
    obtain ⟨f2, rfl⟩ : ∃ f, f2 = f + 1 := ⟨f2 - 1, by omega⟩
    have hb := C.2.2.2.1
    have hk1 : 1 ≤ k := by
      by_cases z : k = 0
      · have := (h0 z).1; omega
      · omega
    have es : nI a - nI fr = nI k := by rw [pk_sub (by omega), show a - fr = k by omega]
    have hin : fX9_in ((-1000000 : Int32).toInt64) 48 57 = some 0 := by decide
    have lk : fX12_look X p = some (-1000000, X) := by rw [C.look (by omega), if_pos (by omega)]
    by_cases c2 : k ≤ 2
    · obtain ⟨v, v1, v2, v3⟩ := hv c2
      have hv99 : v ≤ 99 := by
        have : 10 ^ k ≤ 10 ^ 2 := Nat.pow_le_pow_right (by omega) c2
        omega
      obtain ⟨Y, ey, CY, G⟩ := C.p3 2
      refine ⟨Y, up2 σ 0 11 2, a, 2, cv, ?_, ?_, ⟨CY, ⟨by rw [u0, if_neg (by omega)]; exact M.1, by rw [u0, if_neg (by omega)]; exact M.2.1, by rw [u0, if_neg (by omega)]; exact M.2.2.1, fun j hj => by rw [up2_n (by omega)]; exact M.2.2.2 j hj⟩, by omega, by omega, ?_⟩, G, Msm.u (by omega)⟩
      · unfold fX12_next_L51 fX12_next_b139
        simp only [C.ck, lk, bsm, isIn_eq, hin, if_true, C.g2, C.g4, es, ey]
        rw [if_neg (show ¬ (2 : Int32) < nI k from nI_nlt (a := 2) c2 (by omega))]
      · unfold fX9_nextToken_L33 fX9_nextToken_b119 fX9_nextToken_b149
        rw [M.1, M.2.1, M.2.2.1, if_pos (nI_le (by omega) (by omega)), if_neg (nI_ge (by omega) (by omega)), es, if_pos (show nI k ≤ 2 from nI_le (b := 2) c2 (by omega)), bsm]
      · rw [u0, if_pos rfl, u0, if_neg (by omega)]
        exact Or.inr (Or.inr (Or.inl ⟨rfl, rfl, v, hv99, v2, v3⟩))
    · obtain ⟨Y, ey, CY, G⟩ := C.p3 5
      refine ⟨Y, up2 σ 0 11 0, a, 5, cv, ?_, ?_, ⟨CY, ⟨by rw [u0, if_neg (by omega)]; exact M.1, by rw [u0, if_neg (by omega)]; exact M.2.1, by rw [u0, if_neg (by omega)]; exact M.2.2.1, fun j hj => by rw [up2_n (by omega)]; exact M.2.2.2 j hj⟩, by omega, by omega, ?_⟩, G, Msm.u (by omega)⟩
      · unfold fX12_next_L51 fX12_next_b139
        simp only [C.ck, lk, bsm, isIn_eq, hin, if_true, C.g2, C.g4, es, ey]
        rw [if_pos (show (2 : Int32) < nI k from nI_lt (a := 2) (by omega) (by omega))]
      · unfold fX9_nextToken_L33 fX9_nextToken_b119 fX9_nextToken_b149
        rw [M.1, M.2.1, M.2.2.1, if_pos (nI_le (by omega) (by omega)), if_neg (nI_ge (by omega) (by omega)), es, if_neg (show ¬ nI k ≤ 2 from nI_ge (a := 2) (by omega) (by omega)), bsm]
      · rw [u0, if_pos rfl]
        exact Or.inr (Or.inr (Or.inr (Or.inr (Or.inr ⟨rfl, rfl⟩))))
  | succ d ih =>
    intro k a f1 f2 X σ ct cv hf1 hf2 ha hk C M hv h0
    obtain ⟨f1, rfl⟩ : ∃ f, f1 = f + 1 := ⟨f1 - 1, by omega⟩
    obtain ⟨f2, rfl⟩ : ∃ f, f2 = f + 1 := ⟨f2 - 1, by omega⟩
    have hb := C.2.2.2.1
    have hva : vs a < 256 := by
      obtain ⟨_, _, _, _, f, _, h6⟩ := C
      exact (h6 a (by omega)).2
    have es : nI a - nI fr = nI k := by rw [pk_sub (by omega), show a - fr = k by omega]
    have lk : fX12_look X p = some (nI (vs a), X) := by rw [C.look (by omega), if_neg (by omega)]
    have hin := inV (vs a) 48 57 hva (a := 48) (b := 57) (by decide) (by decide)
    have er : rd (σ 6) 120 (nI a) = some (nI (vs a)) := by rw [rd_nI (by omega) (by omega), M.2.2.2 a (by omega)]
    by_cases dg : 48 ≤ vs a ∧ vs a ≤ 57
    · rw [if_pos dg] at hin
      -- the value, the place
      have key : ∃ cv' mv', (k + 1 ≤ 2 → ∃ v, v < 10 ^ (k + 1) ∧ cv' = nI v ∧ mv' = nI v) ∧ (∃ Y, fX12_next_L51 (f1 + 1) X p = fX12_next_L51 f1 Y p ∧ RC o p q b vs Y (nI (a + 1)) ct (nI fr) cv' ∧ AgX (fun z => z = p) X Y) ∧ fX9_nextToken_L33 (f2 + 1) σ = fX9_nextToken_L33 f2 (up2 (up2 σ 0 12 mv') 0 10 (nI (a + 1))) := by
        have hxx : ∀ x : Int32, (if 2 ≤ nI k then (some cv : Option Int32) else some (10 * cv + nI (vs a) - 48)) = some x → ∃ Y, fX12_next_L51 (f1 + 1) X p = fX12_next_L51 f1 Y p ∧ RC o p q b vs Y (nI (a + 1)) ct (nI fr) x ∧ AgX (fun z => z = p) X Y := by
          intro x hx
          obtain ⟨Y1, e1, C1, G1⟩ := C.p5 x
          obtain ⟨Y2, e2, C2, G2⟩ := C1.p2 (nI (a + 1))
          refine ⟨Y2, ?_, C2, G1.tr G2⟩
          conv => lhs; unfold fX12_next_L51
          simp only [C.ck, lk, bsm, isIn_eq, hin, one0, if_false, C.g2, C.g4, es, C.g5, fX12_next_b104]
          by_cases c2 : 2 ≤ nI k
          · rw [if_pos c2] at hx ⊢
            cases hx
            simp only [e1, bsm, C1.g2, nI_1, e2]
          · rw [if_neg c2] at hx ⊢
            have hx := Option.some.inj hx
            simp only [hx, e1, bsm, C1.g2, nI_1, e2]
        have hmm : ∀ x : Int32, (if σ 0 12 ≤ 99 then (some (10 * σ 0 12 + nI (vs a) - 48) : Option Int32) else some (σ 0 12)) = some x → fX9_nextToken_L33 (f2 + 1) σ = fX9_nextToken_L33 f2 (up2 (up2 σ 0 12 x) 0 10 (nI (a + 1))) := by
          intro x hx
          have e10 : up2 σ 0 12 x 0 10 = nI a := by rw [u0, if_neg (by omega)]; exact M.2.1
          conv => lhs; unfold fX9_nextToken_L33
          rw [M.1, M.2.1, if_neg (nI_ge (by omega) (by omega)), er, bsm, hin, bsm, if_neg (by decide)]
          by_cases c9 : σ 0 12 ≤ 99
          · rw [if_pos c9] at hx ⊢
            have hx := Option.some.inj hx
            rw [bsm, hx]
            unfold fX9_nextToken_b103
            rw [bsm, bsm, e10, nI_1]
          · rw [if_neg c9] at hx ⊢
            have hx := Option.some.inj hx
            rw [hx]
            unfold fX9_nextToken_b103
            rw [bsm, bsm, e10, nI_1]
        by_cases c2 : k ≤ 1
        · obtain ⟨v, v1, v2, v3⟩ := hv (by omega)
          have hv9 : v < 10 := by
            have : 10 ^ k ≤ 10 ^ 1 := Nat.pow_le_pow_right (by omega) c2
            omega
          have ev : 10 * nI v + nI (vs a) - 48 = nI (10 * v + vs a - 48) := by
            rw [show (10 : Int32) = nI 10 from rfl, pk_mul, nI_add, show (48 : Int32) = nI 48 from rfl, pk_sub (by omega)]
          refine ⟨nI (10 * v + vs a - 48), nI (10 * v + vs a - 48), fun _ => ⟨10 * v + vs a - 48, ?_, rfl, rfl⟩, hxx _ ?_, hmm _ ?_⟩
          · rw [Nat.pow_succ]; omega
          · rw [if_neg (show ¬ (2 : Int32) ≤ nI k from nI_ge (b := 2) (by omega) (by omega)), v2, ev]
          · rw [v3, if_pos (show nI v ≤ 99 from nI_le (b := 99) (by omega) (by omega)), ev]
        · obtain ⟨x, hx⟩ : ∃ x, (if 2 ≤ nI k then (some cv : Option Int32) else some (10 * cv + nI (vs a) - 48)) = some x := by
            split <;> exact ⟨_, rfl⟩
          obtain ⟨y, hy⟩ : ∃ x, (if σ 0 12 ≤ 99 then (some (10 * σ 0 12 + nI (vs a) - 48) : Option Int32) else some (σ 0 12)) = some x := by
            split <;> exact ⟨_, rfl⟩
          exact ⟨x, y, fun z => by omega, hxx x hx, hmm y hy⟩
      obtain ⟨cv', mv', hv', ⟨Y1, e1, C1, G1⟩, e2⟩ := key
      have M1 : MC b vs (up2 (up2 σ 0 12 mv') 0 10 (nI (a + 1))) (a + 1) fr := ⟨by rw [u0, if_neg (by omega), u0, if_neg (by omega)]; exact M.1, by rw [u0, if_pos rfl], by rw [u0, if_neg (by omega), u0, if_neg (by omega)]; exact M.2.2.1, fun j hj => by rw [up2_n (by omega), up2_n (by omega)]; exact M.2.2.2 j hj⟩
      obtain ⟨Y, σ', a', ct', cv2, q1, q2, q3, q4, q5⟩ := ih (k + 1) (a + 1) f1 f2 Y1 _ ct cv' (by omega) (by omega) (by omega) (by omega) C1 M1 (fun z => by
        obtain ⟨v, w1, w2, w3⟩ := hv' z
        exact ⟨v, w1, w2, by rw [u0, if_neg (by omega), u0, if_pos rfl]; exact w3⟩) (fun z => by omega)
      exact ⟨Y, σ', a', ct', cv2, e1.trans q1, e2.trans q2, q3, G1.tr q4, ((Msm.u (by omega)).tr (Msm.u (by omega))).tr q5⟩
    · rw [if_neg dg] at hin
      have hk1 : 1 ≤ k := by
        by_cases z : k = 0
        · exact absurd (h0 z).2 dg
        · omega
      by_cases c2 : k ≤ 2
      · obtain ⟨v, v1, v2, v3⟩ := hv c2
        have hv99 : v ≤ 99 := by
          have : 10 ^ k ≤ 10 ^ 2 := Nat.pow_le_pow_right (by omega) c2
          omega
        obtain ⟨Y, ey, CY, G⟩ := C.p3 2
        refine ⟨Y, up2 σ 0 11 2, a, 2, cv, ?_, ?_, ⟨CY, ⟨by rw [u0, if_neg (by omega)]; exact M.1, by rw [u0, if_neg (by omega)]; exact M.2.1, by rw [u0, if_neg (by omega)]; exact M.2.2.1, fun j hj => by rw [up2_n (by omega)]; exact M.2.2.2 j hj⟩, by omega, by omega, ?_⟩, G, Msm.u (by omega)⟩
        · unfold fX12_next_L51 fX12_next_b139
          simp only [C.ck, lk, bsm, isIn_eq, hin, if_true, C.g2, C.g4, es, ey]
          rw [if_neg (show ¬ (2 : Int32) < nI k from nI_nlt (a := 2) c2 (by omega))]
        · unfold fX9_nextToken_L33 fX9_nextToken_b119 fX9_nextToken_b149
          rw [M.1, M.2.1, M.2.2.1, if_neg (nI_ge (by omega) (by omega)), er, bsm, hin, bsm, if_pos rfl, if_neg (nI_ge (by omega) (by omega)), es, if_pos (show nI k ≤ 2 from nI_le (b := 2) c2 (by omega)), bsm]
        · rw [u0, if_pos rfl, u0, if_neg (by omega)]
          exact Or.inr (Or.inr (Or.inl ⟨rfl, rfl, v, hv99, v2, v3⟩))
      · obtain ⟨Y, ey, CY, G⟩ := C.p3 5
        refine ⟨Y, up2 σ 0 11 0, a, 5, cv, ?_, ?_, ⟨CY, ⟨by rw [u0, if_neg (by omega)]; exact M.1, by rw [u0, if_neg (by omega)]; exact M.2.1, by rw [u0, if_neg (by omega)]; exact M.2.2.1, fun j hj => by rw [up2_n (by omega)]; exact M.2.2.2 j hj⟩, by omega, by omega, ?_⟩, G, Msm.u (by omega)⟩
        · unfold fX12_next_L51 fX12_next_b139
          simp only [C.ck, lk, bsm, isIn_eq, hin, if_true, C.g2, C.g4, es, ey]
          rw [if_pos (show (2 : Int32) < nI k from nI_lt (a := 2) (by omega) (by omega))]
        · unfold fX9_nextToken_L33 fX9_nextToken_b119 fX9_nextToken_b149
          rw [M.1, M.2.1, M.2.2.1, if_neg (nI_ge (by omega) (by omega)), er, bsm, hin, bsm, if_pos rfl, if_neg (nI_ge (by omega) (by omega)), es, if_neg (show ¬ nI k ≤ 2 from nI_ge (a := 2) (by omega) (by omega)), bsm]
        · rw [u0, if_pos rfl]
          exact Or.inr (Or.inr (Or.inr (Or.inr (Or.inr ⟨rfl, rfl⟩))))
theorem p_next {X : AH} {σ : MS} {a fr0 : Nat} {ct fr cv : Int32} (C : RC o p q b vs X (nI a) ct fr cv) (M : MC b vs σ a fr0) (ha : a ≤ b) : ∃ Y σ' a' ct' cv', fX12_next X p = some Y ∧ fX9_nextToken σ = some σ' ∧ RS o p q b vs Y σ' a' a ct' cv' ∧ AgX (fun z => z = p) X Y ∧ Msm σ σ' := by
  have hb := C.2.2.2.1
  obtain ⟨X2, e2, C2, G2⟩ := C.p4 (nI a)
  have lk := C2.look ha
  by_cases cb : b ≤ a
  · have : a = b := by omega
    subst this
    rw [if_pos cb] at lk
    obtain ⟨X6, e6, C6, G6⟩ := C2.p5 (-1000000)
    obtain ⟨Y, ey, CY, GY⟩ := C6.p3 0
    let σ' : MS := up2 (up2 (up2 σ 0 13 (σ 0 10)) 0 11 3) 0 12 0
    have v : ∀ j, σ' 0 j = if j = 12 then 0 else if j = 11 then 3 else if j = 13 then σ 0 10 else σ 0 j := fun j => by show up2 (up2 (up2 σ 0 13 (σ 0 10)) 0 11 3) 0 12 0 0 j = _; rw [u0, u0, u0]
    refine ⟨Y, σ', a, 0, -1000000, ?_, ?_, ⟨CY, ⟨by rw [v]; exact M.1, by rw [v]; exact M.2.1, by rw [v]; exact M.2.1, fun j hj => by show up2 (up2 (up2 σ 0 13 (σ 0 10)) 0 11 3) 0 12 0 6 j = _; rw [up2_n (by omega), up2_n (by omega), up2_n (by omega)]; exact M.2.2.2 j hj⟩, ha, ha, Or.inl ⟨rfl, by rw [v]; rfl⟩⟩, (G2.tr G6).tr GY, ((Msm.u (by omega)).tr (Msm.u (by omega))).tr (Msm.u (by omega))⟩
    · unfold fX12_next
      simp only [C.g2, e2, C2.ck, lk, bsm, e6, if_true, ey]
    · unfold fX9_nextToken fX9_nextToken_b25
      have e8 : up2 σ 0 13 (σ 0 10) 0 10 = up2 σ 0 13 (σ 0 10) 0 8 := by rw [u0, u0, if_neg (by omega), if_neg (by omega), M.1, M.2.1]
      rw [bsm, if_pos e8, bsm, bsm]
      show fX9_nextToken_L33 2000 σ' = _
      unfold fX9_nextToken_L33 fX9_nextToken_b119
      have w8 : σ' 0 8 = nI a := by rw [v]; exact M.1
      have w10 : σ' 0 10 = nI a := by rw [v]; exact M.2.1
      have w13 : σ' 0 13 = nI a := by rw [v]; exact M.2.1
      have w11 : ¬ σ' 0 11 = 0 := by rw [v]; show ¬ (3 : Int32) = 0; decide
      rw [w8, w10, w13, if_pos (nI_le (Nat.le_refl _) (by omega)), if_pos (nI_le (Nat.le_refl _) (by omega)), if_neg w11]
  · have hva : vs a < 256 := by
      obtain ⟨_, _, _, _, f, _, h6⟩ := C
      exact (h6 a (by omega)).2
    rw [if_neg cb] at lk
    have hne : ¬ nI (vs a) = -1000000 := fun z => absurd (show nI (vs a) < 0 by rw [z]; decide) (nI_pos (by omega))
    obtain ⟨X6, e6, C6, G6⟩ := C2.p5 (nI (vs a))
    have hin := inV (vs a) 48 57 hva (a := 48) (b := 57) (by decide) (by decide)
    have hin2 := inV (vs a) 97 122 hva (a := 97) (b := 122) (by decide) (by decide)
    let σ1 : MS := up2 (up2 (up2 σ 0 13 (σ 0 10)) 0 11 0) 0 12 0
    have v : ∀ j, σ1 0 j = if j = 12 then 0 else if j = 11 then 0 else if j = 13 then σ 0 10 else σ 0 j := fun j => by show up2 (up2 (up2 σ 0 13 (σ 0 10)) 0 11 0) 0 12 0 0 j = _; rw [u0, u0, u0]
    have v6 : σ1 6 = σ 6 := by show up2 (up2 (up2 σ 0 13 (σ 0 10)) 0 11 0) 0 12 0 6 = _; rw [up2_n (by omega), up2_n (by omega), up2_n (by omega)]
    have ms1 : Msm σ σ1 := ((Msm.u (by omega)).tr (Msm.u (by omega))).tr (Msm.u (by omega))
    have w8 : σ1 0 8 = nI b := by rw [v]; exact M.1
    have w10 : σ1 0 10 = nI a := by rw [v]; exact M.2.1
    have w13 : σ1 0 13 = nI a := by rw [v]; exact M.2.1
    have w11 : σ1 0 11 = 0 := by rw [v]; rfl
    have hm : fX9_nextToken σ = fX9_nextToken_L33 2000 σ1 := by
      unfold fX9_nextToken fX9_nextToken_b25
      have e8 : ¬ up2 σ 0 13 (σ 0 10) 0 10 = up2 σ 0 13 (σ 0 10) 0 8 := by
        rw [u0, u0, if_neg (by omega), if_neg (by omega), M.1, M.2.1]
        exact fun z => by have := (nI_eq (by omega) (by omega)).mp z; omega
      rw [bsm, if_neg e8, bsm, bsm]
    by_cases dg : 48 ≤ vs a ∧ vs a ≤ 57
    · rw [if_pos dg] at hin
      obtain ⟨X16, e16, C16, G16⟩ := C6.p5 0
      obtain ⟨Y, σ', a', ct', cv2, q1, q2, q3, q4, q5⟩ := digL a (b - a) 0 a 2000 2000 X16 σ1 ct 0 (by omega) (by omega) (by omega) (by omega) C16 ⟨w8, w10, w13, fun j hj => by rw [v6]; exact M.2.2.2 j hj⟩ (fun _ => ⟨0, by decide, rfl, by rw [v]; rfl⟩) (fun _ => ⟨by omega, dg⟩)
      refine ⟨Y, σ', a', ct', cv2, ?_, hm.trans q2, q3, ((G2.tr G6).tr G16).tr q4, ms1.tr q5⟩
      unfold fX12_next
      simp only [C.g2, e2, C2.ck, lk, bsm, e6, isIn_eq, hin, one0, if_false, e16]
      rw [if_neg hne]
      exact q1
    · rw [if_neg dg] at hin
      obtain ⟨X11, e11, C11, G11⟩ := C6.p2 (nI (a + 1))
      have er : rd (σ1 6) 120 (nI a) = some (nI (vs a)) := by rw [v6, rd_nI (by omega) (by omega), M.2.2.2 a (by omega)]
      -- the token: ct for the component, mt for the model
      have fin : ∀ ct' mt' : Int32, Tk ct' (nI (vs a)) mt' (nI (vs a)) → (∀ z, fX12_next_b195 X11 p ct' = z → fX12_next X p = z) → (∀ z, fX9_nextToken_b216 (up2 σ1 0 12 (nI (vs a))) mt' = z → fX9_nextToken σ = z) → ∃ Y σ' a' ct' cv', fX12_next X p = some Y ∧ fX9_nextToken σ = some σ' ∧ RS o p q b vs Y σ' a' a ct' cv' ∧ AgX (fun z => z = p) X Y ∧ Msm σ σ' := by
        intro ct' mt' hT h1 h2
        obtain ⟨Y, ey, CY, GY⟩ := C11.p3 ct'
        have w : ∀ j, up2 (up2 (up2 σ1 0 12 (nI (vs a))) 0 11 mt') 0 10 (nI (a + 1)) 0 j = if j = 10 then nI (a + 1) else if j = 11 then mt' else if j = 12 then nI (vs a) else σ1 0 j := fun j => by rw [u0, u0, u0]
        refine ⟨Y, up2 (up2 (up2 σ1 0 12 (nI (vs a))) 0 11 mt') 0 10 (nI (a + 1)), a + 1, ct', nI (vs a), h1 _ ?_, h2 _ ?_, ⟨CY, ⟨by rw [w]; exact w8, by rw [w]; rfl, by rw [w]; exact w13, fun j hj => by rw [up2_n (by omega), up2_n (by omega), up2_n (by omega), v6]; exact M.2.2.2 j hj⟩, by omega, ha, by rw [w, w]; exact hT⟩, ((G2.tr G6).tr G11).tr GY, (((ms1.tr (Msm.u (by omega))).tr (Msm.u (by omega))).tr (Msm.u (by omega)))⟩
        · unfold fX12_next_b195
          rw [ey, bsm]
        · unfold fX9_nextToken_b216
          rw [bsm, bsm, u0, if_neg (by omega), u0, if_neg (by omega), w10, nI_1]
      have hx : fX12_next X p = (fX9_in (nI (vs a)).toInt64 97 122).bind fun v12 => if v12 = 0 then (if nI (vs a) = 44 then (fX12_next_b195 X11 p 3) else (if nI (vs a) = 59 then (fX12_next_b195 X11 p 4) else (fX12_next_b195 X11 p 5))) else (fX12_next_b195 X11 p 1) := by
        unfold fX12_next
        simp only [C.g2, e2, C2.ck, lk, bsm, e6, isIn_eq, hin, if_true, C6.g2, nI_1, e11]
        rw [if_neg hne]
      have hmm : fX9_nextToken σ = (fX9_in (nI (vs a)).toInt64 97 122).bind fun v5 => if v5 = 0 then (if nI (vs a) = 44 then (fX9_nextToken_b216 (up2 σ1 0 12 (nI (vs a))) 1) else (if nI (vs a) = 59 then (fX9_nextToken_b216 (up2 σ1 0 12 (nI (vs a))) 1) else (fX9_nextToken_b216 (up2 σ1 0 12 (nI (vs a))) 0))) else (fX9_nextToken_b216 (up2 σ1 0 12 (nI (vs a))) 1) := by
        rw [hm]
        conv => lhs; unfold fX9_nextToken_L33 fX9_nextToken_b119
        have x12 : up2 σ1 0 12 (nI (vs a)) 0 12 = nI (vs a) := by rw [u0, if_pos rfl]
        rw [w8, w10, w13, if_neg (nI_ge (by omega) (by omega)), er, bsm, hin, bsm, if_pos rfl, if_pos (nI_le (Nat.le_refl _) (by omega)), w11, if_pos rfl, bsm, bsm, x12]
      rw [hin2] at hx hmm
      by_cases lt : 97 ≤ vs a ∧ vs a ≤ 122
      · rw [if_pos lt, bsm, if_neg (by decide)] at hx hmm
        exact fin 1 1 (Or.inr (Or.inl ⟨rfl, rfl, vs a, lt.1, lt.2, rfl, rfl⟩)) (fun _ h => hx.trans h) (fun _ h => hmm.trans h)
      · rw [if_neg lt, bsm, if_pos rfl] at hx hmm
        by_cases c44 : nI (vs a) = 44
        · rw [if_pos c44] at hx hmm
          exact fin 3 1 (Or.inr (Or.inr (Or.inr (Or.inl ⟨rfl, rfl, c44⟩)))) (fun _ h => hx.trans h) (fun _ h => hmm.trans h)
        · rw [if_neg c44] at hx hmm
          by_cases c59 : nI (vs a) = 59
          · rw [if_pos c59] at hx hmm
            exact fin 4 1 (Or.inr (Or.inr (Or.inr (Or.inr (Or.inl ⟨rfl, rfl, c59⟩))))) (fun _ h => hx.trans h) (fun _ h => hmm.trans h)
          · rw [if_neg c59] at hx hmm
            exact fin 5 0 (Or.inr (Or.inr (Or.inr (Or.inr (Or.inr ⟨rfl, rfl⟩))))) (fun _ h => hx.trans h) (fun _ h => hmm.trans h)
end TOK
