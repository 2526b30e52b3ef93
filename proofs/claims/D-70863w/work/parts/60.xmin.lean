/-! a Ministry in the abstract heap: the object at o, its arrays at o+2 .. o+7, its list of chairs at la -/
def arr6 (X : AH) (a : Nat) (μ : Nat → Int32) (b : Nat) : Prop := ∃ f : Nat → Int32, X.2.2 a = some (.inr (.inl (0, 6, f))) ∧ ∀ j, j < 6 → f j = μ (b + j)
/-- the list of chairs: n of them, their kinds in μ -/
def ChL (X : AH) (la n : Nat) (μ : Nat → Int32) : Prop := ∃ (mc : Int32) (E cap : Nat) (g : Nat → Option Nat), X.2.2 la = some (.inl (9, [.int mc, .ref E, .int (nI n)])) ∧ X.2.2 E = some (.inr (.inr (5, cap, g))) ∧ n ≤ cap ∧ cap ≤ 1000 ∧ ∀ i, i < n → ∃ (a k : Nat), 1 ≤ k ∧ k ≤ 5 ∧ μ (5 + i) = nI k ∧ g i = some a ∧ X.2.2 a = some (.inl (3 + k, [.int (nI i)]))
abbrev minF (o la : Nat) (μ : Nat → Int32) (tf : Int32) (tk : Value) : List Value := [.int (μ 0), .int (μ 1), .ref la, .ref (o + 2), .ref (o + 3), .ref (o + 4), .ref (o + 5), .ref (o + 6), .int (μ 4), .int (μ 3), .ref (o + 7), .int tf, tk]
def MinAt (X : AH) (o la : Nat) (μ : Nat → Int32) (tf : Int32) (tk : Value) : Prop :=
  X.2.2 o = some (.inl (1, minF o la μ tf tk)) ∧ arr6 X (o + 2) μ 11 ∧ arr6 X (o + 3) μ 29 ∧ arr6 X (o + 4) μ 17 ∧ arr6 X (o + 5) μ 23 ∧ arr6 X (o + 6) μ 35 ∧ ∃ f : Nat → Int32, X.2.2 (o + 7) = some (.inr (.inl (0, 6, f)))
theorem arr6_rd {X : AH} {a b c : Nat} {μ : Nat → Int32} (h : arr6 X a μ b) (hc : c < 6) : gA X a 0 (nI c) = some (μ (b + c)) := by
  obtain ⟨f, h1, h2⟩ := h
  unfold gA
  rw [h1]
  show (if 0 = 0 then rd f 6 (nI c) else none) = _
  rw [if_pos rfl, rd_nI hc (by omega), h2 c hc]
theorem gI_of {X : AH} {a ci k : Nat} {fs : List Value} {v : Int32} (h : X.2.2 a = some (.inl (ci, fs))) (hk : fs[k]? = some (.int v)) : gI X a ci k = some v := by
  unfold gI gF
  rw [h]
  simp [hk]
theorem gR_of {X : AH} {a ci k v : Nat} {fs : List Value} (h : X.2.2 a = some (.inl (ci, fs))) (hk : fs[k]? = some (.ref v)) : gR X a ci k = some v := by
  unfold gR gF
  rw [h]
  simp [hk]
theorem gC_of {X : AH} {a ci : Nat} {fs : List Value} (h : X.2.2 a = some (.inl (ci, fs))) : gC X a = some ci := by
  unfold gC
  rw [h]
theorem ck_of {X : AH} {a ci : Nat} {fs : List Value} (h : X.2.2 a = some (.inl (ci, fs))) : ck X a ci = some () := by
  unfold ck
  rw [gC_of h, if_pos rfl]
theorem x_many {X : AH} {o la n : Nat} {μ κ : Nat → Int32} {tf : Int32} {tk : Value} (hM : MinAt X o la μ tf tk) (hL : ChL X la n κ) : fX1_many X o = some (nI n, X) := by
  obtain ⟨mc, E, cap, g, h1, -⟩ := hL
  unfold fX1_many fJ2_size
  rw [gR_of hM.1 (v := la) rfl, Option.bind_some, ck_of h1, Option.bind_some, gI_of h1 (v := nI n) rfl]
  rfl
