/-! what a step leaves as it was: AgX S X Y: behind it all that lies outside S is as before, and so are chairs, lists of chairs, and arrays of chairs -/
def immX (e : XC) : Prop := (∃ (c : Nat) (fs : List Value), e = .inl (c, fs) ∧ 4 ≤ c ∧ c ≤ 9) ∨ (∃ (k n : Nat) (f : Nat → Option Nat), e = .inr (.inr (k, n, f)) ∧ 4 ≤ k)
def wfX (X : AH) : Prop := ∀ a, X.1 ≤ a → X.2.2 a = none
def AgX (S : Nat → Prop) (X Y : AH) : Prop := Y.2.1 = X.2.1 ∧ X.1 ≤ Y.1 ∧ (∀ a, a < X.1 → ¬ S a → Y.2.2 a = X.2.2 a) ∧ (∀ a e, X.2.2 a = some e → immX e → Y.2.2 a = some e) ∧ wfX Y
section AG
variable {S S' : Nat → Prop} {X Y Z : AH} {a b : Nat} {e e0 : XC}
theorem wfX.lt (h : wfX X) (ha : X.2.2 a = some e) : a < X.1 := by
  by_cases q : a < X.1
  · exact q
  · have := h a (by omega)
    rw [this] at ha
    cases ha
theorem AgX.rf (h : wfX X) : AgX S X X := ⟨rfl, Nat.le_refl _, fun _ _ _ => rfl, fun _ _ h _ => h, h⟩
theorem AgX.tr (h : AgX S X Y) (g : AgX S Y Z) : AgX S X Z :=
  ⟨g.1.trans h.1, Nat.le_trans h.2.1 g.2.1, fun a ha hs => (g.2.2.1 a (Nat.lt_of_lt_of_le ha h.2.1) hs).trans (h.2.2.1 a ha hs), fun a e ha hi => g.2.2.2.1 a e (h.2.2.2.1 a e ha hi) hi, g.2.2.2.2⟩
theorem AgX.mono (h : AgX S X Y) (hs : ∀ a, S a → S' a) : AgX S' X Y := ⟨h.1, h.2.1, fun a ha q => h.2.2.1 a ha (fun z => q (hs a z)), h.2.2.2⟩
theorem AgX.w (h : AgX S X Y) : wfX Y := h.2.2.2.2
theorem AgX.at (h : AgX S X Y) (hw : wfX X) (ha : X.2.2 a = some e) (hs : ¬ S a) : Y.2.2 a = some e := (h.2.2.1 a (hw.lt ha) hs).trans ha
theorem xup_s : (xup X a e).2.2 a = some e := by simp [xup, va_up]
theorem xup_n (h : b ≠ a) : (xup X a e).2.2 b = X.2.2 b := by simp [xup, va_up, h]
theorem xnw_s : (xnw X e).2.2 X.1 = some e := by simp [xnw, va_up]
theorem xnw_n (h : b ≠ X.1) : (xnw X e).2.2 b = X.2.2 b := by simp [xnw, va_up, h]
theorem AgX.up (hw : wfX X) (ha : X.2.2 a = some e0) (hi : ¬ immX e0) (hs : S a) : AgX S X (xup X a e) := by
  refine ⟨rfl, Nat.le_refl _, fun b _ hb => xup_n (fun z => hb (z ▸ hs)), fun b e' hb hi' => ?_, fun b hb => ?_⟩
  · by_cases q : b = a
    · subst q
      cases ha.symm.trans hb
      exact absurd hi' hi
    · rw [xup_n q]; exact hb
  · have h1 := hw.lt ha
    have h2 : X.1 ≤ b := hb
    rw [xup_n (by omega)]
    exact hw b h2
theorem AgX.nw (hw : wfX X) : AgX S X (xnw X e) := by
  refine ⟨rfl, Nat.le_succ _, fun b hb _ => xnw_n (by omega), fun b e' hb _ => ?_, fun b hb => ?_⟩
  · have h1 := hw.lt hb
    rw [xnw_n (by omega)]; exact hb
  · have hb : X.1 + 1 ≤ b := hb
    rw [xnw_n (by omega)]; exact hw b (by omega)
theorem ni_o {c : Nat} {fs : List Value} (h : c < 4 ∨ 9 < c) : ¬ immX (.inl (c, fs)) := by
  rintro (⟨c', fs', h1, h2, h3⟩ | ⟨k, n, f, h1, h2⟩)
  · cases h1; omega
  · cases h1
theorem ni_a {o : Nat × Nat × (Nat → Int32)} : ¬ immX (.inr (.inl o)) := by
  rintro (⟨c', fs', h1, h2, h3⟩ | ⟨k, n, f, h1, h2⟩) <;> cases h1
theorem ni_q {k n : Nat} {f : Nat → Option Nat} (h : k < 4) : ¬ immX (.inr (.inr (k, n, f))) := by
  rintro (⟨c', fs', h1, h2, h3⟩ | ⟨k, n, f, h1, h2⟩)
  · cases h1
  · cases h1; omega
theorem im_o {c : Nat} {fs : List Value} (h : 4 ≤ c) (h2 : c ≤ 9) : immX (.inl (c, fs)) := Or.inl ⟨c, fs, rfl, h, h2⟩
theorem im_q {k n : Nat} {f : Nat → Option Nat} (h : 4 ≤ k) : immX (.inr (.inr (k, n, f))) := Or.inr ⟨k, n, f, rfl, h⟩
theorem pF_of {ci k : Nat} {fs : List Value} {v : Value} (h : X.2.2 a = some (.inl (ci, fs))) (hk : k < fs.length) : pF X a ci k v = some (xup X a (.inl (ci, fs.set k v))) := by
  unfold pF
  rw [h]
  show (if ci = ci ∧ k < fs.length then _ else none) = _
  rw [if_pos ⟨rfl, hk⟩]
theorem gA_of {kd n j : Nat} {f : Nat → Int32} (h : X.2.2 a = some (.inr (.inl (kd, n, f)))) (hj : j < n) (hn : n < 2 ^ 31) : gA X a kd (nI j) = some (f j) := by
  unfold gA
  rw [h]
  show (if kd = kd then rd f n (nI j) else none) = _
  rw [if_pos rfl, rd_nI hj hn]
theorem pA_of {kd n j : Nat} {f : Nat → Int32} {x : Int32} (h : X.2.2 a = some (.inr (.inl (kd, n, f)))) (hj : j < n) (hn : n < 2 ^ 31) : pA X a kd (nI j) x = some (xup X a (.inr (.inl (kd, n, upd f j x)))) := by
  unfold pA
  rw [h]
  show (if kd = kd ∧ ¬ (nI j < 0 ∨ n ≤ (nI j).toNatClampNeg) then some (xup X a (.inr (.inl (kd, n, upd f (nI j).toNatClampNeg x)))) else none) = _
  rw [if_pos ⟨rfl, nI_in hj hn⟩, nI_clamp (by omega)]
theorem gL_of {kd n : Nat} {f : Nat → Int32} (h : X.2.2 a = some (.inr (.inl (kd, n, f)))) : gL X a kd = some (nI n) := by
  unfold gL
  rw [h]
  show (if kd = kd then some (Int32.ofNat n) else none) = _
  rw [if_pos rfl]; rfl
theorem gLq_of {kd n : Nat} {f : Nat → Option Nat} (h : X.2.2 a = some (.inr (.inr (kd, n, f)))) : gL X a kd = some (nI n) := by
  unfold gL
  rw [h]
  show (if kd = kd then some (Int32.ofNat n) else none) = _
  rw [if_pos rfl]; rfl
theorem gQ_of {kd n j : Nat} {g : Nat → Option Nat} (h : X.2.2 a = some (.inr (.inr (kd, n, g)))) (hj : j < n) (hn : n < 2 ^ 31) : gQ X a kd (nI j) = some (g j) := by
  unfold gQ
  rw [h]
  show (if kd = kd ∧ ¬ (nI j < 0 ∨ n ≤ (nI j).toNatClampNeg) then some (g (nI j).toNatClampNeg) else none) = _
  rw [if_pos ⟨rfl, nI_in hj hn⟩, nI_clamp (by omega)]
theorem gQn_of {kd n j v : Nat} {g : Nat → Option Nat} (h : X.2.2 a = some (.inr (.inr (kd, n, g)))) (hj : j < n) (hn : n < 2 ^ 31) (hv : g j = some v) : gQn X a kd (nI j) = some v := by
  unfold gQn
  rw [gQ_of h hj hn, hv]
  rfl
theorem pQ_of {kd n j : Nat} {g : Nat → Option Nat} {v : Option Nat} (h : X.2.2 a = some (.inr (.inr (kd, n, g)))) (hj : j < n) (hn : n < 2 ^ 31) : pQ X a kd (nI j) v = some (xup X a (.inr (.inr (kd, n, va_up g j v)))) := by
  unfold pQ
  rw [h]
  show (if kd = kd ∧ ¬ (nI j < 0 ∨ n ≤ (nI j).toNatClampNeg) then some (xup X a (.inr (.inr (kd, n, va_up g (nI j).toNatClampNeg v)))) else none) = _
  rw [if_pos ⟨rfl, nI_in hj hn⟩, nI_clamp (by omega)]
theorem cpA_of {a0 n0 n1 sp dp n : Nat} {f g : Nat → Int32} (h0 : X.2.2 a0 = some (.inr (.inl (0, n0, f)))) (h1 : X.2.2 a = some (.inr (.inl (0, n1, g)))) (hs : sp + n ≤ n0) (hd : dp + n ≤ n1) (b0 : n0 < 2 ^ 31) (b1 : n1 < 2 ^ 31) : cpA X a0 (nI sp) a (nI dp) (nI n) = some (xup X a (.inr (.inl (0, n1, va_cpy f g sp dp n)))) := by
  unfold cpA
  rw [h0, h1]
  show (if (¬ nI sp < 0) ∧ (¬ nI dp < 0) ∧ (¬ nI n < 0) ∧ (nI sp).toNatClampNeg + (nI n).toNatClampNeg ≤ n0 ∧ (nI dp).toNatClampNeg + (nI n).toNatClampNeg ≤ n1 then some (xup X a (.inr (.inl (0, n1, va_cpy f g (nI sp).toNatClampNeg (nI dp).toNatClampNeg (nI n).toNatClampNeg)))) else none) = _
  rw [nI_clamp (n := sp) (by omega), nI_clamp (n := dp) (by omega), nI_clamp (n := n) (by omega)]
  rw [if_pos ⟨nI_pos (by omega), nI_pos (by omega), nI_pos (by omega), hs, hd⟩]
end AG
