/-! one night, in the model -/
def bitq (w v : Int32) : Bool := decide (((w >>> (v &&& 31)) &&& 1) = 1)
theorem m_has (w v : Int32) : fX9_has w v = some (if bitq w v = true then 1 else 0) := by
  unfold fX9_has bitq
  by_cases h : ((w >>> (v &&& 31)) &&& 1) = 1 <;> simp [h]
/-- one is caught at the chair that he saws -/
def cgt (μ : Nat → Int32) (n s : Nat) : Bool := decide (0 ≤ tgt μ n s) && bitq (μ 4) (tgt μ n s)
/-- by how much a chair is sawn by one -/
def swn (μ : Nat → Int32) (s c : Nat) : Int32 := if μ (5 + c) = 4 ∨ μ (5 + c) = 5 then μ (17 + s) / 2 else μ (17 + s)
/-- what is sawn off chair c by those from s on -/
def cutF (μ : Nat → Int32) (n c : Nat) : Nat → Nat → Int32
  | _, 0 => 0
  | s, d + 1 => (if tgt μ n s = nI c ∧ cgt μ n s = false then swn μ s c else 0) + cutF μ n c (s + 1) d
/-- those caught, as bits -/
def cgm (μ : Nat → Int32) (n : Nat) : Nat → Nat → Int32 → Int32
  | _, 0, a => a
  | s, d + 1, a => cgm μ n (s + 1) d (a ||| (if cgt μ n s = true then (1 : Int32) <<< (nI s &&& 31) else 0))
def cl0 (x : Int32) : Int32 := if 0 ≤ x then x else 0
def one1 (b : Bool) : Int32 := if b = true then 1 else 0
def nit (μ : Nat → Int32) (n : Nat) : Nat → Int32 := fun k =>
  if k = 3 then μ 3 + 1
  else if 11 ≤ k ∧ k < 11 + n then cl0 (μ k - cutF μ n (k - 11) 0 n)
  else if 17 ≤ k ∧ k < 17 + n then μ k - one1 (cgt μ n (k - 17))
  else if 35 ≤ k ∧ k < 35 + n then μ k + one1 (cgt μ n (k - 35))
  else μ k
theorem m_sawnOff (σ : MS) {s c : Nat} (hs : s < 6) (hc : c < 6) : fX9_sawnOff σ (nI s) (nI c) = some (swn (σ 4) s c, σ) := by
  unfold fX9_sawnOff fX9_sawnOff_b19 swn
  have e1 : rd (σ 4) 41 (5 + nI c) = some (σ 4 (5 + c)) := by
    have e0 : (5 : Int32) + nI c = nI (5 + c) := nI_add 5 c
    rw [e0]; exact rd_nI (by omega) (by omega)
  have e2 : rd (σ 4) 41 (17 + nI s) = some (σ 4 (17 + s)) := by
    have e0 : (17 : Int32) + nI s = nI (17 + s) := nI_add 17 s
    rw [e0]; exact rd_nI (by omega) (by omega)
  simp only [e1, e2, Option.bind_some]
  by_cases g1 : σ 4 (5 + c) = 4
  · simp [g1]
  · by_cases g2 : σ 4 (5 + c) = 5
    · simp [g2]
    · simp [g1, g2]
/-- the target is none, or a chair -/
theorem atF_in (μ : Nat → Int32) (n : Nat) (r : Int32) : ∀ d o, o + d = n → atF μ n r o d = NO ∨ ∃ j, j < n ∧ atF μ n r o d = nI j := by
  intro d
  induction d with
  | zero => intro o h; exact Or.inl rfl
  | succ d ih =>
    intro o h
    unfold atF
    split
    · exact Or.inr ⟨o, by omega, rfl⟩
    · exact ih (o + 1) (by omega)
theorem tgt_in (μ : Nat → Int32) {n : Nat} (c : Nat) (h1 : 1 ≤ n) : tgt μ n c = NO ∨ ∃ j, j < n ∧ tgt μ n c = nI j := by
  have hw : who0 μ n c = NO ∨ ∃ j, j < n ∧ who0 μ n c = nI j := by
    unfold who0
    split
    · exact atF_in μ n _ n 0 (by omega)
    · split
      · exact atF_in μ n _ n 0 (by omega)
      · split
        · exact Or.inr ⟨_, Nat.mod_lt _ (by omega), rfl⟩
        · exact Or.inl rfl
  unfold tgt
  split
  · exact Or.inl rfl
  · split
    · exact Or.inl rfl
    · exact hw
