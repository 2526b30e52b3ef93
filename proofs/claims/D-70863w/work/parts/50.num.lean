/-! numbers: all ints as nI of a Nat where they are small and not negative -/
theorem lit_nI (j : Nat) : (OfNat.ofNat j : Int32) = nI j := rfl
theorem rd_nI {f : Nat → Int32} {n j : Nat} (h : j < n) (hn : n < 2 ^ 31) : rd f n (nI j) = some (f j) := by
  unfold rd
  rw [if_neg (nI_in h hn), nI_clamp (by omega)]
theorem mwr_nI {σ : MS} {k n j : Nat} {x : Int32} (h : j < n) (hn : n < 2 ^ 31) : mwr σ k n (nI j) x = some (up2 σ k j x) := by
  unfold mwr
  rw [if_neg (nI_in h hn), nI_clamp (by omega)]
theorem up2_s {σ : MS} {k i : Nat} {x : Int32} : up2 σ k i x k = upd (σ k) i x := by simp [up2]
theorem up2_n {σ : MS} {k i a : Nat} {x : Int32} (h : a ≠ k) : up2 σ k i x a = σ a := by simp [up2, h]
theorem upd_s {f : Nat → Int32} {i : Nat} {x : Int32} : upd f i x i = x := by simp [upd]
theorem upd_n {f : Nat → Int32} {i j : Nat} {x : Int32} (h : j ≠ i) : upd f i x j = f j := by simp [upd, h]
theorem test1 (σ : MS) : rd (σ 4) 41 2 = some (σ 4 2) := by
  simp (disch := omega) only [lit_nI, rd_nI]
theorem test2 (σ : MS) (c : Nat) (h : c < 6) : rd (σ 4) 41 (5 + nI c) = some (σ 4 (5 + c)) := by
  simp (disch := omega) only [lit_nI, nI_add, rd_nI]
