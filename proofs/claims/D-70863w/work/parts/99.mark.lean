/-! a superclass call that lands in an interface's default method -/
theorem pigeon : ∀ (N : Nat) (f : Nat → Nat), (∀ i, i ≤ N → f i < N) → ∃ i j, i < j ∧ j ≤ N ∧ f i = f j := by
  intro N
  induction N with
  | zero => intro f h; exact absurd (h 0 (Nat.le_refl 0)) (Nat.not_lt_zero _)
  | succ N ih =>
    intro f h
    by_cases q : ∃ i, i ≤ N ∧ f i = f (N + 1)
    · obtain ⟨i, h1, h2⟩ := q
      exact ⟨i, N + 1, by omega, Nat.le_refl _, h2⟩
    · have q : ∀ i, i ≤ N → f i ≠ f (N + 1) := fun i hi e => q ⟨i, hi, e⟩
      have hv := h (N + 1) (Nat.le_refl _)
      obtain ⟨i, j, h1, h2, h3⟩ := ih (fun i => if f i = N then f (N + 1) else f i) (fun i hi => by
        have q1 := q i hi
        have q2 := h i (by omega)
        show (if f i = N then f (N + 1) else f i) < N
        by_cases z : f i = N
        · rw [if_pos z]; omega
        · rw [if_neg z]; omega)
      have qi := q i (by omega)
      have qj := q j h2
      refine ⟨i, j, h1, by omega, ?_⟩
      have h3 : (if f i = N then f (N + 1) else f i) = (if f j = N then f (N + 1) else f j) := h3
      by_cases z1 : f i = N
      · by_cases z2 : f j = N
        · rw [z1, z2]
        · rw [if_pos z1, if_neg z2] at h3; exact absurd h3.symm qj
      · by_cases z2 : f j = N
        · rw [if_neg z1, if_pos z2] at h3; exact absurd h3 qi
        · rw [if_neg z1, if_neg z2] at h3; exact h3
section LD
variable {vm : Vm} {name desc : String}
/-- the chain of superclasses -/
def chn (vm : Vm) (c : ClassId) : Nat → Option ClassId
  | 0 => some c
  | n + 1 => (chn vm c n).bind fun d => (vm.classes[d]?).bind (·.super)
theorem chn_add (c : ClassId) {i j : Nat} (h : chn vm c i = chn vm c j) : ∀ k, chn vm c (i + k) = chn vm c (j + k) := by
  intro k
  induction k with
  | zero => exact h
  | succ k ih =>
    show (chn vm c (i + k)).bind _ = (chn vm c (j + k)).bind _
    rw [ih]
theorem chn_back (c : ClassId) {d : ClassId} : ∀ (n : Nat), chn vm c n = some d → ∀ i, i ≤ n → ∃ x, chn vm c i = some x := by
  intro n
  induction n generalizing d with
  | zero => intro h i hi; exact ⟨d, by have : i = 0 := by omega
                                       rw [this]; exact h⟩
  | succ n ih =>
    intro h i hi
    by_cases z : i = n + 1
    · exact ⟨d, by rw [z]; exact h⟩
    · have h : (chn vm c n).bind _ = some d := h
      cases e : chn vm c n with
      | none => rw [e] at h; cases h
      | some y => exact ih e i (by omega)
theorem chn_one (c : ClassId) {k : Class} {d : ClassId} (hk : vm.classes[c]? = some k) (hs : k.super = some d) : ∀ n, chn vm c (n + 1) = chn vm d n := by
  intro n
  induction n with
  | zero =>
    show (some c).bind _ = some d
    simp [hk, hs]
  | succ n ih =>
    show (chn vm c (n + 1)).bind _ = (chn vm d n).bind _
    rw [ih]
theorem look_none : ∀ (n : Nat) (c : ClassId), lookupInSuperclasses vm name desc n c = none → ∀ i, i < n → ∀ d, chn vm c i = some d → ownMethod vm name desc d = none := by
  intro n
  induction n with
  | zero => intro c _ i hi; omega
  | succ n ih =>
    intro c h i hi d hd
    unfold lookupInSuperclasses at h
    cases hk : vm.classes[c]? with
    | none =>
      cases i with
      | zero => cases hd; simp [ownMethod, hk]
      | succ i =>
        obtain ⟨x, hx⟩ := chn_back c (i + 1) hd 1 (by omega)
        have hx : (some c).bind _ = some x := hx
        simp [hk] at hx
    | some k =>
      simp only [hk, Option.bind_eq_bind, Option.bind_some] at h
      cases hf : k.findMethod name desc with
      | some j => rw [hf] at h; cases h
      | none =>
        rw [hf] at h
        cases i with
        | zero => cases hd; simp [ownMethod, hk, hf]
        | succ i =>
          cases hs : k.super with
          | none =>
            obtain ⟨x, hx⟩ := chn_back c (i + 1) hd 1 (by omega)
            have hx : (some c).bind _ = some x := hx
            simp [hk, hs] at hx
          | some q =>
            simp only [hs, Option.bind_some] at h
            rw [chn_one c hk hs i] at hd
            exact ih q h i (by omega) d hd
theorem sup_chn : ∀ (n : Nat) (c d : ClassId), d ∈ vm.superclassesAux n c → ∃ i, i < n ∧ chn vm c (i + 1) = some d := by
  intro n
  induction n with
  | zero => intro c d h; simp [Vm.superclassesAux] at h
  | succ n ih =>
    intro c d h
    unfold Vm.superclassesAux at h
    cases hk : vm.classes[c]? with
    | none => simp [hk] at h
    | some k =>
      cases hs : k.super with
      | none => simp [hk, hs] at h
      | some q =>
        simp [hk, hs] at h
        rcases h with h | h
        · subst h
          exact ⟨0, by omega, by rw [chn_one c hk hs 0]; rfl⟩
        · obtain ⟨i, h1, h2⟩ := ih q d h
          exact ⟨i + 1, by omega, by rw [chn_one c hk hs (i + 1)]; exact h2⟩
theorem look_all {c : ClassId} (h : lookupInSuperclasses vm name desc (vm.classes.size + 1) c = none) (i : Nat) (hi : i ≤ vm.classes.size + 1) (d : ClassId) (hd : chn vm c i = some d) : ownMethod vm name desc d = none := by
  by_cases z : i < vm.classes.size + 1
  · exact look_none _ c h i z d hd
  · have z : i = vm.classes.size + 1 := by omega
    subst z
    have hv : ∀ j, j ≤ vm.classes.size → (chn vm c j).getD 0 < vm.classes.size ∧ ∃ x, chn vm c j = some x := fun j hj => by
      obtain ⟨x, hx⟩ := chn_back c _ hd j (by omega)
      obtain ⟨y, hy⟩ := chn_back c _ hd (j + 1) (by omega)
      have hy : (chn vm c j).bind _ = some y := hy
      rw [hx] at hy
      refine ⟨?_, x, hx⟩
      rw [hx]
      show x < vm.classes.size
      have hy : (vm.classes[x]?).bind (·.super) = some y := hy
      cases e : vm.classes[x]? with
      | none => rw [e] at hy; cases hy
      | some k => exact (Array.getElem?_eq_some_iff.mp e).1
    obtain ⟨a, b, h1, h2, h3⟩ := pigeon vm.classes.size (fun j => (chn vm c j).getD 0) (fun j hj => (hv j hj).1)
    obtain ⟨x, hx⟩ := (hv a (by omega)).2
    obtain ⟨y, hy⟩ := (hv b h2).2
    have h3 : (chn vm c a).getD 0 = (chn vm c b).getD 0 := h3
    rw [hx, hy] at h3
    have h3 : x = y := h3
    have e := chn_add c (hx.trans (by rw [h3]; exact hy.symm)) (vm.classes.size + 1 - b)
    have e2 : b + (vm.classes.size + 1 - b) = vm.classes.size + 1 := by omega
    rw [e2] at e
    exact look_none _ c h (a + (vm.classes.size + 1 - b)) (by omega) d (e.trans hd)
end LD
