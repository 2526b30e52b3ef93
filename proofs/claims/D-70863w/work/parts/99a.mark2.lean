/-! invokespecial that lands in a default method -/
section LD2
variable {vm : Vm} {name desc : String}
theorem sel_none (mR : MethodId) : ∀ (n : Nat) (c : ClassId), (∀ i, i < n → ∀ d, chn vm c i = some d → ownMethod vm name desc d = none) → selectInSuperclasses vm mR name desc n c = none := by
  intro n
  induction n with
  | zero => intro c _; rfl
  | succ n ih =>
    intro c h
    unfold selectInSuperclasses
    cases hk : vm.classes[c]? with
    | none => rfl
    | some k =>
      have h0 : ownMethod vm name desc c = none := h 0 (by omega) c rfl
      have hf : k.findMethod name desc = none := by
        cases e : k.findMethod name desc with
        | none => rfl
        | some j => simp [ownMethod, hk, e] at h0
      cases hs : k.super with
      | none => simp [hf, hs]
      | some q =>
        have := ih q (fun i hi d hd => h (i + 1) (by omega) d (by rw [chn_one c hk hs i]; exact hd))
        simp [hf, hs, this]
theorem special_default {c : ClassId} {k : Class} {m : MethodId} {meth : Method} (hk : vm.classes[c]? = some k) (hni : k.isInterface = false) (hl : vm.lookupUp c name desc = some m) (hm : vm.method? m = some meth) (hst : meth.isStatic = false) (hn : meth.name = name) (hd : meth.desc = desc) (hp : meth.isPrivate = false) (hi : (vm.classes[m.cls]?).any (·.isInterface) = true) (hsel : selectMethod {} vm c m = .method m) : lookupSpecial vm c name desc = .method m := by
  cases hL : lookupInSuperclasses vm name desc (vm.classes.size + 1) c with
  | some x => exact lookupSpecial_of_lookupUp hk hni hl (by rw [hL]; rfl) hm hst
  | none =>
    have hown : ownMethod vm name desc c = none := look_all hL 0 (by omega) c rfl
    have habove : superclassMethods vm c name desc = [] := by
      unfold superclassMethods
      rw [List.filterMap_eq_nil_iff]
      intro d hd
      obtain ⟨i, h1, h2⟩ := sup_chn _ c d hd
      exact look_all hL (i + 1) (by omega) d h2
    have hs := sel_none (vm := vm) (name := name) (desc := desc) m (vm.classes.size + 1) c (fun i hi d hd => look_all hL i (by omega) d hd)
    have hf : (match (maximallySpecific vm c name desc).filter fun m => (vm.method? m).any (!·.isAbstract) with
        | [m] => Selection.method m
        | [] => .none
        | _ => .several) = .method m := by
      unfold selectMethod at hsel
      rw [hm] at hsel
      simp only [hp, Bool.false_eq_true, if_false, hn, hd, hi, Bool.not_true, Bool.and_false, hs] at hsel
      split at hsel
      · cases hsel
      · exact hsel
    unfold lookupSpecial
    have ho : ((vm.classes[c]?.bind (·.findMethod name desc)).map fun i => (⟨c, i⟩ : MethodId)) = none := hown
    simp only [ho, habove, Option.toList_none, List.filter_nil, List.append_nil, List.find?_nil]
    exact hf
end LD2
