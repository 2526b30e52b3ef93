/-! the words on mark move, and hold at the start -/
theorem dw_good : defaultWords_1.all (fun w => w.onTables && w.keeps) = true := by decide +kernel
theorem xM.moved {s U : State} (hW : s.WarmedH U.vm) (h : xM s) : xM U := by
  obtain ⟨h1, cn, r0, h2, h3, h4⟩ := h
  refine ⟨fun w hw => word_at hW (Or.inl (List.all_eq_true.mp dw_good w hw)) (h1 w hw), cn, r0, by rw [hW.alike.findClass]; exact h2, ?_, by rw [hW.alike.lookupSpecial]; exact h4⟩
  have := State.methodNamed?_setVm hW.alike (s := s) mkM
  exact this.trans h3
theorem xM.of {s : State} {args : Array Value} (h1 : ∀ w ∈ defaultWords_1, w.before args s = true) (h2 : (Cond.landsInDefault "ChairRanks$Chair" mkC mkM).before args s = true) (h3 : (Cond.declares mkM).before args s = true) : xM s := by
  have w1 : ∀ w ∈ defaultWords_1, w.before #[] s = true := fun w hw => va_tabs (by have := List.all_eq_true.mp dw_good w hw; simp only [Bool.and_eq_true] at this; exact this.1) rfl (h1 w hw)
  have hsm : (Cond.sameMethod mkC.cls "ChairRanks$Marked" mkC.name mkC.desc).before args s = true := h1 _ (by decide +kernel)
  obtain ⟨cn, ck, r1, hcn, hck, hni, hf, hr1⟩ := Cond.sameMethod_found hsm
  have hr1 : s.methodNamed? mkM = some r1 := hr1
  obtain ⟨r2, meth, q1, q2, q3, q4⟩ := Cond.declares_spec h3
  cases hr1.symm.trans q1
  refine ⟨w1, cn, r1, hcn, hr1, ?_⟩
  obtain ⟨hrn, hrd⟩ := name_of_methodNamed hr1 q2
  have hv : (Cond.landsInDefault "ChairRanks$Chair" mkC mkM).value args s none s [] = some true := by
    have h2 : ((Cond.landsInDefault "ChairRanks$Chair" mkC mkM).value args s none s [] == some true) = true := h2
    exact beq_iff_eq.mp h2
  have hcn : s.vm.findClass "ChairRanks$Chair" = some cn := hcn
  have hf : s.methodFound? mkC.cls mkC.name mkC.desc = some r1 := hf
  simp only [Cond.value, hcn, hf, hr1, q2, Option.map_some] at hv
  have hv := Option.some.inj hv
  cases hs : selectMethod {} s.vm cn r1 with
  | method m' =>
    rw [hs] at hv
    simp only [Bool.and_eq_true, decide_eq_true_eq, Bool.not_eq_true'] at hv
    obtain ⟨⟨⟨⟨e1, e2⟩, e3⟩, e4⟩, e5⟩ := hv
    rw [e1] at hs
    have hpoly : ∀ y, signaturePolymorphic ck y = false := fun y => by
      have hnm : ck.name = "ChairRanks$Chair" := by
        obtain ⟨k', hk', hn'⟩ := Vm.findClass_spec hcn
        cases hck.symm.trans hk'
        exact hn'
      unfold signaturePolymorphic
      rw [hnm]
      rfl
    exact special_default hck hni ((State.methodFound?_class hcn hck hni hpoly r1).mp hf).1 q2 q3 hrn hrd e3 e2 hs
  | _ => rw [hs] at hv; cases hv
