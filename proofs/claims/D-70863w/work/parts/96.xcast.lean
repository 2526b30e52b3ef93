/-! a checkcast that fails -/
section CT
variable {vm : Vm} {ks kt : Class}
theorem home_len {k : Class} (hl : k.loader = none) (hm : ∀ x, vm.moduleOf k = some x → x.name = "java.base") : (vm.home k).toList.length ≤ 48 := by
  unfold Vm.home
  rw [hl]
  have a0 : (vm.loaderName none).toList.length = 11 := by show "'bootstrap'".toList.length = 11; decide
  have a1 : " of loader ".toList.length = 11 := by decide
  cases h : vm.moduleOf k with
  | none =>
    have a2 : "unnamed module".toList.length = 14 := by decide
    simp only [String.toList_append, List.length_append]
    omega
  | some x =>
    have a2 : "module ".toList.length = 7 := by decide
    have a3 : "java.base".toList.length = 9 := by decide
    simp only [hm x h, String.toList_append, List.length_append]
    omega
theorem cast_text (h1 : ks.hidden = none) (h2 : kt.hidden = none) (n1 : (dotted ks.name).toList.length ≤ 24) (n2 : (dotted kt.name).toList.length ≤ 24) (l1 : ks.loader = none) (l2 : kt.loader = none)
    (m1 : ∀ x, vm.moduleOf ks = some x → x.name = "java.base") (m2 : ∀ x, vm.moduleOf kt = some x → x.name = "java.base") :
    (Op.checkcast.message vm ks kt).toList.length ≤ 300 ∧ ((Op.checkcast.message vm ks kt) == notModelled) = false := by
  have s1 : ks.shown = dotted ks.name := by unfold Class.shown; rw [h1]
  have s2 : kt.shown = dotted kt.name := by unfold Class.shown; rw [h2]
  have hm1 := home_len l1 m1
  have hm2 := home_len l2 m2
  have hh : (vm.homes ks kt).toList.length ≤ 180 := by
    unfold Vm.homes
    rw [s1, s2]
    by_cases q : vm.sameModule ks kt = true
    · rw [if_pos q]
      show (toString (dotted ks.name) ++ toString " and " ++ toString (dotted kt.name) ++ toString " are in " ++ toString (vm.home ks)).toList.length ≤ _
      have a1 : (toString " and ").toList.length = 5 := by decide
      have a2 : (toString " are in ").toList.length = 8 := by decide
      simp only [String.toList_append, List.length_append]
      have e1 : (toString (dotted ks.name)).toList.length ≤ 24 := n1
      have e2 : (toString (dotted kt.name)).toList.length ≤ 24 := n2
      have e3 : (toString (vm.home ks)).toList.length ≤ 48 := hm1
      omega
    · rw [if_neg q]
      show (toString (dotted ks.name) ++ toString " is in " ++ toString (vm.home ks) ++ toString "; " ++ toString (dotted kt.name) ++ toString " is in " ++ toString (vm.home kt)).toList.length ≤ _
      have a1 : (toString " is in ").toList.length = 7 := by decide
      have a2 : (toString "; ").toList.length = 2 := by decide
      simp only [String.toList_append, List.length_append]
      have e1 : (toString (dotted ks.name)).toList.length ≤ 24 := n1
      have e2 : (toString (dotted kt.name)).toList.length ≤ 24 := n2
      have e3 : (toString (vm.home ks)).toList.length ≤ 48 := hm1
      have e4 : (toString (vm.home kt)).toList.length ≤ 48 := hm2
      omega
  have he : Op.checkcast.message vm ks kt = toString "class " ++ toString (dotted ks.name) ++ toString " cannot be cast to class " ++ toString (dotted kt.name) ++ toString " (" ++ toString (vm.homes ks kt) ++ toString ")" := by
    unfold Op.checkcast.message
    rw [s1, s2]
  refine ⟨?_, ?_⟩
  · rw [he]
    have a1 : (toString "class ").toList.length = 6 := by decide
    have a2 : (toString " cannot be cast to class ").toList.length = 25 := by decide
    have a3 : (toString " (").toList.length = 2 := by decide
    have a4 : (toString ")").toList.length = 1 := by decide
    simp only [String.toList_append, List.length_append]
    have e1 : (toString (dotted ks.name)).toList.length ≤ 24 := n1
    have e2 : (toString (dotted kt.name)).toList.length ≤ 24 := n2
    have e3 : (toString (vm.homes ks kt)).toList.length ≤ 180 := hh
    omega
  · rw [beq_eq_false_iff_ne]
    intro h
    have h2 := congrArg (fun s => s.toList.head?) h
    have h3 : (Op.checkcast.message vm ks kt).toList.head? = some 'c' := by
      rw [he]
      simp only [String.toList_append]
      rfl
    have h4 : notModelled.toList.head? = some '\u0000' := by decide
    have h2 : (Op.checkcast.message vm ks kt).toList.head? = notModelled.toList.head? := h2
    rw [h3, h4] at h2
    exact absurd h2 (by decide)
end CT
theorem find_hidden {vm : Vm} {name : String} {c : ClassId} {k : Class} (h : vm.findClass name = some c) (hk : vm.classes[c]? = some k) : k.hidden = none := by
  obtain ⟨hlt, hp, _⟩ := Array.findIdx?_eq_some_iff_getElem.mp h
  have : vm.classes[c] = k := by simpa [hlt] using hk
  rw [this] at hp
  simp only [Bool.and_eq_true, Option.isNone_iff_eq_none] at hp
  exact hp.1.1.2
theorem mod_base {vm : Vm} {k : Class} (hl : k.loader = none) (hp : packageOf k.name = "") (hop : k.ofPrimitives = false) (hm : (vm.modules.all fun m => m.loader.isSome || m.name == "java.base" || !(castPackages_1.any fun p => m.packages.contains p)) = true) : ∀ x, vm.moduleOf k = some x → x.name = "java.base" := by
  intro x hx
  unfold Vm.moduleOf at hx
  rw [hop] at hx
  simp only [Bool.false_eq_true, if_false] at hx
  have h1 := List.find?_some hx
  have h2 := List.mem_of_find?_eq_some hx
  have h3 := List.all_eq_true.mp hm x h2
  rw [hl, hp] at h1
  simp only [Bool.and_eq_true, beq_iff_eq] at h1
  obtain ⟨q1, q2⟩ := h1
  rw [q1] at h3
  simp only [Option.isSome_none, Bool.false_or, Bool.or_eq_true, beq_iff_eq, Bool.not_eq_true'] at h3
  rcases h3 with h3 | h3
  · exact h3
  · exfalso
    have : (castPackages_1.any fun p => x.packages.contains p) = true := by
      unfold castPackages_1
      simp only [List.any_cons, q2, Bool.true_or]
    rw [this] at h3; cases h3

section SC
variable {p : Program} {l : Launch} {e : Env} {R : Room} {s : State} {m : MethodId} {args : Array Value} {below : List Frame} {meth : Method} {c : Code} {T : State} {locs : List Loc} {cells slots : Nat}
/-- a checkcast that fails, its class resolved or not yet: the machine's note -/
theorem stand_castNo (X : Stand p l e R s m args below meth c T locs cells slots) (hexec : p.tables.exec = Jvm.exec)
    {own name nameS : String} {index : Nat} (hown : s.vm.findClass own = some m.cls) (hlink : (Cond.classLink own index name).before args s = true)
    {a : Addr} {cell : Cell} {cT : ClassId} (hcell : T.heap[a]? = some cell) (hobj : cell.vm.isStatics = false) (hcS : s.vm.findClass nameS = some cell.cls)
    (hcT : s.vm.findClass name = some cT) (hasg : s.vm.assignable cell.cls cT = false)
    (hmod : (s.vm.modules.all fun m => m.loader.isSome || m.name == "java.base" || !(castPackages_1.any fun p => m.packages.contains p)) = true)
    (n1 : (dotted nameS).toList.length ≤ 24 ∧ packageOf nameS = "") (n2 : (dotted name).toList.length ≤ 24 ∧ packageOf name = "") (hop : ∀ k, s.vm.classes[cell.cls]? = some k ∨ s.vm.classes[cT]? = some k → k.ofPrimitives = false)
    {g : JFrame} (hg : g.method = m) {rest : List Value} (hstack : g.stack = .ref a :: rest) (hdg : decode c.code g.pc = .ok (.checkcast index, 3)) :
    ∃ (vm' : Vm) (text : String), Stand p l e R s m args below meth c (T.setVm vm') locs cells slots ∧ text.toList.length ≤ 300 ∧ (text == notModelled) = false ∧
      ∀ target, Steps p.tables e below (((T.setVm vm').setTop g).pushFrame (.throwNew "java/lang/ClassCastException" (some text) none)) target → Steps p.tables e below (T.setTop g) target := by
  have hpl : e.platform.magicAccessors = ({} : Platform).magicAccessors := by rw [X.admits.platform]
  obtain ⟨c', hc', hcl⟩ := Cond.classLink_spec hown hlink e.platform hpl
  cases hcT.symm.trans hc'
  obtain ⟨dk, _, _, kt, hd, _, _, _, _, hkt, _, hopen⟩ := hcl.here
  have hcl₀ := X.warmed.classLinks hcl
  have hW' : s.WarmedH (T.vm.noted m.cls index (.cls cT)) := X.warmed.noted hd hopen (State.rightAt_cls hcl)
  obtain ⟨ks, hks, hkn⟩ := Vm.findClass_spec hcS
  obtain ⟨kt2, hkt2, hktn⟩ := Vm.findClass_spec hcT
  cases hkt.symm.trans hkt2
  obtain ⟨ks', hks', es⟩ := hW'.alike.2.2 _ _ hks
  obtain ⟨kt', hkt', et⟩ := hW'.alike.2.2 _ _ hkt
  have hmods : (T.vm.noted m.cls index (.cls cT)).modules = s.vm.modules := by rw [hW'.1]
  have opP : ∀ k k' : Class, k' = { k with resolved := k'.resolved, nestHost := k'.nestHost, nestHostError := k'.nestHostError } → k.ofPrimitives = false → k'.ofPrimitives = false := fun k k' e h => by rw [e]; exact h
  have iS := find_hidden hcS hks
  have iT := find_hidden hcT hkt
  have oS := Vm.findClass_boot hcS hks
  have oT := Vm.findClass_boot hcT hkt
  obtain ⟨t1, t2⟩ := cast_text (vm := T.vm.noted m.cls index (.cls cT)) (ks := ks') (kt := kt') (by rw [es]; exact iS) (by rw [et]; exact iT) (by rw [es]; show (dotted ks.name).toList.length ≤ 24; rw [hkn]; exact n1.1) (by rw [et]; show (dotted kt.name).toList.length ≤ 24; rw [hktn]; exact n2.1)
    (by rw [es]; exact oS) (by rw [et]; exact oT)
    (mod_base (by rw [es]; exact oS) (by rw [es]; show packageOf ks.name = ""; rw [hkn]; exact n1.2) (opP _ _ es (hop ks (Or.inl hks))) (by rw [hmods]; exact hmod))
    (mod_base (by rw [et]; exact oT) (by rw [et]; show packageOf kt.name = ""; rw [hktn]; exact n2.2) (opP _ _ et (hop kt (Or.inr hkt))) (by rw [hmods]; exact hmod))
  refine ⟨_, _, X.noted hW', t1, t2, fun target hrest => ?_⟩
  subst hg
  jvm_step X.here [hexec, hdg, checkcast.wp_cold (e := e) (s := T) (f := g) X.here.top hstack (resolveClass_links e.toSetting hcl₀) hcl₀.ready,
    checkcast.wp_ready (e := e) (s := T.setVm (T.vm.noted g.method.cls index (.cls cT))) (f := g) X.here.top hcl₀.ready hstack]
  refine ⟨cell, hcell, VmData.noStatics_of hobj, ks', hks', kt', hkt', ?_⟩
  rw [if_neg (by rw [hW'.alike.assignable, hasg]; decide)]
  exact hrest
end SC
