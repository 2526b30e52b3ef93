/-! the machine's own exceptions, caught where they are thrown (a launch without stack traces) -/
theorem no_traces {l : Launch} {e : Env} (h : l.admits e) (hfl : l.flags = flags0) : e.platform.stackTraces = false := by
  rw [h.platform]
  show l.stackTraces = false
  unfold Launch.stackTraces
  rw [hfl]; decide +kernel
section SVM
variable {p : Program} {l : Launch} {e : Env} {R : Room} {s : State} {m : MethodId} {args : Array Value} {below : List Frame} {meth : Method} {c : Code} {T : State} {locs : List Loc} {cells slots : Nat}
set_option maxHeartbeats 1000000 in
/-- from the note over the frame g to 'throwing' over it: three new cells -/
theorem stand_vm (X : Stand p l e R s m args below meth c T locs cells slots) (hexec : p.tables.exec = Jvm.exec) (htr : e.platform.stackTraces = false) {cls : String} {names : List String} {text : String}
    (hcls : Bundle.fit cls = true) (hnames : ∀ n ∈ names, Bundle.fit n = true) (hsoe : (cls == "java/lang/StackOverflowError") = false) (hoom : (cls == "java/lang/OutOfMemoryError") = false)
    (h : ∀ a ∈ Bundle.messageArmAtoms cls names, a.before args s = true)
    (hst : ∀ (ct : ClassId) (k : Class) (a : Nat) (cell : Cell), s.vm.findClass "java/lang/Throwable" = some ct → s.vm.classes[ct]? = some k → k.statics = some a → s.heap[a]? = some cell → T.heap[a]? = some cell)
    (htext : (text == notModelled) = false) {N : Nat} (hN : (stringBytes (stringToUtf16 text)).size ≤ N) (hlimit : N ≤ e.platform.arrayLengthLimit) (hheap : N * componentBytes .byte ≤ e.platform.maxHeapBytes)
    {g : JFrame} (hg : g.method = m) (hsize : g.locals.size = c.maxLocals)
    (hRframes : names.length + 4 < R.frames) (hRlocals : 2 * g.monitorRoom + (g.stack.map fun v => v.category).sum + 10240 ≤ R.locals) (hshort : 13 * names.length + 55 ≤ 10240)
    (hRcells : cells + 3 ≤ R.cells) (hRslots : slots + (N + 10) ≤ R.slots) :
    ∃ (T' : State) (L : List Loc), Stand p l e R s m args below meth c T' (locs ++ L) (cells + 3) (slots + (N + 10)) ∧ (∀ y ∈ L, y.base = T.heap.size + 2) ∧ T'.heap.size = T.heap.size + 3 ∧ (∀ a : Nat, a < T.heap.size → T'.heap[a]? = T.heap[a]?) ∧
      (∃ ce, T'.heap[T.heap.size + 2]? = some ce ∧ s.vm.findClass cls = some ce.cls ∧ ce.vm.isStatics = false) ∧
      ∀ target, Steps p.tables e below ((T'.setTop g).pushFrame (.throwing (T.heap.size + 2))) target → Steps p.tables e below ((T.setTop g).pushFrame (.throwNew cls (some text) none)) target := by
  have howns : e.platform.frameOwnsMonitors = true := by rw [X.admits.platform]
  have hfin : e.platform.finalization = false := by rw [X.admits.platform]
  have hpl : e.platform.magicAccessors = ({} : Platform).magicAccessors := by rw [X.admits.platform]
  have w : ∀ x, x ∈ Bundle.messageArmAtoms cls names → x.holds args s none s [] = true := fun x hx => h x hx
  obtain ⟨Th, Z0, L, -, Y⟩ := ThrowableC.of_atoms (args := args) howns hfin hpl (fun x hx => h x (by simp [Bundle.messageArmAtoms, hx]))
  obtain ⟨Z, M, LZ, LM, hnZ⟩ := Init0T.ofS_atoms (args := args) hpl L Y (fun x hx => h x (by simp [Bundle.messageArmAtoms, hx]))
  obtain ⟨P1, Ps, hlen, L1, hL, hP1, hlink1, hlink⟩ := Bundle.chainS (args := args) hpl hnZ names cls hcls hnames (fun x hx => h x (by simp [Bundle.messageArmAtoms, hx]))
  obtain ⟨Zs, LZs, hn4, hfitv, hfitc⟩ := StringT.of_atoms (args := args) (fun x hx => h x (by simp [Bundle.messageArmAtoms, hx]))
  have hfound : s.vm.findClass cls = some P1.m.cls := findClass_of_methodNamed hP1
  obtain ⟨c1, kX, hc1, hk, hord, -, -, hn6⟩ := Cond.instantiable_spec (w (.instantiable cls 6) (by simp [Bundle.messageArmAtoms]))
  cases Option.some.inj (hc1.symm.trans hfound)
  have hinit := Cond.initialized_spec hfound hk (w (.initialized cls) (by simp [Bundle.messageArmAtoms]))
  have hctor : kX.findMethod "<init>" "(Ljava/lang/String;)V" = some P1.m.idx := findMethod_of_methodNamed hP1 hk
  have hsel : ∀ (y : MethodName) (r : MethodId), Cond.selects cls y y ∈ Bundle.messageArmAtoms cls names → s.methodNamed? y = some r → s.methodFound? y.cls y.name y.desc = some r → selectMethod e.platform s.vm P1.m.cls r = .method r := by
    intro y r hy hr hr2
    obtain ⟨c2, r2, m2, q1, q2, q3, q4, -⟩ := Cond.selects_spec (w _ hy)
    cases Option.some.inj (q1.symm.trans hfound)
    cases Option.some.inj (q2.symm.trans hr2)
    cases Option.some.inj (q3.symm.trans hr)
    rw [Launch.admits_selectMethod X.admits]; exact q4
  have hsel0 := hsel _ _ (by simp [Bundle.messageArmAtoms]) Y.fill0 (State.methodFound?_of_named Y.fill0 (by decide))
  have hselF := hsel _ _ (by simp [Bundle.messageArmAtoms]) Y.fill (State.methodFound?_of_named Y.fill (by decide))
  -- the statics
  obtain ⟨cellS, hcS, hiss⟩ := Y.statics
  obtain ⟨u0, hu0⟩ := Cond.staticRefV Y.unassigned L.unassignedStatic L.statics hcS hiss (w (.isRef (.static Bundle.tN "UNASSIGNED_STACK" Bundle.steD)) (by simp [Bundle.messageArmAtoms]))
  obtain ⟨sen, hsen⟩ := Cond.staticRefV Y.sentinel L.sentinelStatic L.statics hcS hiss (w (.isRef (.static Bundle.tN "SUPPRESSED_SENTINEL" Bundle.listD)) (by simp [Bundle.messageArmAtoms]))
  have hcS' : T.heap[Th.aS]? = some cellS := hst _ _ _ _ Y.found L.cls L.statics hcS
  have hkS : cellS.vm ≠ .unknown := fun hu => by rw [hu] at hiss; cases hiss
  -- the new object's fields
  obtain ⟨ci, ib, fB, hkB, hgB, haB, hsB, -, hnB, htB, hffB⟩ := Cond.ownField (t := .object "java/lang/Object") Y.found L.cls (by decide +kernel) (w (.fieldLink Bundle.tN 198 Bundle.tN "backtrace" "Ljava/lang/Object;") (by simp [Bundle.messageArmAtoms])) (w (.lays Bundle.tN Bundle.tN "backtrace" "Ljava/lang/Object;") (by simp [Bundle.messageArmAtoms])) e.platform hpl
  obtain ⟨iM, hffM⟩ := Y.msg
  obtain ⟨tyC, dC, hdC, nC⟩ := Cond.laysAt hfound hk Y.cause (w (.lays cls Bundle.tN "cause" "Ljava/lang/Throwable;") (by simp [Bundle.messageArmAtoms]))
  obtain ⟨tyS, dS, hdS, nS⟩ := Cond.laysAt hfound hk Y.stack (w (.lays cls Bundle.tN "stackTrace" Bundle.steD) (by simp [Bundle.messageArmAtoms]))
  obtain ⟨tyP, dP, hdP, nP⟩ := Cond.laysAt hfound hk Y.supp (w (.lays cls Bundle.tN "suppressedExceptions" Bundle.listD) (by simp [Bundle.messageArmAtoms]))
  obtain ⟨tyM, dM, hdM, nM⟩ := Cond.laysAt hfound hk hffM (w (.lays cls Bundle.tN "detailMessage" "Ljava/lang/String;") (by simp [Bundle.messageArmAtoms]))
  obtain ⟨tyB, dB, hdB, nB⟩ := Cond.laysAt hfound hk hffB (w (.lays cls Bundle.tN "backtrace" "Ljava/lang/Object;") (by simp [Bundle.messageArmAtoms]))
  have bC := Cond.laysApart hdB hdC nB nC (by rw [hnB, Y.causeName]; decide)
  have bS := Cond.laysApart hdB hdS nB nS (by rw [hnB, Y.stackName]; decide)
  have bP := Cond.laysApart hdB hdP nB nP (by rw [hnB, Y.suppName]; decide)
  have hnull : ((preparedCellV Th.toThrowableT (freshCell P1.m.cls kX) (T.heap.size + 2) u0 sen).withEntry T.cur).slots[fB.slot]? = some .null := by
    have := fresh_default (c := P1.m.cls) tyB
    rw [htB] at this
    simpa [preparedCellV, Cell.setSlot, Cell.withEntry, Array.getElem?_setIfInBounds, bC, bS, bP, bC.symm, bS.symm, bP.symm, defaultValue] using this
  have tC := Takes.of_laid (v := .ref (T.heap.size + 2)) hk hord tyC (by rw [Y.causeType]; rfl)
  have tS := Takes.of_laid (v := u0.v) hk hord tyS (by rw [Y.stackType]; exact fits_refV_array _ u0)
  have tP := Takes.of_laid (v := sen.v) hk hord tyP (by rw [Y.suppType]; exact fits_refV_object _ sen)
  have tM := Takes.of_laid (v := .ref (T.heap.size + 1)) hk hord tyM (by rw [Y.msgType]; rfl)
  -- the machine's room
  have hAt : At T g.method c below := by rw [hg]; exact X.here
  obtain ⟨hbeyond, hfree⟩ := X.vmMayThrow hsize (.throwNew cls (some text) none) (fun f hf => by cases hf) rfl hRlocals
  have hfr : T.frames.length + Ps.length + 4 < (e.platform.stackLimits T.me).1 := by rw [hlen]; have := X.framesAbove hRframes; omega
  have hwd : (stackUse (.java g :: T.frames.tail)).2 + 13 * Ps.length + 55 ≤ (e.platform.stackLimits T.me).2 := by rw [hlen]; have := X.stackAbove hsize (K := 13 * names.length + 55) (by omega); omega
  have hsl : T.slotsUsed + (stringBytes (stringToUtf16 text)).size + Zs.kS.instanceTypes.size + kX.instanceTypes.size ≤ e.platform.maxSlots := by rw [hn4, hn6]; have := X.slotsAbove hRslots; omega
  have hcb : componentBytes .byte = 1 := rfl
  obtain ⟨vm', hW', st⟩ := Steps.vmThrowsMessageColdByV p (s₀ := s) (S := T) (g := g) hAt hexec Th L Z LZ M LM X.warmed (t := T.cur) rfl Zs LZs P1 L1 Ps hL hlink1 hlink hsoe hoom hfound hk hinit hord hctor
    (Launch.admits_hotImplicitExceptions X.admits) hbeyond hfree htext (by omega) (by rw [hcb] at hheap ⊢; omega) (X.cellsAbove hRcells) hsl (hfitv _) (hfitc _)
    (Nn := fun u => u) heapOnly_id (fun _ _ => rfl) (fun _ => rfl) (fun u x y => setCell_twice _ _ _ _) (fun _ => Nat.le_refl _) (cN := ((preparedCellV Th.toThrowableT (freshCell P1.m.cls kX) (T.heap.size + 2) u0 sen).withEntry T.cur))
    hsel0 hcS' hkS hu0 tS (fun _ hu => hu) (fun _ hu => hu) rfl rfl rfl (by simp [preparedCellV, Cell.setSlot, Cell.withEntry])
    ⟨{ ci198 := ci, i198 := ib, fBack := fB }, ⟨hkB, hgB, haB, hsB⟩, hnull, fun _ _ => rfl⟩ (fun _ _ hA hW _ hroom _ hrest => L.nativeOff p htr hA hW hroom hrest) hselF hsen tC tP tM Y.objLocals rfl hfr hwd
  rw [plainBareV_eq Th.toThrowableT (T.heap.size + 2) u0 sen (.ref (T.heap.size + 1)) T.cur rfl rfl] at st
  -- the stand behind it
  obtain ⟨-, -, w3, w4, w5, -, -⟩ := withThrown_facts e.platform T Zs text P1.m.cls kX
  have X3 := ((X.pushed (bytesOf Zs.cB (stringToUtf16 text))).pushed (stringAt Zs.cS Zs.kS Zs.fv Zs.fc (stringToUtf16 text) T.heap.size)).pushed (freshCell P1.m.cls kX)
  rw [← withString_eq] at X3
  have X4 := X3.noted hW'
  have ha : T.heap.size + 2 < ((withThrown T Zs text P1.m.cls kX).setVm vm').heap.size := by show _ < (withThrown T Zs text P1.m.cls kX).heap.size; rw [w3]; omega
  have hce : ((withThrown T Zs text P1.m.cls kX).setVm vm').heap[T.heap.size + 2]? = some (freshCell P1.m.cls kX) := w4
  have X5 := ((((X4.stored hce Th.fCause.slot (.ref (T.heap.size + 2))).storedAgain ha Th.fStack.slot u0.v).storedAgain ha Th.fSupp.slot sen.v).storedAgain ha Th.fStack.slot u0.v).storedAgain ha Th.fMsg.slot (.ref (T.heap.size + 1))
  have b1 : (bytesOf Zs.cB (stringToUtf16 text)).slots.size = (stringBytes (stringToUtf16 text)).size := by rw [(Cell.writeAll_facts _ _).2.2]; simp [bytes0]
  have b2 : (stringAt Zs.cS Zs.kS Zs.fv Zs.fc (stringToUtf16 text) T.heap.size).slots.size = 4 := by simp [string0, Cell.setSlot, hn4]
  have b3 : (freshCell P1.m.cls kX).slots.size = 6 := by simp [hn6]
  rw [b1, b2, b3] at X5
  simp only [List.append_assoc, List.cons_append, List.nil_append] at X5
  refine ⟨_, _, stand_widen X5 (Nat.le_refl (cells + 3)) (by omega), fun y hy => ?_, ?_, fun a ha' => ?_, ⟨_, heapAt_setCell_self _ ha, hfound, rfl⟩, fun target ht => st target ?_⟩
  · simp only [List.mem_cons, List.not_mem_nil, or_false] at hy
    rcases hy with rfl | rfl | rfl | rfl | rfl <;> rfl
  · show (((withThrown T Zs text P1.m.cls kX).setVm vm').heap.setIfInBounds _ _).size = _
    rw [Array.size_setIfInBounds]; exact w3
  · show (((withThrown T Zs text P1.m.cls kX).setVm vm').heap.setIfInBounds _ _)[a]? = _
    rw [Array.getElem?_setIfInBounds, if_neg (by omega)]
    exact w5 a ha'
  · obtain ⟨g1, hfrM⟩ := X5.frames_eq
    rw [State.pushFrame, State.frames_setTop _ hfrM, State.setTop_of_frames _ hfrM, State.setFrames_setFrames] at ht
    rw [X.tail]
    exact ht
end SVM
