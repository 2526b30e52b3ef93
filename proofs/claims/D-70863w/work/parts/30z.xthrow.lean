/-! exceptions: contracts of methods that may throw; athrow; a call that throws; a handler (its class resolved or not yet) -/
set_option maxRecDepth 100000
theorem fh_cold {f : JFrame} {a : Addr} {Q : Handler → Pre} {E : CtlPost} {e : Env} {d : Bool} {acts : List Action} {s : State} {x : ExceptionTableEntry} {t : List ExceptionTableEntry} {c : ClassId} {cell : Cell} (hx : covers x f.pc = true) (h0 : x.catchType ≠ 0)
    (hl : s.vm.ClassLinks e.platform f.method.cls x.catchType c) (hcell : s.heap[a]? = some cell) (hobj : ∀ k, cell.vm ≠ .statics k)
    (hk : ∃ k, (s.vm.noted f.method.cls x.catchType (.cls c)).classes[cell.cls]? = some k) (hc : ∃ k, (s.vm.noted f.method.cls x.catchType (.cls c)).classes[c]? = some k) (hfit : (s.vm.noted f.method.cls x.catchType (.cls c)).assignable cell.cls c = true) :
    wp (findHandler.go f a (x :: t)) Q E e d acts s ↔ Q (.found x.handlerPc) d acts (s.setVm (s.vm.noted f.method.cls x.catchType (.cls c))) := by
  simp only [covers] at hx
  obtain ⟨ha, ht⟩ := (resolveClass_links e.toSetting hl).op (op := .resolveClass f.method.cls x.catchType) rfl
  have hsz : (s.vm.noted f.method.cls x.catchType (.cls c)).classes.size ≤ s.vm.classes.size := by no_record
  simp [findHandler.go, hx, h0, ha, VmOp.lands_eq ht hsz, hcell, hobj, hk, hc, hfit, VmOp.dirties, VmOp.acts]
def FindsC (e : Env) (s : State) (f : JFrame) (a : Addr) (h : Handler) (vm' : Vm) : Prop :=
  ∀ (Q : Handler → Pre) (E : CtlPost) (d : Bool) (acts : List Action), wp (findHandler f a) Q E e d acts s ↔ Q h d acts (s.setVm vm')
theorem FindsC.of {e : Env} {s : State} {f : JFrame} {a : Addr} {meth : Method} {code : Code} {vm' : Vm} {h : Handler} (hm : s.vm.method? f.method = some meth) (hc : meth.code = some code)
    (pre rest : List ExceptionTableEntry) (hsplit : code.exceptionTable.toList = pre ++ rest) (hskip : ∀ x ∈ pre, covers x f.pc = false)
    (hrest : ∀ (Q : Handler → Pre) (E : CtlPost) (d : Bool) (acts : List Action), wp (findHandler.go f a rest) Q E e d acts s ↔ Q h d acts (s.setVm vm')) : FindsC e s f a h vm' := by
  intro Q E d acts
  rw [W.findHandler_eq hm hc, hsplit]
  clear hsplit
  induction pre with
  | nil => exact hrest Q E d acts
  | cons x t ih =>
    rw [List.cons_append, W.findHandler_go_skip (hskip x (List.mem_cons_self ..))]
    exact ih (fun y hy => hskip y (List.mem_cons_of_mem _ hy))
theorem stepThrowing_catchC {e : Env} {s : State} {a : Addr} {f : JFrame} {r : List Frame} {pc : Nat} {vm' : Vm} (hfind : FindsC e s f a (.found pc) vm') :
    (stepThrowing e s a (.java f :: r)).Is ((s.setVm vm').setFrames (.java { f with pc := pc, stack := [.ref a] } :: r)) [] := by
  simp only [stepThrowing, searchFrame, vmDo]
  generalize hr : Sem.go _ e false [] s = res
  obtain ⟨as, rfl, ha⟩ := Sem.eq_ok_of hr (a := Handler.found pc) (s' := s.setVm vm') (acts' := []) (by simp [hfind _ _ _ _])
  exact ⟨rfl, ha⟩
theorem Steps.caughtC {tb : Tables} {e : Env} {s target : State} {g : JFrame} {c : Code} {below : List Frame} {a : Addr} {vm' : Vm} (h : At s g.method c below) {pc : Nat} (hfind : FindsC e ((s.setTop g).pushFrame (.throwing a)) g a (.found pc) vm')
    (hrest : Steps tb e below ((s.setVm vm').setTop { g with pc := pc, stack := [.ref a] }) target) :
    Steps tb e below ((s.setTop g).pushFrame (.throwing a)) target := by
  obtain ⟨hgo, hw⟩ := h.throwing a
  refine Steps.head hgo hw ?_
  rw [stepThread_throwing (frames_entered h.top _), (stepThrowing_catchC (s := (s.setTop g).pushFrame (.throwing a)) hfind).1]
  obtain ⟨g₀, hg⟩ := Option.isSome_iff_exists.mp h.top
  obtain ⟨r, hr⟩ := State.topJava?_eq_some.mp hg
  have hr' : (s.setVm vm').frames = .java g₀ :: r := hr
  rw [State.setTop_of_frames _ hr'] at hrest
  have key : (((s.setTop g).pushFrame (.throwing a)).setVm vm').setFrames (.java { g with pc := pc, stack := [.ref a] } :: s.frames.tail) = (s.setVm vm').setFrames (.java { g with pc := pc, stack := [.ref a] } :: r) := by
    rw [State.pushFrame, State.setTop_of_frames _ hr, hr]
    show ((((s.setFrames _).setFrames _).setVm vm').setFrames _) = _
    rw [State.setFrames_setFrames]
    show ((s.setFrames _).setFrames _).setVm vm' = _
    rw [State.setFrames_setFrames]
    rfl
  rw [key]
  exact hrest
/-- an exception thrown over the frame g goes on at the handler, whether the handler's class is resolved yet or not -/
theorem stand_catch {p : Program} {l : Launch} {e : Env} {R : Room} {s : State} {m : MethodId} {args : Array Value} {below : List Frame} {meth : Method} {c : Code} {T : State} {locs : List Loc} {cells slots : Nat} (X : Stand p l e R s m args below meth c T locs cells slots)
    {own name : String} {g : JFrame} (hg : g.method = m) (hown : s.vm.findClass own = some m.cls) (pre : List ExceptionTableEntry) (x : ExceptionTableEntry) (rest : List ExceptionTableEntry) (hsplit : c.exceptionTable.toList = pre ++ x :: rest) (hskip : ∀ y ∈ pre, covers y g.pc = false) (hx : covers x g.pc = true) (h0 : x.catchType ≠ 0)
    (hlink : (Cond.classLink own x.catchType name).before args s = true) {a : Addr} {cell : Cell} {cT : ClassId} (hcell : T.heap[a]? = some cell) (hobj : cell.vm.isStatics = false) (hcT : s.vm.findClass name = some cT) (hasg : s.vm.assignable cell.cls cT = true) :
    ∃ vm', Stand p l e R s m args below meth c (T.setVm vm') locs cells slots ∧
      ∀ target, Steps p.tables e below ((T.setVm vm').setTop { g with pc := x.handlerPc, stack := [.ref a] }) target → Steps p.tables e below ((T.setTop g).pushFrame (.throwing a)) target := by
  have hpl : e.platform.magicAccessors = ({} : Platform).magicAccessors := by rw [X.admits.platform]
  obtain ⟨c', hc', hcl⟩ := Cond.classLink_spec hown hlink e.platform hpl
  cases hcT.symm.trans hc'
  obtain ⟨dk, _, _, kt, hd, _, _, _, _, hkt, _, hopen⟩ := hcl.here
  have hcl₀ := X.warmed.classLinks hcl
  have hW' : s.WarmedH (T.vm.noted m.cls x.catchType (.cls cT)) := X.warmed.noted hd hopen (State.rightAt_cls hcl)
  obtain ⟨ks, hks⟩ := Vm.classAt_of_assignable hasg ⟨kt, hkt⟩
  obtain ⟨ks', hks', -⟩ := hW'.alike.2.2 _ _ hks
  obtain ⟨kt', hkt', -⟩ := hW'.alike.2.2 _ _ hkt
  refine ⟨_, X.noted hW', fun target hrest => ?_⟩
  subst hg
  refine Steps.caughtC X.here (FindsC.of (meth := meth) (code := c) ?_ X.code pre (x :: rest) hsplit hskip fun Q E d acts => ?_) hrest
  · rw [Stand.throwing_vm]; exact X.method'
  · have hcl₁ : ((T.setTop g).pushFrame (.throwing a)).vm.ClassLinks e.platform g.method.cls x.catchType cT := by rw [Stand.throwing_vm]; exact hcl₀
    have hv := Stand.throwing_vm T g a
    have := fh_cold (f := g) (a := a) (Q := Q) (E := E) (e := e) (d := d) (acts := acts) (t := rest) (cell := cell) hx h0 hcl₁ (by rw [Stand.throwing_heap]; exact hcell) (VmData.noStatics_of hobj) (by rw [hv]; exact ⟨ks', hks'⟩) (by rw [hv]; exact ⟨kt', hkt'⟩) (by rw [hv, hW'.alike.assignable]; exact hasg)
    rw [hv] at this
    exact this
/-! contracts of methods that may throw -/
def FrameT (first : State) (t : State) (L : List Loc) (k n : Nat) : Prop := first.WarmedH t.vm ∧ first.sameButNew ({ t with vm := first.vm } : State) L k n
def MetT (l : Launch) (y : MethodName) (ws : List Cond) (rm : Room) (Pc : Array Value → State → Prop) (Qc : Array Value → State → Outcome → State → Prop) (mc ms : Nat) (free : Addr → Prop) : Prop :=
  MetFree l y (headSpec ws rm) Pc (fun _ _ _ _ _ => True) (fun a st o t => Qc a st o t ∧ ∃ L, FrameT st t L mc ms ∧ ∀ q ∈ L, free q.base)
def MQT (below : List Frame) (Qc : Array Value → State → Outcome → State → Prop) (a : Array Value) (s : State) (mc ms : Nat) (free : Addr → Prop) : State → Prop := fun t =>
  ∃ o, t.status = .running ∧ Ended t below o ∧ Qc a s o t ∧ ∃ L, FrameT s t L mc ms ∧ ∀ q ∈ L, free q.base
theorem MQ.t {below : List Frame} {Qc Q2 : Array Value → State → Outcome → State → Prop} {a : Array Value} {s : State} {mc ms : Nat} {free : Addr → Prop} (hq : ∀ o t, Qc a s o t → Q2 a s o t) {t : State} (h : MQ below Qc a s mc ms free t) : MQT below Q2 a s mc ms free t := by
  obtain ⟨o, h1, h2, h3, L, hF, hL⟩ := h
  exact ⟨o, h1, h2, hq _ _ h3, L, hF.2, hL⟩
section XT
variable {p : Program} {l : Launch} {e : Env} {R : Room} {s : State} {m : MethodId} {args : Array Value} {below : List Frame} {meth : Method} {c : Code} {H : Heap} {locs : List Loc} {cells slots : Nat} {Q Q' : State → Prop}
theorem W.mono {g : JFrame} (hq : ∀ t, Q t → Q' t) (k : W p l e R s m args below meth c H locs cells slots Q g) : W p l e R s m args below meth c H locs cells slots Q' g := fun T hT X => by
  obtain ⟨t, a, b⟩ := k T hT X
  exact ⟨t, a, hq t b⟩
theorem MetT.ofW {y : MethodName} {ws ws' : List Cond} {rm : Room} {Pc : Array Value → State → Prop} {Qc : Array Value → State → Outcome → State → Prop} {mc ms : Nat} {free : Addr → Prop} {cc : ByteArray} {maxL : Nat} {ret : Option FieldType}
    (hy : plainName y.cls = true) (hw : ws = Cond.code y cc maxL ret :: ws')
    (body : ∀ p e s m args below meth c s₁, BodyLoose p l y (headSpec ws rm) cc maxL ret e s m args below meth c s₁ → c.maxLocals = maxL → c.exceptionTable.toList = [] → Pc args s →
      W p l e (headSpec ws rm).room s m args below meth c s.heap [] 0 0 (MQT below Qc args s mc ms free) (entryFrame m args maxL)) : MetT l y ws rm Pc Qc mc ms free := by
  refine MetFree.of_bodyS (code := cc) (maxLocals := maxL) (ret := ret) hy ?_ ?_
  · intro args s m h hn
    obtain ⟨meth, c, h1, h2, h3, h4, h5, h6, -, -⟩ := Cond.code_spec hn (atoms_spec (ws := ws) h _ (by rw [hw]; exact List.mem_cons_self))
    exact ⟨meth, c, h1, h2, h3, h4, h5, h6⟩
  · intro p e s m args below meth c s₁ B hml hP _
    have hh0 : s₁.heap = s.heap := by rw [B.state]; rfl
    have hcode : (Cond.code y cc maxL ret).before args s = true := atoms_spec (ws := ws) B.pre _ (by rw [hw]; exact List.mem_cons_self)
    have hne : c.exceptionTable.toList = [] := by
      have := B.noHandlers hcode
      simpa using this
    obtain ⟨t, a1, o, b1, b2, b3⟩ := body p e s m args below meth c s₁ B hml hne hP s₁ hh0 (Stand.of_body B)
    exact ⟨t, o, a1, b1, b2, ⟨b3.1, b3.2⟩⟩
/-- a method with handlers, that returns -/
theorem Met.ofWH {y : MethodName} {ws ws' : List Cond} {rm : Room} {Pc : Array Value → State → Prop} {Qc : Array Value → State → Outcome → State → Prop} {mc ms : Nat} {free : Addr → Prop} {cc : ByteArray} {maxL : Nat} {ret : Option FieldType} {hh : List (Nat × Nat × Nat × Nat)}
    (hy : plainName y.cls = true) (hw : ws = Cond.codeWith y cc maxL ret hh :: ws')
    (body : ∀ p e s m args below meth c s₁, BodyLoose p l y (headSpec ws rm) cc maxL ret e s m args below meth c s₁ → c.maxLocals = maxL → c.exceptionTable.toList.map (fun h => (h.startPc, h.endPc, h.handlerPc, h.catchType)) = hh → Pc args s →
      W p l e (headSpec ws rm).room s m args below meth c s.heap [] 0 0 (MQ below Qc args s mc ms free) (entryFrame m args maxL)) : Met l y ws rm Pc Qc mc ms free := by
  refine MetFree.of_bodyS (code := cc) (maxLocals := maxL) (ret := ret) hy ?_ ?_
  · intro args s m h hn
    obtain ⟨m', meth, c, h0, h1, h2, h3, h4, -, h5, h6, -⟩ := Cond.codeWith_spec (atoms_spec (ws := ws) h _ (by rw [hw]; exact List.mem_cons_self))
    cases hn.symm.trans h0
    exact ⟨meth, c, h1, h2, h3, h4, h5, h6⟩
  · intro p e s m args below meth c s₁ B hml hP _
    have hh0 : s₁.heap = s.heap := by rw [B.state]; rfl
    obtain ⟨m', meth', c', h0, h1, h2, h3, h4, ht, h5, h6, -⟩ := Cond.codeWith_spec (atoms_spec (ws := ws) B.pre _ (by rw [hw]; exact List.mem_cons_self))
    cases B.named.symm.trans h0
    cases B.method.symm.trans h1
    cases (Stand.of_body B).code.symm.trans h2
    obtain ⟨t, a1, o, b1, b2, b3⟩ := body p e s m args below meth c s₁ B hml ht hP s₁ hh0 (Stand.of_body B)
    exact ⟨t, o, a1, b1, b2, ⟨b3.1, b3.2⟩⟩
variable {cc : ByteArray} {pc : Nat} {ls : Array Slot} {rest : List Value}
/-- athrow in a method without handlers: the method's end -/
theorem W.athrow {Qc : Array Value → State → Outcome → State → Prop} {free : Addr → Prop} {mc ms : Nat} {a : Nat} (hexec : p.tables.exec = Jvm.exec) (hb : c.code = cc) (hlocks : meth.locks = false) (hne : c.exceptionTable.toList = []) (hc : cells ≤ mc) (hs : slots ≤ ms)
    (hq : ∀ t : State, t.heap = H → s.WarmedH t.vm → Qc args s (.threw a) t) (hf : ∀ q ∈ locs, free q.base) (hdg : decode cc pc = .ok (.athrow, 1)) : W p l e R s m args below meth c H locs cells slots (MQT below Qc args s mc ms free) (F0 m pc ls (.ref a :: rest)) := by
  refine W.widen (k := mc) (n := ms) hc hs ?_
  intro T hT X
  obtain ⟨h1, h2, h3, h4, h5⟩ := X.athrowLeaves hexec (g := F0 m pc ls (.ref a :: rest)) rfl rfl rfl (by rw [hne]; intro x hx; cases hx) rfl (by rw [hb]; exact hdg) hlocks
  exact ⟨_, h1, .threw a, h2, h3, hq _ hT h4, locs, ⟨h4, h5⟩, hf⟩
end XT
/-! a call of a method that may throw -/
section BT
variable {l : Launch} {R : Room} {p : Program} {e : Env} {below : List Frame} {s : State} {sargs : Array Value} {y : MethodName} {len Wt : Nat}
theorem backT_of {ws : List Cond} {rm : Room} {Pc : Array Value → State → Prop} {Qc : Array Value → State → Outcome → State → Prop} {mc ms : Nat} {free : Addr → Prop} {bytes : ByteArray} {maxL : Nat} {ret : Option FieldType}
    (hM : MetT l y ws rm Pc Qc mc ms free) (hblind : FrameBlind Pc) (hrc : rm.cells = mc) (hrs : rm.slots = ms)
    (hframes : rm.frames + 1 ≤ R.frames) (hlocals : Wt + (maxL + 11) + rm.locals ≤ R.locals)
    (hws : ∀ w ∈ ws, ∀ a' U, s.WarmedH U.vm → w.before a' U = true) (hcode : Cond.code y bytes maxL ret ∈ ws) (hinit : ∀ a' U, s.WarmedH U.vm → (Cond.initialized y.cls).before a' U = true) :
    ∀ (m : MethodId) (meth : Method) (c : Code) (U : State) (Ls : List Loc) (c0 s0 : Nat) (g : JFrame) (ig : Instr) (mk : MethodId) (a : Array Value),
      Stand p l e R s m sargs below meth c U Ls c0 s0 → g.method = m → g.locals.size = c.maxLocals → decode c.code g.pc = .ok (ig, len) →
      2 * g.monitorRoom + (g.stack.map fun v => v.category).sum ≤ Wt → U.methodNamed? y = some mk → c0 + mc ≤ R.cells → s0 + ms ≤ R.slots → Pc a U →
      ∃ (o : Outcome) (t : State) (T' : State) (L : List Loc), Qc a (U.calling g mk a) o t ∧ (∀ q ∈ L, free q.base) ∧ T'.heap = t.heap ∧ T'.vm = t.vm ∧ Stand p l e R s m sargs below meth c T' (Ls ++ L) (c0 + mc) (s0 + ms) ∧
        (∀ v, o = .returned v → Steps p.tables e below (doInvoke e (U.setTop g) [] mk a).1 (T'.setTop { g with pc := g.pc + len, stack := v.toList ++ g.stack })) ∧
        (∀ x, o = .threw x → Steps p.tables e below (doInvoke e (U.setTop g) [] mk a).1 ((T'.setTop g).pushFrame (.throwing x))) := by
  intro m meth c U Ls c0 s0 g ig mk a X hg hsize hdg hW hn h4 h5 hPc
  have h1 : (headSpec ws rm).pre.before a U = true := atoms_intro fun w hw => hws w hw _ _ X.warmed
  have h2 : (Cond.code y bytes maxL ret).before a U = true := hws _ hcode _ _ X.warmed
  have h3 := hinit a U X.warmed
  obtain ⟨methY, cY, hmY, hcY, -, hlY, -, -, -, -⟩ := Cond.code_spec hn h2
  obtain ⟨kY, hkY, -⟩ := className_of_methodNamed hn
  have hinitY : kY.init = .initialized := Cond.initialized_spec (findClass_of_methodNamed hn) hkY h3
  have h : At U g.method c below := by rw [hg]; exact X.here
  have happ : (headSpec ws rm).appliesLoose y e.platform (U.calling g mk a) = true :=
    Spec.appliesLoose_calling (g := g) h hdg hn hkY hinitY
      (X.room_calling (g := g) (R' := (headSpec ws rm).room) hsize hmY hcY hframes (by rw [hlY]; show _ + rm.locals ≤ _; omega) (by rw [show (headSpec ws rm).room.cells = mc from hrc]; exact h4) (by rw [show (headSpec ws rm).room.slots = ms from hrs]; exact h5)) h1
  obtain ⟨mid, hmid⟩ := h.above
  have hfr : (U.setTop g).frames = (.java g :: mid) ++ below := by rw [State.frames_setTop' g h.top, hmid]; rfl
  obtain ⟨o, s₂, hsteps, -, hend, hq, L, ⟨hW₂, e2, q2, q3, q4, q5, q6⟩, hL⟩ := Steps.callFree hM p X.admits X.cas X.clock (acts := []) hfr happ (hblind _ _ _ _ hPc) trivial
  rw [State.frames_setTop' g h.top] at hend
  have e3 : s₂ = ({ (U.calling g mk a).setFrames s₂.frames with heap := s₂.heap, slotsUsed := s₂.slotsUsed } : State).setVm s₂.vm := by
    have this : s₂ = ({ s₂ with vm := (U.calling g mk a).vm } : State).setVm s₂.vm := rfl
    have e2' : ({ s₂ with vm := (U.calling g mk a).vm } : State) = ({ (U.calling g mk a).setFrames s₂.frames with heap := s₂.heap, slotsUsed := s₂.slotsUsed } : State) := e2
    rw [e2'] at this
    exact this
  have hW' : U.WarmedH s₂.vm := hW₂
  obtain ⟨g₀, hg0⟩ := Option.isSome_iff_exists.mp h.top
  obtain ⟨r, hr⟩ := State.topJava?_eq_some.mp hg0
  have hr' : (({ U with heap := s₂.heap, slotsUsed := s₂.slotsUsed } : State).setVm s₂.vm).frames = .java g₀ :: r := hr
  have hsame : U.sameButNew ({ U with heap := s₂.heap, slotsUsed := s₂.slotsUsed } : State) L mc ms := by
    refine ⟨?_, q2, q3, q4, q5, q6⟩
    obtain ⟨t, ht, -⟩ := State.frames_cons hr
    show ({ U with heap := s₂.heap, slotsUsed := s₂.slotsUsed } : State) = { U.setFrames U.frames with heap := s₂.heap, slotsUsed := s₂.slotsUsed }
    rw [State.setFrames_self ht]
  subst hg
  refine ⟨o, s₂, ({ U with heap := s₂.heap, slotsUsed := s₂.slotsUsed } : State).setVm s₂.vm, L, hq, hL, rfl, rfl,
    ⟨X.admits, X.cas, X.clock, X.frames, X.room, X.hears, X.method, X.code, (X.here.setHeapUsed s₂.heap s₂.slotsUsed).setVm hW'.alike, X.tail, State.WarmedH.trans X.warmed hW', X.limits, X.bytes, X.same.trans (hsame.setVm s.vm)⟩, ?_, ?_⟩
  · intro v hv
    subst hv
    obtain ⟨c₂, i₂, len₂, hc₂, hd₂, hf₂⟩ := hend
    have hcc : c₂ = c := by
      have h1 : s₂.code? g.method = U.code? g.method := by
        rw [State.code?_eq, State.code?_eq, hW'.alike.method?]
      exact Option.some.inj (hc₂.symm.trans (h1.trans h.code))
    subst hcc
    have hlen : len₂ = len := by rw [hdg] at hd₂; cases hd₂; rfl
    subst hlen
    have hs₂ : s₂ = (({ U with heap := s₂.heap, slotsUsed := s₂.slotsUsed } : State).setVm s₂.vm).setTop { g with pc := g.pc + len₂, stack := v.toList ++ g.stack } := by
      refine e3.trans ?_
      rw [hf₂, State.calling_eq h.top, State.setFrames_setFrames, State.setTop_of_frames _ hr', hr]
      rfl
    rw [← hs₂]
    exact hsteps
  · intro x hx
    subst hx
    have hf₂ : s₂.frames = .throwing x :: .java g :: U.frames.tail := hend
    have hs₂ : s₂ = ((({ U with heap := s₂.heap, slotsUsed := s₂.slotsUsed } : State).setVm s₂.vm).setTop g).pushFrame (.throwing x) := by
      refine e3.trans ?_
      rw [hf₂, State.calling_eq h.top, State.setFrames_setFrames, State.pushFrame, State.frames_setTop _ hr', State.setTop_of_frames _ hr', State.setFrames_setFrames, hr]
      rfl
    rw [← hs₂]
    exact hsteps
end BT
/-- a call that may throw: how it ends -/
def va_RunT (p : Program) (l : Launch) (e : Env) (R : Room) (s : State) (m : MethodId) (args : Array Value) (below : List Frame) (meth : Method) (c : Code) (H : Heap) (locs : List Loc) (cells slots mc ms : Nat) (g : JFrame) (rest : List Value) (Qa : State → Outcome → State → Prop) (free : Addr → Prop) : Prop :=
  ∀ T : State, T.heap = H → Stand p l e R s m args below meth c T locs cells slots → ∃ (o : Outcome) (st₀ t T' : State) (L : List Loc), st₀.heap = H ∧ Stand p l e R s m args below meth c T' (locs ++ L) (cells + mc) (slots + ms) ∧ (∀ q ∈ L, free q.base) ∧ T'.heap = t.heap ∧ T'.vm = t.vm ∧ Qa st₀ o t ∧
    (∀ v, o = .returned v → Goes p e below T g T' { g with pc := g.pc + 3, stack := v.toList ++ rest }) ∧
    (∀ x, o = .threw x → ∀ target, Steps p.tables e below ((T'.setTop { g with stack := rest }).pushFrame (.throwing x)) target → Steps p.tables e below (T.setTop g) target)
section RT
variable {p : Program} {l : Launch} {e : Env} {R : Room} {s : State} {m : MethodId} {args : Array Value} {below : List Frame} {meth : Method} {c : Code} {H : Heap} {locs : List Loc} {cells slots : Nat}
variable {y : MethodName} {bytes cc : ByteArray} {maxL nL mc ms n index : Nat} {ret : Option FieldType} {ws : List Cond} {rm : Room} {Pc : Array Value → State → Prop} {Qc : Array Value → State → Outcome → State → Prop} {free : Addr → Prop} {Ts : List Cond} {own C : String} {b : Addr} {As rest : List Value} {g : JFrame}
theorem runVT (S : CallFix p m c cc nL s args Ts own) (hM : MetT l y ws rm Pc Qc mc ms free) (cw : CallW R s args own C index y bytes maxL ret ws rm mc ms n) (hp : PreV s H C b Pc As)
    (hg : g.method = m) (hn : As.length = n) (hsize : g.locals.size = nL) (hstack : g.stack = As.reverse ++ .ref b :: rest) (hW : 2 * g.monitorRoom + (rest.map fun v => v.category).sum ≤ 8) (hdg : decode cc g.pc = .ok (.invokevirtual index, 3)) (hf : cells + mc ≤ R.cells ∧ slots + ms ≤ R.slots) :
    va_RunT p l e R s m args below meth c H locs cells slots mc ms g rest (Qc (Value.ref b :: As).toArray) free := by
  obtain ⟨⟨hrc, hrs, hfr, hlo, hws, hcw, hcode, hini, hy, hlen, hl⟩, hin, hse⟩ := cw
  obtain ⟨hx, hb, hml, ho, -⟩ := S
  obtain ⟨hbl, ⟨cellB, hcB, hoB, hclB⟩, hPc⟩ := hp
  intro T hT X
  obtain ⟨mk, methM, hnamed, hmethM, hstM, habM⟩ := Cond.instanceMethod_spec hin
  obtain ⟨methM', cM, hmethM', -, -, -, -, -, -, hsigM⟩ := Cond.code_spec hnamed hcode
  cases hmethM.symm.trans hmethM'
  obtain ⟨c2, r2, m2, q1, q2, q3, q4, kP, hkP, hkPi⟩ := Cond.selects_spec hse
  cases hclB.symm.trans q1
  cases (State.methodFound?_of_named hnamed hy).symm.trans q2
  cases hnamed.symm.trans q3
  have hselP : selectMethod e.platform s.vm cellB.cls mk = .method mk := by rw [Launch.admits_selectMethod X.admits]; exact q4
  obtain ⟨vm₁, X₁, hstep₁⟩ := X.invokevirtual hx ho hl hnamed hmethM hstM hkP hkPi hy (a := b) (cell := cellB) (by rw [hT]; exact hcB)
    (fun z h => by rw [h] at hoB; cases hoB) hselP hmethM habM hkP hkPi (g := g) hg (argsL := As) (rest := rest) (hn.trans (hlen _ hsigM)) hstack (by rw [hb]; exact hdg)
  obtain ⟨o, t, T', L, hq, hL, e1, e2, X', hret, hthr⟩ := backT_of (bytes := bytes) (maxL := maxL) (ret := ret) hM hbl hrc hrs hfr hlo hws hcw (fun a' U hW => word_at hW (Or.inl (by first | rfl | simp [Cond.onTables, Cond.keeps, Cond.steady])) hini) m meth c (T.setVm vm₁) locs cells slots { g with stack := rest } (.invokevirtual index) mk (Value.ref b :: As).toArray X₁ hg (hsize.trans hml.symm) (by rw [hb]; exact hdg) hW (X₁.named hnamed) hf.1 hf.2 (hPc (T.setVm vm₁) hT X₁.warmed)
  exact ⟨o, (T.setVm vm₁).calling { g with stack := rest } mk (Value.ref b :: As).toArray, t, T', L, hT, X', hL, e1, e2, hq, fun v hv target h => hstep₁ _ fun acts => by rw [doInvoke_state]; exact (hret v hv).trans h, fun x hx target h => hstep₁ _ fun acts => by rw [doInvoke_state]; exact (hthr x hx).trans h⟩
theorem runST (S : CallFix p m c cc nL s args Ts own) (hM : MetT l y ws rm Pc Qc mc ms free) (cw : CallB R s args own index y bytes maxL ret ws rm mc ms n ∧ (Cond.static y).before args s = true) (hp : PreS s H Pc As)
    (hg : g.method = m) (hn : As.length = n) (hsize : g.locals.size = nL) (hstack : g.stack = As.reverse ++ rest) (hW : 2 * g.monitorRoom + (rest.map fun v => v.category).sum ≤ 8) (hdg : decode cc g.pc = .ok (.invokestatic index, 3)) (hf : cells + mc ≤ R.cells ∧ slots + ms ≤ R.slots) :
    va_RunT p l e R s m args below meth c H locs cells slots mc ms g rest (Qc As.toArray) free := by
  obtain ⟨⟨hrc, hrs, hfr, hlo, hws, hcw, hcode, hini, hy, hlen, hl⟩, hstt⟩ := cw
  obtain ⟨hx, hb, hml, ho, -⟩ := S
  obtain ⟨hbl, hPc⟩ := hp
  intro T hT X
  obtain ⟨mk, hnamed⟩ := Cond.code_named hcode
  obtain ⟨methM, cM, hmethM, -, -, -, -, -, -, hsigM⟩ := Cond.code_spec hnamed hcode
  have hstatic : methM.isStatic = true := Cond.static_spec hnamed hmethM hstt
  obtain ⟨kP, hkP, -⟩ := className_of_methodNamed hnamed
  have hinitP : kP.init = .initialized := Cond.initialized_spec (findClass_of_methodNamed hnamed) hkP hini
  obtain ⟨vm₁, X₁, hstep₁⟩ := X.invokestatic hx ho hl hnamed hmethM hstatic hkP hinitP hy (g := g) hg (argsL := As) (rest := rest) (hn.trans (hlen _ hsigM)) hstack (by rw [hb]; exact hdg)
  obtain ⟨o, t, T', L, hq, hL, e1, e2, X', hret, hthr⟩ := backT_of (bytes := bytes) (maxL := maxL) (ret := ret) hM hbl hrc hrs hfr hlo hws hcw (fun a' U hW => word_at hW (Or.inl (by first | rfl | simp [Cond.onTables, Cond.keeps, Cond.steady])) hini) m meth c (T.setVm vm₁) locs cells slots { g with stack := rest } (.invokestatic index) mk As.toArray X₁ hg (hsize.trans hml.symm) (by rw [hb]; exact hdg) hW (X₁.named hnamed) hf.1 hf.2 (hPc (T.setVm vm₁) hT X₁.warmed)
  exact ⟨o, (T.setVm vm₁).calling { g with stack := rest } mk As.toArray, t, T', L, hT, X', hL, e1, e2, hq, fun v hv target h => hstep₁ _ fun acts => by rw [doInvoke_state]; exact (hret v hv).trans h, fun x hx target h => hstep₁ _ fun acts => by rw [doInvoke_state]; exact (hthr x hx).trans h⟩
theorem runSNT {host : String} (S : CallFix p m c cc nL s args Ts own) (hM : MetT l y ws rm Pc Qc mc ms free) (cw : va_CN R s args own index y host bytes maxL ret ws rm mc ms n ∧ (Cond.static y).before args s = true ∧ True) (hp : PreS s H Pc As)
    (hg : g.method = m) (hn : As.length = n) (hsize : g.locals.size = nL) (hstack : g.stack = As.reverse ++ rest) (hW : 2 * g.monitorRoom + (rest.map fun v => v.category).sum ≤ 8) (hdg : decode cc g.pc = .ok (.invokestatic index, 3)) (hf : cells + mc ≤ R.cells ∧ slots + ms ≤ R.slots) :
    va_RunT p l e R s m args below meth c H locs cells slots mc ms g rest (Qc As.toArray) free := by
  obtain ⟨⟨⟨hrc, hrs, hfr, hlo, hws, hcw⟩, hcode, hini, hy, hlen, hl⟩, hstt, -⟩ := cw
  obtain ⟨hx, hb, hml, ho, -⟩ := S
  obtain ⟨hbl, hPc⟩ := hp
  intro T hT X
  obtain ⟨mk, hnamed⟩ := Cond.code_named hcode
  obtain ⟨methM, cM, hmethM, -, -, -, -, -, -, hsigM⟩ := Cond.code_spec hnamed hcode
  have hstatic : methM.isStatic = true := Cond.static_spec hnamed hmethM hstt
  obtain ⟨kP, hkP, -⟩ := className_of_methodNamed hnamed
  have hinitP : kP.init = .initialized := Cond.initialized_spec (findClass_of_methodNamed hnamed) hkP hini
  obtain ⟨vm₁, X₁, hstep₁⟩ := X.invokestaticNest hx ho hl hnamed hmethM hstatic hkP hinitP hy (g := g) hg (argsL := As) (rest := rest) (hn.trans (hlen _ hsigM)) hstack (by rw [hb]; exact hdg)
  obtain ⟨o, t, T', L, hq, hL, e1, e2, X', hret, hthr⟩ := backT_of (bytes := bytes) (maxL := maxL) (ret := ret) hM hbl hrc hrs hfr hlo hws hcw (fun a' U hW => word_at hW (Or.inl (by first | rfl | simp [Cond.onTables, Cond.keeps, Cond.steady])) hini) m meth c (T.setVm vm₁) locs cells slots { g with stack := rest } (.invokestatic index) mk As.toArray X₁ hg (hsize.trans hml.symm) (by rw [hb]; exact hdg) hW (X₁.named hnamed) hf.1 hf.2 (hPc (T.setVm vm₁) hT X₁.warmed)
  exact ⟨o, (T.setVm vm₁).calling { g with stack := rest } mk As.toArray, t, T', L, hT, X', hL, e1, e2, hq, fun v hv target h => hstep₁ _ fun acts => by rw [doInvoke_state]; exact (hret v hv).trans h, fun x hx target h => hstep₁ _ fun acts => by rw [doInvoke_state]; exact (hthr x hx).trans h⟩
end RT
/-! the same over the abstract heap -/
def oi (o : Int32 ⊕ Nat) : Outcome := match o with
  | .inl r => .returned (some (.int r))
  | .inr x => .threw x
def ov (o : Unit ⊕ Nat) : Outcome := match o with
  | .inl _ => .returned none
  | .inr x => .threw x
def orf (o : Nat ⊕ Nat) : Outcome := match o with
  | .inl r => .returned (some (.ref r))
  | .inr x => .threw x
def xQT (D : va_G) (cA : Nat → ClassId) (A : Nat → Prop) (Zs : XZ) (o : Outcome) (X : AH) : Array Value → State → Outcome → State → Prop := fun _ st oc t => oc = o ∧ xR D cA A Zs X t.heap ∧ va_F A st t
/-- the exception table's rows by their numbers -/
theorem ht_split {lx : List ExceptionTableEntry} {hp hr : List (Nat × Nat × Nat × Nat)} {q : Nat × Nat × Nat × Nat} {pc : Nat} (ht : lx.map (fun h => (h.startPc, h.endPc, h.handlerPc, h.catchType)) = hp ++ q :: hr) (hskip : hp.all (fun z => !(decide (z.1 ≤ pc) && decide (pc < z.2.1))) = true) (hq : (decide (q.1 ≤ pc) && decide (pc < q.2.1)) = true) :
    ∃ (pre : List ExceptionTableEntry) (x : ExceptionTableEntry) (rest : List ExceptionTableEntry), lx = pre ++ x :: rest ∧ (∀ y ∈ pre, covers y pc = false) ∧ covers x pc = true ∧ x.handlerPc = q.2.2.1 ∧ x.catchType = q.2.2.2 := by
  obtain ⟨l1, l2, rfl, h1, h2⟩ := List.map_eq_append_iff.mp ht
  obtain ⟨x, l3, rfl, h3, h4⟩ := List.map_eq_cons_iff.mp h2
  refine ⟨l1, x, l3, rfl, fun y hy => ?_, ?_, by rw [← h3], by rw [← h3]⟩
  · have hm : (y.startPc, y.endPc, y.handlerPc, y.catchType) ∈ hp := by
      rw [← h1]; exact List.mem_map.mpr ⟨y, hy, rfl⟩
    have := List.all_eq_true.mp hskip _ hm
    simp at this
    simp [covers]
    omega
  · rw [← h3] at hq
    simpa [covers] using hq
section XT2
variable {p : Program} {l : Launch} {e : Env} {R : Room} {s : State} {m : MethodId} {args : Array Value} {below : List Frame} {meth : Method} {c : Code} {H : Heap} {locs : List Loc} {cells slots : Nat} {Q : State → Prop} {cc : ByteArray} {pc nL : Nat} {ls : Array Slot} {rest : List Value} {D : va_G} {cA : Nat → ClassId} {A : Nat → Prop} {Zs : XZ} {X X' : AH} {ret : Option FieldType} {own : String} {a : Nat} {mc ms mc2 ms2 : Nat} {st0 : List Value} {a1 : Array Value}
theorem xretT_i {r : Int32} (E : xE p m c cc nL s args own D cA A Zs meth (some .int)) (hc : cells ≤ mc) (hs : slots ≤ ms) (hR : xR D cA A Zs X H) (hS : va_S A s.heap H locs) (hdg : decode cc pc = .ok (.ireturn, 1)) : W p l e R s m args below meth c H locs cells slots (MQT below (xQT D cA A Zs (oi (.inl r)) X) args s mc ms A) (F0 m pc ls [.int r]) :=
  W.mono (fun t h => MQ.t (fun o t hq => by obtain ⟨⟨r1, u, h1, h2, h3⟩, h4⟩ := hq; exact ⟨by rw [h1, h2]; rfl, h3, h4⟩) h) (xret_i E hc hs hR hS hdg)
theorem xretT_v (E : xE p m c cc nL s args own D cA A Zs meth none) (hc : cells ≤ mc) (hs : slots ≤ ms) (hR : xR D cA A Zs X H) (hS : va_S A s.heap H locs) (hdg : decode cc pc = .ok (.return_, 1)) : W p l e R s m args below meth c H locs cells slots (MQT below (xQT D cA A Zs (ov (.inl ())) X) args s mc ms A) (F0 m pc ls []) :=
  W.mono (fun t h => MQ.t (fun o t hq => by obtain ⟨⟨u, h1, h2, h3⟩, h4⟩ := hq; exact ⟨h1, h3, h4⟩) h) (xret_v E hc hs hR hS hdg)
theorem xretT_r {r : Nat} {rt : FieldType} (E : xE p m c cc nL s args own D cA A Zs meth (some rt)) (hrt : (∃ n, rt = .object n) ∨ ∃ t, rt = .array t) (hc : cells ≤ mc) (hs : slots ≤ ms) (hR : xR D cA A Zs X H) (hS : va_S A s.heap H locs) (hdg : decode cc pc = .ok (.areturn, 1)) : W p l e R s m args below meth c H locs cells slots (MQT below (xQT D cA A Zs (orf (.inl r)) X) args s mc ms A) (F0 m pc ls [.ref r]) :=
  W.mono (fun t h => MQ.t (fun o t hq => by obtain ⟨⟨u, a2, h1, h2, h3, h5⟩, h4⟩ := hq; exact ⟨by rw [h1, h3]; rfl, h5, h4⟩) h) (xret_r E hrt hc hs hR hS hdg)
/-- athrow, no handler here -/
theorem xathrow {o : Outcome} (E : xE p m c cc nL s args own D cA A Zs meth ret) (hne : c.exceptionTable.toList = []) (ho : o = .threw a) (hc : cells ≤ mc) (hs : slots ≤ ms) (hR : xR D cA A Zs X H) (hS : va_S A s.heap H locs) (hdg : decode cc pc = .ok (.athrow, 1)) : W p l e R s m args below meth c H locs cells slots (MQT below (xQT D cA A Zs o X) args s mc ms A) (F0 m pc ls (.ref a :: rest)) :=
  W.athrow E.hx E.hb E.hk hne hc hs (fun t ht hW => ⟨ho.symm, by rw [ht]; exact hR, hS.F ht⟩) hS.2.2 hdg
/-- behind a call that came back -/
theorem xrunT_ret {o : Outcome} {v : Option Value} (hr : va_RunT p l e R s m args below meth c H locs cells slots mc ms (F0 m pc ls st0) rest (xQT D cA A Zs o X' a1) A) (ho : o = .returned v) (hS : va_S A s.heap H locs) (k : ∀ (H : Heap) (locs : List Loc), xR D cA A Zs X' H → va_S A s.heap H locs → W p l e R s m args below meth c H locs (cells + mc) (slots + ms) Q (F0 m (pc + 3) ls (v.toList ++ rest))) : W p l e R s m args below meth c H locs cells slots Q (F0 m pc ls st0) := by
  intro T hT Y
  obtain ⟨o', st₀, t, T', L, h0, Y', hL, e1, e2, ⟨h1, h2, hz, hk⟩, hret, -⟩ := hr T hT Y
  rw [h0] at hz hk
  obtain ⟨t2, a2, b2⟩ := k T'.heap (locs ++ L) (by rw [e1]; exact h2) ⟨Nat.le_trans hS.1 (by rw [e1]; exact hz), fun q g1 g2 => by rw [e1, hk q (Nat.lt_of_lt_of_le g1 hS.1) g2]; exact hS.2.1 q g1 g2, fun q hq => by
      rcases List.mem_append.mp hq with h | h
      · exact hS.2.2 q h
      · exact hL q h⟩ T' rfl Y'
  exact ⟨t2, hret v (h1.trans ho) t2 a2, b2⟩
/-- a call that threw, no handler here: the method ends -/
theorem xrunT_out {o o2 : Outcome} {x : Nat} (E : xE p m c cc nL s args own D cA A Zs meth ret) (hne : c.exceptionTable.toList = []) (hr : va_RunT p l e R s m args below meth c H locs cells slots mc ms (F0 m pc ls st0) rest (xQT D cA A Zs o X' a1) A) (ho : o = .threw x) (ho2 : o2 = .threw x) (hc : cells + mc ≤ mc2) (hs : slots + ms ≤ ms2) (hS : va_S A s.heap H locs) : W p l e R s m args below meth c H locs cells slots (MQT below (xQT D cA A Zs o2 X') args s mc2 ms2 A) (F0 m pc ls st0) := by
  intro T hT Y
  obtain ⟨o', st₀, t, T', L, h0, Y', hL, e1, e2, ⟨h1, h2, hz, hk⟩, -, hthr⟩ := hr T hT Y
  rw [h0] at hz hk
  have hS' : va_S A s.heap T'.heap (locs ++ L) := ⟨Nat.le_trans hS.1 (by rw [e1]; exact hz), fun q g1 g2 => by rw [e1, hk q (Nat.lt_of_lt_of_le g1 hS.1) g2]; exact hS.2.1 q g1 g2, fun q hq => by
      rcases List.mem_append.mp hq with h | h
      · exact hS.2.2 q h
      · exact hL q h⟩
  have Y2 : Stand p l e R s m args below meth c T' (locs ++ L) mc2 ms2 := stand_widen Y' hc hs
  obtain ⟨g1, g2, g3, g4, g5⟩ := Y2.leaveThrown x (g := F0 m pc ls rest) rfl rfl rfl (by rw [hne]; intro z hz; cases hz) E.hk
  exact ⟨_, hthr x (h1.trans ho) _ g1, .threw x, g2, g3, ⟨ho2.symm, by show xR _ _ _ _ _ T'.heap; rw [e1]; exact h2, by exact hS'.F rfl⟩, locs ++ L, ⟨g4, g5⟩, hS'.2.2⟩
/-- a call that threw, caught here -/
theorem xrunT_catch {o : Outcome} {x ci : Nat} {r : vw_C} {name : String} {hh hp hr' : List (Nat × Nat × Nat × Nat)} {q : Nat × Nat × Nat × Nat} (E : xE p m c cc nL s args own D cA A Zs meth ret) (ht : c.exceptionTable.toList.map (fun h => (h.startPc, h.endPc, h.handlerPc, h.catchType)) = hh) (hsp : hh = hp ++ q :: hr') (hskip : hp.all (fun z => !(decide (z.1 ≤ pc) && decide (pc < z.2.1))) = true) (hq : (decide (q.1 ≤ pc) && decide (pc < q.2.1)) = true) (h0 : q.2.2.2 ≠ 0) (hlink : Cond.classLink own q.2.2.2 name ∈ lw_all)
    (hc : xCl[ci]? = some r) (hca : va_Nw (.castable r.1 name) s) (hv : gC X' x = some ci) (hr : va_RunT p l e R s m args below meth c H locs cells slots mc ms (F0 m pc ls st0) rest (xQT D cA A Zs o X' a1) A) (ho : o = .threw x) (hS : va_S A s.heap H locs)
    (k : ∀ (H : Heap) (locs : List Loc), xR D cA A Zs X' H → va_S A s.heap H locs → W p l e R s m args below meth c H locs (cells + mc) (slots + ms) Q (F0 m q.2.2.1 ls [.ref x])) : W p l e R s m args below meth c H locs cells slots Q (F0 m pc ls st0) := by
  intro T hT Y
  obtain ⟨o', st₀, t, T', L, h0', Y', hL, e1, e2, ⟨h1, h2, hz, hk⟩, -, hthr⟩ := hr T hT Y
  rw [h0'] at hz hk
  have hS' : va_S A s.heap T'.heap (locs ++ L) := ⟨Nat.le_trans hS.1 (by rw [e1]; exact hz), fun q g1 g2 => by rw [e1, hk q (Nat.lt_of_lt_of_le g1 hS.1) g2]; exact hS.2.1 q g1 g2, fun q hq => by
      rcases List.mem_append.mp hq with h | h
      · exact hS.2.2 q h
      · exact hL q h⟩
  have hR' : xR D cA A Zs X' T'.heap := by rw [e1]; exact h2
  obtain ⟨pre, en, rst, hs1, hs2, hs3, hs4, hs5⟩ := ht_split (pc := pc) (ht.trans hsp) hskip hq
  obtain ⟨cell, hcl, hob, hfc⟩ := xrecv E hR' hc hv
  obtain ⟨c0, t1, f1, f2, f3⟩ := Cond.castable_spec (va_Nw.use (A := args) rfl hca)
  cases hfc.symm.trans f1
  obtain ⟨vm', Y3, st⟩ := stand_catch Y' (g := F0 m pc ls rest) rfl E.ho pre en rst hs1 hs2 hs3 (by rw [hs5]; exact h0) (name := name) (by rw [hs5]; exact E.ht _ hlink) (a := x) hcl hob f2 f3
  obtain ⟨t2, a2, b2⟩ := k T'.heap (locs ++ L) hR' hS' (T'.setVm vm') rfl Y3
  rw [hs4] at st
  exact ⟨t2, hthr x (h1.trans ho) _ (st t2 a2), b2⟩
/-- athrow, caught here -/
theorem xathrow_catch {x ci : Nat} {r : vw_C} {name : String} {hh hp hr' : List (Nat × Nat × Nat × Nat)} {q : Nat × Nat × Nat × Nat} (E : xE p m c cc nL s args own D cA A Zs meth ret) (ht : c.exceptionTable.toList.map (fun h => (h.startPc, h.endPc, h.handlerPc, h.catchType)) = hh) (hsp : hh = hp ++ q :: hr') (hskip : hp.all (fun z => !(decide (z.1 ≤ pc) && decide (pc < z.2.1))) = true) (hq : (decide (q.1 ≤ pc) && decide (pc < q.2.1)) = true) (h0 : q.2.2.2 ≠ 0) (hlink : Cond.classLink own q.2.2.2 name ∈ lw_all)
    (hc : xCl[ci]? = some r) (hca : va_Nw (.castable r.1 name) s) (hv : gC X x = some ci) (hR : xR D cA A Zs X H) (hdg : decode cc pc = .ok (.athrow, 1))
    (k : W p l e R s m args below meth c H locs cells slots Q (F0 m q.2.2.1 ls [.ref x])) : W p l e R s m args below meth c H locs cells slots Q (F0 m pc ls (.ref x :: rest)) := by
  intro T hT Y
  obtain ⟨pre, en, rst, hs1, hs2, hs3, hs4, hs5⟩ := ht_split (pc := pc) (ht.trans hsp) hskip hq
  obtain ⟨cell, hcl, hob, hfc⟩ := xrecv E hR hc hv
  obtain ⟨c0, t1, f1, f2, f3⟩ := Cond.castable_spec (va_Nw.use (A := args) rfl hca)
  cases hfc.symm.trans f1
  obtain ⟨vm', Y3, st⟩ := stand_catch Y (g := F0 m pc ls rest) rfl E.ho pre en rst hs1 hs2 hs3 (by rw [hs5]; exact h0) (name := name) (by rw [hs5]; exact E.ht _ hlink) (a := x) (by rw [hT]; exact hcl) hob f2 f3
  obtain ⟨t2, a2, b2⟩ := k (T.setVm vm') hT Y3
  rw [hs4] at st
  refine ⟨t2, ?_, b2⟩
  have hx := E.hx
  have hb := E.hb
  jvm_step Y.here [Y.here.top, hx, hb, hdg, Op.athrow.wp_sem]
  exact st t2 a2
theorem xrunT_i {r : Int32} (hr : va_RunT p l e R s m args below meth c H locs cells slots mc ms (F0 m pc ls st0) rest (xQT D cA A Zs (oi (.inl r)) X' a1) A) (hS : va_S A s.heap H locs) (k : ∀ (H : Heap) (locs : List Loc), xR D cA A Zs X' H → va_S A s.heap H locs → W p l e R s m args below meth c H locs (cells + mc) (slots + ms) Q (F0 m (pc + 3) ls (.int r :: rest))) : W p l e R s m args below meth c H locs cells slots Q (F0 m pc ls st0) := xrunT_ret (v := some (.int r)) hr rfl hS k
theorem xrunT_r {r : Nat} (hr : va_RunT p l e R s m args below meth c H locs cells slots mc ms (F0 m pc ls st0) rest (xQT D cA A Zs (orf (.inl r)) X' a1) A) (hS : va_S A s.heap H locs) (k : ∀ (H : Heap) (locs : List Loc), xR D cA A Zs X' H → va_S A s.heap H locs → W p l e R s m args below meth c H locs (cells + mc) (slots + ms) Q (F0 m (pc + 3) ls (.ref r :: rest))) : W p l e R s m args below meth c H locs cells slots Q (F0 m pc ls st0) := xrunT_ret (v := some (.ref r)) hr rfl hS k
theorem xrunT_v {u : Unit} (hr : va_RunT p l e R s m args below meth c H locs cells slots mc ms (F0 m pc ls st0) rest (xQT D cA A Zs (ov (.inl u)) X' a1) A) (hS : va_S A s.heap H locs) (k : ∀ (H : Heap) (locs : List Loc), xR D cA A Zs X' H → va_S A s.heap H locs → W p l e R s m args below meth c H locs (cells + mc) (slots + ms) Q (F0 m (pc + 3) ls rest)) : W p l e R s m args below meth c H locs cells slots Q (F0 m pc ls st0) := xrunT_ret (v := none) hr rfl hS k
end XT2
