/-! a callee whose class isn't said to be initialised: its body is walked in place -/
theorem Steps.wk {tb : Tables} {e : Env} {mid below : List Frame} {s t : State} (h : Steps tb e (mid ++ below) s t) : Steps tb e below s t := by
  obtain ⟨n, h1, h2⟩ := h
  exact ⟨n, h1, fun k hk => (h2 k hk).weaken⟩
section CD
variable {p : Program} {l : Launch} {e : Env} {R : Room} {s : State} {m : MethodId} {args : Array Value} {below : List Frame} {meth : Method} {c : Code} {U : State} {Ls : List Loc} {c0 s0 : Nat}
theorem callD (X : Stand p l e R s m args below meth c U Ls c0 s0) {y : MethodName} {mk : MethodId} {methY : Method} {cY : Code} (hn : U.methodNamed? y = some mk) (hy : plainName y.cls = true) (hmY : U.vm.method? mk = some methY) (hcY : methY.code = some cY) (hlk : methY.locks = false) {g : JFrame} (hg : g.method = m) (hsize : g.locals.size = c.maxLocals) {ig : Instr} {len : Nat} (hdg : decode c.code g.pc = .ok (ig, len)) {rm : Room} {a : Array Value} {Qc : Array Value → State → Outcome → State → Prop} {mc ms : Nat} {free : Addr → Prop}
    (hfr : rm.frames + 1 ≤ R.frames) (hlo : 2 * g.monitorRoom + (g.stack.map fun v => v.category).sum + (cY.maxLocals + 11) + rm.locals ≤ R.locals) (hce : c0 + rm.cells ≤ R.cells) (hsl : s0 + rm.slots ≤ R.slots)
    (body : ∀ T1 : State, Stand p l e rm (U.calling g mk a) mk a (.java g :: U.frames.tail) methY cY T1 [] 0 0 → T1.heap = U.heap → ∃ t, Steps p.tables e (.java g :: U.frames.tail) (T1.setTop (entryFrame mk a cY.maxLocals)) t ∧ MQ (.java g :: U.frames.tail) Qc a (U.calling g mk a) mc ms free t) :
    ∃ (v : Option Value) (t T' : State) (L : List Loc), Stand p l e R s m args below meth c T' (Ls ++ L) (c0 + mc) (s0 + ms) ∧ (∀ q ∈ L, free q.base) ∧ T'.heap = t.heap ∧ T'.vm = t.vm ∧ Qc a (U.calling g mk a) (.returned v) t ∧ Steps p.tables e below (doInvoke e (U.setTop g) [] mk a).1 (T'.setTop { g with pc := g.pc + len, stack := v.toList ++ g.stack }) := by
  have h : At U g.method c below := by rw [hg]; exact X.here
  have hf : (U.calling g mk a).frames = .invoking mk a :: .java g :: U.frames.tail := State.frames_calling h.top g mk a
  have hcur := State.cur_lt_of_frames hf
  have hroom := X.room_calling (g := g) (args' := a) (R' := rm) hsize hmY hcY hfr hlo hce hsl
  have hmY' : (U.calling g mk a).vm.method? mk = some methY := hmY
  have hn' : (U.calling g mk a).methodNamed? y = some mk := hn
  have hf1 : ((U.calling g mk a).setFrames (.java (entryFrame mk a cY.maxLocals) :: .java g :: U.frames.tail)).frames = .java (entryFrame mk a cY.maxLocals) :: .java g :: U.frames.tail := State.frames_setFrames _ hcur
  have ht1 := State.topJava?_of_frames hf1
  have hcode : (U.calling g mk a).code? g.method = some c := by
    have := h.code
    rw [State.code?_eq] at this ⊢
    simpa [State.calling, State.pushFrame, State.setFrames] using this
  have hplain : ((U.calling g mk a).setFrames (.java (entryFrame mk a cY.maxLocals) :: .java g :: U.frames.tail)).plainMethod mk := State.plainMethod.of_named (s := U.calling g mk a) (plainFor_of_name hy) hn' hmY'
  have hAt : At ((U.calling g mk a).setFrames (.java (entryFrame mk a cY.maxLocals) :: .java g :: U.frames.tail)) mk cY (.java g :: U.frames.tail) :=
    ⟨by rw [ht1]; rfl, ⟨[], by rw [hf1]; rfl⟩, h.running, by simpa [State.calling] using h.runnable, by simpa [State.calling] using h.alone, by rw [State.code?_eq]; simp [State.setFrames, State.calling, State.pushFrame, hmY, hcY], hplain⟩
  obtain ⟨tt, htt, -⟩ := State.frames_cons hf
  have S1 : Stand p l e rm (U.calling g mk a) mk a (.java g :: U.frames.tail) methY cY ((U.calling g mk a).setFrames (.java (entryFrame mk a cY.maxLocals) :: .java g :: U.frames.tail)) [] 0 0 :=
    ⟨X.admits, X.cas, X.clock, hf, hroom, by simp [State.hears, hcode, hdg, Except.toOption], hmY', hcY, hAt, by rw [hf1]; rfl, State.WarmedH.refl _, by rw [State.stackLimits_setFrames], by rw [State.stackBytes_setFrames], (State.sameButNew.refl _ htt).setFrames _ hcur⟩
  obtain ⟨t, hst, o, hr, hend, hq, L, hF, hL⟩ := body _ S1 rfl
  have hinv : (doInvoke e (U.setTop g) [] mk a).1 = ((U.calling g mk a).setFrames (.java (entryFrame mk a cY.maxLocals) :: .java g :: U.frames.tail)).setTop (entryFrame mk a cY.maxLocals) := by
    have hfull := X.notFull (g := g) hsize (vars := cY.maxLocals) (by omega) (by omega)
    rw [(doInvoke_java (s := U.setTop g) (e := e) (meth := methY) (code := cY) hmY hcY hlk hfull).1, State.setTop_self ht1, State.calling_eq h.top, State.setFrames_setFrames]
    obtain ⟨g₀, hg0⟩ := Option.isSome_iff_exists.mp h.top
    obtain ⟨r, hr⟩ := State.topJava?_eq_some.mp hg0
    rw [State.pushFrame, State.frames_setTop _ hr, State.setTop_of_frames _ hr, State.setFrames_setFrames, hr]
    rfl
  obtain ⟨⟨v, rfl⟩, hW₂, e2, q2, q3, q4, q5, q6⟩ := id hF
  have e3 : t = ({ (U.calling g mk a).setFrames t.frames with heap := t.heap, slotsUsed := t.slotsUsed } : State).setVm t.vm := by
    have : t = ({ t with vm := (U.calling g mk a).vm } : State).setVm t.vm := rfl
    rw [e2] at this
    exact this
  obtain ⟨c₂, i₂, len₂, hc₂, hd₂, hf₂⟩ := hend
  have hW' : U.WarmedH t.vm := hW₂
  have hcc : c₂ = c := by
    have h1 : t.code? g.method = U.code? g.method := by rw [State.code?_eq, State.code?_eq, hW'.alike.method?]
    exact Option.some.inj (hc₂.symm.trans (h1.trans h.code))
  subst hcc
  have hlen : len₂ = len := by rw [hdg] at hd₂; cases hd₂; rfl
  subst hlen
  obtain ⟨g₀, hg0⟩ := Option.isSome_iff_exists.mp h.top
  obtain ⟨r, hr'⟩ := State.topJava?_eq_some.mp hg0
  have hs₂ : t = (({ U with heap := t.heap, slotsUsed := t.slotsUsed } : State).setVm t.vm).setTop { g with pc := g.pc + len₂, stack := v.toList ++ g.stack } := by
    have hr2 : (({ U with heap := t.heap, slotsUsed := t.slotsUsed } : State).setVm t.vm).frames = .java g₀ :: r := hr'
    refine e3.trans ?_
    rw [hf₂, State.calling_eq h.top, State.setFrames_setFrames, State.setTop_of_frames _ hr2, hr']
    rfl
  have hsame : U.sameButNew ({ U with heap := t.heap, slotsUsed := t.slotsUsed } : State) L mc ms := by
    refine ⟨?_, q2, q3, q4, q5, q6⟩
    obtain ⟨u, hu, -⟩ := State.frames_cons hr'
    show ({ U with heap := t.heap, slotsUsed := t.slotsUsed } : State) = { U.setFrames U.frames with heap := t.heap, slotsUsed := t.slotsUsed }
    rw [State.setFrames_self hu]
  subst hg
  refine ⟨v, t, ({ U with heap := t.heap, slotsUsed := t.slotsUsed } : State).setVm t.vm, L, ⟨X.admits, X.cas, X.clock, X.frames, X.room, X.hears, X.method, X.code, (X.here.setHeapUsed t.heap t.slotsUsed).setVm hW'.alike, X.tail, State.WarmedH.trans X.warmed hW', X.limits, X.bytes, X.same.trans (hsame.setVm s.vm)⟩, hL, rfl, rfl, hq, ?_⟩
  rw [← hs₂, hinv]
  refine Steps.wk (mid := [.java g]) ?_
  have hb : ([.java g] ++ below : List Frame) = .java g :: U.frames.tail := by rw [X.tail]; rfl
  rw [hb]
  exact hst
end CD
