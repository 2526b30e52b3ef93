/-! super.m(..) whose method is an interface's default one -/
section SD
variable {p : Program} {l : Launch} {e : Env} {R : Room} {s : State} {m : MethodId} {args : Array Value} {below : List Frame} {meth : Method} {c : Code}
theorem stand_superD {T : State} {locs : List Loc} {cells slots : Nat} (X : Stand p l e R s m args below meth c T locs cells slots) (hexec : p.tables.exec = Jvm.exec)
    {own owner : String} {index : Nat} {x : MethodName} (hown : s.vm.findClass own = some m.cls) (hlink : (Cond.methodLink own index x).before args s = true)
    (hsame : (Cond.sameMethod x.cls owner x.name x.desc).before args s = true)
    {r0 : MethodId} {r : Method} (hn : s.methodNamed? ⟨owner, x.name, x.desc⟩ = some r0) (hrm : s.vm.method? r0 = some r) (hstatic : r.isStatic = false) (habs : r.isAbstract = false) (hnoinit : x.name ≠ "<init>")
    {dk : Class} {cn : ClassId} (hd : s.vm.classes[m.cls]? = some dk) (hnid : dk.isInterface = false) (hcn : s.vm.findClass x.cls = some cn) (hsuper : dk.super = some cn) (hfound : lookupSpecial s.vm cn x.name x.desc = .method r0)
    {a : Addr} {cell : Cell} {kcell : Class} (hcell : T.heap[a]? = some cell) (hobj : ∀ c, cell.vm ≠ .statics c) (hkcell : s.vm.classes[cell.cls]? = some kcell)
    {g : JFrame} (hg : g.method = m) {argsL rest : List Value} (hlen : argsL.length = r.sig.parameters.length) (hstack : g.stack = argsL.reverse ++ .ref a :: rest)
    (hdg : decode c.code g.pc = .ok (.invokespecial index, 3)) :
    ∃ vm', Stand p l e R s m args below meth c (T.setVm vm') locs cells slots ∧
      ∀ target, Steps p.tables e below (doInvoke e ((T.setVm vm').setTop { g with stack := rest }) [] r0 (.ref a :: argsL).toArray).1 target → Steps p.tables e below (T.setTop g) target := by
  obtain ⟨c2, ck, r1, hc2, hck, hni, hf, hr1⟩ := Cond.sameMethod_found hsame
  cases hn.symm.trans hr1
  cases hcn.symm.trans hc2
  obtain ⟨ci, hl, hright⟩ := Cond.methodLink_specUp hown hcn hck hni hf hlink e.platform (by rw [X.admits.platform]) (by rw [X.admits.platform])
  obtain ⟨kr, hkr, -⟩ := className_of_methodNamed hn
  obtain ⟨hrn, hrd⟩ := name_of_methodNamed hn hrm
  obtain ⟨dk₀, cfile, nt, _, _, ck₀, _, _, hd₀, hcf, hcp, -, -, -, hc₀, -⟩ := hl.here
  cases hd.symm.trans hd₀
  cases hck.symm.trans hc₀
  subst hg
  obtain ⟨vm', hW', st⟩ := Steps.invokeSuperColdArgs (tb := p.tables) (e := e) (s₀ := s) (U := T) (f := g) (args := argsL) (rest := rest) (a := a) (cell := cell) (m := r0) X.here hexec hdg X.warmed hl hright hd hcf hcp hrm hck
    (by rw [hrn]; simp [hnoinit]) hstatic (by rw [hrn, hrd, hsuper]; simpa using hfound) hnid hkr habs hlen hstack hcell hobj hkcell
  exact ⟨vm', X.noted hW', st⟩
end SD
/-- what ask wants beside xK: the links to Chair.mark, which is Marked's default method -/
def mkC : MethodName := ⟨"ChairRanks$Chair", "mark", "(LChairRanks$Trail;LChairRanks$Ministry;)I"⟩
def mkM : MethodName := ⟨"ChairRanks$Marked", "mark", "(LChairRanks$Trail;LChairRanks$Ministry;)I"⟩
def xM (U : State) : Prop := (∀ w ∈ defaultWords_1, w.before #[] U = true) ∧ ∃ cn r0, U.vm.findClass "ChairRanks$Chair" = some cn ∧ U.methodNamed? mkM = some r0 ∧ lookupSpecial U.vm cn mkC.name mkC.desc = .method r0
