/-! a failing checkcast over the abstract heap, caught -/
theorem xR.sk {D : va_G} {cA : Nat → ClassId} {A : Nat → Prop} {Zs : XZ} {X : AH} {H H1 : Heap} (h : xR D cA A Zs X H) (z : H1.size = H.size + 3) (o : ∀ q : Nat, q < H.size → H1[q]? = H[q]?) : xR D cA A Zs (xsk X) H1 := by
  refine ⟨by rw [z, h.1]; rfl, h.2.1, h.2.2.1, h.2.2.2.1, h.2.2.2.2.1, fun q hq => h.2.2.2.2.2.1 q (Nat.le_trans (Nat.le_add_right _ 3) hq), fun b e' hb => ?_⟩
  obtain ⟨h1, h2⟩ := h.2.2.2.2.2.2 b e' hb
  exact ⟨h1.kept (o b h1.lt), h2⟩
theorem va_Z.isRef {C n d : String} {v : Option Nat} {A : Nat → Prop} {U : State} {args : Array Value} (h : va_Z C n d (va_rf v) A U U.heap) : (Cond.isRef (.static C n d)).before args U = true := by
  obtain ⟨cf, kf, fi, f, a, cell, h1, h2, h3, h4, h5, h6, h7, h8⟩ := h
  have he : (Term.static C n d).eval args U none [] U = some (va_rf v) := by
    simp [Term.eval, State.fieldNamed?, h1, h2, h4, h5, h6, h7]
  show (Cond.isRef (.static C n d)).holds args U none U [] = true
  simp only [Cond.holds, Cond.value, he]
  cases v <;> rfl
section XV
variable {p : Program} {l : Launch} {e : Env} {R : Room} {s : State} {m : MethodId} {args : Array Value} {below : List Frame} {meth : Method} {c : Code} {H : Heap} {locs : List Loc} {cells slots : Nat} {Q : State → Prop} {cc : ByteArray} {pc nL : Nat} {ls : Array Slot} {rest : List Value} {D : va_G} {cA : Nat → ClassId} {A : Nat → Prop} {Zs : XZ} {X X' : AH} {ret : Option FieldType} {own : String} {a ci index : Nat}
theorem vm_words {cls : String} {names : List String} (E : xE p m c cc nL s args own D cA A Zs meth ret) (F : xX A s) (hR : xR D cA A Zs X H) (hk : (Bundle.messageArmAtoms cls names).all (fun w => (decide (w ∈ lw_tbl) && goodWord w) || decide (w ∈ vmEx cls) || isDecl w) = true) (hcc : (cls, cls) ∈ xCast) : ∀ w ∈ Bundle.messageArmAtoms cls names, w.before args s = true := by
  intro w hw
  have h1 := List.all_eq_true.mp hk w hw
  simp only [Bool.or_eq_true, Bool.and_eq_true, decide_eq_true_eq] at h1
  rcases h1 with (⟨h1, h2⟩ | h1) | h1
  · exact E.ht w (lw_g h1 h2)
  · have hz := E.2.1.2.2.2.2.2.2.2.1
    simp only [vmEx, List.mem_cons, List.not_mem_nil, or_false] at h1
    rcases h1 with rfl | rfl | rfl | rfl | rfl
    · exact va_Nw.use rfl (E.2.1.2.1 (cls, cls) hcc)
    · exact (F.1 ("UNASSIGNED_STACK", "[Ljava/lang/StackTraceElement;") (by decide +kernel)).use
    · exact (F.1 ("SUPPRESSED_SENTINEL", "Ljava/util/List;") (by decide +kernel)).use
    · exact (hz _ hR.2.2.1).isRef
    · exact (hz _ hR.2.2.2.1).isRef
  · unfold isDecl at h1
    split at h1
    · rename_i x
      have h1 : x ∈ xDecl := by simpa using h1
      exact va_Nw.use rfl (E.2.1.2.2.1 x h1)
    · cases h1
/-- the statics of Throwable are as at the start -/
theorem vm_statics (E : xE p m c cc nL s args own D cA A Zs meth ret) (F : xX A s) (hS : va_S A s.heap H locs) (ct : ClassId) (k : Class) (a : Nat) (cell : Cell) (h1 : s.vm.findClass "java/lang/Throwable" = some ct) (h2 : s.vm.classes[ct]? = some k) (h3 : k.statics = some a) (h4 : s.heap[a]? = some cell) : H[a]? = some cell := by
  obtain ⟨c', k', i, f, a', cell', q1, q2, q3, q4, q5, q6, q7, q8, q9, q10⟩ := F.1 ("UNASSIGNED_STACK", "[Ljava/lang/StackTraceElement;") (by decide +kernel)
  cases h1.symm.trans q1
  cases h2.symm.trans (State.fieldFound?_spec q2).1
  cases h3.symm.trans q4
  rw [hS.2.1 a (Array.getElem?_eq_some_iff.mp h4).1 q10]; exact h4
/-- the note over the frame is caught here -/
theorem xvm {cls : String} {names : List String} {text name : String} {hh hp hr' : List (Nat × Nat × Nat × Nat)} {q : Nat × Nat × Nat × Nat} {st1 : List Value} (E : xE p m c cc nL s args own D cA A Zs meth ret) (hfl : l.flags = flags0) (F : xX A s)
    (ht : c.exceptionTable.toList.map (fun h => (h.startPc, h.endPc, h.handlerPc, h.catchType)) = hh) (hsp : hh = hp ++ q :: hr') (hskip : hp.all (fun z => !(decide (z.1 ≤ pc) && decide (pc < z.2.1))) = true) (hq : (decide (q.1 ≤ pc) && decide (pc < q.2.1)) = true) (h0 : q.2.2.2 ≠ 0) (hlinkH : Cond.classLink own q.2.2.2 name ∈ lw_all)
    (hk : (Bundle.messageArmAtoms cls names).all (fun w => (decide (w ∈ lw_tbl) && goodWord w) || decide (w ∈ vmEx cls) || isDecl w) = true) (hcc : (cls, cls) ∈ xCast) (hcn : (cls, name) ∈ xCast) (hcls : Bundle.fit cls = true ∧ (∀ n ∈ names, Bundle.fit n = true) ∧ (cls == "java/lang/StackOverflowError") = false ∧ (cls == "java/lang/OutOfMemoryError") = false)
    (hR : xR D cA A Zs X H) (hS : va_S A s.heap H locs) (hsz : ls.size = nL) (htext : text.toList.length ≤ 300 ∧ (text == notModelled) = false)
    (hfr : names.length + 4 < R.frames) (hlo : (st1.map fun v => v.category).sum + 10240 ≤ R.locals) (hsh : 13 * names.length + 55 ≤ 10240) (hce : cells + 3 ≤ R.cells) (hsl : slots + 1210 ≤ R.slots)
    (k : ∀ (H : Heap) (locs : List Loc), xR D cA A Zs (xsk X) H → va_S A s.heap H locs → W p l e R s m args below meth c H locs (cells + 3) (slots + 1210) Q (F0 m q.2.2.1 ls [.ref (X.1 + 2)])) :
    ∀ T : State, T.heap = H → Stand p l e R s m args below meth c T locs cells slots → ∃ t, Steps p.tables e below ((T.setTop (F0 m pc ls st1)).pushFrame (.throwNew cls (some text) none)) t ∧ Q t := by
  intro T hT Y
  have hb1 := stringBytes_size_le (stringToUtf16 text)
  have hb2 := utf16_size_le text
  obtain ⟨T', L, Y', hL, hz, hkeep, ⟨ce, hce1, hce2, hce3⟩, st⟩ := stand_vm Y E.hx (no_traces Y.admits hfl) (cls := cls) (names := names) (text := text) (N := 1200) hcls.1 hcls.2.1 hcls.2.2.1 hcls.2.2.2 (vm_words E F hR hk hcc)
    (by rw [hT]; exact vm_statics E F hS) htext.2 (by omega) (by rw [Y.admits.platform]; exact Nat.le_of_ble_eq_true rfl) (by rw [Y.admits.platform]; exact Nat.le_of_ble_eq_true rfl) (g := F0 m pc ls st1) rfl (by rw [E.1.2.2.1]; exact hsz) hfr (by
      have : 2 * (F0 m pc ls st1).monitorRoom = 0 := rfl
      rw [this, Nat.zero_add]; exact hlo) hsh hce hsl
  have hX1 : T.heap.size = X.1 := by rw [hT]; exact hR.1
  rw [hX1] at hL hce1 st hz
  have hR' : xR D cA A Zs (xsk X) T'.heap := hR.sk (by rw [hz, hR.1]) (fun q hq => by rw [hkeep q (by rw [hT]; exact hq), hT])
  have hS' : va_S A s.heap T'.heap (locs ++ L) := ⟨Nat.le_trans hS.1 (by rw [hz, hR.1]; omega), fun q g1 g2 => by rw [hkeep q (by rw [hT]; exact Nat.lt_of_lt_of_le g1 hS.1), hT]; exact hS.2.1 q g1 g2, fun y hy => by
      rcases List.mem_append.mp hy with h | h
      · exact hS.2.2 y h
      · rw [hL y h]; exact hR.2.2.2.2.2.1 _ (by omega)⟩
  obtain ⟨pre, en, rst, hs1, hs2, hs3, hs4, hs5⟩ := ht_split (pc := pc) (ht.trans hsp) hskip hq
  obtain ⟨c0, t1, f1, f2, f3⟩ := Cond.castable_spec (va_Nw.use (A := args) rfl (E.2.1.2.1 (cls, name) hcn))
  cases hce2.symm.trans f1
  obtain ⟨vm', Y3, st3⟩ := stand_catch Y' (g := F0 m pc ls st1) rfl E.ho pre en rst hs1 hs2 hs3 (by rw [hs5]; exact h0) (name := name) (by rw [hs5]; exact E.ht _ hlinkH) (a := X.1 + 2) hce1 hce3 f2 f3
  obtain ⟨t2, a2, b2⟩ := k T'.heap (locs ++ L) hR' hS' (T'.setVm vm') rfl Y3
  rw [hs4] at st3
  exact ⟨t2, st _ (st3 t2 a2), b2⟩
end XV
