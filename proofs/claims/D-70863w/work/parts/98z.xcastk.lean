/-! checkcast to a kind of chair: it comes through, or it's caught -/
def casts (ci K : Nat) : Bool := ci == K || (K == 4 && (ci == 5 || ci == 6)) || (K == 7 && ci == 8)
theorem castSelf {C : String} {c : ClassId} {U : State} (h : U.vm.findClass C = some c) : va_Nw (.castable C C) U := by
  show (Cond.castable C C).holds #[] U none U [] = true
  simp only [Cond.holds, Cond.value, h, Jvm.Free.SB.assignable_self]; rfl
theorem ord_op {C : String} {n : Nat} {c : ClassId} {k : Class} {args : Array Value} {s : State} (h : (Cond.instantiable C n).before args s = true) (hc : s.vm.findClass C = some c) (hk : s.vm.classes[c]? = some k) : k.ofPrimitives = false := by
  obtain ⟨c', k', h1, h2, h3, -⟩ := Cond.instantiable_spec h
  cases hc.symm.trans h1
  cases hk.symm.trans h2
  unfold Class.ofPrimitives
  rw [h3]
section XCK
variable {p : Program} {l : Launch} {e : Env} {R : Room} {s : State} {m : MethodId} {args : Array Value} {below : List Frame} {meth : Method} {c : Code} {H : Heap} {locs : List Loc} {cells slots : Nat} {Q : State → Prop} {cc : ByteArray} {pc nL : Nat} {ls : Array Slot} {rest : List Value} {D : va_G} {cA : Nat → ClassId} {A : Nat → Prop} {Zs : XZ} {X X' : AH} {ret : Option FieldType} {own : String} {a ci index : Nat} {hh hp hr' : List (Nat × Nat × Nat × Nat)} {q : Nat × Nat × Nat × Nat}
theorem xcastF {r : vw_C} {C : String} {nS nT : Nat} (E : xE p m c cc nL s args own D cA A Zs meth ret) (hfl : l.flags = flags0) (F : xX A s)
    (ht : c.exceptionTable.toList.map (fun h => (h.startPc, h.endPc, h.handlerPc, h.catchType)) = hh) (hsp : hh = hp ++ q :: hr') (hskip : hp.all (fun z => !(decide (z.1 ≤ pc) && decide (pc < z.2.1))) = true) (hq : (decide (q.1 ≤ pc) && decide (pc < q.2.1)) = true) (h0 : q.2.2.2 ≠ 0) (hlinkH : Cond.classLink own q.2.2.2 "java/lang/ClassCastException" ∈ lw_all)
    (hR : xR D cA A Zs X H) (hS : va_S A s.heap H locs) (hsz : ls.size = nL) (hc : xCl[ci]? = some r) (hv : gC X a = some ci) (hnc : (r.1, C) ∈ xNot) (hiS : Cond.instantiable r.1 nS ∈ lw_all) (hiT : Cond.instantiable C nT ∈ lw_all) (n1 : (dotted r.1).toList.length ≤ 24 ∧ packageOf r.1 = "") (n2 : (dotted C).toList.length ≤ 24 ∧ packageOf C = "") (hlink : Cond.classLink own index C ∈ lw_all) (hdg : decode cc pc = .ok (.checkcast index, 3))
    (hfr : 6 < R.frames) (hlo : ((.ref a :: rest : List Value).map fun v => v.category).sum + 10240 ≤ R.locals) (hce : cells + 3 ≤ R.cells) (hsl : slots + 1210 ≤ R.slots)
    (k : ∀ (H : Heap) (locs : List Loc), xR D cA A Zs (xsk X) H → va_S A s.heap H locs → W p l e R s m args below meth c H locs (cells + 3) (slots + 1210) Q (F0 m q.2.2.1 ls [.ref (X.1 + 2)])) : W p l e R s m args below meth c H locs cells slots Q (F0 m pc ls (.ref a :: rest)) := by
  intro T hT Y
  obtain ⟨cell, g1, g2, g3⟩ := xrecv E hR hc hv
  obtain ⟨c1, t1, f1, f2, f3⟩ := F.2.1 _ hnc
  cases g3.symm.trans f1
  obtain ⟨vm', text, Y2, x1, x2, st⟩ := stand_castNo Y E.hx E.ho (E.ht _ hlink) (a := a) (by rw [hT]; exact g1) g2 g3 f2 f3 F.2.2 n1 n2 (fun k hk => by
    rcases hk with hk | hk
    · exact ord_op (E.ht _ hiS) g3 hk
    · exact ord_op (E.ht _ hiT) f2 hk) (g := F0 m pc ls (.ref a :: rest)) rfl rfl (by rw [E.hb]; exact hdg)
  obtain ⟨t, a1, b1⟩ := xvm (cls := "java/lang/ClassCastException") (names := cN) (st1 := .ref a :: rest) E hfl F ht hsp hskip hq h0 hlinkH cN_ok (by decide +kernel) (by decide +kernel) ⟨by decide +kernel, by decide +kernel, by decide +kernel, by decide +kernel⟩ hR hS hsz ⟨x1, x2⟩ hfr hlo (by decide) hce hsl k (T.setVm vm') hT Y2
  exact ⟨t, st t a1, b1⟩
theorem nmC : ∀ n ∈ ["ChairRanks$Plain", "ChairRanks$Rocker", "ChairRanks$Cushioned", "ChairRanks$Oak", "ChairRanks$Throne"], (dotted n).toList.length ≤ 24 ∧ packageOf n = "" := by decide +kernel
theorem xcastK {v K : Nat} {r : vw_C} (E : xE p m c cc nL s args own D cA A Zs meth ret) (hfl : l.flags = flags0) (F : xX A s)
    (ht : c.exceptionTable.toList.map (fun h => (h.startPc, h.endPc, h.handlerPc, h.catchType)) = hh) (hsp : hh = hp ++ q :: hr') (hskip : hp.all (fun z => !(decide (z.1 ≤ pc) && decide (pc < z.2.1))) = true) (hq : (decide (q.1 ≤ pc) && decide (pc < q.2.1)) = true) (h0 : q.2.2.2 ≠ 0) (hlinkH : Cond.classLink own q.2.2.2 "java/lang/ClassCastException" ∈ lw_all)
    (hR : xR D cA A Zs X H) (hS : va_S A s.heap H locs) (hsz : ls.size = nL) (hK : 4 ≤ K ∧ K ≤ 8) (hr : xCl[K]? = some r) (h : gCh X a = some v) (hlink : Cond.classLink own index r.1 ∈ lw_all) (hdg : decode cc pc = .ok (.checkcast index, 3))
    (hfr : 6 < R.frames) (hlo : ((.ref a :: rest : List Value).map fun v => v.category).sum + 10240 ≤ R.locals) (hce : cells + 3 ≤ R.cells) (hsl : slots + 1210 ≤ R.slots)
    (ky : casts v K = true → W p l e R s m args below meth c H locs cells slots Q (F0 m (pc + 3) ls (.ref a :: rest)))
    (kn : ¬ casts v K = true → ∀ (H : Heap) (locs : List Loc), xR D cA A Zs (xsk X) H → va_S A s.heap H locs → W p l e R s m args below meth c H locs (cells + 3) (slots + 1210) Q (F0 m q.2.2.1 ls [.ref (X.1 + 2)])) : W p l e R s m args below meth c H locs cells slots Q (F0 m pc ls (.ref a :: rest)) := by
  obtain ⟨h1, hc⟩ := gCh_e h
  rcases (show K = 4 ∨ K = 5 ∨ K = 6 ∨ K = 7 ∨ K = 8 by omega) with rfl | rfl | rfl | rfl | rfl <;> cases hr <;> rcases hc with rfl | rfl | rfl | rfl | rfl
  · exact va_castY (C := "ChairRanks$Plain") E.hx E.hb E.ho (E.ht _ hlink) (castSelf (xrecv E hR (ci := 4) rfl h1).choose_spec.2.2) (xrecv E hR (ci := 4) rfl h1) hdg (ky (by decide))
  · exact va_castY (C := "ChairRanks$Rocker") E.hx E.hb E.ho (E.ht _ hlink) (E.2.1.2.1 ("ChairRanks$Rocker", "ChairRanks$Plain") (by decide +kernel)) (xrecv E hR (ci := 5) rfl h1) hdg (ky (by decide))
  · exact va_castY (C := "ChairRanks$Cushioned") E.hx E.hb E.ho (E.ht _ hlink) (E.2.1.2.1 ("ChairRanks$Cushioned", "ChairRanks$Plain") (by decide +kernel)) (xrecv E hR (ci := 6) rfl h1) hdg (ky (by decide))
  · exact xcastF (ci := 7) (C := "ChairRanks$Plain") E hfl F ht hsp hskip hq h0 hlinkH hR hS hsz rfl h1 (by decide +kernel) q254 q225 (nmC _ (by decide)) (nmC _ (by decide)) hlink hdg hfr hlo hce hsl (kn (by decide))
  · exact xcastF (ci := 8) (C := "ChairRanks$Plain") E hfl F ht hsp hskip hq h0 hlinkH hR hS hsz rfl h1 (by decide +kernel) q262 q225 (nmC _ (by decide)) (nmC _ (by decide)) hlink hdg hfr hlo hce hsl (kn (by decide))
  · exact xcastF (ci := 4) (C := "ChairRanks$Rocker") E hfl F ht hsp hskip hq h0 hlinkH hR hS hsz rfl h1 (by decide +kernel) q225 q238 (nmC _ (by decide)) (nmC _ (by decide)) hlink hdg hfr hlo hce hsl (kn (by decide))
  · exact va_castY (C := "ChairRanks$Rocker") E.hx E.hb E.ho (E.ht _ hlink) (castSelf (xrecv E hR (ci := 5) rfl h1).choose_spec.2.2) (xrecv E hR (ci := 5) rfl h1) hdg (ky (by decide))
  · exact xcastF (ci := 6) (C := "ChairRanks$Rocker") E hfl F ht hsp hskip hq h0 hlinkH hR hS hsz rfl h1 (by decide +kernel) q246 q238 (nmC _ (by decide)) (nmC _ (by decide)) hlink hdg hfr hlo hce hsl (kn (by decide))
  · exact xcastF (ci := 7) (C := "ChairRanks$Rocker") E hfl F ht hsp hskip hq h0 hlinkH hR hS hsz rfl h1 (by decide +kernel) q254 q238 (nmC _ (by decide)) (nmC _ (by decide)) hlink hdg hfr hlo hce hsl (kn (by decide))
  · exact xcastF (ci := 8) (C := "ChairRanks$Rocker") E hfl F ht hsp hskip hq h0 hlinkH hR hS hsz rfl h1 (by decide +kernel) q262 q238 (nmC _ (by decide)) (nmC _ (by decide)) hlink hdg hfr hlo hce hsl (kn (by decide))
  · exact xcastF (ci := 4) (C := "ChairRanks$Cushioned") E hfl F ht hsp hskip hq h0 hlinkH hR hS hsz rfl h1 (by decide +kernel) q225 q246 (nmC _ (by decide)) (nmC _ (by decide)) hlink hdg hfr hlo hce hsl (kn (by decide))
  · exact xcastF (ci := 5) (C := "ChairRanks$Cushioned") E hfl F ht hsp hskip hq h0 hlinkH hR hS hsz rfl h1 (by decide +kernel) q238 q246 (nmC _ (by decide)) (nmC _ (by decide)) hlink hdg hfr hlo hce hsl (kn (by decide))
  · exact va_castY (C := "ChairRanks$Cushioned") E.hx E.hb E.ho (E.ht _ hlink) (castSelf (xrecv E hR (ci := 6) rfl h1).choose_spec.2.2) (xrecv E hR (ci := 6) rfl h1) hdg (ky (by decide))
  · exact xcastF (ci := 7) (C := "ChairRanks$Cushioned") E hfl F ht hsp hskip hq h0 hlinkH hR hS hsz rfl h1 (by decide +kernel) q254 q246 (nmC _ (by decide)) (nmC _ (by decide)) hlink hdg hfr hlo hce hsl (kn (by decide))
  · exact xcastF (ci := 8) (C := "ChairRanks$Cushioned") E hfl F ht hsp hskip hq h0 hlinkH hR hS hsz rfl h1 (by decide +kernel) q262 q246 (nmC _ (by decide)) (nmC _ (by decide)) hlink hdg hfr hlo hce hsl (kn (by decide))
  · exact xcastF (ci := 4) (C := "ChairRanks$Oak") E hfl F ht hsp hskip hq h0 hlinkH hR hS hsz rfl h1 (by decide +kernel) q225 q254 (nmC _ (by decide)) (nmC _ (by decide)) hlink hdg hfr hlo hce hsl (kn (by decide))
  · exact xcastF (ci := 5) (C := "ChairRanks$Oak") E hfl F ht hsp hskip hq h0 hlinkH hR hS hsz rfl h1 (by decide +kernel) q238 q254 (nmC _ (by decide)) (nmC _ (by decide)) hlink hdg hfr hlo hce hsl (kn (by decide))
  · exact xcastF (ci := 6) (C := "ChairRanks$Oak") E hfl F ht hsp hskip hq h0 hlinkH hR hS hsz rfl h1 (by decide +kernel) q246 q254 (nmC _ (by decide)) (nmC _ (by decide)) hlink hdg hfr hlo hce hsl (kn (by decide))
  · exact va_castY (C := "ChairRanks$Oak") E.hx E.hb E.ho (E.ht _ hlink) (castSelf (xrecv E hR (ci := 7) rfl h1).choose_spec.2.2) (xrecv E hR (ci := 7) rfl h1) hdg (ky (by decide))
  · exact va_castY (C := "ChairRanks$Throne") E.hx E.hb E.ho (E.ht _ hlink) (E.2.1.2.1 ("ChairRanks$Throne", "ChairRanks$Oak") (by decide +kernel)) (xrecv E hR (ci := 8) rfl h1) hdg (ky (by decide))
  · exact xcastF (ci := 4) (C := "ChairRanks$Throne") E hfl F ht hsp hskip hq h0 hlinkH hR hS hsz rfl h1 (by decide +kernel) q225 q262 (nmC _ (by decide)) (nmC _ (by decide)) hlink hdg hfr hlo hce hsl (kn (by decide))
  · exact xcastF (ci := 5) (C := "ChairRanks$Throne") E hfl F ht hsp hskip hq h0 hlinkH hR hS hsz rfl h1 (by decide +kernel) q238 q262 (nmC _ (by decide)) (nmC _ (by decide)) hlink hdg hfr hlo hce hsl (kn (by decide))
  · exact xcastF (ci := 6) (C := "ChairRanks$Throne") E hfl F ht hsp hskip hq h0 hlinkH hR hS hsz rfl h1 (by decide +kernel) q246 q262 (nmC _ (by decide)) (nmC _ (by decide)) hlink hdg hfr hlo hce hsl (kn (by decide))
  · exact xcastF (ci := 7) (C := "ChairRanks$Throne") E hfl F ht hsp hskip hq h0 hlinkH hR hS hsz rfl h1 (by decide +kernel) q254 q262 (nmC _ (by decide)) (nmC _ (by decide)) hlink hdg hfr hlo hce hsl (kn (by decide))
  · exact va_castY (C := "ChairRanks$Throne") E.hx E.hb E.ho (E.ht _ hlink) (castSelf (xrecv E hR (ci := 8) rfl h1).choose_spec.2.2) (xrecv E hR (ci := 8) rfl h1) hdg (ky (by decide))
end XCK
abbrev xPcX (D : va_G) (cA : Nat → ClassId) (A : Nat → Prop) (Zs : XZ) (X : AH) (av : List Value) : Array Value → State → Prop := va_Pc av (fun U => xR D cA A Zs X U.heap ∧ xK D cA A Zs U ∧ xX A U)
