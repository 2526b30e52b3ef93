/-! calls of Chair.mark: the default method of Marked -/
theorem xM.tab {s : State} (M : xM s) (args : Array Value) : ∀ w ∈ defaultWords_1, w.before args s = true := fun w hw => va_tabs (by have := List.all_eq_true.mp dw_good w hw; simp only [Bool.and_eq_true] at this; exact this.1) rfl (M.1 w hw)
theorem xCUM {R : Room} {s : State} {args : Array Value} {own Cn : String} {index maxL mc ms n : Nat} {y : MethodName} {bytes : ByteArray} {ret2 : Option FieldType} {ws ws' : List Cond} {rm : Room} (M : xM s) (ht : ∀ w ∈ lw_all, w.before args s = true) (hG : GoodIn lw_all ws) (hw : ws = Cond.code y bytes maxL ret2 :: ws') (hrc : rm.cells = mc) (hrs : rm.slots = ms) (hl : Cond.methodLink own index mkC ∈ defaultWords_1) (hse : Cond.selects Cn mkM y ∈ lw_all) (hi : Cond.instanceMethod y ∈ lw_all) (hini : Cond.initialized y.cls ∈ lw_all)
    (ho : (parseMethodDescriptor mkC.desc).map (fun d => d.parameters.length) = some n) (hR : rm.frames + 1 ≤ R.frames ∧ 8 + (maxL + 11) + rm.locals ≤ R.locals) : va_CU R s args own Cn "ChairRanks$Marked" index mkC y bytes maxL ret2 ws rm mc ms n := by
  have hc : Cond.code y bytes maxL ret2 ∈ ws := by rw [hw]; exact List.mem_cons_self
  have tab := M.tab args
  have hsm : (Cond.sameMethod mkC.cls "ChairRanks$Marked" mkC.name mkC.desc).before args s = true := tab _ (by decide +kernel)
  obtain ⟨c2, ck, r1, hc2, hck, hni, hf, hr1⟩ := Cond.sameMethod_found hsm
  have hfM : s.methodFound? mkM.cls mkM.name mkM.desc = some r1 := State.methodFound?_of_named (x := mkM) hr1 (by decide)
  refine ⟨⟨hrc, hrs, hR.1, hR.2, pay_in ht hG, hc⟩, ht _ (hG _ hc).1, ht _ hini, ⟨by decide, by decide⟩, fun sig h => ?_, tab _ hl, hsm, va_Decl.of (ht _ q1154) (ht _ q1155), ?_, ht _ hi⟩
  · rw [h] at ho
    exact (Option.some.inj ho).symm
  · have h1 : (Cond.selects Cn mkM y).before args s = true := ht _ hse
    simp only [Cond.before, Cond.holds, Cond.value, hfM] at h1
    simp only [Cond.before, Cond.holds, Cond.value, hf]
    exact h1
abbrev xPcM (D : va_G) (cA : Nat → ClassId) (A : Nat → Prop) (Zs : XZ) (X : AH) (av : List Value) : Array Value → State → Prop := va_Pc av (fun U => xR D cA A Zs X U.heap ∧ xK D cA A Zs U ∧ xM U)
section SDR
variable {p : Program} {l : Launch} {e : Env} {R : Room} {s : State} {m : MethodId} {args : Array Value} {below : List Frame} {meth : Method} {c : Code} {H : Heap} {locs : List Loc} {cells slots : Nat} {cc : ByteArray} {pc nL : Nat} {ls : Array Slot} {rest : List Value} {D : va_G} {cA : Nat → ClassId} {A : Nat → Prop} {Zs : XZ} {X X' : AH} {ret : Option FieldType} {own : String} {a b ci index : Nat}
theorem xBlindM {av : List Value} : FrameBlind (xPcM D cA A Zs X av) := fun a U g mk q => by
  obtain ⟨q0, qP, qK, qM⟩ := q
  exact ⟨q0, qP, xK.same (s := U) (U := U.calling g mk a) rfl rfl qK, xM.moved (U := U.calling g mk a) (State.WarmedH.refl U) qM⟩
theorem xPreVM {r : vw_C} {As : List Value} (E : xE p m c cc nL s args own D cA A Zs meth ret) (M : xM s) (hR : xR D cA A Zs X H) (hS : va_S A s.heap H locs) (hc : xCl[ci]? = some r) (hv : gC X a = some ci) : PreV s H r.1 a (xPcM D cA A Zs X (.ref a :: As)) As :=
  ⟨xBlindM, xrecv E hR hc hv, fun U hU hW => ⟨rfl, by rw [hU]; exact hR, xK.moved hW (by rw [hU]; exact hS.2.1) E.2.1, xM.moved hW M⟩⟩
theorem runSD {x1 x2 : Nat} {r : Int32} {rc : vw_C} (E : xE p m c cc nL s args own D cA A Zs meth ret) (M : xM s) (hR : xR D cA A Zs X H) (hS : va_S A s.heap H locs) (hl : Cond.methodLink own index mkC ∈ defaultWords_1) (hsup : Cond.superclass own "ChairRanks$Chair" ∈ lw_all) (hc : xCl[ci]? = some rc) (hv : gC X b = some ci) (hf : fX14_mark X b x1 x2 = some (r, X'))
    (hsize : ls.size = nL) (hW : (rest.map fun v => v.category).sum ≤ 8) (hdg : decode cc pc = .ok (.invokespecial index, 3)) (hfr : rmX14_mark.frames + 1 ≤ R.frames ∧ 8 + (3 + 11) + rmX14_mark.locals ≤ R.locals) (hroom : cells + 0 ≤ R.cells ∧ slots + 0 ≤ R.slots) :
    va_Run p l e R s m args below meth c H locs cells slots 0 0 (F0 m pc ls (.ref x2 :: .ref x1 :: .ref b :: rest)) rest (xQi D cA A Zs r X' [.ref b, .ref x1, .ref x2].toArray) A := by
  intro T hT Y
  obtain ⟨cell, g1, g2, g3⟩ := xrecv E hR hc hv
  obtain ⟨w1, cn, r0, hcn, hr0, hls⟩ := M
  have M : xM s := ⟨w1, cn, r0, hcn, hr0, hls⟩
  have tab := M.tab args
  obtain ⟨r0', rm0, hn0, hrm0, hst0, hab0⟩ := Cond.instanceMethod_spec (E.ht _ q1154)
  have hn0 : s.methodNamed? mkM = some r0' := hn0
  cases hr0.symm.trans hn0
  obtain ⟨methY, cY, hm1, hm2, hm3, hm4, hm5, hm6, -, hm7⟩ := Cond.code_spec hr0 (E.ht _ q1155)
  cases hrm0.symm.trans hm1
  obtain ⟨ps, dk, kp, hps, hdk, hkp, hsuper, -, -, hnid⟩ := Cond.superclass_spec E.ho (E.ht _ hsup)
  cases hcn.symm.trans hps
  obtain ⟨kc, hkc⟩ : ∃ k, s.vm.classes[cell.cls]? = some k := by
    obtain ⟨k, hk, -⟩ := Vm.findClass_spec g3
    exact ⟨k, hk⟩
  have hlen : [Value.ref x1, Value.ref x2].length = rm0.sig.parameters.length := by
    have h1 : (parseMethodDescriptor mkM.desc).map (fun d => d.parameters.length) = some 2 := by decide +kernel
    have h2 : parseMethodDescriptor mkM.desc = some rm0.sig := hm7
    rw [h2] at h1
    exact (Option.some.inj h1).symm
  obtain ⟨vm', Y1, st⟩ := stand_superD Y E.hx (own := own) (owner := "ChairRanks$Marked") (x := mkC) E.ho (tab _ hl) (tab _ (by decide +kernel)) hr0 hm1 hst0 hab0 (by decide) hdk hnid hcn hsuper hls (a := b) (by rw [hT]; exact g1) (fun z h => by rw [h] at g2; cases g2) hkc
    (g := F0 m pc ls (.ref x2 :: .ref x1 :: .ref b :: rest)) rfl (argsL := [.ref x1, .ref x2]) (rest := rest) hlen rfl (by rw [E.hb]; exact hdg)
  have hWv : s.WarmedH vm' := Y1.warmed
  obtain ⟨v, t, T', L, Z, hL, e1, e2, hq, sd⟩ := callD Y1 (y := yX14_mark) (mk := r0) (methY := rm0) (cY := cY) (Y1.named hr0) (by decide) (by show vm'.method? r0 = _; rw [hWv.alike.method?]; exact hm1) hm2 hm6 (g := F0 m pc ls rest) rfl (by rw [E.1.2.2.1]; exact hsize) (ig := .invokespecial index) (len := 3) (by rw [E.hb]; exact hdg) (rm := rmX14_mark) (a := [.ref b, .ref x1, .ref x2].toArray) (Qc := xQi D cA A Zs r X') (mc := 0) (ms := 0) (free := A)
    hfr.1 (by have := hfr.2; rw [hm4]; show 2 * 0 + _ + _ + _ ≤ _; omega) hroom.1 hroom.2 (fun T1 S1 hh => by
      have hW1 : s.WarmedH ((T.setVm vm').calling (F0 m pc ls rest) r0 [.ref b, .ref x1, .ref x2].toArray).vm := hWv
      have hE1 : xE p r0 cY cX14_mark 3 ((T.setVm vm').calling (F0 m pc ls rest) r0 [.ref b, .ref x1, .ref x2].toArray) [.ref b, .ref x1, .ref x2].toArray RX14 D cA A Zs rm0 (some .int) :=
        ⟨⟨E.hx, hm3, hm4, by show vm'.findClass RX14 = _; rw [hWv.alike.findClass]; exact findClass_of_methodNamed hr0, fun w hw => ?_⟩, xK.moved hW1 (by show ∀ a : Nat, a < s.heap.size → ¬ A a → T.heap[a]? = _; rw [hT]; exact hS.2.1) E.2.1, hm5, hm6⟩
      · have hb := wX14_mark_0 (p := p) (l := l) (e := e) (below := .java (F0 m pc ls rest) :: (T.setVm vm').frames.tail) hE1 hf ((T.setVm vm').calling (F0 m pc ls rest) r0 [.ref b, .ref x1, .ref x2].toArray).heap [] _ 0 0 (Nat.le_refl 0) (Nat.le_refl 0) (by show xR D cA A Zs X T.heap; rw [hT]; exact hR) va_S.rf (lv_entry [.ref b, .ref x1, .ref x2] (n := 3) (Nat.le_of_ble_eq_true rfl))
        rw [hm4, lg_entry_eq]
        exact hb T1 hh S1
      · exact word_at hW1 (lw_self w hw).2 (E.ht w hw))
  exact ⟨v, (T.setVm vm').calling (F0 m pc ls rest) r0 [.ref b, .ref x1, .ref x2].toArray, t, T', L, hT, Z, hL, e1, e2, hq, fun target h => st _ (sd.trans h)⟩
end SDR
