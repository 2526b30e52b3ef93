set_option maxRecDepth 100000
section
variable {p : Program} {l : Launch} {e : Env} {R : Room} {s : State} {m : MethodId} {args : Array Value} {below : List Frame} {meth : Method} {c : Code} {H : Heap} {locs : List Loc} {cells slots : Nat} {Q : State → Prop} {cc : ByteArray} {pc nL : Nat} {ls : Array Slot} {rest : List Value} {D : va_G} {cA : Nat → ClassId} {A : Nat → Prop} {Zs : XZ} {X X' : AH} {ret : Option FieldType} {a : Nat}
theorem xgJ2_48 {v : Int32} (E : xE p m c cc nL s args RJ2 D cA A Zs meth ret) (hR : xR D cA A Zs X H) (h : gI X a 9 2 = some v) (hdg : decode cc pc = .ok (.getfield 48, 3)) (kk : W p l e R s m args below meth c H locs cells slots Q (F0 m (pc + 3) ls (.int v :: rest))) : W p l e R s m args below meth c H locs cells slots Q (F0 m pc ls (.ref a :: rest)) :=
  xget (ci := 9) (k := 2) E hR in_J2 rfl (by decide) q132 (fun _ h => h) (gI_e h) hdg kk
theorem xgJ2_9 {v : Nat} (E : xE p m c cc nL s args RJ2 D cA A Zs meth ret) (hR : xR D cA A Zs X H) (h : gR X a 9 1 = some v) (hdg : decode cc pc = .ok (.getfield 9, 3)) (kk : W p l e R s m args below meth c H locs cells slots Q (F0 m (pc + 3) ls (.ref v :: rest))) : W p l e R s m args below meth c H locs cells slots Q (F0 m pc ls (.ref a :: rest)) :=
  xget (ci := 9) (k := 1) E hR in_J2 rfl (by decide) q131 (fun _ h => h) (gR_e h) hdg kk
theorem xpJ1_7 {x : Int32} (E : xE p m c cc nL s args RJ1 D cA A Zs meth ret) (hR : xR D cA A Zs X H) (hS : va_S A s.heap H locs) (h : pF X a 9 0 (.int x) = some X') (hdg : decode cc pc = .ok (.putfield 7, 3)) (kk : ∀ (H : Heap) (locs : List Loc), xR D cA A Zs X' H → va_S A s.heap H locs → W p l e R s m args below meth c H locs cells slots Q (F0 m (pc + 3) ls rest)) : W p l e R s m args below meth c H locs cells slots Q (F0 m pc ls (.int x :: .ref a :: rest)) :=
  xput (ci := 9) (k := 0) E hR hS in_J2 tyJ2 tyJ2_ok nmJ2 rfl (by decide) q133 (fun _ h => h) rfl (ty := .int) rfl rfl rfl h hdg kk
theorem xpJ2_9 {x : Nat} (E : xE p m c cc nL s args RJ2 D cA A Zs meth ret) (hR : xR D cA A Zs X H) (hS : va_S A s.heap H locs) (h : pF X a 9 1 (.ref x) = some X') (hdg : decode cc pc = .ok (.putfield 9, 3)) (kk : ∀ (H : Heap) (locs : List Loc), xR D cA A Zs X' H → va_S A s.heap H locs → W p l e R s m args below meth c H locs cells slots Q (F0 m (pc + 3) ls rest)) : W p l e R s m args below meth c H locs cells slots Q (F0 m pc ls (.ref x :: .ref a :: rest)) :=
  xput (ci := 9) (k := 1) E hR hS in_J2 tyJ2 tyJ2_ok nmJ2 rfl (by decide) q131 (fun _ h => h) rfl (ty := (.array (.object "java/lang/Object"))) rfl rfl rfl h hdg kk
theorem xpJ2_48 {x : Int32} (E : xE p m c cc nL s args RJ2 D cA A Zs meth ret) (hR : xR D cA A Zs X H) (hS : va_S A s.heap H locs) (h : pF X a 9 2 (.int x) = some X') (hdg : decode cc pc = .ok (.putfield 48, 3)) (kk : ∀ (H : Heap) (locs : List Loc), xR D cA A Zs X' H → va_S A s.heap H locs → W p l e R s m args below meth c H locs cells slots Q (F0 m (pc + 3) ls rest)) : W p l e R s m args below meth c H locs cells slots Q (F0 m pc ls (.int x :: .ref a :: rest)) :=
  xput (ci := 9) (k := 2) E hR hS in_J2 tyJ2 tyJ2_ok nmJ2 rfl (by decide) q132 (fun _ h => h) rfl (ty := .int) rfl rfl rfl h hdg kk
theorem xgJ2_63 {v : Int32} (E : xE p m c cc nL s args RJ2 D cA A Zs meth ret) (hR : xR D cA A Zs X H) (h : gI X a 9 0 = some v) (hdg : decode cc pc = .ok (.getfield 63, 3)) (kk : W p l e R s m args below meth c H locs cells slots Q (F0 m (pc + 3) ls (.int v :: rest))) : W p l e R s m args below meth c H locs cells slots Q (F0 m pc ls (.ref a :: rest)) :=
  xget (ci := 9) (k := 0) E hR in_J2 rfl (by decide) q134 (u_same (E.ht _ q135)) (gI_e h) hdg kk
theorem xpJ2_63 {x : Int32} (E : xE p m c cc nL s args RJ2 D cA A Zs meth ret) (hR : xR D cA A Zs X H) (hS : va_S A s.heap H locs) (h : pF X a 9 0 (.int x) = some X') (hdg : decode cc pc = .ok (.putfield 63, 3)) (kk : ∀ (H : Heap) (locs : List Loc), xR D cA A Zs X' H → va_S A s.heap H locs → W p l e R s m args below meth c H locs cells slots Q (F0 m (pc + 3) ls rest)) : W p l e R s m args below meth c H locs cells slots Q (F0 m pc ls (.int x :: .ref a :: rest)) :=
  xput (ci := 9) (k := 0) E hR hS in_J2 tyJ2 tyJ2_ok nmJ2 rfl (by decide) q134 (u_same (E.ht _ q135)) rfl (ty := .int) rfl rfl rfl h hdg kk
theorem xgX2_15 {v : Int32} (E : xE p m c cc nL s args RX2 D cA A Zs meth ret) (hR : xR D cA A Zs X H) (h : gI X a 2 1 = some v) (hdg : decode cc pc = .ok (.getfield 15, 3)) (kk : W p l e R s m args below meth c H locs cells slots Q (F0 m (pc + 3) ls (.int v :: rest))) : W p l e R s m args below meth c H locs cells slots Q (F0 m pc ls (.ref a :: rest)) :=
  xget (ci := 2) (k := 1) E hR in_X2 rfl (by decide) q215 (fun _ h => h) (gI_e h) hdg kk
theorem xgX2_9 {v : Nat} (E : xE p m c cc nL s args RX2 D cA A Zs meth ret) (hR : xR D cA A Zs X H) (h : gR X a 2 0 = some v) (hdg : decode cc pc = .ok (.getfield 9, 3)) (kk : W p l e R s m args below meth c H locs cells slots Q (F0 m (pc + 3) ls (.ref v :: rest))) : W p l e R s m args below meth c H locs cells slots Q (F0 m pc ls (.ref a :: rest)) :=
  xget (ci := 2) (k := 0) E hR in_X2 rfl (by decide) q213 (fun _ h => h) (gR_e h) hdg kk
theorem xpX2_15 {x : Int32} (E : xE p m c cc nL s args RX2 D cA A Zs meth ret) (hR : xR D cA A Zs X H) (hS : va_S A s.heap H locs) (h : pF X a 2 1 (.int x) = some X') (hdg : decode cc pc = .ok (.putfield 15, 3)) (kk : ∀ (H : Heap) (locs : List Loc), xR D cA A Zs X' H → va_S A s.heap H locs → W p l e R s m args below meth c H locs cells slots Q (F0 m (pc + 3) ls rest)) : W p l e R s m args below meth c H locs cells slots Q (F0 m pc ls (.int x :: .ref a :: rest)) :=
  xput (ci := 2) (k := 1) E hR hS in_X2 tyX2 tyX2_ok nmX2 rfl (by decide) q215 (fun _ h => h) rfl (ty := .int) rfl rfl rfl h hdg kk
theorem xpX2_9 {x : Nat} (E : xE p m c cc nL s args RX2 D cA A Zs meth ret) (hR : xR D cA A Zs X H) (hS : va_S A s.heap H locs) (hin : meth.name = "<init>") (h : pF X a 2 0 (.ref x) = some X') (hdg : decode cc pc = .ok (.putfield 9, 3)) (kk : ∀ (H : Heap) (locs : List Loc), xR D cA A Zs X' H → va_S A s.heap H locs → W p l e R s m args below meth c H locs cells slots Q (F0 m (pc + 3) ls rest)) : W p l e R s m args below meth c H locs cells slots Q (F0 m pc ls (.ref x :: .ref a :: rest)) :=
  xputF (ci := 2) (k := 0) E hR hS in_X2 tyX2 tyX2_ok nmX2 rfl (by decide) q213 (fun _ h => h) rfl hin rfl (ty := (.array .int)) rfl rfl rfl h hdg kk
theorem xgX3_19 {v : Nat} (E : xE p m c cc nL s args RX3 D cA A Zs meth ret) (hR : xR D cA A Zs X H) (h : gR X a 1 3 = some v) (hdg : decode cc pc = .ok (.getfield 19, 3)) (kk : W p l e R s m args below meth c H locs cells slots Q (F0 m (pc + 3) ls (.ref v :: rest))) : W p l e R s m args below meth c H locs cells slots Q (F0 m pc ls (.ref a :: rest)) :=
  xget (ci := 1) (k := 3) E hR in_X1 rfl (by decide) q155 (fun _ h => h) (gR_e h) hdg kk
end
abbrev rmJ10_checkIndex : Room := { frames := 1, cells := 0, slots := 0, locals := 12 }
section
variable {p : Program} {l : Launch} {e : Env} {s : State} {m : MethodId} {args : Array Value} {below : List Frame} {meth : Method} {c : Code} {D : va_G} {cA : Nat → ClassId} {A : Nat → Prop} {Zs : XZ} {Xf : AH} {r : Int32} {rl : Int64} {ra : Nat} {tv : Unit ⊕ Nat} {ti : Int32 ⊕ Nat} {tr : Nat ⊕ Nat} {q2 : Option Nat}
def fJ10_checkIndex  (X : AH) (x0 : Int32) (x1 : Int32) : Option (Int32 × AH) :=
  if x0 < 0 then none else (if x0 < x1 then (some (x0, X)) else none)
theorem wJ10_checkIndex_0 (E : xE p m c cJ10_checkIndex 3 s args RJ10 D cA A Zs meth (some .int)) {X : AH} {x0 : Int32} {x1 : Int32} (hf : fJ10_checkIndex X x0 x1 = some (r, Xf)) : ∀ (H : Heap) (locs : List Loc) (ls : Array Slot) (cells slots : Nat), cells + 0 ≤ 0 → slots + 0 ≤ 0 → xR D cA A Zs X H → va_S A s.heap H locs → lv_has ls 3 [(0, .int x0), (1, .int x1), (2, va_rf (q2))] → W p l e rmJ10_checkIndex s m args below meth c H locs cells slots (MQ below (xQi D cA A Zs r Xf) args s 0 0 A) (F0 m 0 ls []) := by
  intro H locs ls cells slots hc hs hR hS hl
  refine lv_iload_n E.hx E.hb dJ10_checkIndex_0 rfl (lv_at hl 0 rfl) ?_
  refine lv_if_lt (tgt := 9) E.hx E.hb dJ10_checkIndex_1 (by decide) (fun c1 => ?_) (fun c1 => ?_)
  · have hf := it_t hf c1
    have hf : none = some (r, Xf) := hf
    cases hf
  · have hf := it_f hf c1
    refine lv_iload_n E.hx E.hb dJ10_checkIndex_4 rfl (lv_at hl 0 rfl) ?_
    refine lv_iload_n E.hx E.hb dJ10_checkIndex_5 rfl (lv_at hl 1 rfl) ?_
    refine lv_icmp_lt (tgt := 16) E.hx E.hb dJ10_checkIndex_6 (by decide) (fun c2 => ?_) (fun c2 => ?_)
    · have hf := it_t hf c2
      refine lv_iload_n E.hx E.hb dJ10_checkIndex_16 rfl (lv_at hl 0 rfl) ?_
      obtain ⟨rfl, rfl⟩ := rt_e hf
      exact xret_i E (by omega) (by omega) hR hS dJ10_checkIndex_17
    · have hf := it_f hf c2
      have hf : none = some (r, Xf) := hf
      cases hf
theorem tJ10_checkIndex (l : Launch) {D : va_G} {cA : Nat → ClassId} {A : Nat → Prop} {Zs : XZ} {X Xf : AH} {q2 : Option Nat} {x0 : Int32} {x1 : Int32} {r : Int32} (hf : fJ10_checkIndex X x0 x1 = some (r, Xf)) : Met l yJ10_checkIndex (ws_ yJ10_checkIndex cJ10_checkIndex 3 (some .int)) rmJ10_checkIndex (xPc D cA A Zs X [.int x0, .int x1, va_rf q2]) (xQi D cA A Zs r Xf) 0 0 A := by
  refine Met.ofW (cc := cJ10_checkIndex) (maxL := 3) (ret := (some .int)) (by decide) rfl ?_
  intro p e s m args below meth c s₁ B hml hv
  obtain ⟨rfl, hR, hK⟩ := hv
  have hts := atoms_spec (ws := (ws_ yJ10_checkIndex cJ10_checkIndex 3 (some .int))) B.pre
  rw [lg_entry_eq]
  cases q2 with
  | none => exact wJ10_checkIndex_0 (q2 := none) (E := ⟨⟨B.exec, B.bytes, hml, findClass_of_methodNamed B.named, fun w h => hts w (List.mem_cons_of_mem _ h)⟩, hK, B.returns, B.notSynchronized⟩) hf _ _ _ 0 0 (Nat.le_of_ble_eq_true rfl) (Nat.le_of_ble_eq_true rfl) hR va_S.rf (lv_entry [.int x0, .int x1, .null] (n := 3) (Nat.le_of_ble_eq_true rfl))
  | some b => exact wJ10_checkIndex_0 (q2 := some b) (E := ⟨⟨B.exec, B.bytes, hml, findClass_of_methodNamed B.named, fun w h => hts w (List.mem_cons_of_mem _ h)⟩, hK, B.returns, B.notSynchronized⟩) hf _ _ _ 0 0 (Nat.le_of_ble_eq_true rfl) (Nat.le_of_ble_eq_true rfl) hR va_S.rf (lv_entry [.int x0, .int x1, .ref b] (n := 3) (Nat.le_of_ble_eq_true rfl))
end
abbrev rmJ15_checkIndex : Room := { frames := 2, cells := 0, slots := 0, locals := 34 }
theorem cwJ15_105 {R : Room} {s : State} {args : Array Value} (ht : ∀ w ∈ lw_all, w.before args s = true) (hR : rmJ10_checkIndex.frames + 1 ≤ R.frames ∧ 8 + (3 + 11) + rmJ10_checkIndex.locals ≤ R.locals) : CallB R s args RJ15 105 yJ10_checkIndex cJ10_checkIndex 3 (some .int) (ws_ yJ10_checkIndex cJ10_checkIndex 3 (some .int)) rmJ10_checkIndex 0 0 3 ∧ (Cond.static yJ10_checkIndex).before args s = true :=
  va_cwS 3 ht (lw_S q788 q606 q93 q607) rfl rfl rfl (by decide +kernel) hR
section
variable {p : Program} {l : Launch} {e : Env} {s : State} {m : MethodId} {args : Array Value} {below : List Frame} {meth : Method} {c : Code} {D : va_G} {cA : Nat → ClassId} {A : Nat → Prop} {Zs : XZ} {Xf : AH} {r : Int32} {rl : Int64} {ra : Nat} {tv : Unit ⊕ Nat} {ti : Int32 ⊕ Nat} {tr : Nat ⊕ Nat} {q2 : Option Nat}
def fJ15_checkIndex  (X : AH) (x0 : Int32) (x1 : Int32) : Option (Int32 × AH) :=
  (fJ10_checkIndex X x0 x1).bind fun (v2, X1) =>
  some (v2, X1)
theorem wJ15_checkIndex_0 (E : xE p m c cJ15_checkIndex 2 s args RJ15 D cA A Zs meth (some .int)) {X : AH} {x0 : Int32} {x1 : Int32} (hf : fJ15_checkIndex X x0 x1 = some (r, Xf)) : ∀ (H : Heap) (locs : List Loc) (ls : Array Slot) (cells slots : Nat), cells + 0 ≤ 0 → slots + 0 ≤ 0 → xR D cA A Zs X H → va_S A s.heap H locs → lv_has ls 2 [(0, .int x0), (1, .int x1)] → W p l e rmJ15_checkIndex s m args below meth c H locs cells slots (MQ below (xQi D cA A Zs r Xf) args s 0 0 A) (F0 m 0 ls []) := by
  intro H locs ls cells slots hc hs hR hS hl
  refine lv_iload_n E.hx E.hb dJ15_checkIndex_0 rfl (lv_at hl 0 rfl) ?_
  refine lv_iload_n E.hx E.hb dJ15_checkIndex_1 rfl (lv_at hl 1 rfl) ?_
  refine lv_null E.hx E.hb dJ15_checkIndex_2 ?_
  obtain ⟨⟨v2, X1⟩, hv2, hf⟩ := bd_e hf
  refine xrun_i (va_runS (As := [.int x0, .int x1, .null]) (rest := []) E.1 (tJ10_checkIndex l (q2 := none) hv2) (cwJ15_105 E.ht ⟨Nat.le_of_ble_eq_true rfl, Nat.le_of_ble_eq_true rfl⟩) (xPreS E hR hS) rfl rfl hl.1 rfl (lv_room (Nat.le_of_ble_eq_true rfl)) dJ15_checkIndex_3 ⟨Nat.le_trans (by omega) (Nat.le_refl 0), Nat.le_trans (by omega) (Nat.le_refl 0)⟩) hS (fun H locs hR hS => ?_)
  obtain ⟨rfl, rfl⟩ := rt_e hf
  exact xret_i E (by omega) (by omega) hR hS dJ15_checkIndex_6
theorem tJ15_checkIndex (l : Launch) {D : va_G} {cA : Nat → ClassId} {A : Nat → Prop} {Zs : XZ} {X Xf : AH} {x0 : Int32} {x1 : Int32} {r : Int32} (hf : fJ15_checkIndex X x0 x1 = some (r, Xf)) : Met l yJ15_checkIndex (ws_ yJ15_checkIndex cJ15_checkIndex 2 (some .int)) rmJ15_checkIndex (xPc D cA A Zs X [.int x0, .int x1]) (xQi D cA A Zs r Xf) 0 0 A := by
  refine Met.ofW (cc := cJ15_checkIndex) (maxL := 2) (ret := (some .int)) (by decide) rfl ?_
  intro p e s m args below meth c s₁ B hml hv
  obtain ⟨rfl, hR, hK⟩ := hv
  have hts := atoms_spec (ws := (ws_ yJ15_checkIndex cJ15_checkIndex 2 (some .int))) B.pre
  rw [lg_entry_eq]
  exact wJ15_checkIndex_0 (E := ⟨⟨B.exec, B.bytes, hml, findClass_of_methodNamed B.named, fun w h => hts w (List.mem_cons_of_mem _ h)⟩, hK, B.returns, B.notSynchronized⟩) hf _ _ _ 0 0 (Nat.le_of_ble_eq_true rfl) (Nat.le_of_ble_eq_true rfl) hR va_S.rf (lv_entry [.int x0, .int x1] (n := 2) (Nat.le_of_ble_eq_true rfl))
end
abbrev rmJ2_size : Room := { frames := 1, cells := 0, slots := 0, locals := 12 }
section
variable {p : Program} {l : Launch} {e : Env} {s : State} {m : MethodId} {args : Array Value} {below : List Frame} {meth : Method} {c : Code} {D : va_G} {cA : Nat → ClassId} {A : Nat → Prop} {Zs : XZ} {Xf : AH} {r : Int32} {rl : Int64} {ra : Nat} {tv : Unit ⊕ Nat} {ti : Int32 ⊕ Nat} {tr : Nat ⊕ Nat} {q2 : Option Nat}
def fJ2_size  (X : AH) (x0 : Nat) : Option (Int32 × AH) :=
  (gI X x0 9 2).bind fun v1 =>
  some (v1, X)
theorem wJ2_size_0 (E : xE p m c cJ2_size 1 s args RJ2 D cA A Zs meth (some .int)) {X : AH} {x0 : Nat} (hf : fJ2_size X x0 = some (r, Xf)) : ∀ (H : Heap) (locs : List Loc) (ls : Array Slot) (cells slots : Nat), cells + 0 ≤ 0 → slots + 0 ≤ 0 → xR D cA A Zs X H → va_S A s.heap H locs → lv_has ls 1 [(0, .ref x0)] → W p l e rmJ2_size s m args below meth c H locs cells slots (MQ below (xQi D cA A Zs r Xf) args s 0 0 A) (F0 m 0 ls []) := by
  intro H locs ls cells slots hc hs hR hS hl
  refine lv_aload_n E.hx E.hb dJ2_size_0 rfl (lv_at hl 0 rfl) ?_
  obtain ⟨v1, hv1, hf⟩ := bd_e hf
  refine xgJ2_48 E hR hv1 dJ2_size_1 ?_
  obtain ⟨rfl, rfl⟩ := rt_e hf
  exact xret_i E (by omega) (by omega) hR hS dJ2_size_4
theorem tJ2_size (l : Launch) {D : va_G} {cA : Nat → ClassId} {A : Nat → Prop} {Zs : XZ} {X Xf : AH} {x0 : Nat} {r : Int32} (hf : fJ2_size X x0 = some (r, Xf)) : Met l yJ2_size (ws_ yJ2_size cJ2_size 1 (some .int)) rmJ2_size (xPc D cA A Zs X [.ref x0]) (xQi D cA A Zs r Xf) 0 0 A := by
  refine Met.ofW (cc := cJ2_size) (maxL := 1) (ret := (some .int)) (by decide) rfl ?_
  intro p e s m args below meth c s₁ B hml hv
  obtain ⟨rfl, hR, hK⟩ := hv
  have hts := atoms_spec (ws := (ws_ yJ2_size cJ2_size 1 (some .int))) B.pre
  rw [lg_entry_eq]
  exact wJ2_size_0 (E := ⟨⟨B.exec, B.bytes, hml, findClass_of_methodNamed B.named, fun w h => hts w (List.mem_cons_of_mem _ h)⟩, hK, B.returns, B.notSynchronized⟩) hf _ _ _ 0 0 (Nat.le_of_ble_eq_true rfl) (Nat.le_of_ble_eq_true rfl) hR va_S.rf (lv_entry [.ref x0] (n := 1) (Nat.le_of_ble_eq_true rfl))
end
abbrev rmJ2_elementData : Room := { frames := 1, cells := 0, slots := 0, locals := 12 }
section
variable {p : Program} {l : Launch} {e : Env} {s : State} {m : MethodId} {args : Array Value} {below : List Frame} {meth : Method} {c : Code} {D : va_G} {cA : Nat → ClassId} {A : Nat → Prop} {Zs : XZ} {Xf : AH} {r : Int32} {rl : Int64} {ra : Nat} {tv : Unit ⊕ Nat} {ti : Int32 ⊕ Nat} {tr : Nat ⊕ Nat} {q2 : Option Nat}
def fJ2_elementData  (X : AH) (x0 : Nat) (x1 : Int32) : Option (Nat × AH) :=
  (gR X x0 9 1).bind fun v1 =>
  (gQn X v1 5 x1).bind fun v2 =>
  some (v2, X)
theorem wJ2_elementData_0 (E : xE p m c cJ2_elementData 2 s args RJ2 D cA A Zs meth (some (.object "java/lang/Object"))) {X : AH} {x0 : Nat} {x1 : Int32} (hf : fJ2_elementData X x0 x1 = some (ra, Xf)) : ∀ (H : Heap) (locs : List Loc) (ls : Array Slot) (cells slots : Nat), cells + 0 ≤ 0 → slots + 0 ≤ 0 → xR D cA A Zs X H → va_S A s.heap H locs → lv_has ls 2 [(0, .ref x0), (1, .int x1)] → W p l e rmJ2_elementData s m args below meth c H locs cells slots (MQ below (xQr D cA A Zs ra Xf) args s 0 0 A) (F0 m 0 ls []) := by
  intro H locs ls cells slots hc hs hR hS hl
  refine lv_aload_n E.hx E.hb dJ2_elementData_0 rfl (lv_at hl 0 rfl) ?_
  obtain ⟨v1, hv1, hf⟩ := bd_e hf
  refine xgJ2_9 E hR hv1 dJ2_elementData_1 ?_
  refine lv_iload_n E.hx E.hb dJ2_elementData_4 rfl (lv_at hl 1 rfl) ?_
  obtain ⟨v2, hv2, hf⟩ := bd_e hf
  refine xaldn (kd := 5) E hR rfl hv2 dJ2_elementData_5 ?_
  obtain ⟨rfl, rfl⟩ := rt_e hf
  exact xret_r E (Or.inl ⟨_, rfl⟩) (by omega) (by omega) hR hS dJ2_elementData_6
theorem tJ2_elementData (l : Launch) {D : va_G} {cA : Nat → ClassId} {A : Nat → Prop} {Zs : XZ} {X Xf : AH} {x0 : Nat} {x1 : Int32} {ra : Nat} (hf : fJ2_elementData X x0 x1 = some (ra, Xf)) : Met l yJ2_elementData (ws_ yJ2_elementData cJ2_elementData 2 (some (.object "java/lang/Object"))) rmJ2_elementData (xPc D cA A Zs X [.ref x0, .int x1]) (xQr D cA A Zs ra Xf) 0 0 A := by
  refine Met.ofW (cc := cJ2_elementData) (maxL := 2) (ret := (some (.object "java/lang/Object"))) (by decide) rfl ?_
  intro p e s m args below meth c s₁ B hml hv
  obtain ⟨rfl, hR, hK⟩ := hv
  have hts := atoms_spec (ws := (ws_ yJ2_elementData cJ2_elementData 2 (some (.object "java/lang/Object")))) B.pre
  rw [lg_entry_eq]
  exact wJ2_elementData_0 (E := ⟨⟨B.exec, B.bytes, hml, findClass_of_methodNamed B.named, fun w h => hts w (List.mem_cons_of_mem _ h)⟩, hK, B.returns, B.notSynchronized⟩) hf _ _ _ 0 0 (Nat.le_of_ble_eq_true rfl) (Nat.le_of_ble_eq_true rfl) hR va_S.rf (lv_entry [.ref x0, .int x1] (n := 2) (Nat.le_of_ble_eq_true rfl))
end
abbrev rmJ2_get : Room := { frames := 3, cells := 0, slots := 0, locals := 55 }
theorem cwJ2_118 {R : Room} {s : State} {args : Array Value} (ht : ∀ w ∈ lw_all, w.before args s = true) (hR : rmJ15_checkIndex.frames + 1 ≤ R.frames ∧ 8 + (2 + 11) + rmJ15_checkIndex.locals ≤ R.locals) : CallB R s args RJ2 118 yJ15_checkIndex cJ15_checkIndex 2 (some .int) (ws_ yJ15_checkIndex cJ15_checkIndex 2 (some .int)) rmJ15_checkIndex 0 0 2 ∧ (Cond.static yJ15_checkIndex).before args s = true :=
  va_cwS 2 ht (lw_S q785 q786 q98 q787) rfl rfl rfl (by decide +kernel) hR
theorem cwJ2_123 {R : Room} {s : State} {args : Array Value} (ht : ∀ w ∈ lw_all, w.before args s = true) (hR : rmJ2_elementData.frames + 1 ≤ R.frames ∧ 8 + (2 + 11) + rmJ2_elementData.locals ≤ R.locals) : CallW R s args RJ2 RJ2 123 yJ2_elementData cJ2_elementData 2 (some (.object "java/lang/Object")) (ws_ yJ2_elementData cJ2_elementData 2 (some (.object "java/lang/Object"))) rmJ2_elementData 0 0 1 :=
  cwV 1 ht (lw_V q789 q790 q791 q72 q792) rfl rfl rfl (by decide +kernel) hR
section
variable {p : Program} {l : Launch} {e : Env} {s : State} {m : MethodId} {args : Array Value} {below : List Frame} {meth : Method} {c : Code} {D : va_G} {cA : Nat → ClassId} {A : Nat → Prop} {Zs : XZ} {Xf : AH} {r : Int32} {rl : Int64} {ra : Nat} {tv : Unit ⊕ Nat} {ti : Int32 ⊕ Nat} {tr : Nat ⊕ Nat} {q2 : Option Nat}
def fJ2_get  (X : AH) (x0 : Nat) (x1 : Int32) : Option (Nat × AH) :=
  (gI X x0 9 2).bind fun v1 =>
  (fJ15_checkIndex X x1 v1).bind fun (v3, X2) =>
  (ck X2 x0 9).bind fun _ =>
  (fJ2_elementData X2 x0 x1).bind fun (v6, X5) =>
  some (v6, X5)
theorem wJ2_get_0 (E : xE p m c cJ2_get 2 s args RJ2 D cA A Zs meth (some (.object "java/lang/Object"))) {X : AH} {x0 : Nat} {x1 : Int32} (hf : fJ2_get X x0 x1 = some (ra, Xf)) : ∀ (H : Heap) (locs : List Loc) (ls : Array Slot) (cells slots : Nat), cells + 0 ≤ 0 → slots + 0 ≤ 0 → xR D cA A Zs X H → va_S A s.heap H locs → lv_has ls 2 [(0, .ref x0), (1, .int x1)] → W p l e rmJ2_get s m args below meth c H locs cells slots (MQ below (xQr D cA A Zs ra Xf) args s 0 0 A) (F0 m 0 ls []) := by
  intro H locs ls cells slots hc hs hR hS hl
  refine lv_iload_n E.hx E.hb dJ2_get_0 rfl (lv_at hl 1 rfl) ?_
  refine lv_aload_n E.hx E.hb dJ2_get_1 rfl (lv_at hl 0 rfl) ?_
  obtain ⟨v1, hv1, hf⟩ := bd_e hf
  refine xgJ2_48 E hR hv1 dJ2_get_2 ?_
  obtain ⟨⟨v3, X2⟩, hv3, hf⟩ := bd_e hf
  refine xrun_i (va_runS (As := [.int x1, .int v1]) (rest := []) E.1 (tJ15_checkIndex l hv3) (cwJ2_118 E.ht ⟨Nat.le_of_ble_eq_true rfl, Nat.le_of_ble_eq_true rfl⟩) (xPreS E hR hS) rfl rfl hl.1 rfl (lv_room (Nat.le_of_ble_eq_true rfl)) dJ2_get_5 ⟨Nat.le_trans (by omega) (Nat.le_refl 0), Nat.le_trans (by omega) (Nat.le_refl 0)⟩) hS (fun H locs hR hS => ?_)
  refine lv_pop E.hx E.hb dJ2_get_8 rfl ?_
  refine lv_aload_n E.hx E.hb dJ2_get_9 rfl (lv_at hl 0 rfl) ?_
  refine lv_iload_n E.hx E.hb dJ2_get_10 rfl (lv_at hl 1 rfl) ?_
  obtain ⟨u4, hu4, hf⟩ := bd_e hf
  obtain ⟨⟨v6, X5⟩, hv6, hf⟩ := bd_e hf
  refine xrun_r (va_runV (As := [.int x1]) (rest := []) E.1 (tJ2_elementData l hv6) (cwJ2_123 E.ht ⟨Nat.le_of_ble_eq_true rfl, Nat.le_of_ble_eq_true rfl⟩) (xPreV (ci := 9) E hR hS rfl (ck_e hu4)) rfl rfl hl.1 rfl (lv_room (Nat.le_of_ble_eq_true rfl)) dJ2_get_11 ⟨Nat.le_trans (by omega) (Nat.le_refl 0), Nat.le_trans (by omega) (Nat.le_refl 0)⟩) hS (fun H locs hR hS => ?_)
  obtain ⟨rfl, rfl⟩ := rt_e hf
  exact xret_r E (Or.inl ⟨_, rfl⟩) (by omega) (by omega) hR hS dJ2_get_14
theorem tJ2_get (l : Launch) {D : va_G} {cA : Nat → ClassId} {A : Nat → Prop} {Zs : XZ} {X Xf : AH} {x0 : Nat} {x1 : Int32} {ra : Nat} (hf : fJ2_get X x0 x1 = some (ra, Xf)) : Met l yJ2_get (ws_ yJ2_get cJ2_get 2 (some (.object "java/lang/Object"))) rmJ2_get (xPc D cA A Zs X [.ref x0, .int x1]) (xQr D cA A Zs ra Xf) 0 0 A := by
  refine Met.ofW (cc := cJ2_get) (maxL := 2) (ret := (some (.object "java/lang/Object"))) (by decide) rfl ?_
  intro p e s m args below meth c s₁ B hml hv
  obtain ⟨rfl, hR, hK⟩ := hv
  have hts := atoms_spec (ws := (ws_ yJ2_get cJ2_get 2 (some (.object "java/lang/Object")))) B.pre
  rw [lg_entry_eq]
  exact wJ2_get_0 (E := ⟨⟨B.exec, B.bytes, hml, findClass_of_methodNamed B.named, fun w h => hts w (List.mem_cons_of_mem _ h)⟩, hK, B.returns, B.notSynchronized⟩) hf _ _ _ 0 0 (Nat.le_of_ble_eq_true rfl) (Nat.le_of_ble_eq_true rfl) hR va_S.rf (lv_entry [.ref x0, .int x1] (n := 2) (Nat.le_of_ble_eq_true rfl))
end
abbrev rmJ0_init : Room := { frames := 1, cells := 0, slots := 0, locals := 12 }
section
variable {p : Program} {l : Launch} {e : Env} {s : State} {m : MethodId} {args : Array Value} {below : List Frame} {meth : Method} {c : Code} {D : va_G} {cA : Nat → ClassId} {A : Nat → Prop} {Zs : XZ} {Xf : AH} {r : Int32} {rl : Int64} {ra : Nat} {tv : Unit ⊕ Nat} {ti : Int32 ⊕ Nat} {tr : Nat ⊕ Nat} {q2 : Option Nat}
def fJ0_init  (X : AH) (x0 : Nat) : Option AH :=
  some X
theorem wJ0_init_0 (E : xE p m c cJ0_init 1 s args RJ0 D cA A Zs meth none) (hin : meth.name = "<init>") {X : AH} {x0 : Nat} (hf : fJ0_init X x0 = some Xf) : ∀ (H : Heap) (locs : List Loc) (ls : Array Slot) (cells slots : Nat), cells + 0 ≤ 0 → slots + 0 ≤ 0 → xR D cA A Zs X H → va_S A s.heap H locs → lv_has ls 1 [(0, .ref x0)] → W p l e rmJ0_init s m args below meth c H locs cells slots (MQ below (xQv D cA A Zs Xf) args s 0 0 A) (F0 m 0 ls []) := by
  intro H locs ls cells slots hc hs hR hS hl
  refine lv_aload_n E.hx E.hb dJ0_init_0 rfl (lv_at hl 0 rfl) ?_
  refine W.objInit E.hx E.hb E.ho (E.ht _ q128) (E.ht _ q107) (E.ht _ q108) rfl (by rw [E.1.2.2.1]; exact hl.1) rfl dJ0_init_1 (Nat.le_of_ble_eq_true rfl) (Nat.le_of_ble_eq_true rfl) ?_
  refine W.eq (g2 := F0 m 4 ls []) rfl ?_
  obtain rfl := Option.some.inj hf
  exact xret_v E (by omega) (by omega) hR hS dJ0_init_4
theorem tJ0_init (l : Launch) {D : va_G} {cA : Nat → ClassId} {A : Nat → Prop} {Zs : XZ} {X Xf : AH} {x0 : Nat}  (hf : fJ0_init X x0 = some Xf) : Met l yJ0_init (ws_ yJ0_init cJ0_init 1 none) rmJ0_init (xPc D cA A Zs X [.ref x0]) (xQv D cA A Zs Xf) 0 0 A := by
  refine Met.ofW (cc := cJ0_init) (maxL := 1) (ret := none) (by decide) rfl ?_
  intro p e s m args below meth c s₁ B hml hv
  obtain ⟨rfl, hR, hK⟩ := hv
  have hts := atoms_spec (ws := (ws_ yJ0_init cJ0_init 1 none)) B.pre
  rw [lg_entry_eq]
  exact wJ0_init_0 (E := ⟨⟨B.exec, B.bytes, hml, findClass_of_methodNamed B.named, fun w h => hts w (List.mem_cons_of_mem _ h)⟩, hK, B.returns, B.notSynchronized⟩) (name_of_methodNamed B.named B.method).1 hf _ _ _ 0 0 (Nat.le_of_ble_eq_true rfl) (Nat.le_of_ble_eq_true rfl) hR va_S.rf (lv_entry [.ref x0] (n := 1) (Nat.le_of_ble_eq_true rfl))
end
abbrev rmJ1_init : Room := { frames := 2, cells := 0, slots := 0, locals := 32 }
theorem cwJ1_1 {R : Room} {s : State} {args : Array Value} (ht : ∀ w ∈ lw_all, w.before args s = true) (hR : rmJ0_init.frames + 1 ≤ R.frames ∧ 8 + (1 + 11) + rmJ0_init.locals ≤ R.locals) : CallB R s args RJ1 1 yJ0_init cJ0_init 1 none (ws_ yJ0_init cJ0_init 1 none) rmJ0_init 0 0 0 ∧ yJ0_init.name = "<init>" ∧ (Cond.instanceMethod yJ0_init).before args s = true :=
  cwI 0 ht (lw_meth q127) rfl rfl rfl (ht _ q70) (ht _ q125) (ht _ q126) rfl (by decide +kernel) hR
section
variable {p : Program} {l : Launch} {e : Env} {s : State} {m : MethodId} {args : Array Value} {below : List Frame} {meth : Method} {c : Code} {D : va_G} {cA : Nat → ClassId} {A : Nat → Prop} {Zs : XZ} {Xf : AH} {r : Int32} {rl : Int64} {ra : Nat} {tv : Unit ⊕ Nat} {ti : Int32 ⊕ Nat} {tr : Nat ⊕ Nat} {q2 : Option Nat}
def fJ1_init  (X : AH) (x0 : Nat) : Option AH :=
  (fJ0_init X x0).bind fun X1 =>
  (pF X1 x0 9 0 (.int 0)).bind fun X3 =>
  some X3
theorem wJ1_init_0 (E : xE p m c cJ1_init 1 s args RJ1 D cA A Zs meth none) (hin : meth.name = "<init>") {X : AH} {x0 : Nat} (hf : fJ1_init X x0 = some Xf) : ∀ (H : Heap) (locs : List Loc) (ls : Array Slot) (cells slots : Nat), cells + 0 ≤ 0 → slots + 0 ≤ 0 → xR D cA A Zs X H → va_S A s.heap H locs → lv_has ls 1 [(0, .ref x0)] → W p l e rmJ1_init s m args below meth c H locs cells slots (MQ below (xQv D cA A Zs Xf) args s 0 0 A) (F0 m 0 ls []) := by
  intro H locs ls cells slots hc hs hR hS hl
  refine lv_aload_n E.hx E.hb dJ1_init_0 rfl (lv_at hl 0 rfl) ?_
  obtain ⟨X1, hX1, hf⟩ := bd_e hf
  refine xrun_v (va_runI (As := []) (rest := []) E.1 (tJ0_init l hX1) (cwJ1_1 E.ht ⟨Nat.le_of_ble_eq_true rfl, Nat.le_of_ble_eq_true rfl⟩) (xPreS E hR hS) rfl rfl hl.1 rfl (lv_room (Nat.le_of_ble_eq_true rfl)) dJ1_init_1 ⟨Nat.le_trans (by omega) (Nat.le_refl 0), Nat.le_trans (by omega) (Nat.le_refl 0)⟩) hS (fun H locs hR hS => ?_)
  refine lv_aload_n E.hx E.hb dJ1_init_4 rfl (lv_at hl 0 rfl) ?_
  refine lv_iconst (v := 0) E.hx E.hb dJ1_init_5 (by decide) ?_
  obtain ⟨X3, hX3, hf⟩ := bd_e hf
  refine xpJ1_7 E hR hS hX3 dJ1_init_6 (fun H locs hR hS => ?_)
  obtain rfl := Option.some.inj hf
  exact xret_v E (by omega) (by omega) hR hS dJ1_init_9
theorem tJ1_init (l : Launch) {D : va_G} {cA : Nat → ClassId} {A : Nat → Prop} {Zs : XZ} {X Xf : AH} {x0 : Nat}  (hf : fJ1_init X x0 = some Xf) : Met l yJ1_init (ws_ yJ1_init cJ1_init 1 none) rmJ1_init (xPc D cA A Zs X [.ref x0]) (xQv D cA A Zs Xf) 0 0 A := by
  refine Met.ofW (cc := cJ1_init) (maxL := 1) (ret := none) (by decide) rfl ?_
  intro p e s m args below meth c s₁ B hml hv
  obtain ⟨rfl, hR, hK⟩ := hv
  have hts := atoms_spec (ws := (ws_ yJ1_init cJ1_init 1 none)) B.pre
  rw [lg_entry_eq]
  exact wJ1_init_0 (E := ⟨⟨B.exec, B.bytes, hml, findClass_of_methodNamed B.named, fun w h => hts w (List.mem_cons_of_mem _ h)⟩, hK, B.returns, B.notSynchronized⟩) (name_of_methodNamed B.named B.method).1 hf _ _ _ 0 0 (Nat.le_of_ble_eq_true rfl) (Nat.le_of_ble_eq_true rfl) hR va_S.rf (lv_entry [.ref x0] (n := 1) (Nat.le_of_ble_eq_true rfl))
end
abbrev rmJ2_init : Room := { frames := 3, cells := 0, slots := 0, locals := 52 }
theorem cwJ2_1 {R : Room} {s : State} {args : Array Value} (ht : ∀ w ∈ lw_all, w.before args s = true) (hR : rmJ1_init.frames + 1 ≤ R.frames ∧ 8 + (1 + 11) + rmJ1_init.locals ≤ R.locals) : CallB R s args RJ2 1 yJ1_init cJ1_init 1 none (ws_ yJ1_init cJ1_init 1 none) rmJ1_init 0 0 0 ∧ yJ1_init.name = "<init>" ∧ (Cond.instanceMethod yJ1_init).before args s = true :=
  cwI 0 ht (lw_meth q124) rfl rfl rfl (ht _ q71) (ht _ q122) (ht _ q123) rfl (by decide +kernel) hR
section
variable {p : Program} {l : Launch} {e : Env} {s : State} {m : MethodId} {args : Array Value} {below : List Frame} {meth : Method} {c : Code} {D : va_G} {cA : Nat → ClassId} {A : Nat → Prop} {Zs : XZ} {Xf : AH} {r : Int32} {rl : Int64} {ra : Nat} {tv : Unit ⊕ Nat} {ti : Int32 ⊕ Nat} {tr : Nat ⊕ Nat} {q2 : Option Nat}
def fJ2_init  (X : AH) (x0 : Nat) : Option AH :=
  (fJ1_init X x0).bind fun X1 =>
  (pF X1 x0 9 1 (.ref X1.2.1.1)).bind fun X3 =>
  some X3
theorem wJ2_init_0 (E : xE p m c cJ2_init 1 s args RJ2 D cA A Zs meth none) (hin : meth.name = "<init>") {X : AH} {x0 : Nat} (hf : fJ2_init X x0 = some Xf) : ∀ (H : Heap) (locs : List Loc) (ls : Array Slot) (cells slots : Nat), cells + 0 ≤ 0 → slots + 0 ≤ 0 → xR D cA A Zs X H → va_S A s.heap H locs → lv_has ls 1 [(0, .ref x0)] → W p l e rmJ2_init s m args below meth c H locs cells slots (MQ below (xQv D cA A Zs Xf) args s 0 0 A) (F0 m 0 ls []) := by
  intro H locs ls cells slots hc hs hR hS hl
  refine lv_aload_n E.hx E.hb dJ2_init_0 rfl (lv_at hl 0 rfl) ?_
  obtain ⟨X1, hX1, hf⟩ := bd_e hf
  refine xrun_v (va_runI (As := []) (rest := []) E.1 (tJ1_init l hX1) (cwJ2_1 E.ht ⟨Nat.le_of_ble_eq_true rfl, Nat.le_of_ble_eq_true rfl⟩) (xPreS E hR hS) rfl rfl hl.1 rfl (lv_room (Nat.le_of_ble_eq_true rfl)) dJ2_init_1 ⟨Nat.le_trans (by omega) (Nat.le_refl 0), Nat.le_trans (by omega) (Nat.le_refl 0)⟩) hS (fun H locs hR hS => ?_)
  refine lv_aload_n E.hx E.hb dJ2_init_4 rfl (lv_at hl 0 rfl) ?_
  refine xgetE E hR hS q129 dJ2_init_5 ?_
  obtain ⟨X3, hX3, hf⟩ := bd_e hf
  refine xpJ2_9 E hR hS hX3 dJ2_init_8 (fun H locs hR hS => ?_)
  obtain rfl := Option.some.inj hf
  exact xret_v E (by omega) (by omega) hR hS dJ2_init_11
theorem tJ2_init (l : Launch) {D : va_G} {cA : Nat → ClassId} {A : Nat → Prop} {Zs : XZ} {X Xf : AH} {x0 : Nat}  (hf : fJ2_init X x0 = some Xf) : Met l yJ2_init (ws_ yJ2_init cJ2_init 1 none) rmJ2_init (xPc D cA A Zs X [.ref x0]) (xQv D cA A Zs Xf) 0 0 A := by
  refine Met.ofW (cc := cJ2_init) (maxL := 1) (ret := none) (by decide) rfl ?_
  intro p e s m args below meth c s₁ B hml hv
  obtain ⟨rfl, hR, hK⟩ := hv
  have hts := atoms_spec (ws := (ws_ yJ2_init cJ2_init 1 none)) B.pre
  rw [lg_entry_eq]
  exact wJ2_init_0 (E := ⟨⟨B.exec, B.bytes, hml, findClass_of_methodNamed B.named, fun w h => hts w (List.mem_cons_of_mem _ h)⟩, hK, B.returns, B.notSynchronized⟩) (name_of_methodNamed B.named B.method).1 hf _ _ _ 0 0 (Nat.le_of_ble_eq_true rfl) (Nat.le_of_ble_eq_true rfl) hR va_S.rf (lv_entry [.ref x0] (n := 1) (Nat.le_of_ble_eq_true rfl))
end
abbrev rmJ2_grow_2 : Room := { frames := 1, cells := 1, slots := 40, locals := 64 }
section
variable {p : Program} {l : Launch} {e : Env} {s : State} {m : MethodId} {args : Array Value} {below : List Frame} {meth : Method} {c : Code} {D : va_G} {cA : Nat → ClassId} {A : Nat → Prop} {Zs : XZ} {Xf : AH} {r : Int32} {rl : Int64} {ra : Nat} {tv : Unit ⊕ Nat} {ti : Int32 ⊕ Nat} {tr : Nat ⊕ Nat} {q2 : Option Nat}
def fJ2_grow_2  (X : AH) (x0 : Nat) (x1 : Int32) : Option (Nat × AH) :=
  (gR X x0 9 1).bind fun v1 =>
  (gL X v1 5).bind fun v2 =>
  if 0 < v2 then none else ((gR X x0 9 1).bind fun v4 =>
  if v4 = X.2.1.1 then ((szg (jmax 10 x1) 40).bind fun n7 =>
  (some (xnw X (.inr (.inr (5, n7, fun _ => none))))).bind fun X6 =>
  (pF X6 x0 9 1 (.ref X.1)).bind fun X8 =>
  some (X.1, X8)) else none)
theorem wJ2_grow_2_0 (E : xE p m c cJ2_grow_2 4 s args RJ2 D cA A Zs meth (some (.array (.object "java/lang/Object")))) {X : AH} {x0 : Nat} {x1 : Int32} (hf : fJ2_grow_2 X x0 x1 = some (ra, Xf)) : ∀ (H : Heap) (locs : List Loc) (ls : Array Slot) (cells slots : Nat), cells + 1 ≤ 1 → slots + 40 ≤ 40 → xR D cA A Zs X H → va_S A s.heap H locs → lv_has ls 4 [(0, .ref x0), (1, .int x1)] → W p l e rmJ2_grow_2 s m args below meth c H locs cells slots (MQ below (xQr D cA A Zs ra Xf) args s 1 40 A) (F0 m 0 ls []) := by
  intro H locs ls cells slots hc hs hR hS hl
  refine lv_aload_n E.hx E.hb dJ2_grow_2_0 rfl (lv_at hl 0 rfl) ?_
  obtain ⟨v1, hv1, hf⟩ := bd_e hf
  refine xgJ2_9 E hR hv1 dJ2_grow_2_1 ?_
  obtain ⟨v2, hv2, hf⟩ := bd_e hf
  refine xlen (kd := 5) E hR rfl hv2 dJ2_grow_2_4 ?_
  refine lv_istore_n (lv' := [(2, .int v2), (0, .ref x0), (1, .int x1)]) E.hx E.hb dJ2_grow_2_5 rfl hl (by decide) rfl (fun ls hl => ?_)
  refine lv_iload_n E.hx E.hb dJ2_grow_2_6 rfl (lv_at hl 0 rfl) ?_
  refine lv_if_gt (tgt := 20) E.hx E.hb dJ2_grow_2_7 (by decide) (fun c3 => ?_) (fun c3 => ?_)
  · have hf := it_t hf c3
    have hf : none = some (ra, Xf) := hf
    cases hf
  · have hf := it_f hf c3
    refine lv_aload_n E.hx E.hb dJ2_grow_2_10 rfl (lv_at hl 1 rfl) ?_
    obtain ⟨v4, hv4, hf⟩ := bd_e hf
    refine xgJ2_9 E hR hv4 dJ2_grow_2_11 ?_
    refine xgetE E hR hS q129 dJ2_grow_2_14 ?_
    refine xacmp_eq (tgt := 45) E.hx E.hb dJ2_grow_2_17 (by decide) (fun c5 => ?_) (fun c5 => ?_)
    · have hf := it_t hf c5
      refine lv_aload_n E.hx E.hb dJ2_grow_2_45 rfl (lv_at hl 1 rfl) ?_
      refine lv_bipush (v := 10) E.hx E.hb dJ2_grow_2_46 (by decide) ?_
      refine lv_iload_n E.hx E.hb dJ2_grow_2_48 rfl (lv_at hl 2 rfl) ?_
      refine xmmax E hl.1 q716 (Nat.le_of_ble_eq_true rfl) (Nat.le_of_ble_eq_true rfl) (Nat.le_trans (by omega) (Nat.le_refl 1)) (Nat.le_trans (by omega) (Nat.le_refl 40)) dJ2_grow_2_49 ?_
      obtain ⟨n7, hn7, hf⟩ := bd_e hf
      obtain ⟨hn7a, hn7b, hn7c⟩ := szg_e hn7
      obtain ⟨X6, hX6, hf⟩ := bd_e hf
      refine xnewq (kd := 5) E hR hS rfl hn7a hn7b (by omega) (Nat.le_trans (by omega) (Nat.le_refl 1)) (Nat.le_trans (by omega) (Nat.le_refl 40)) q717 (E.2.1.2.2.2.2.2.1 "java/lang/Object" (by decide +kernel)) dJ2_grow_2_52 (fun H hR hS => ?_)
      rw [Option.some.inj hX6] at hR
      refine lv_dup_x1 E.hx E.hb dJ2_grow_2_55 rfl rfl ?_
      obtain ⟨X8, hX8, hf⟩ := bd_e hf
      refine xpJ2_9 E hR hS hX8 dJ2_grow_2_56 (fun H locs hR hS => ?_)
      obtain ⟨rfl, rfl⟩ := rt_e hf
      exact xret_r E (Or.inr ⟨_, rfl⟩) (by omega) (by omega) hR hS dJ2_grow_2_59
    · have hf := it_f hf c5
      have hf : none = some (ra, Xf) := hf
      cases hf
theorem tJ2_grow_2 (l : Launch) {D : va_G} {cA : Nat → ClassId} {A : Nat → Prop} {Zs : XZ} {X Xf : AH} {x0 : Nat} {x1 : Int32} {ra : Nat} (hf : fJ2_grow_2 X x0 x1 = some (ra, Xf)) : Met l yJ2_grow_2 (ws_ yJ2_grow_2 cJ2_grow_2 4 (some (.array (.object "java/lang/Object")))) rmJ2_grow_2 (xPc D cA A Zs X [.ref x0, .int x1]) (xQr D cA A Zs ra Xf) 1 40 A := by
  refine Met.ofW (cc := cJ2_grow_2) (maxL := 4) (ret := (some (.array (.object "java/lang/Object")))) (by decide) rfl ?_
  intro p e s m args below meth c s₁ B hml hv
  obtain ⟨rfl, hR, hK⟩ := hv
  have hts := atoms_spec (ws := (ws_ yJ2_grow_2 cJ2_grow_2 4 (some (.array (.object "java/lang/Object"))))) B.pre
  rw [lg_entry_eq]
  exact wJ2_grow_2_0 (E := ⟨⟨B.exec, B.bytes, hml, findClass_of_methodNamed B.named, fun w h => hts w (List.mem_cons_of_mem _ h)⟩, hK, B.returns, B.notSynchronized⟩) hf _ _ _ 0 0 (Nat.le_of_ble_eq_true rfl) (Nat.le_of_ble_eq_true rfl) hR va_S.rf (lv_entry [.ref x0, .int x1] (n := 4) (Nat.le_of_ble_eq_true rfl))
end
abbrev rmJ2_grow : Room := { frames := 2, cells := 1, slots := 40, locals := 87 }
theorem cwJ2_69 {R : Room} {s : State} {args : Array Value} (ht : ∀ w ∈ lw_all, w.before args s = true) (hR : rmJ2_grow_2.frames + 1 ≤ R.frames ∧ 8 + (4 + 11) + rmJ2_grow_2.locals ≤ R.locals) : CallW R s args RJ2 RJ2 69 yJ2_grow_2 cJ2_grow_2 4 (some (.array (.object "java/lang/Object"))) (ws_ yJ2_grow_2 cJ2_grow_2 4 (some (.array (.object "java/lang/Object")))) rmJ2_grow_2 1 40 1 :=
  cwV 1 ht (lw_V q669 q671 qs16 q72 q672) rfl rfl rfl (by decide +kernel) hR
section
variable {p : Program} {l : Launch} {e : Env} {s : State} {m : MethodId} {args : Array Value} {below : List Frame} {meth : Method} {c : Code} {D : va_G} {cA : Nat → ClassId} {A : Nat → Prop} {Zs : XZ} {Xf : AH} {r : Int32} {rl : Int64} {ra : Nat} {tv : Unit ⊕ Nat} {ti : Int32 ⊕ Nat} {tr : Nat ⊕ Nat} {q2 : Option Nat}
def fJ2_grow  (X : AH) (x0 : Nat) : Option (Nat × AH) :=
  (gI X x0 9 2).bind fun v1 =>
  (ck X x0 9).bind fun _ =>
  (fJ2_grow_2 X x0 (v1 + 1)).bind fun (v4, X3) =>
  some (v4, X3)
theorem wJ2_grow_0 (E : xE p m c cJ2_grow 1 s args RJ2 D cA A Zs meth (some (.array (.object "java/lang/Object")))) {X : AH} {x0 : Nat} (hf : fJ2_grow X x0 = some (ra, Xf)) : ∀ (H : Heap) (locs : List Loc) (ls : Array Slot) (cells slots : Nat), cells + 1 ≤ 1 → slots + 40 ≤ 40 → xR D cA A Zs X H → va_S A s.heap H locs → lv_has ls 1 [(0, .ref x0)] → W p l e rmJ2_grow s m args below meth c H locs cells slots (MQ below (xQr D cA A Zs ra Xf) args s 1 40 A) (F0 m 0 ls []) := by
  intro H locs ls cells slots hc hs hR hS hl
  refine lv_aload_n E.hx E.hb dJ2_grow_0 rfl (lv_at hl 0 rfl) ?_
  refine lv_aload_n E.hx E.hb dJ2_grow_1 rfl (lv_at hl 0 rfl) ?_
  obtain ⟨v1, hv1, hf⟩ := bd_e hf
  refine xgJ2_48 E hR hv1 dJ2_grow_2 ?_
  refine lv_iconst (v := 1) E.hx E.hb dJ2_grow_5 (by decide) ?_
  refine lv_iadd E.hx E.hb dJ2_grow_6 ?_
  obtain ⟨u2, hu2, hf⟩ := bd_e hf
  obtain ⟨⟨v4, X3⟩, hv4, hf⟩ := bd_e hf
  refine xrun_r (va_runV (As := [.int (v1 + 1)]) (rest := []) E.1 (tJ2_grow_2 l hv4) (cwJ2_69 E.ht ⟨Nat.le_of_ble_eq_true rfl, Nat.le_of_ble_eq_true rfl⟩) (xPreV (ci := 9) E hR hS rfl (ck_e hu2)) rfl rfl hl.1 rfl (lv_room (Nat.le_of_ble_eq_true rfl)) dJ2_grow_7 ⟨Nat.le_trans (by omega) (Nat.le_refl 1), Nat.le_trans (by omega) (Nat.le_refl 40)⟩) hS (fun H locs hR hS => ?_)
  obtain ⟨rfl, rfl⟩ := rt_e hf
  exact xret_r E (Or.inr ⟨_, rfl⟩) (by omega) (by omega) hR hS dJ2_grow_10
theorem tJ2_grow (l : Launch) {D : va_G} {cA : Nat → ClassId} {A : Nat → Prop} {Zs : XZ} {X Xf : AH} {x0 : Nat} {ra : Nat} (hf : fJ2_grow X x0 = some (ra, Xf)) : Met l yJ2_grow (ws_ yJ2_grow cJ2_grow 1 (some (.array (.object "java/lang/Object")))) rmJ2_grow (xPc D cA A Zs X [.ref x0]) (xQr D cA A Zs ra Xf) 1 40 A := by
  refine Met.ofW (cc := cJ2_grow) (maxL := 1) (ret := (some (.array (.object "java/lang/Object")))) (by decide) rfl ?_
  intro p e s m args below meth c s₁ B hml hv
  obtain ⟨rfl, hR, hK⟩ := hv
  have hts := atoms_spec (ws := (ws_ yJ2_grow cJ2_grow 1 (some (.array (.object "java/lang/Object"))))) B.pre
  rw [lg_entry_eq]
  exact wJ2_grow_0 (E := ⟨⟨B.exec, B.bytes, hml, findClass_of_methodNamed B.named, fun w h => hts w (List.mem_cons_of_mem _ h)⟩, hK, B.returns, B.notSynchronized⟩) hf _ _ _ 0 0 (Nat.le_of_ble_eq_true rfl) (Nat.le_of_ble_eq_true rfl) hR va_S.rf (lv_entry [.ref x0] (n := 1) (Nat.le_of_ble_eq_true rfl))
end
abbrev rmJ2_add_2 : Room := { frames := 3, cells := 1, slots := 40, locals := 107 }
theorem cwJ2_129 {R : Room} {s : State} {args : Array Value} (ht : ∀ w ∈ lw_all, w.before args s = true) (hR : rmJ2_grow.frames + 1 ≤ R.frames ∧ 8 + (1 + 11) + rmJ2_grow.locals ≤ R.locals) : CallW R s args RJ2 RJ2 129 yJ2_grow cJ2_grow 1 (some (.array (.object "java/lang/Object"))) (ws_ yJ2_grow cJ2_grow 1 (some (.array (.object "java/lang/Object")))) rmJ2_grow 1 40 0 :=
  cwV 0 ht (lw_V q665 q667 qs15 q72 q668) rfl rfl rfl (by decide +kernel) hR
section
variable {p : Program} {l : Launch} {e : Env} {s : State} {m : MethodId} {args : Array Value} {below : List Frame} {meth : Method} {c : Code} {D : va_G} {cA : Nat → ClassId} {A : Nat → Prop} {Zs : XZ} {Xf : AH} {r : Int32} {rl : Int64} {ra : Nat} {tv : Unit ⊕ Nat} {ti : Int32 ⊕ Nat} {tr : Nat ⊕ Nat} {q2 : Option Nat}
def fJ2_add_2_b11  (X : AH) (x0 : Nat) (x1 : Nat) (x2 : Nat) (x3 : Int32) : Option AH :=
  (gCh X x1).bind fun v2 =>
  (pQ X x2 5 x3 (some x1)).bind fun X1 =>
  (pF X1 x0 9 2 (.int (x3 + 1))).bind fun X3 =>
  some X3
theorem wJ2_add_2_b11 (E : xE p m c cJ2_add_2 4 s args RJ2 D cA A Zs meth none) {X : AH} {x0 : Nat} {x1 : Nat} {x2 : Nat} {x3 : Int32} (hf : fJ2_add_2_b11 X x0 x1 x2 x3 = some Xf) : ∀ (H : Heap) (locs : List Loc) (ls : Array Slot) (cells slots : Nat), cells + 0 ≤ 1 → slots + 0 ≤ 40 → xR D cA A Zs X H → va_S A s.heap H locs → lv_has ls 4 [(0, .ref x0), (1, .ref x1), (2, .ref x2), (3, .int x3)] → W p l e rmJ2_add_2 s m args below meth c H locs cells slots (MQ below (xQv D cA A Zs Xf) args s 1 40 A) (F0 m 11 ls []) := by
  intro H locs ls cells slots hc hs hR hS hl
  refine lv_aload_n E.hx E.hb dJ2_add_2_11 rfl (lv_at hl 2 rfl) ?_
  refine lv_iload_n E.hx E.hb dJ2_add_2_12 rfl (lv_at hl 3 rfl) ?_
  refine lv_aload_n E.hx E.hb dJ2_add_2_13 rfl (lv_at hl 1 rfl) ?_
  obtain ⟨v2, hv2, hf⟩ := bd_e hf
  obtain ⟨X1, hX1, hf⟩ := bd_e hf
  refine xastO E hR hS hv2 hX1 dJ2_add_2_14 (fun H locs hR hS => ?_)
  refine lv_aload_n E.hx E.hb dJ2_add_2_15 rfl (lv_at hl 0 rfl) ?_
  refine lv_iload_n E.hx E.hb dJ2_add_2_16 rfl (lv_at hl 3 rfl) ?_
  refine lv_iconst (v := 1) E.hx E.hb dJ2_add_2_17 (by decide) ?_
  refine lv_iadd E.hx E.hb dJ2_add_2_18 ?_
  obtain ⟨X3, hX3, hf⟩ := bd_e hf
  refine xpJ2_48 E hR hS hX3 dJ2_add_2_19 (fun H locs hR hS => ?_)
  obtain rfl := Option.some.inj hf
  exact xret_v E (by omega) (by omega) hR hS dJ2_add_2_22
def fJ2_add_2  (X : AH) (x0 : Nat) (x1 : Nat) (x2 : Nat) (x3 : Int32) : Option AH :=
  (gL X x2 5).bind fun v1 =>
  if x3 = v1 then ((ck X x0 9).bind fun _ =>
  (fJ2_grow X x0).bind fun (v5, X4) =>
  fJ2_add_2_b11 X4 x0 x1 v5 x3) else (fJ2_add_2_b11 X x0 x1 x2 x3)
theorem wJ2_add_2_0 (E : xE p m c cJ2_add_2 4 s args RJ2 D cA A Zs meth none) {X : AH} {x0 : Nat} {x1 : Nat} {x2 : Nat} {x3 : Int32} (hf : fJ2_add_2 X x0 x1 x2 x3 = some Xf) : ∀ (H : Heap) (locs : List Loc) (ls : Array Slot) (cells slots : Nat), cells + 1 ≤ 1 → slots + 40 ≤ 40 → xR D cA A Zs X H → va_S A s.heap H locs → lv_has ls 4 [(0, .ref x0), (1, .ref x1), (2, .ref x2), (3, .int x3)] → W p l e rmJ2_add_2 s m args below meth c H locs cells slots (MQ below (xQv D cA A Zs Xf) args s 1 40 A) (F0 m 0 ls []) := by
  intro H locs ls cells slots hc hs hR hS hl
  refine lv_iload_n E.hx E.hb dJ2_add_2_0 rfl (lv_at hl 3 rfl) ?_
  refine lv_aload_n E.hx E.hb dJ2_add_2_1 rfl (lv_at hl 2 rfl) ?_
  obtain ⟨v1, hv1, hf⟩ := bd_e hf
  refine xlen (kd := 5) E hR rfl hv1 dJ2_add_2_2 ?_
  refine lv_icmp_ne (tgt := 11) E.hx E.hb dJ2_add_2_3 (by decide) (fun c2 => ?_) (fun c2 => ?_)
  · have hf := it_f hf c2
    exact wJ2_add_2_b11 E  hf _ _ _ _ _ (by omega) (by omega) hR hS (lv_sub hl [0, 1, 2, 3] rfl)
  · have hf := it_t hf c2
    refine lv_aload_n E.hx E.hb dJ2_add_2_6 rfl (lv_at hl 0 rfl) ?_
    obtain ⟨u3, hu3, hf⟩ := bd_e hf
    obtain ⟨⟨v5, X4⟩, hv5, hf⟩ := bd_e hf
    refine xrun_r (va_runV (As := []) (rest := []) E.1 (tJ2_grow l hv5) (cwJ2_129 E.ht ⟨Nat.le_of_ble_eq_true rfl, Nat.le_of_ble_eq_true rfl⟩) (xPreV (ci := 9) E hR hS rfl (ck_e hu3)) rfl rfl hl.1 rfl (lv_room (Nat.le_of_ble_eq_true rfl)) dJ2_add_2_7 ⟨Nat.le_trans (by omega) (Nat.le_refl 1), Nat.le_trans (by omega) (Nat.le_refl 40)⟩) hS (fun H locs hR hS => ?_)
    refine lv_astore_n (lv' := [(2, .ref v5), (0, .ref x0), (1, .ref x1), (3, .int x3)]) E.hx E.hb dJ2_add_2_10 rfl hl (by decide) rfl (fun ls hl => ?_)
    exact wJ2_add_2_b11 E  hf _ _ _ _ _ (by omega) (by omega) hR hS (lv_sub hl [1, 2, 0, 3] rfl)
theorem tJ2_add_2 (l : Launch) {D : va_G} {cA : Nat → ClassId} {A : Nat → Prop} {Zs : XZ} {X Xf : AH} {x0 : Nat} {x1 : Nat} {x2 : Nat} {x3 : Int32}  (hf : fJ2_add_2 X x0 x1 x2 x3 = some Xf) : Met l yJ2_add_2 (ws_ yJ2_add_2 cJ2_add_2 4 none) rmJ2_add_2 (xPc D cA A Zs X [.ref x0, .ref x1, .ref x2, .int x3]) (xQv D cA A Zs Xf) 1 40 A := by
  refine Met.ofW (cc := cJ2_add_2) (maxL := 4) (ret := none) (by decide) rfl ?_
  intro p e s m args below meth c s₁ B hml hv
  obtain ⟨rfl, hR, hK⟩ := hv
  have hts := atoms_spec (ws := (ws_ yJ2_add_2 cJ2_add_2 4 none)) B.pre
  rw [lg_entry_eq]
  exact wJ2_add_2_0 (E := ⟨⟨B.exec, B.bytes, hml, findClass_of_methodNamed B.named, fun w h => hts w (List.mem_cons_of_mem _ h)⟩, hK, B.returns, B.notSynchronized⟩) hf _ _ _ 0 0 (Nat.le_of_ble_eq_true rfl) (Nat.le_of_ble_eq_true rfl) hR va_S.rf (lv_entry [.ref x0, .ref x1, .ref x2, .int x3] (n := 4) (Nat.le_of_ble_eq_true rfl))
end
abbrev rmJ2_add : Room := { frames := 4, cells := 1, slots := 40, locals := 130 }
theorem cwJ2_131 {R : Room} {s : State} {args : Array Value} (ht : ∀ w ∈ lw_all, w.before args s = true) (hR : rmJ2_add_2.frames + 1 ≤ R.frames ∧ 8 + (4 + 11) + rmJ2_add_2.locals ≤ R.locals) : CallW R s args RJ2 RJ2 131 yJ2_add_2 cJ2_add_2 4 none (ws_ yJ2_add_2 cJ2_add_2 4 none) rmJ2_add_2 1 40 3 :=
  cwV 3 ht (lw_V q661 q663 qs14 q72 q664) rfl rfl rfl (by decide +kernel) hR
section
variable {p : Program} {l : Launch} {e : Env} {s : State} {m : MethodId} {args : Array Value} {below : List Frame} {meth : Method} {c : Code} {D : va_G} {cA : Nat → ClassId} {A : Nat → Prop} {Zs : XZ} {Xf : AH} {r : Int32} {rl : Int64} {ra : Nat} {tv : Unit ⊕ Nat} {ti : Int32 ⊕ Nat} {tr : Nat ⊕ Nat} {q2 : Option Nat}
def fJ2_add  (X : AH) (x0 : Nat) (x1 : Nat) : Option (Int32 × AH) :=
  (gI X x0 9 0).bind fun v1 =>
  (pF X x0 9 0 (.int (v1 + 1))).bind fun X2 =>
  (gR X2 x0 9 1).bind fun v3 =>
  (gI X2 x0 9 2).bind fun v4 =>
  (ck X2 x0 9).bind fun _ =>
  (fJ2_add_2 X2 x0 x1 v3 v4).bind fun X6 =>
  some (1, X6)
theorem wJ2_add_0 (E : xE p m c cJ2_add 2 s args RJ2 D cA A Zs meth (some .boolean)) {X : AH} {x0 : Nat} {x1 : Nat} (hf : fJ2_add X x0 x1 = some (r, Xf)) : ∀ (H : Heap) (locs : List Loc) (ls : Array Slot) (cells slots : Nat), cells + 1 ≤ 1 → slots + 40 ≤ 40 → xR D cA A Zs X H → va_S A s.heap H locs → lv_has ls 2 [(0, .ref x0), (1, .ref x1)] → W p l e rmJ2_add s m args below meth c H locs cells slots (MQ below (xQi D cA A Zs r Xf) args s 1 40 A) (F0 m 0 ls []) := by
  intro H locs ls cells slots hc hs hR hS hl
  refine lv_aload_n E.hx E.hb dJ2_add_0 rfl (lv_at hl 0 rfl) ?_
  refine lv_dup E.hx E.hb dJ2_add_1 rfl ?_
  obtain ⟨v1, hv1, hf⟩ := bd_e hf
  refine xgJ2_63 E hR hv1 dJ2_add_2 ?_
  refine lv_iconst (v := 1) E.hx E.hb dJ2_add_5 (by decide) ?_
  refine lv_iadd E.hx E.hb dJ2_add_6 ?_
  obtain ⟨X2, hX2, hf⟩ := bd_e hf
  refine xpJ2_63 E hR hS hX2 dJ2_add_7 (fun H locs hR hS => ?_)
  refine lv_aload_n E.hx E.hb dJ2_add_10 rfl (lv_at hl 0 rfl) ?_
  refine lv_aload_n E.hx E.hb dJ2_add_11 rfl (lv_at hl 1 rfl) ?_
  refine lv_aload_n E.hx E.hb dJ2_add_12 rfl (lv_at hl 0 rfl) ?_
  obtain ⟨v3, hv3, hf⟩ := bd_e hf
  refine xgJ2_9 E hR hv3 dJ2_add_13 ?_
  refine lv_aload_n E.hx E.hb dJ2_add_16 rfl (lv_at hl 0 rfl) ?_
  obtain ⟨v4, hv4, hf⟩ := bd_e hf
  refine xgJ2_48 E hR hv4 dJ2_add_17 ?_
  obtain ⟨u5, hu5, hf⟩ := bd_e hf
  obtain ⟨X6, hX6, hf⟩ := bd_e hf
  refine xrun_v (va_runV (As := [.ref x1, .ref v3, .int v4]) (rest := []) E.1 (tJ2_add_2 l hX6) (cwJ2_131 E.ht ⟨Nat.le_of_ble_eq_true rfl, Nat.le_of_ble_eq_true rfl⟩) (xPreV (ci := 9) E hR hS rfl (ck_e hu5)) rfl rfl hl.1 rfl (lv_room (Nat.le_of_ble_eq_true rfl)) dJ2_add_20 ⟨Nat.le_trans (by omega) (Nat.le_refl 1), Nat.le_trans (by omega) (Nat.le_refl 40)⟩) hS (fun H locs hR hS => ?_)
  refine lv_iconst (v := 1) E.hx E.hb dJ2_add_23 (by decide) ?_
  obtain ⟨rfl, rfl⟩ := rt_e hf
  exact xret_z E rfl (by omega) (by omega) hR hS dJ2_add_24
theorem tJ2_add (l : Launch) {D : va_G} {cA : Nat → ClassId} {A : Nat → Prop} {Zs : XZ} {X Xf : AH} {x0 : Nat} {x1 : Nat} {r : Int32} (hf : fJ2_add X x0 x1 = some (r, Xf)) : Met l yJ2_add (ws_ yJ2_add cJ2_add 2 (some .boolean)) rmJ2_add (xPc D cA A Zs X [.ref x0, .ref x1]) (xQi D cA A Zs r Xf) 1 40 A := by
  refine Met.ofW (cc := cJ2_add) (maxL := 2) (ret := (some .boolean)) (by decide) rfl ?_
  intro p e s m args below meth c s₁ B hml hv
  obtain ⟨rfl, hR, hK⟩ := hv
  have hts := atoms_spec (ws := (ws_ yJ2_add cJ2_add 2 (some .boolean))) B.pre
  rw [lg_entry_eq]
  exact wJ2_add_0 (E := ⟨⟨B.exec, B.bytes, hml, findClass_of_methodNamed B.named, fun w h => hts w (List.mem_cons_of_mem _ h)⟩, hK, B.returns, B.notSynchronized⟩) hf _ _ _ 0 0 (Nat.le_of_ble_eq_true rfl) (Nat.le_of_ble_eq_true rfl) hR va_S.rf (lv_entry [.ref x0, .ref x1] (n := 2) (Nat.le_of_ble_eq_true rfl))
end
abbrev rmX2_begins : Room := { frames := 1, cells := 0, slots := 0, locals := 12 }
section
variable {p : Program} {l : Launch} {e : Env} {s : State} {m : MethodId} {args : Array Value} {below : List Frame} {meth : Method} {c : Code} {D : va_G} {cA : Nat → ClassId} {A : Nat → Prop} {Zs : XZ} {Xf : AH} {r : Int32} {rl : Int64} {ra : Nat} {tv : Unit ⊕ Nat} {ti : Int32 ⊕ Nat} {tr : Nat ⊕ Nat} {q2 : Option Nat}
def fX2_begins  (X : AH) (x0 : Nat) (x1 : Int32) : Option AH :=
  (gI X x0 2 1).bind fun v1 =>
  if 16 ≤ v1 then (some X) else ((gR X x0 2 0).bind fun v3 =>
  (gI X x0 2 1).bind fun v4 =>
  (pF X x0 2 1 (.int (v4 + 1))).bind fun X5 =>
  (pA X5 v3 0 v4 x1).bind fun X6 =>
  some X6)
theorem wX2_begins_0 (E : xE p m c cX2_begins 2 s args RX2 D cA A Zs meth none) {X : AH} {x0 : Nat} {x1 : Int32} (hf : fX2_begins X x0 x1 = some Xf) : ∀ (H : Heap) (locs : List Loc) (ls : Array Slot) (cells slots : Nat), cells + 0 ≤ 0 → slots + 0 ≤ 0 → xR D cA A Zs X H → va_S A s.heap H locs → lv_has ls 2 [(0, .ref x0), (1, .int x1)] → W p l e rmX2_begins s m args below meth c H locs cells slots (MQ below (xQv D cA A Zs Xf) args s 0 0 A) (F0 m 0 ls []) := by
  intro H locs ls cells slots hc hs hR hS hl
  refine lv_aload_n E.hx E.hb dX2_begins_0 rfl (lv_at hl 0 rfl) ?_
  obtain ⟨v1, hv1, hf⟩ := bd_e hf
  refine xgX2_15 E hR hv1 dX2_begins_1 ?_
  refine lv_bipush (v := 16) E.hx E.hb dX2_begins_4 (by decide) ?_
  refine lv_icmp_ge (tgt := 26) E.hx E.hb dX2_begins_6 (by decide) (fun c2 => ?_) (fun c2 => ?_)
  · have hf := it_t hf c2
    obtain rfl := Option.some.inj hf
    exact xret_v E (by omega) (by omega) hR hS dX2_begins_26
  · have hf := it_f hf c2
    refine lv_aload_n E.hx E.hb dX2_begins_9 rfl (lv_at hl 0 rfl) ?_
    obtain ⟨v3, hv3, hf⟩ := bd_e hf
    refine xgX2_9 E hR hv3 dX2_begins_10 ?_
    refine lv_aload_n E.hx E.hb dX2_begins_13 rfl (lv_at hl 0 rfl) ?_
    refine lv_dup E.hx E.hb dX2_begins_14 rfl ?_
    obtain ⟨v4, hv4, hf⟩ := bd_e hf
    refine xgX2_15 E hR hv4 dX2_begins_15 ?_
    refine lv_dup_x1 E.hx E.hb dX2_begins_18 rfl rfl ?_
    refine lv_iconst (v := 1) E.hx E.hb dX2_begins_19 (by decide) ?_
    refine lv_iadd E.hx E.hb dX2_begins_20 ?_
    obtain ⟨X5, hX5, hf⟩ := bd_e hf
    refine xpX2_15 E hR hS hX5 dX2_begins_21 (fun H locs hR hS => ?_)
    refine lv_iload_n E.hx E.hb dX2_begins_24 rfl (lv_at hl 1 rfl) ?_
    obtain ⟨X6, hX6, hf⟩ := bd_e hf
    refine xist E hR hS hX6 dX2_begins_25 (fun H locs hR hS => ?_)
    obtain rfl := Option.some.inj hf
    exact xret_v E (by omega) (by omega) hR hS dX2_begins_26
theorem tX2_begins (l : Launch) {D : va_G} {cA : Nat → ClassId} {A : Nat → Prop} {Zs : XZ} {X Xf : AH} {x0 : Nat} {x1 : Int32}  (hf : fX2_begins X x0 x1 = some Xf) : Met l yX2_begins (ws_ yX2_begins cX2_begins 2 none) rmX2_begins (xPc D cA A Zs X [.ref x0, .int x1]) (xQv D cA A Zs Xf) 0 0 A := by
  refine Met.ofW (cc := cX2_begins) (maxL := 2) (ret := none) (by decide) rfl ?_
  intro p e s m args below meth c s₁ B hml hv
  obtain ⟨rfl, hR, hK⟩ := hv
  have hts := atoms_spec (ws := (ws_ yX2_begins cX2_begins 2 none)) B.pre
  rw [lg_entry_eq]
  exact wX2_begins_0 (E := ⟨⟨B.exec, B.bytes, hml, findClass_of_methodNamed B.named, fun w h => hts w (List.mem_cons_of_mem _ h)⟩, hK, B.returns, B.notSynchronized⟩) hf _ _ _ 0 0 (Nat.le_of_ble_eq_true rfl) (Nat.le_of_ble_eq_true rfl) hR va_S.rf (lv_entry [.ref x0, .int x1] (n := 2) (Nat.le_of_ble_eq_true rfl))
end
abbrev rmX2_init : Room := { frames := 1, cells := 1, slots := 16, locals := 12 }
section
variable {p : Program} {l : Launch} {e : Env} {s : State} {m : MethodId} {args : Array Value} {below : List Frame} {meth : Method} {c : Code} {D : va_G} {cA : Nat → ClassId} {A : Nat → Prop} {Zs : XZ} {Xf : AH} {r : Int32} {rl : Int64} {ra : Nat} {tv : Unit ⊕ Nat} {ti : Int32 ⊕ Nat} {tr : Nat ⊕ Nat} {q2 : Option Nat}
def fX2_init  (X : AH) (x0 : Nat) : Option AH :=
  (some (xnw X (.inr (.inl (0, 16, fun _ => 0))))).bind fun X1 =>
  (pF X1 x0 2 0 (.ref X.1)).bind fun X2 =>
  some X2
theorem wX2_init_0 (E : xE p m c cX2_init 1 s args RX2 D cA A Zs meth none) (hin : meth.name = "<init>") {X : AH} {x0 : Nat} (hf : fX2_init X x0 = some Xf) : ∀ (H : Heap) (locs : List Loc) (ls : Array Slot) (cells slots : Nat), cells + 1 ≤ 1 → slots + 16 ≤ 16 → xR D cA A Zs X H → va_S A s.heap H locs → lv_has ls 1 [(0, .ref x0)] → W p l e rmX2_init s m args below meth c H locs cells slots (MQ below (xQv D cA A Zs Xf) args s 1 16 A) (F0 m 0 ls []) := by
  intro H locs ls cells slots hc hs hR hS hl
  refine lv_aload_n E.hx E.hb dX2_init_0 rfl (lv_at hl 0 rfl) ?_
  refine W.objInit E.hx E.hb E.ho (E.ht _ q212) (E.ht _ q107) (E.ht _ q108) rfl (by rw [E.1.2.2.1]; exact hl.1) rfl dX2_init_1 (Nat.le_of_ble_eq_true rfl) (Nat.le_of_ble_eq_true rfl) ?_
  refine W.eq (g2 := F0 m 4 ls []) rfl ?_
  refine lv_aload_n E.hx E.hb dX2_init_4 rfl (lv_at hl 0 rfl) ?_
  refine lv_bipush (v := 16) E.hx E.hb dX2_init_5 (by decide) ?_
  obtain ⟨X1, hX1, hf⟩ := bd_e hf
  refine xnewa (N' := 16) E hR hS (by decide) (by decide) (by decide) (Nat.le_trans (by omega) (Nat.le_refl 1)) (Nat.le_trans (by omega) (Nat.le_refl 16)) q205 dX2_init_7 (fun H hR hS => ?_)
  rw [Option.some.inj hX1] at hR
  obtain ⟨X2, hX2, hf⟩ := bd_e hf
  refine xpX2_9 E hR hS hin hX2 dX2_init_9 (fun H locs hR hS => ?_)
  obtain rfl := Option.some.inj hf
  exact xret_v E (by omega) (by omega) hR hS dX2_init_12
theorem tX2_init (l : Launch) {D : va_G} {cA : Nat → ClassId} {A : Nat → Prop} {Zs : XZ} {X Xf : AH} {x0 : Nat}  (hf : fX2_init X x0 = some Xf) : Met l yX2_init (ws_ yX2_init cX2_init 1 none) rmX2_init (xPc D cA A Zs X [.ref x0]) (xQv D cA A Zs Xf) 1 16 A := by
  refine Met.ofW (cc := cX2_init) (maxL := 1) (ret := none) (by decide) rfl ?_
  intro p e s m args below meth c s₁ B hml hv
  obtain ⟨rfl, hR, hK⟩ := hv
  have hts := atoms_spec (ws := (ws_ yX2_init cX2_init 1 none)) B.pre
  rw [lg_entry_eq]
  exact wX2_init_0 (E := ⟨⟨B.exec, B.bytes, hml, findClass_of_methodNamed B.named, fun w h => hts w (List.mem_cons_of_mem _ h)⟩, hK, B.returns, B.notSynchronized⟩) (name_of_methodNamed B.named B.method).1 hf _ _ _ 0 0 (Nat.le_of_ble_eq_true rfl) (Nat.le_of_ble_eq_true rfl) hR va_S.rf (lv_entry [.ref x0] (n := 1) (Nat.le_of_ble_eq_true rfl))
end
abbrev rmX3_init : Room := { frames := 1, cells := 0, slots := 0, locals := 12 }
section
variable {p : Program} {l : Launch} {e : Env} {s : State} {m : MethodId} {args : Array Value} {below : List Frame} {meth : Method} {c : Code} {D : va_G} {cA : Nat → ClassId} {A : Nat → Prop} {Zs : XZ} {Xf : AH} {r : Int32} {rl : Int64} {ra : Nat} {tv : Unit ⊕ Nat} {ti : Int32 ⊕ Nat} {tr : Nat ⊕ Nat} {q2 : Option Nat}
def fX3_init  (X : AH) (x0 : Nat) (x1 : Int32) : Option AH :=
  (pN X x0 x1).bind fun X1 =>
  some X1
theorem wX3_init_0 (E : xE p m c cX3_init 2 s args RX3 D cA A Zs meth none) (hin : meth.name = "<init>") {X : AH} {x0 : Nat} {x1 : Int32} (hf : fX3_init X x0 x1 = some Xf) : ∀ (H : Heap) (locs : List Loc) (ls : Array Slot) (cells slots : Nat), cells + 0 ≤ 0 → slots + 0 ≤ 0 → xR D cA A Zs X H → va_S A s.heap H locs → lv_has ls 2 [(0, .ref x0), (1, .int x1)] → W p l e rmX3_init s m args below meth c H locs cells slots (MQ below (xQv D cA A Zs Xf) args s 0 0 A) (F0 m 0 ls []) := by
  intro H locs ls cells slots hc hs hR hS hl
  refine lv_aload_n E.hx E.hb dX3_init_0 rfl (lv_at hl 0 rfl) ?_
  refine W.objInit E.hx E.hb E.ho (E.ht _ q232) (E.ht _ q107) (E.ht _ q108) rfl (by rw [E.1.2.2.1]; exact hl.1) rfl dX3_init_1 (Nat.le_of_ble_eq_true rfl) (Nat.le_of_ble_eq_true rfl) ?_
  refine W.eq (g2 := F0 m 4 ls []) rfl ?_
  refine lv_aload_n E.hx E.hb dX3_init_4 rfl (lv_at hl 0 rfl) ?_
  refine lv_iload_n E.hx E.hb dX3_init_5 rfl (lv_at hl 1 rfl) ?_
  obtain ⟨X1, hX1, hf⟩ := bd_e hf
  refine xpN E hR hS hin hX1 q233 dX3_init_6 (fun H locs hR hS => ?_)
  obtain rfl := Option.some.inj hf
  exact xret_v E (by omega) (by omega) hR hS dX3_init_9
theorem tX3_init (l : Launch) {D : va_G} {cA : Nat → ClassId} {A : Nat → Prop} {Zs : XZ} {X Xf : AH} {x0 : Nat} {x1 : Int32}  (hf : fX3_init X x0 x1 = some Xf) : Met l yX3_init (ws_ yX3_init cX3_init 2 none) rmX3_init (xPc D cA A Zs X [.ref x0, .int x1]) (xQv D cA A Zs Xf) 0 0 A := by
  refine Met.ofW (cc := cX3_init) (maxL := 2) (ret := none) (by decide) rfl ?_
  intro p e s m args below meth c s₁ B hml hv
  obtain ⟨rfl, hR, hK⟩ := hv
  have hts := atoms_spec (ws := (ws_ yX3_init cX3_init 2 none)) B.pre
  rw [lg_entry_eq]
  exact wX3_init_0 (E := ⟨⟨B.exec, B.bytes, hml, findClass_of_methodNamed B.named, fun w h => hts w (List.mem_cons_of_mem _ h)⟩, hK, B.returns, B.notSynchronized⟩) (name_of_methodNamed B.named B.method).1 hf _ _ _ 0 0 (Nat.le_of_ble_eq_true rfl) (Nat.le_of_ble_eq_true rfl) hR va_S.rf (lv_entry [.ref x0, .int x1] (n := 2) (Nat.le_of_ble_eq_true rfl))
end
abbrev rmX3_number : Room := { frames := 1, cells := 0, slots := 0, locals := 12 }
section
variable {p : Program} {l : Launch} {e : Env} {s : State} {m : MethodId} {args : Array Value} {below : List Frame} {meth : Method} {c : Code} {D : va_G} {cA : Nat → ClassId} {A : Nat → Prop} {Zs : XZ} {Xf : AH} {r : Int32} {rl : Int64} {ra : Nat} {tv : Unit ⊕ Nat} {ti : Int32 ⊕ Nat} {tr : Nat ⊕ Nat} {q2 : Option Nat}
def fX3_number  (X : AH) (x0 : Nat) : Option (Int32 × AH) :=
  (gN X x0).bind fun v1 =>
  some (v1, X)
theorem wX3_number_0 (E : xE p m c cX3_number 1 s args RX3 D cA A Zs meth (some .int)) {X : AH} {x0 : Nat} (hf : fX3_number X x0 = some (r, Xf)) : ∀ (H : Heap) (locs : List Loc) (ls : Array Slot) (cells slots : Nat), cells + 0 ≤ 0 → slots + 0 ≤ 0 → xR D cA A Zs X H → va_S A s.heap H locs → lv_has ls 1 [(0, .ref x0)] → W p l e rmX3_number s m args below meth c H locs cells slots (MQ below (xQi D cA A Zs r Xf) args s 0 0 A) (F0 m 0 ls []) := by
  intro H locs ls cells slots hc hs hR hS hl
  refine lv_aload_n E.hx E.hb dX3_number_0 rfl (lv_at hl 0 rfl) ?_
  obtain ⟨v1, hv1, hf⟩ := bd_e hf
  refine xgN E hR hv1 q233 dX3_number_1 ?_
  obtain ⟨rfl, rfl⟩ := rt_e hf
  exact xret_i E (by omega) (by omega) hR hS dX3_number_4
theorem tX3_number (l : Launch) {D : va_G} {cA : Nat → ClassId} {A : Nat → Prop} {Zs : XZ} {X Xf : AH} {x0 : Nat} {r : Int32} (hf : fX3_number X x0 = some (r, Xf)) : Met l yX3_number (ws_ yX3_number cX3_number 1 (some .int)) rmX3_number (xPc D cA A Zs X [.ref x0]) (xQi D cA A Zs r Xf) 0 0 A := by
  refine Met.ofW (cc := cX3_number) (maxL := 1) (ret := (some .int)) (by decide) rfl ?_
  intro p e s m args below meth c s₁ B hml hv
  obtain ⟨rfl, hR, hK⟩ := hv
  have hts := atoms_spec (ws := (ws_ yX3_number cX3_number 1 (some .int))) B.pre
  rw [lg_entry_eq]
  exact wX3_number_0 (E := ⟨⟨B.exec, B.bytes, hml, findClass_of_methodNamed B.named, fun w h => hts w (List.mem_cons_of_mem _ h)⟩, hK, B.returns, B.notSynchronized⟩) hf _ _ _ 0 0 (Nat.le_of_ble_eq_true rfl) (Nat.le_of_ble_eq_true rfl) hR va_S.rf (lv_entry [.ref x0] (n := 1) (Nat.le_of_ble_eq_true rfl))
end
abbrev rmX3_sawn : Room := { frames := 1, cells := 0, slots := 0, locals := 12 }
section
variable {p : Program} {l : Launch} {e : Env} {s : State} {m : MethodId} {args : Array Value} {below : List Frame} {meth : Method} {c : Code} {D : va_G} {cA : Nat → ClassId} {A : Nat → Prop} {Zs : XZ} {Xf : AH} {r : Int32} {rl : Int64} {ra : Nat} {tv : Unit ⊕ Nat} {ti : Int32 ⊕ Nat} {tr : Nat ⊕ Nat} {q2 : Option Nat}
def fX3_sawn  (X : AH) (x0 : Nat) (x1 : Int32) : Option (Int32 × AH) :=
  some (x1, X)
theorem wX3_sawn_0 (E : xE p m c cX3_sawn 2 s args RX3 D cA A Zs meth (some .int)) {X : AH} {x0 : Nat} {x1 : Int32} (hf : fX3_sawn X x0 x1 = some (r, Xf)) : ∀ (H : Heap) (locs : List Loc) (ls : Array Slot) (cells slots : Nat), cells + 0 ≤ 0 → slots + 0 ≤ 0 → xR D cA A Zs X H → va_S A s.heap H locs → lv_has ls 2 [(0, .ref x0), (1, .int x1)] → W p l e rmX3_sawn s m args below meth c H locs cells slots (MQ below (xQi D cA A Zs r Xf) args s 0 0 A) (F0 m 0 ls []) := by
  intro H locs ls cells slots hc hs hR hS hl
  refine lv_iload_n E.hx E.hb dX3_sawn_0 rfl (lv_at hl 1 rfl) ?_
  obtain ⟨rfl, rfl⟩ := rt_e hf
  exact xret_i E (by omega) (by omega) hR hS dX3_sawn_1
theorem tX3_sawn (l : Launch) {D : va_G} {cA : Nat → ClassId} {A : Nat → Prop} {Zs : XZ} {X Xf : AH} {x0 : Nat} {x1 : Int32} {r : Int32} (hf : fX3_sawn X x0 x1 = some (r, Xf)) : Met l yX3_sawn (ws_ yX3_sawn cX3_sawn 2 (some .int)) rmX3_sawn (xPc D cA A Zs X [.ref x0, .int x1]) (xQi D cA A Zs r Xf) 0 0 A := by
  refine Met.ofW (cc := cX3_sawn) (maxL := 2) (ret := (some .int)) (by decide) rfl ?_
  intro p e s m args below meth c s₁ B hml hv
  obtain ⟨rfl, hR, hK⟩ := hv
  have hts := atoms_spec (ws := (ws_ yX3_sawn cX3_sawn 2 (some .int))) B.pre
  rw [lg_entry_eq]
  exact wX3_sawn_0 (E := ⟨⟨B.exec, B.bytes, hml, findClass_of_methodNamed B.named, fun w h => hts w (List.mem_cons_of_mem _ h)⟩, hK, B.returns, B.notSynchronized⟩) hf _ _ _ 0 0 (Nat.le_of_ble_eq_true rfl) (Nat.le_of_ble_eq_true rfl) hR va_S.rf (lv_entry [.ref x0, .int x1] (n := 2) (Nat.le_of_ble_eq_true rfl))
end
abbrev rmX3_size : Room := { frames := 2, cells := 0, slots := 0, locals := 33 }
theorem cwX3_13 {R : Room} {s : State} {args : Array Value} (ht : ∀ w ∈ lw_all, w.before args s = true) (hR : rmX2_begins.frames + 1 ≤ R.frames ∧ 8 + (2 + 11) + rmX2_begins.locals ≤ R.locals) : CallW R s args RX3 RX2 13 yX2_begins cX2_begins 2 none (ws_ yX2_begins cX2_begins 2 none) rmX2_begins 0 0 1 :=
  cwV 1 ht (lw_V q1199 q1133 q1134 q73 q1135) rfl rfl rfl (by decide +kernel) hR
section
variable {p : Program} {l : Launch} {e : Env} {s : State} {m : MethodId} {args : Array Value} {below : List Frame} {meth : Method} {c : Code} {D : va_G} {cA : Nat → ClassId} {A : Nat → Prop} {Zs : XZ} {Xf : AH} {r : Int32} {rl : Int64} {ra : Nat} {tv : Unit ⊕ Nat} {ti : Int32 ⊕ Nat} {tr : Nat ⊕ Nat} {q2 : Option Nat}
def fX3_size  (X : AH) (x0 : Nat) (x1 : Nat) (x2 : Nat) : Option (Int32 × AH) :=
  (ck X x1 2).bind fun _ =>
  (fX2_begins X x1 10).bind fun X2 =>
  (gR X2 x2 1 3).bind fun v4 =>
  (gN X2 x0).bind fun v5 =>
  (gA X2 v4 0 v5).bind fun v6 =>
  some (v6, X2)
theorem wX3_size_0 (E : xE p m c cX3_size 3 s args RX3 D cA A Zs meth (some .int)) {X : AH} {x0 : Nat} {x1 : Nat} {x2 : Nat} (hf : fX3_size X x0 x1 x2 = some (r, Xf)) : ∀ (H : Heap) (locs : List Loc) (ls : Array Slot) (cells slots : Nat), cells + 0 ≤ 0 → slots + 0 ≤ 0 → xR D cA A Zs X H → va_S A s.heap H locs → lv_has ls 3 [(0, .ref x0), (1, .ref x1), (2, .ref x2)] → W p l e rmX3_size s m args below meth c H locs cells slots (MQ below (xQi D cA A Zs r Xf) args s 0 0 A) (F0 m 0 ls []) := by
  intro H locs ls cells slots hc hs hR hS hl
  refine lv_aload_n E.hx E.hb dX3_size_0 rfl (lv_at hl 1 rfl) ?_
  refine lv_bipush (v := 10) E.hx E.hb dX3_size_1 (by decide) ?_
  obtain ⟨u1, hu1, hf⟩ := bd_e hf
  obtain ⟨X2, hX2, hf⟩ := bd_e hf
  refine xrun_v (va_runV (As := [.int 10]) (rest := []) E.1 (tX2_begins l hX2) (cwX3_13 E.ht ⟨Nat.le_of_ble_eq_true rfl, Nat.le_of_ble_eq_true rfl⟩) (xPreV (ci := 2) E hR hS rfl (ck_e hu1)) rfl rfl hl.1 rfl (lv_room (Nat.le_of_ble_eq_true rfl)) dX3_size_3 ⟨Nat.le_trans (by omega) (Nat.le_refl 0), Nat.le_trans (by omega) (Nat.le_refl 0)⟩) hS (fun H locs hR hS => ?_)
  refine lv_aload_n E.hx E.hb dX3_size_6 rfl (lv_at hl 2 rfl) ?_
  obtain ⟨v4, hv4, hf⟩ := bd_e hf
  refine xgX3_19 E hR hv4 dX3_size_7 ?_
  refine lv_aload_n E.hx E.hb dX3_size_10 rfl (lv_at hl 0 rfl) ?_
  obtain ⟨v5, hv5, hf⟩ := bd_e hf
  refine xgN E hR hv5 q233 dX3_size_11 ?_
  obtain ⟨v6, hv6, hf⟩ := bd_e hf
  refine xild E hR hv6 dX3_size_14 ?_
  obtain ⟨rfl, rfl⟩ := rt_e hf
  exact xret_i E (by omega) (by omega) hR hS dX3_size_15
theorem tX3_size (l : Launch) {D : va_G} {cA : Nat → ClassId} {A : Nat → Prop} {Zs : XZ} {X Xf : AH} {x0 : Nat} {x1 : Nat} {x2 : Nat} {r : Int32} (hf : fX3_size X x0 x1 x2 = some (r, Xf)) : Met l yX3_size (ws_ yX3_size cX3_size 3 (some .int)) rmX3_size (xPc D cA A Zs X [.ref x0, .ref x1, .ref x2]) (xQi D cA A Zs r Xf) 0 0 A := by
  refine Met.ofW (cc := cX3_size) (maxL := 3) (ret := (some .int)) (by decide) rfl ?_
  intro p e s m args below meth c s₁ B hml hv
  obtain ⟨rfl, hR, hK⟩ := hv
  have hts := atoms_spec (ws := (ws_ yX3_size cX3_size 3 (some .int))) B.pre
  rw [lg_entry_eq]
  exact wX3_size_0 (E := ⟨⟨B.exec, B.bytes, hml, findClass_of_methodNamed B.named, fun w h => hts w (List.mem_cons_of_mem _ h)⟩, hK, B.returns, B.notSynchronized⟩) hf _ _ _ 0 0 (Nat.le_of_ble_eq_true rfl) (Nat.le_of_ble_eq_true rfl) hR va_S.rf (lv_entry [.ref x0, .ref x1, .ref x2] (n := 3) (Nat.le_of_ble_eq_true rfl))
end
abbrev rmX4_init : Room := { frames := 2, cells := 0, slots := 0, locals := 33 }
theorem cwX4_3 {R : Room} {s : State} {args : Array Value} (ht : ∀ w ∈ lw_all, w.before args s = true) (hR : rmX3_init.frames + 1 ≤ R.frames ∧ 8 + (2 + 11) + rmX3_init.locals ≤ R.locals) : CallB R s args RX4 3 yX3_init cX3_init 2 none (ws_ yX3_init cX3_init 2 none) rmX3_init 0 0 1 ∧ yX3_init.name = "<init>" ∧ (Cond.instanceMethod yX3_init).before args s = true :=
  cwI 1 ht (lw_meth q231) rfl rfl rfl (ht _ q74) (ht _ q229) (ht _ q230) rfl (by decide +kernel) hR
section
variable {p : Program} {l : Launch} {e : Env} {s : State} {m : MethodId} {args : Array Value} {below : List Frame} {meth : Method} {c : Code} {D : va_G} {cA : Nat → ClassId} {A : Nat → Prop} {Zs : XZ} {Xf : AH} {r : Int32} {rl : Int64} {ra : Nat} {tv : Unit ⊕ Nat} {ti : Int32 ⊕ Nat} {tr : Nat ⊕ Nat} {q2 : Option Nat}
def fX4_init  (X : AH) (x0 : Nat) (x1 : Int32) : Option AH :=
  (fX3_init X x0 x1).bind fun X1 =>
  some X1
theorem wX4_init_0 (E : xE p m c cX4_init 2 s args RX4 D cA A Zs meth none) (hin : meth.name = "<init>") {X : AH} {x0 : Nat} {x1 : Int32} (hf : fX4_init X x0 x1 = some Xf) : ∀ (H : Heap) (locs : List Loc) (ls : Array Slot) (cells slots : Nat), cells + 0 ≤ 0 → slots + 0 ≤ 0 → xR D cA A Zs X H → va_S A s.heap H locs → lv_has ls 2 [(0, .ref x0), (1, .int x1)] → W p l e rmX4_init s m args below meth c H locs cells slots (MQ below (xQv D cA A Zs Xf) args s 0 0 A) (F0 m 0 ls []) := by
  intro H locs ls cells slots hc hs hR hS hl
  refine lv_aload_n E.hx E.hb dX4_init_0 rfl (lv_at hl 0 rfl) ?_
  refine lv_iload_n E.hx E.hb dX4_init_1 rfl (lv_at hl 1 rfl) ?_
  obtain ⟨X1, hX1, hf⟩ := bd_e hf
  refine xrun_v (va_runI (As := [.int x1]) (rest := []) E.1 (tX3_init l hX1) (cwX4_3 E.ht ⟨Nat.le_of_ble_eq_true rfl, Nat.le_of_ble_eq_true rfl⟩) (xPreS E hR hS) rfl rfl hl.1 rfl (lv_room (Nat.le_of_ble_eq_true rfl)) dX4_init_2 ⟨Nat.le_trans (by omega) (Nat.le_refl 0), Nat.le_trans (by omega) (Nat.le_refl 0)⟩) hS (fun H locs hR hS => ?_)
  obtain rfl := Option.some.inj hf
  exact xret_v E (by omega) (by omega) hR hS dX4_init_5
theorem tX4_init (l : Launch) {D : va_G} {cA : Nat → ClassId} {A : Nat → Prop} {Zs : XZ} {X Xf : AH} {x0 : Nat} {x1 : Int32}  (hf : fX4_init X x0 x1 = some Xf) : Met l yX4_init (ws_ yX4_init cX4_init 2 none) rmX4_init (xPc D cA A Zs X [.ref x0, .int x1]) (xQv D cA A Zs Xf) 0 0 A := by
  refine Met.ofW (cc := cX4_init) (maxL := 2) (ret := none) (by decide) rfl ?_
  intro p e s m args below meth c s₁ B hml hv
  obtain ⟨rfl, hR, hK⟩ := hv
  have hts := atoms_spec (ws := (ws_ yX4_init cX4_init 2 none)) B.pre
  rw [lg_entry_eq]
  exact wX4_init_0 (E := ⟨⟨B.exec, B.bytes, hml, findClass_of_methodNamed B.named, fun w h => hts w (List.mem_cons_of_mem _ h)⟩, hK, B.returns, B.notSynchronized⟩) (name_of_methodNamed B.named B.method).1 hf _ _ _ 0 0 (Nat.le_of_ble_eq_true rfl) (Nat.le_of_ble_eq_true rfl) hR va_S.rf (lv_entry [.ref x0, .int x1] (n := 2) (Nat.le_of_ble_eq_true rfl))
end
abbrev rmX5_init : Room := { frames := 3, cells := 0, slots := 0, locals := 54 }
theorem cwX5_3 {R : Room} {s : State} {args : Array Value} (ht : ∀ w ∈ lw_all, w.before args s = true) (hR : rmX4_init.frames + 1 ≤ R.frames ∧ 8 + (2 + 11) + rmX4_init.locals ≤ R.locals) : CallB R s args RX5 3 yX4_init cX4_init 2 none (ws_ yX4_init cX4_init 2 none) rmX4_init 0 0 1 ∧ yX4_init.name = "<init>" ∧ (Cond.instanceMethod yX4_init).before args s = true :=
  cwI 1 ht (lw_meth q228) rfl rfl rfl (ht _ q75) (ht _ q242) (ht _ q227) rfl (by decide +kernel) hR
section
variable {p : Program} {l : Launch} {e : Env} {s : State} {m : MethodId} {args : Array Value} {below : List Frame} {meth : Method} {c : Code} {D : va_G} {cA : Nat → ClassId} {A : Nat → Prop} {Zs : XZ} {Xf : AH} {r : Int32} {rl : Int64} {ra : Nat} {tv : Unit ⊕ Nat} {ti : Int32 ⊕ Nat} {tr : Nat ⊕ Nat} {q2 : Option Nat}
def fX5_init  (X : AH) (x0 : Nat) (x1 : Int32) : Option AH :=
  (fX4_init X x0 x1).bind fun X1 =>
  some X1
theorem wX5_init_0 (E : xE p m c cX5_init 2 s args RX5 D cA A Zs meth none) (hin : meth.name = "<init>") {X : AH} {x0 : Nat} {x1 : Int32} (hf : fX5_init X x0 x1 = some Xf) : ∀ (H : Heap) (locs : List Loc) (ls : Array Slot) (cells slots : Nat), cells + 0 ≤ 0 → slots + 0 ≤ 0 → xR D cA A Zs X H → va_S A s.heap H locs → lv_has ls 2 [(0, .ref x0), (1, .int x1)] → W p l e rmX5_init s m args below meth c H locs cells slots (MQ below (xQv D cA A Zs Xf) args s 0 0 A) (F0 m 0 ls []) := by
  intro H locs ls cells slots hc hs hR hS hl
  refine lv_aload_n E.hx E.hb dX5_init_0 rfl (lv_at hl 0 rfl) ?_
  refine lv_iload_n E.hx E.hb dX5_init_1 rfl (lv_at hl 1 rfl) ?_
  obtain ⟨X1, hX1, hf⟩ := bd_e hf
  refine xrun_v (va_runI (As := [.int x1]) (rest := []) E.1 (tX4_init l hX1) (cwX5_3 E.ht ⟨Nat.le_of_ble_eq_true rfl, Nat.le_of_ble_eq_true rfl⟩) (xPreS E hR hS) rfl rfl hl.1 rfl (lv_room (Nat.le_of_ble_eq_true rfl)) dX5_init_2 ⟨Nat.le_trans (by omega) (Nat.le_refl 0), Nat.le_trans (by omega) (Nat.le_refl 0)⟩) hS (fun H locs hR hS => ?_)
  obtain rfl := Option.some.inj hf
  exact xret_v E (by omega) (by omega) hR hS dX5_init_5
theorem tX5_init (l : Launch) {D : va_G} {cA : Nat → ClassId} {A : Nat → Prop} {Zs : XZ} {X Xf : AH} {x0 : Nat} {x1 : Int32}  (hf : fX5_init X x0 x1 = some Xf) : Met l yX5_init (ws_ yX5_init cX5_init 2 none) rmX5_init (xPc D cA A Zs X [.ref x0, .int x1]) (xQv D cA A Zs Xf) 0 0 A := by
  refine Met.ofW (cc := cX5_init) (maxL := 2) (ret := none) (by decide) rfl ?_
  intro p e s m args below meth c s₁ B hml hv
  obtain ⟨rfl, hR, hK⟩ := hv
  have hts := atoms_spec (ws := (ws_ yX5_init cX5_init 2 none)) B.pre
  rw [lg_entry_eq]
  exact wX5_init_0 (E := ⟨⟨B.exec, B.bytes, hml, findClass_of_methodNamed B.named, fun w h => hts w (List.mem_cons_of_mem _ h)⟩, hK, B.returns, B.notSynchronized⟩) (name_of_methodNamed B.named B.method).1 hf _ _ _ 0 0 (Nat.le_of_ble_eq_true rfl) (Nat.le_of_ble_eq_true rfl) hR va_S.rf (lv_entry [.ref x0, .int x1] (n := 2) (Nat.le_of_ble_eq_true rfl))
end
abbrev rmX6_init : Room := { frames := 3, cells := 0, slots := 0, locals := 54 }
theorem cwX6_3 {R : Room} {s : State} {args : Array Value} (ht : ∀ w ∈ lw_all, w.before args s = true) (hR : rmX4_init.frames + 1 ≤ R.frames ∧ 8 + (2 + 11) + rmX4_init.locals ≤ R.locals) : CallB R s args RX6 3 yX4_init cX4_init 2 none (ws_ yX4_init cX4_init 2 none) rmX4_init 0 0 1 ∧ yX4_init.name = "<init>" ∧ (Cond.instanceMethod yX4_init).before args s = true :=
  cwI 1 ht (lw_meth q228) rfl rfl rfl (ht _ q75) (ht _ q250) (ht _ q227) rfl (by decide +kernel) hR
section
variable {p : Program} {l : Launch} {e : Env} {s : State} {m : MethodId} {args : Array Value} {below : List Frame} {meth : Method} {c : Code} {D : va_G} {cA : Nat → ClassId} {A : Nat → Prop} {Zs : XZ} {Xf : AH} {r : Int32} {rl : Int64} {ra : Nat} {tv : Unit ⊕ Nat} {ti : Int32 ⊕ Nat} {tr : Nat ⊕ Nat} {q2 : Option Nat}
def fX6_init  (X : AH) (x0 : Nat) (x1 : Int32) : Option AH :=
  (fX4_init X x0 x1).bind fun X1 =>
  some X1
theorem wX6_init_0 (E : xE p m c cX6_init 2 s args RX6 D cA A Zs meth none) (hin : meth.name = "<init>") {X : AH} {x0 : Nat} {x1 : Int32} (hf : fX6_init X x0 x1 = some Xf) : ∀ (H : Heap) (locs : List Loc) (ls : Array Slot) (cells slots : Nat), cells + 0 ≤ 0 → slots + 0 ≤ 0 → xR D cA A Zs X H → va_S A s.heap H locs → lv_has ls 2 [(0, .ref x0), (1, .int x1)] → W p l e rmX6_init s m args below meth c H locs cells slots (MQ below (xQv D cA A Zs Xf) args s 0 0 A) (F0 m 0 ls []) := by
  intro H locs ls cells slots hc hs hR hS hl
  refine lv_aload_n E.hx E.hb dX6_init_0 rfl (lv_at hl 0 rfl) ?_
  refine lv_iload_n E.hx E.hb dX6_init_1 rfl (lv_at hl 1 rfl) ?_
  obtain ⟨X1, hX1, hf⟩ := bd_e hf
  refine xrun_v (va_runI (As := [.int x1]) (rest := []) E.1 (tX4_init l hX1) (cwX6_3 E.ht ⟨Nat.le_of_ble_eq_true rfl, Nat.le_of_ble_eq_true rfl⟩) (xPreS E hR hS) rfl rfl hl.1 rfl (lv_room (Nat.le_of_ble_eq_true rfl)) dX6_init_2 ⟨Nat.le_trans (by omega) (Nat.le_refl 0), Nat.le_trans (by omega) (Nat.le_refl 0)⟩) hS (fun H locs hR hS => ?_)
  obtain rfl := Option.some.inj hf
  exact xret_v E (by omega) (by omega) hR hS dX6_init_5
theorem tX6_init (l : Launch) {D : va_G} {cA : Nat → ClassId} {A : Nat → Prop} {Zs : XZ} {X Xf : AH} {x0 : Nat} {x1 : Int32}  (hf : fX6_init X x0 x1 = some Xf) : Met l yX6_init (ws_ yX6_init cX6_init 2 none) rmX6_init (xPc D cA A Zs X [.ref x0, .int x1]) (xQv D cA A Zs Xf) 0 0 A := by
  refine Met.ofW (cc := cX6_init) (maxL := 2) (ret := none) (by decide) rfl ?_
  intro p e s m args below meth c s₁ B hml hv
  obtain ⟨rfl, hR, hK⟩ := hv
  have hts := atoms_spec (ws := (ws_ yX6_init cX6_init 2 none)) B.pre
  rw [lg_entry_eq]
  exact wX6_init_0 (E := ⟨⟨B.exec, B.bytes, hml, findClass_of_methodNamed B.named, fun w h => hts w (List.mem_cons_of_mem _ h)⟩, hK, B.returns, B.notSynchronized⟩) (name_of_methodNamed B.named B.method).1 hf _ _ _ 0 0 (Nat.le_of_ble_eq_true rfl) (Nat.le_of_ble_eq_true rfl) hR va_S.rf (lv_entry [.ref x0, .int x1] (n := 2) (Nat.le_of_ble_eq_true rfl))
end
abbrev rmX7_init : Room := { frames := 2, cells := 0, slots := 0, locals := 33 }
theorem cwX7_3 {R : Room} {s : State} {args : Array Value} (ht : ∀ w ∈ lw_all, w.before args s = true) (hR : rmX3_init.frames + 1 ≤ R.frames ∧ 8 + (2 + 11) + rmX3_init.locals ≤ R.locals) : CallB R s args RX7 3 yX3_init cX3_init 2 none (ws_ yX3_init cX3_init 2 none) rmX3_init 0 0 1 ∧ yX3_init.name = "<init>" ∧ (Cond.instanceMethod yX3_init).before args s = true :=
  cwI 1 ht (lw_meth q231) rfl rfl rfl (ht _ q74) (ht _ q258) (ht _ q230) rfl (by decide +kernel) hR
section
variable {p : Program} {l : Launch} {e : Env} {s : State} {m : MethodId} {args : Array Value} {below : List Frame} {meth : Method} {c : Code} {D : va_G} {cA : Nat → ClassId} {A : Nat → Prop} {Zs : XZ} {Xf : AH} {r : Int32} {rl : Int64} {ra : Nat} {tv : Unit ⊕ Nat} {ti : Int32 ⊕ Nat} {tr : Nat ⊕ Nat} {q2 : Option Nat}
def fX7_init  (X : AH) (x0 : Nat) (x1 : Int32) : Option AH :=
  (fX3_init X x0 x1).bind fun X1 =>
  some X1
theorem wX7_init_0 (E : xE p m c cX7_init 2 s args RX7 D cA A Zs meth none) (hin : meth.name = "<init>") {X : AH} {x0 : Nat} {x1 : Int32} (hf : fX7_init X x0 x1 = some Xf) : ∀ (H : Heap) (locs : List Loc) (ls : Array Slot) (cells slots : Nat), cells + 0 ≤ 0 → slots + 0 ≤ 0 → xR D cA A Zs X H → va_S A s.heap H locs → lv_has ls 2 [(0, .ref x0), (1, .int x1)] → W p l e rmX7_init s m args below meth c H locs cells slots (MQ below (xQv D cA A Zs Xf) args s 0 0 A) (F0 m 0 ls []) := by
  intro H locs ls cells slots hc hs hR hS hl
  refine lv_aload_n E.hx E.hb dX7_init_0 rfl (lv_at hl 0 rfl) ?_
  refine lv_iload_n E.hx E.hb dX7_init_1 rfl (lv_at hl 1 rfl) ?_
  obtain ⟨X1, hX1, hf⟩ := bd_e hf
  refine xrun_v (va_runI (As := [.int x1]) (rest := []) E.1 (tX3_init l hX1) (cwX7_3 E.ht ⟨Nat.le_of_ble_eq_true rfl, Nat.le_of_ble_eq_true rfl⟩) (xPreS E hR hS) rfl rfl hl.1 rfl (lv_room (Nat.le_of_ble_eq_true rfl)) dX7_init_2 ⟨Nat.le_trans (by omega) (Nat.le_refl 0), Nat.le_trans (by omega) (Nat.le_refl 0)⟩) hS (fun H locs hR hS => ?_)
  obtain rfl := Option.some.inj hf
  exact xret_v E (by omega) (by omega) hR hS dX7_init_5
theorem tX7_init (l : Launch) {D : va_G} {cA : Nat → ClassId} {A : Nat → Prop} {Zs : XZ} {X Xf : AH} {x0 : Nat} {x1 : Int32}  (hf : fX7_init X x0 x1 = some Xf) : Met l yX7_init (ws_ yX7_init cX7_init 2 none) rmX7_init (xPc D cA A Zs X [.ref x0, .int x1]) (xQv D cA A Zs Xf) 0 0 A := by
  refine Met.ofW (cc := cX7_init) (maxL := 2) (ret := none) (by decide) rfl ?_
  intro p e s m args below meth c s₁ B hml hv
  obtain ⟨rfl, hR, hK⟩ := hv
  have hts := atoms_spec (ws := (ws_ yX7_init cX7_init 2 none)) B.pre
  rw [lg_entry_eq]
  exact wX7_init_0 (E := ⟨⟨B.exec, B.bytes, hml, findClass_of_methodNamed B.named, fun w h => hts w (List.mem_cons_of_mem _ h)⟩, hK, B.returns, B.notSynchronized⟩) (name_of_methodNamed B.named B.method).1 hf _ _ _ 0 0 (Nat.le_of_ble_eq_true rfl) (Nat.le_of_ble_eq_true rfl) hR va_S.rf (lv_entry [.ref x0, .int x1] (n := 2) (Nat.le_of_ble_eq_true rfl))
end
abbrev rmX8_init : Room := { frames := 3, cells := 0, slots := 0, locals := 54 }
theorem cwX8_3 {R : Room} {s : State} {args : Array Value} (ht : ∀ w ∈ lw_all, w.before args s = true) (hR : rmX7_init.frames + 1 ≤ R.frames ∧ 8 + (2 + 11) + rmX7_init.locals ≤ R.locals) : CallB R s args RX8 3 yX7_init cX7_init 2 none (ws_ yX7_init cX7_init 2 none) rmX7_init 0 0 1 ∧ yX7_init.name = "<init>" ∧ (Cond.instanceMethod yX7_init).before args s = true :=
  cwI 1 ht (lw_meth q257) rfl rfl rfl (ht _ q78) (ht _ q266) (ht _ q256) rfl (by decide +kernel) hR
section
variable {p : Program} {l : Launch} {e : Env} {s : State} {m : MethodId} {args : Array Value} {below : List Frame} {meth : Method} {c : Code} {D : va_G} {cA : Nat → ClassId} {A : Nat → Prop} {Zs : XZ} {Xf : AH} {r : Int32} {rl : Int64} {ra : Nat} {tv : Unit ⊕ Nat} {ti : Int32 ⊕ Nat} {tr : Nat ⊕ Nat} {q2 : Option Nat}
def fX8_init  (X : AH) (x0 : Nat) (x1 : Int32) : Option AH :=
  (fX7_init X x0 x1).bind fun X1 =>
  some X1
theorem wX8_init_0 (E : xE p m c cX8_init 2 s args RX8 D cA A Zs meth none) (hin : meth.name = "<init>") {X : AH} {x0 : Nat} {x1 : Int32} (hf : fX8_init X x0 x1 = some Xf) : ∀ (H : Heap) (locs : List Loc) (ls : Array Slot) (cells slots : Nat), cells + 0 ≤ 0 → slots + 0 ≤ 0 → xR D cA A Zs X H → va_S A s.heap H locs → lv_has ls 2 [(0, .ref x0), (1, .int x1)] → W p l e rmX8_init s m args below meth c H locs cells slots (MQ below (xQv D cA A Zs Xf) args s 0 0 A) (F0 m 0 ls []) := by
  intro H locs ls cells slots hc hs hR hS hl
  refine lv_aload_n E.hx E.hb dX8_init_0 rfl (lv_at hl 0 rfl) ?_
  refine lv_iload_n E.hx E.hb dX8_init_1 rfl (lv_at hl 1 rfl) ?_
  obtain ⟨X1, hX1, hf⟩ := bd_e hf
  refine xrun_v (va_runI (As := [.int x1]) (rest := []) E.1 (tX7_init l hX1) (cwX8_3 E.ht ⟨Nat.le_of_ble_eq_true rfl, Nat.le_of_ble_eq_true rfl⟩) (xPreS E hR hS) rfl rfl hl.1 rfl (lv_room (Nat.le_of_ble_eq_true rfl)) dX8_init_2 ⟨Nat.le_trans (by omega) (Nat.le_refl 0), Nat.le_trans (by omega) (Nat.le_refl 0)⟩) hS (fun H locs hR hS => ?_)
  obtain rfl := Option.some.inj hf
  exact xret_v E (by omega) (by omega) hR hS dX8_init_5
theorem tX8_init (l : Launch) {D : va_G} {cA : Nat → ClassId} {A : Nat → Prop} {Zs : XZ} {X Xf : AH} {x0 : Nat} {x1 : Int32}  (hf : fX8_init X x0 x1 = some Xf) : Met l yX8_init (ws_ yX8_init cX8_init 2 none) rmX8_init (xPc D cA A Zs X [.ref x0, .int x1]) (xQv D cA A Zs Xf) 0 0 A := by
  refine Met.ofW (cc := cX8_init) (maxL := 2) (ret := none) (by decide) rfl ?_
  intro p e s m args below meth c s₁ B hml hv
  obtain ⟨rfl, hR, hK⟩ := hv
  have hts := atoms_spec (ws := (ws_ yX8_init cX8_init 2 none)) B.pre
  rw [lg_entry_eq]
  exact wX8_init_0 (E := ⟨⟨B.exec, B.bytes, hml, findClass_of_methodNamed B.named, fun w h => hts w (List.mem_cons_of_mem _ h)⟩, hK, B.returns, B.notSynchronized⟩) (name_of_methodNamed B.named B.method).1 hf _ _ _ 0 0 (Nat.le_of_ble_eq_true rfl) (Nat.le_of_ble_eq_true rfl) hR va_S.rf (lv_entry [.ref x0, .int x1] (n := 2) (Nat.le_of_ble_eq_true rfl))
end
abbrev rmX4_kind : Room := { frames := 1, cells := 0, slots := 0, locals := 12 }
section
variable {p : Program} {l : Launch} {e : Env} {s : State} {m : MethodId} {args : Array Value} {below : List Frame} {meth : Method} {c : Code} {D : va_G} {cA : Nat → ClassId} {A : Nat → Prop} {Zs : XZ} {Xf : AH} {r : Int32} {rl : Int64} {ra : Nat} {tv : Unit ⊕ Nat} {ti : Int32 ⊕ Nat} {tr : Nat ⊕ Nat} {q2 : Option Nat}
def fX4_kind  (X : AH) (x0 : Nat) : Option (Int32 × AH) :=
  some (1, X)
theorem wX4_kind_0 (E : xE p m c cX4_kind 1 s args RX4 D cA A Zs meth (some .int)) {X : AH} {x0 : Nat} (hf : fX4_kind X x0 = some (r, Xf)) : ∀ (H : Heap) (locs : List Loc) (ls : Array Slot) (cells slots : Nat), cells + 0 ≤ 0 → slots + 0 ≤ 0 → xR D cA A Zs X H → va_S A s.heap H locs → lv_has ls 1 [(0, .ref x0)] → W p l e rmX4_kind s m args below meth c H locs cells slots (MQ below (xQi D cA A Zs r Xf) args s 0 0 A) (F0 m 0 ls []) := by
  intro H locs ls cells slots hc hs hR hS hl
  refine lv_iconst (v := 1) E.hx E.hb dX4_kind_0 (by decide) ?_
  obtain ⟨rfl, rfl⟩ := rt_e hf
  exact xret_i E (by omega) (by omega) hR hS dX4_kind_1
theorem tX4_kind (l : Launch) {D : va_G} {cA : Nat → ClassId} {A : Nat → Prop} {Zs : XZ} {X Xf : AH} {x0 : Nat} {r : Int32} (hf : fX4_kind X x0 = some (r, Xf)) : Met l yX4_kind (ws_ yX4_kind cX4_kind 1 (some .int)) rmX4_kind (xPc D cA A Zs X [.ref x0]) (xQi D cA A Zs r Xf) 0 0 A := by
  refine Met.ofW (cc := cX4_kind) (maxL := 1) (ret := (some .int)) (by decide) rfl ?_
  intro p e s m args below meth c s₁ B hml hv
  obtain ⟨rfl, hR, hK⟩ := hv
  have hts := atoms_spec (ws := (ws_ yX4_kind cX4_kind 1 (some .int))) B.pre
  rw [lg_entry_eq]
  exact wX4_kind_0 (E := ⟨⟨B.exec, B.bytes, hml, findClass_of_methodNamed B.named, fun w h => hts w (List.mem_cons_of_mem _ h)⟩, hK, B.returns, B.notSynchronized⟩) hf _ _ _ 0 0 (Nat.le_of_ble_eq_true rfl) (Nat.le_of_ble_eq_true rfl) hR va_S.rf (lv_entry [.ref x0] (n := 1) (Nat.le_of_ble_eq_true rfl))
end
abbrev rmX5_kind : Room := { frames := 1, cells := 0, slots := 0, locals := 12 }
section
variable {p : Program} {l : Launch} {e : Env} {s : State} {m : MethodId} {args : Array Value} {below : List Frame} {meth : Method} {c : Code} {D : va_G} {cA : Nat → ClassId} {A : Nat → Prop} {Zs : XZ} {Xf : AH} {r : Int32} {rl : Int64} {ra : Nat} {tv : Unit ⊕ Nat} {ti : Int32 ⊕ Nat} {tr : Nat ⊕ Nat} {q2 : Option Nat}
def fX5_kind  (X : AH) (x0 : Nat) : Option (Int32 × AH) :=
  some (2, X)
theorem wX5_kind_0 (E : xE p m c cX5_kind 1 s args RX5 D cA A Zs meth (some .int)) {X : AH} {x0 : Nat} (hf : fX5_kind X x0 = some (r, Xf)) : ∀ (H : Heap) (locs : List Loc) (ls : Array Slot) (cells slots : Nat), cells + 0 ≤ 0 → slots + 0 ≤ 0 → xR D cA A Zs X H → va_S A s.heap H locs → lv_has ls 1 [(0, .ref x0)] → W p l e rmX5_kind s m args below meth c H locs cells slots (MQ below (xQi D cA A Zs r Xf) args s 0 0 A) (F0 m 0 ls []) := by
  intro H locs ls cells slots hc hs hR hS hl
  refine lv_iconst (v := 2) E.hx E.hb dX5_kind_0 (by decide) ?_
  obtain ⟨rfl, rfl⟩ := rt_e hf
  exact xret_i E (by omega) (by omega) hR hS dX5_kind_1
theorem tX5_kind (l : Launch) {D : va_G} {cA : Nat → ClassId} {A : Nat → Prop} {Zs : XZ} {X Xf : AH} {x0 : Nat} {r : Int32} (hf : fX5_kind X x0 = some (r, Xf)) : Met l yX5_kind (ws_ yX5_kind cX5_kind 1 (some .int)) rmX5_kind (xPc D cA A Zs X [.ref x0]) (xQi D cA A Zs r Xf) 0 0 A := by
  refine Met.ofW (cc := cX5_kind) (maxL := 1) (ret := (some .int)) (by decide) rfl ?_
  intro p e s m args below meth c s₁ B hml hv
  obtain ⟨rfl, hR, hK⟩ := hv
  have hts := atoms_spec (ws := (ws_ yX5_kind cX5_kind 1 (some .int))) B.pre
  rw [lg_entry_eq]
  exact wX5_kind_0 (E := ⟨⟨B.exec, B.bytes, hml, findClass_of_methodNamed B.named, fun w h => hts w (List.mem_cons_of_mem _ h)⟩, hK, B.returns, B.notSynchronized⟩) hf _ _ _ 0 0 (Nat.le_of_ble_eq_true rfl) (Nat.le_of_ble_eq_true rfl) hR va_S.rf (lv_entry [.ref x0] (n := 1) (Nat.le_of_ble_eq_true rfl))
end
abbrev rmX6_kind : Room := { frames := 1, cells := 0, slots := 0, locals := 12 }
section
variable {p : Program} {l : Launch} {e : Env} {s : State} {m : MethodId} {args : Array Value} {below : List Frame} {meth : Method} {c : Code} {D : va_G} {cA : Nat → ClassId} {A : Nat → Prop} {Zs : XZ} {Xf : AH} {r : Int32} {rl : Int64} {ra : Nat} {tv : Unit ⊕ Nat} {ti : Int32 ⊕ Nat} {tr : Nat ⊕ Nat} {q2 : Option Nat}
def fX6_kind  (X : AH) (x0 : Nat) : Option (Int32 × AH) :=
  some (3, X)
theorem wX6_kind_0 (E : xE p m c cX6_kind 1 s args RX6 D cA A Zs meth (some .int)) {X : AH} {x0 : Nat} (hf : fX6_kind X x0 = some (r, Xf)) : ∀ (H : Heap) (locs : List Loc) (ls : Array Slot) (cells slots : Nat), cells + 0 ≤ 0 → slots + 0 ≤ 0 → xR D cA A Zs X H → va_S A s.heap H locs → lv_has ls 1 [(0, .ref x0)] → W p l e rmX6_kind s m args below meth c H locs cells slots (MQ below (xQi D cA A Zs r Xf) args s 0 0 A) (F0 m 0 ls []) := by
  intro H locs ls cells slots hc hs hR hS hl
  refine lv_iconst (v := 3) E.hx E.hb dX6_kind_0 (by decide) ?_
  obtain ⟨rfl, rfl⟩ := rt_e hf
  exact xret_i E (by omega) (by omega) hR hS dX6_kind_1
theorem tX6_kind (l : Launch) {D : va_G} {cA : Nat → ClassId} {A : Nat → Prop} {Zs : XZ} {X Xf : AH} {x0 : Nat} {r : Int32} (hf : fX6_kind X x0 = some (r, Xf)) : Met l yX6_kind (ws_ yX6_kind cX6_kind 1 (some .int)) rmX6_kind (xPc D cA A Zs X [.ref x0]) (xQi D cA A Zs r Xf) 0 0 A := by
  refine Met.ofW (cc := cX6_kind) (maxL := 1) (ret := (some .int)) (by decide) rfl ?_
  intro p e s m args below meth c s₁ B hml hv
  obtain ⟨rfl, hR, hK⟩ := hv
  have hts := atoms_spec (ws := (ws_ yX6_kind cX6_kind 1 (some .int))) B.pre
  rw [lg_entry_eq]
  exact wX6_kind_0 (E := ⟨⟨B.exec, B.bytes, hml, findClass_of_methodNamed B.named, fun w h => hts w (List.mem_cons_of_mem _ h)⟩, hK, B.returns, B.notSynchronized⟩) hf _ _ _ 0 0 (Nat.le_of_ble_eq_true rfl) (Nat.le_of_ble_eq_true rfl) hR va_S.rf (lv_entry [.ref x0] (n := 1) (Nat.le_of_ble_eq_true rfl))
end
abbrev rmX7_kind : Room := { frames := 1, cells := 0, slots := 0, locals := 12 }
section
variable {p : Program} {l : Launch} {e : Env} {s : State} {m : MethodId} {args : Array Value} {below : List Frame} {meth : Method} {c : Code} {D : va_G} {cA : Nat → ClassId} {A : Nat → Prop} {Zs : XZ} {Xf : AH} {r : Int32} {rl : Int64} {ra : Nat} {tv : Unit ⊕ Nat} {ti : Int32 ⊕ Nat} {tr : Nat ⊕ Nat} {q2 : Option Nat}
def fX7_kind  (X : AH) (x0 : Nat) : Option (Int32 × AH) :=
  some (4, X)
theorem wX7_kind_0 (E : xE p m c cX7_kind 1 s args RX7 D cA A Zs meth (some .int)) {X : AH} {x0 : Nat} (hf : fX7_kind X x0 = some (r, Xf)) : ∀ (H : Heap) (locs : List Loc) (ls : Array Slot) (cells slots : Nat), cells + 0 ≤ 0 → slots + 0 ≤ 0 → xR D cA A Zs X H → va_S A s.heap H locs → lv_has ls 1 [(0, .ref x0)] → W p l e rmX7_kind s m args below meth c H locs cells slots (MQ below (xQi D cA A Zs r Xf) args s 0 0 A) (F0 m 0 ls []) := by
  intro H locs ls cells slots hc hs hR hS hl
  refine lv_iconst (v := 4) E.hx E.hb dX7_kind_0 (by decide) ?_
  obtain ⟨rfl, rfl⟩ := rt_e hf
  exact xret_i E (by omega) (by omega) hR hS dX7_kind_1
theorem tX7_kind (l : Launch) {D : va_G} {cA : Nat → ClassId} {A : Nat → Prop} {Zs : XZ} {X Xf : AH} {x0 : Nat} {r : Int32} (hf : fX7_kind X x0 = some (r, Xf)) : Met l yX7_kind (ws_ yX7_kind cX7_kind 1 (some .int)) rmX7_kind (xPc D cA A Zs X [.ref x0]) (xQi D cA A Zs r Xf) 0 0 A := by
  refine Met.ofW (cc := cX7_kind) (maxL := 1) (ret := (some .int)) (by decide) rfl ?_
  intro p e s m args below meth c s₁ B hml hv
  obtain ⟨rfl, hR, hK⟩ := hv
  have hts := atoms_spec (ws := (ws_ yX7_kind cX7_kind 1 (some .int))) B.pre
  rw [lg_entry_eq]
  exact wX7_kind_0 (E := ⟨⟨B.exec, B.bytes, hml, findClass_of_methodNamed B.named, fun w h => hts w (List.mem_cons_of_mem _ h)⟩, hK, B.returns, B.notSynchronized⟩) hf _ _ _ 0 0 (Nat.le_of_ble_eq_true rfl) (Nat.le_of_ble_eq_true rfl) hR va_S.rf (lv_entry [.ref x0] (n := 1) (Nat.le_of_ble_eq_true rfl))
end
abbrev rmX8_kind : Room := { frames := 1, cells := 0, slots := 0, locals := 12 }
section
variable {p : Program} {l : Launch} {e : Env} {s : State} {m : MethodId} {args : Array Value} {below : List Frame} {meth : Method} {c : Code} {D : va_G} {cA : Nat → ClassId} {A : Nat → Prop} {Zs : XZ} {Xf : AH} {r : Int32} {rl : Int64} {ra : Nat} {tv : Unit ⊕ Nat} {ti : Int32 ⊕ Nat} {tr : Nat ⊕ Nat} {q2 : Option Nat}
def fX8_kind  (X : AH) (x0 : Nat) : Option (Int32 × AH) :=
  some (5, X)
theorem wX8_kind_0 (E : xE p m c cX8_kind 1 s args RX8 D cA A Zs meth (some .int)) {X : AH} {x0 : Nat} (hf : fX8_kind X x0 = some (r, Xf)) : ∀ (H : Heap) (locs : List Loc) (ls : Array Slot) (cells slots : Nat), cells + 0 ≤ 0 → slots + 0 ≤ 0 → xR D cA A Zs X H → va_S A s.heap H locs → lv_has ls 1 [(0, .ref x0)] → W p l e rmX8_kind s m args below meth c H locs cells slots (MQ below (xQi D cA A Zs r Xf) args s 0 0 A) (F0 m 0 ls []) := by
  intro H locs ls cells slots hc hs hR hS hl
  refine lv_iconst (v := 5) E.hx E.hb dX8_kind_0 (by decide) ?_
  obtain ⟨rfl, rfl⟩ := rt_e hf
  exact xret_i E (by omega) (by omega) hR hS dX8_kind_1
theorem tX8_kind (l : Launch) {D : va_G} {cA : Nat → ClassId} {A : Nat → Prop} {Zs : XZ} {X Xf : AH} {x0 : Nat} {r : Int32} (hf : fX8_kind X x0 = some (r, Xf)) : Met l yX8_kind (ws_ yX8_kind cX8_kind 1 (some .int)) rmX8_kind (xPc D cA A Zs X [.ref x0]) (xQi D cA A Zs r Xf) 0 0 A := by
  refine Met.ofW (cc := cX8_kind) (maxL := 1) (ret := (some .int)) (by decide) rfl ?_
  intro p e s m args below meth c s₁ B hml hv
  obtain ⟨rfl, hR, hK⟩ := hv
  have hts := atoms_spec (ws := (ws_ yX8_kind cX8_kind 1 (some .int))) B.pre
  rw [lg_entry_eq]
  exact wX8_kind_0 (E := ⟨⟨B.exec, B.bytes, hml, findClass_of_methodNamed B.named, fun w h => hts w (List.mem_cons_of_mem _ h)⟩, hK, B.returns, B.notSynchronized⟩) hf _ _ _ 0 0 (Nat.le_of_ble_eq_true rfl) (Nat.le_of_ble_eq_true rfl) hR va_S.rf (lv_entry [.ref x0] (n := 1) (Nat.le_of_ble_eq_true rfl))
end
abbrev rmX4_high : Room := { frames := 1, cells := 0, slots := 0, locals := 12 }
section
variable {p : Program} {l : Launch} {e : Env} {s : State} {m : MethodId} {args : Array Value} {below : List Frame} {meth : Method} {c : Code} {D : va_G} {cA : Nat → ClassId} {A : Nat → Prop} {Zs : XZ} {Xf : AH} {r : Int32} {rl : Int64} {ra : Nat} {tv : Unit ⊕ Nat} {ti : Int32 ⊕ Nat} {tr : Nat ⊕ Nat} {q2 : Option Nat}
def fX4_high  (X : AH) (x0 : Nat) (x1 : Int32) (x2 : Int32) : Option (Int32 × AH) :=
  some ((x1 + x2), X)
theorem wX4_high_0 (E : xE p m c cX4_high 3 s args RX4 D cA A Zs meth (some .int)) {X : AH} {x0 : Nat} {x1 : Int32} {x2 : Int32} (hf : fX4_high X x0 x1 x2 = some (r, Xf)) : ∀ (H : Heap) (locs : List Loc) (ls : Array Slot) (cells slots : Nat), cells + 0 ≤ 0 → slots + 0 ≤ 0 → xR D cA A Zs X H → va_S A s.heap H locs → lv_has ls 3 [(0, .ref x0), (1, .int x1), (2, .int x2)] → W p l e rmX4_high s m args below meth c H locs cells slots (MQ below (xQi D cA A Zs r Xf) args s 0 0 A) (F0 m 0 ls []) := by
  intro H locs ls cells slots hc hs hR hS hl
  refine lv_iload_n E.hx E.hb dX4_high_0 rfl (lv_at hl 1 rfl) ?_
  refine lv_iload_n E.hx E.hb dX4_high_1 rfl (lv_at hl 2 rfl) ?_
  refine lv_iadd E.hx E.hb dX4_high_2 ?_
  obtain ⟨rfl, rfl⟩ := rt_e hf
  exact xret_i E (by omega) (by omega) hR hS dX4_high_3
theorem tX4_high (l : Launch) {D : va_G} {cA : Nat → ClassId} {A : Nat → Prop} {Zs : XZ} {X Xf : AH} {x0 : Nat} {x1 : Int32} {x2 : Int32} {r : Int32} (hf : fX4_high X x0 x1 x2 = some (r, Xf)) : Met l yX4_high (ws_ yX4_high cX4_high 3 (some .int)) rmX4_high (xPc D cA A Zs X [.ref x0, .int x1, .int x2]) (xQi D cA A Zs r Xf) 0 0 A := by
  refine Met.ofW (cc := cX4_high) (maxL := 3) (ret := (some .int)) (by decide) rfl ?_
  intro p e s m args below meth c s₁ B hml hv
  obtain ⟨rfl, hR, hK⟩ := hv
  have hts := atoms_spec (ws := (ws_ yX4_high cX4_high 3 (some .int))) B.pre
  rw [lg_entry_eq]
  exact wX4_high_0 (E := ⟨⟨B.exec, B.bytes, hml, findClass_of_methodNamed B.named, fun w h => hts w (List.mem_cons_of_mem _ h)⟩, hK, B.returns, B.notSynchronized⟩) hf _ _ _ 0 0 (Nat.le_of_ble_eq_true rfl) (Nat.le_of_ble_eq_true rfl) hR va_S.rf (lv_entry [.ref x0, .int x1, .int x2] (n := 3) (Nat.le_of_ble_eq_true rfl))
end
abbrev rmX5_high : Room := { frames := 2, cells := 0, slots := 0, locals := 34 }
theorem cwX5_9_X5 {R : Room} {s : State} {args : Array Value} (ht : ∀ w ∈ lw_all, w.before args s = true) (hR : rmX4_high.frames + 1 ≤ R.frames ∧ 8 + (3 + 11) + rmX4_high.locals ≤ R.locals) : va_CS R s args RX5 9 yX4_high cX4_high 3 (some .int) (ws_ yX4_high cX4_high 3 (some .int)) rmX4_high 0 0 2 :=
  va_cwSU (ws := (ws_ yX4_high cX4_high 3 (some .int))) 2 ht (xwsSU q810 q1672 q244 q801 q75 (lw_meth q802)) rfl rfl rfl (by decide +kernel) hR
section
variable {p : Program} {l : Launch} {e : Env} {s : State} {m : MethodId} {args : Array Value} {below : List Frame} {meth : Method} {c : Code} {D : va_G} {cA : Nat → ClassId} {A : Nat → Prop} {Zs : XZ} {Xf : AH} {r : Int32} {rl : Int64} {ra : Nat} {tv : Unit ⊕ Nat} {ti : Int32 ⊕ Nat} {tr : Nat ⊕ Nat} {q2 : Option Nat}
def fX5_high  (X : AH) (x0 : Nat) (x1 : Int32) (x2 : Int32) : Option (Int32 × AH) :=
  (ck X x0 5).bind fun _ =>
  (fX4_high X x0 x1 x2).bind fun (v3, X2) =>
  some (((v3 / 2) * 2), X2)
theorem wX5_high_0 (E : xE p m c cX5_high 3 s args RX5 D cA A Zs meth (some .int)) {X : AH} {x0 : Nat} {x1 : Int32} {x2 : Int32} (hf : fX5_high X x0 x1 x2 = some (r, Xf)) : ∀ (H : Heap) (locs : List Loc) (ls : Array Slot) (cells slots : Nat), cells + 0 ≤ 0 → slots + 0 ≤ 0 → xR D cA A Zs X H → va_S A s.heap H locs → lv_has ls 3 [(0, .ref x0), (1, .int x1), (2, .int x2)] → W p l e rmX5_high s m args below meth c H locs cells slots (MQ below (xQi D cA A Zs r Xf) args s 0 0 A) (F0 m 0 ls []) := by
  intro H locs ls cells slots hc hs hR hS hl
  refine lv_aload_n E.hx E.hb dX5_high_0 rfl (lv_at hl 0 rfl) ?_
  refine lv_iload_n E.hx E.hb dX5_high_1 rfl (lv_at hl 1 rfl) ?_
  refine lv_iload_n E.hx E.hb dX5_high_2 rfl (lv_at hl 2 rfl) ?_
  obtain ⟨u1, hu1, hf⟩ := bd_e hf
  obtain ⟨⟨v3, X2⟩, hv3, hf⟩ := bd_e hf
  refine xrun_i (va_runSU (As := [.int x1, .int x2]) (rest := []) (xClassAt (ci := 5) E rfl) E.1 (tX4_high l hv3) (cwX5_9_X5 E.ht ⟨Nat.le_of_ble_eq_true rfl, Nat.le_of_ble_eq_true rfl⟩) (xPreV (ci := 5) E hR hS rfl (ck_e hu1)) rfl rfl hl.1 rfl (lv_room (Nat.le_of_ble_eq_true rfl)) dX5_high_3 ⟨Nat.le_trans (by omega) (Nat.le_refl 0), Nat.le_trans (by omega) (Nat.le_refl 0)⟩) hS (fun H locs hR hS => ?_)
  refine lv_iconst (v := 2) E.hx E.hb dX5_high_6 (by decide) ?_
  refine lv_idiv E.hx E.hb dX5_high_7 (by decide) ?_
  refine lv_iconst (v := 2) E.hx E.hb dX5_high_8 (by decide) ?_
  refine lv_imul E.hx E.hb dX5_high_9 ?_
  obtain ⟨rfl, rfl⟩ := rt_e hf
  exact xret_i E (by omega) (by omega) hR hS dX5_high_10
theorem tX5_high (l : Launch) {D : va_G} {cA : Nat → ClassId} {A : Nat → Prop} {Zs : XZ} {X Xf : AH} {x0 : Nat} {x1 : Int32} {x2 : Int32} {r : Int32} (hf : fX5_high X x0 x1 x2 = some (r, Xf)) : Met l yX5_high (ws_ yX5_high cX5_high 3 (some .int)) rmX5_high (xPc D cA A Zs X [.ref x0, .int x1, .int x2]) (xQi D cA A Zs r Xf) 0 0 A := by
  refine Met.ofW (cc := cX5_high) (maxL := 3) (ret := (some .int)) (by decide) rfl ?_
  intro p e s m args below meth c s₁ B hml hv
  obtain ⟨rfl, hR, hK⟩ := hv
  have hts := atoms_spec (ws := (ws_ yX5_high cX5_high 3 (some .int))) B.pre
  rw [lg_entry_eq]
  exact wX5_high_0 (E := ⟨⟨B.exec, B.bytes, hml, findClass_of_methodNamed B.named, fun w h => hts w (List.mem_cons_of_mem _ h)⟩, hK, B.returns, B.notSynchronized⟩) hf _ _ _ 0 0 (Nat.le_of_ble_eq_true rfl) (Nat.le_of_ble_eq_true rfl) hR va_S.rf (lv_entry [.ref x0, .int x1, .int x2] (n := 3) (Nat.le_of_ble_eq_true rfl))
end
abbrev rmX6_high : Room := { frames := 2, cells := 0, slots := 0, locals := 34 }
theorem cwX6_9_X6 {R : Room} {s : State} {args : Array Value} (ht : ∀ w ∈ lw_all, w.before args s = true) (hR : rmX4_high.frames + 1 ≤ R.frames ∧ 8 + (3 + 11) + rmX4_high.locals ≤ R.locals) : va_CS R s args RX6 9 yX4_high cX4_high 3 (some .int) (ws_ yX4_high cX4_high 3 (some .int)) rmX4_high 0 0 2 :=
  va_cwSU (ws := (ws_ yX4_high cX4_high 3 (some .int))) 2 ht (xwsSU q800 q1672 q252 q801 q75 (lw_meth q802)) rfl rfl rfl (by decide +kernel) hR
section
variable {p : Program} {l : Launch} {e : Env} {s : State} {m : MethodId} {args : Array Value} {below : List Frame} {meth : Method} {c : Code} {D : va_G} {cA : Nat → ClassId} {A : Nat → Prop} {Zs : XZ} {Xf : AH} {r : Int32} {rl : Int64} {ra : Nat} {tv : Unit ⊕ Nat} {ti : Int32 ⊕ Nat} {tr : Nat ⊕ Nat} {q2 : Option Nat}
def fX6_high  (X : AH) (x0 : Nat) (x1 : Int32) (x2 : Int32) : Option (Int32 × AH) :=
  (ck X x0 6).bind fun _ =>
  (fX4_high X x0 x1 (2 * x2)).bind fun (v3, X2) =>
  some (v3, X2)
theorem wX6_high_0 (E : xE p m c cX6_high 3 s args RX6 D cA A Zs meth (some .int)) {X : AH} {x0 : Nat} {x1 : Int32} {x2 : Int32} (hf : fX6_high X x0 x1 x2 = some (r, Xf)) : ∀ (H : Heap) (locs : List Loc) (ls : Array Slot) (cells slots : Nat), cells + 0 ≤ 0 → slots + 0 ≤ 0 → xR D cA A Zs X H → va_S A s.heap H locs → lv_has ls 3 [(0, .ref x0), (1, .int x1), (2, .int x2)] → W p l e rmX6_high s m args below meth c H locs cells slots (MQ below (xQi D cA A Zs r Xf) args s 0 0 A) (F0 m 0 ls []) := by
  intro H locs ls cells slots hc hs hR hS hl
  refine lv_aload_n E.hx E.hb dX6_high_0 rfl (lv_at hl 0 rfl) ?_
  refine lv_iload_n E.hx E.hb dX6_high_1 rfl (lv_at hl 1 rfl) ?_
  refine lv_iconst (v := 2) E.hx E.hb dX6_high_2 (by decide) ?_
  refine lv_iload_n E.hx E.hb dX6_high_3 rfl (lv_at hl 2 rfl) ?_
  refine lv_imul E.hx E.hb dX6_high_4 ?_
  obtain ⟨u1, hu1, hf⟩ := bd_e hf
  obtain ⟨⟨v3, X2⟩, hv3, hf⟩ := bd_e hf
  refine xrun_i (va_runSU (As := [.int x1, .int (2 * x2)]) (rest := []) (xClassAt (ci := 6) E rfl) E.1 (tX4_high l hv3) (cwX6_9_X6 E.ht ⟨Nat.le_of_ble_eq_true rfl, Nat.le_of_ble_eq_true rfl⟩) (xPreV (ci := 6) E hR hS rfl (ck_e hu1)) rfl rfl hl.1 rfl (lv_room (Nat.le_of_ble_eq_true rfl)) dX6_high_5 ⟨Nat.le_trans (by omega) (Nat.le_refl 0), Nat.le_trans (by omega) (Nat.le_refl 0)⟩) hS (fun H locs hR hS => ?_)
  obtain ⟨rfl, rfl⟩ := rt_e hf
  exact xret_i E (by omega) (by omega) hR hS dX6_high_8
theorem tX6_high (l : Launch) {D : va_G} {cA : Nat → ClassId} {A : Nat → Prop} {Zs : XZ} {X Xf : AH} {x0 : Nat} {x1 : Int32} {x2 : Int32} {r : Int32} (hf : fX6_high X x0 x1 x2 = some (r, Xf)) : Met l yX6_high (ws_ yX6_high cX6_high 3 (some .int)) rmX6_high (xPc D cA A Zs X [.ref x0, .int x1, .int x2]) (xQi D cA A Zs r Xf) 0 0 A := by
  refine Met.ofW (cc := cX6_high) (maxL := 3) (ret := (some .int)) (by decide) rfl ?_
  intro p e s m args below meth c s₁ B hml hv
  obtain ⟨rfl, hR, hK⟩ := hv
  have hts := atoms_spec (ws := (ws_ yX6_high cX6_high 3 (some .int))) B.pre
  rw [lg_entry_eq]
  exact wX6_high_0 (E := ⟨⟨B.exec, B.bytes, hml, findClass_of_methodNamed B.named, fun w h => hts w (List.mem_cons_of_mem _ h)⟩, hK, B.returns, B.notSynchronized⟩) hf _ _ _ 0 0 (Nat.le_of_ble_eq_true rfl) (Nat.le_of_ble_eq_true rfl) hR va_S.rf (lv_entry [.ref x0, .int x1, .int x2] (n := 3) (Nat.le_of_ble_eq_true rfl))
end
abbrev rmX7_high : Room := { frames := 1, cells := 0, slots := 0, locals := 12 }
section
variable {p : Program} {l : Launch} {e : Env} {s : State} {m : MethodId} {args : Array Value} {below : List Frame} {meth : Method} {c : Code} {D : va_G} {cA : Nat → ClassId} {A : Nat → Prop} {Zs : XZ} {Xf : AH} {r : Int32} {rl : Int64} {ra : Nat} {tv : Unit ⊕ Nat} {ti : Int32 ⊕ Nat} {tr : Nat ⊕ Nat} {q2 : Option Nat}
def fX7_high  (X : AH) (x0 : Nat) (x1 : Int32) (x2 : Int32) : Option (Int32 × AH) :=
  some (x1, X)
theorem wX7_high_0 (E : xE p m c cX7_high 3 s args RX7 D cA A Zs meth (some .int)) {X : AH} {x0 : Nat} {x1 : Int32} {x2 : Int32} (hf : fX7_high X x0 x1 x2 = some (r, Xf)) : ∀ (H : Heap) (locs : List Loc) (ls : Array Slot) (cells slots : Nat), cells + 0 ≤ 0 → slots + 0 ≤ 0 → xR D cA A Zs X H → va_S A s.heap H locs → lv_has ls 3 [(0, .ref x0), (1, .int x1), (2, .int x2)] → W p l e rmX7_high s m args below meth c H locs cells slots (MQ below (xQi D cA A Zs r Xf) args s 0 0 A) (F0 m 0 ls []) := by
  intro H locs ls cells slots hc hs hR hS hl
  refine lv_iload_n E.hx E.hb dX7_high_0 rfl (lv_at hl 1 rfl) ?_
  obtain ⟨rfl, rfl⟩ := rt_e hf
  exact xret_i E (by omega) (by omega) hR hS dX7_high_1
theorem tX7_high (l : Launch) {D : va_G} {cA : Nat → ClassId} {A : Nat → Prop} {Zs : XZ} {X Xf : AH} {x0 : Nat} {x1 : Int32} {x2 : Int32} {r : Int32} (hf : fX7_high X x0 x1 x2 = some (r, Xf)) : Met l yX7_high (ws_ yX7_high cX7_high 3 (some .int)) rmX7_high (xPc D cA A Zs X [.ref x0, .int x1, .int x2]) (xQi D cA A Zs r Xf) 0 0 A := by
  refine Met.ofW (cc := cX7_high) (maxL := 3) (ret := (some .int)) (by decide) rfl ?_
  intro p e s m args below meth c s₁ B hml hv
  obtain ⟨rfl, hR, hK⟩ := hv
  have hts := atoms_spec (ws := (ws_ yX7_high cX7_high 3 (some .int))) B.pre
  rw [lg_entry_eq]
  exact wX7_high_0 (E := ⟨⟨B.exec, B.bytes, hml, findClass_of_methodNamed B.named, fun w h => hts w (List.mem_cons_of_mem _ h)⟩, hK, B.returns, B.notSynchronized⟩) hf _ _ _ 0 0 (Nat.le_of_ble_eq_true rfl) (Nat.le_of_ble_eq_true rfl) hR va_S.rf (lv_entry [.ref x0, .int x1, .int x2] (n := 3) (Nat.le_of_ble_eq_true rfl))
end
abbrev rmX8_high : Room := { frames := 2, cells := 0, slots := 0, locals := 34 }
theorem cwX8_9_X8 {R : Room} {s : State} {args : Array Value} (ht : ∀ w ∈ lw_all, w.before args s = true) (hR : rmX7_high.frames + 1 ≤ R.frames ∧ 8 + (3 + 11) + rmX7_high.locals ≤ R.locals) : va_CS R s args RX8 9 yX7_high cX7_high 3 (some .int) (ws_ yX7_high cX7_high 3 (some .int)) rmX7_high 0 0 2 :=
  va_cwSU (ws := (ws_ yX7_high cX7_high 3 (some .int))) 2 ht (xwsSU q814 q1673 q268 q804 q78 (lw_meth q805)) rfl rfl rfl (by decide +kernel) hR
section
variable {p : Program} {l : Launch} {e : Env} {s : State} {m : MethodId} {args : Array Value} {below : List Frame} {meth : Method} {c : Code} {D : va_G} {cA : Nat → ClassId} {A : Nat → Prop} {Zs : XZ} {Xf : AH} {r : Int32} {rl : Int64} {ra : Nat} {tv : Unit ⊕ Nat} {ti : Int32 ⊕ Nat} {tr : Nat ⊕ Nat} {q2 : Option Nat}
def fX8_high  (X : AH) (x0 : Nat) (x1 : Int32) (x2 : Int32) : Option (Int32 × AH) :=
  (ck X x0 8).bind fun _ =>
  (fX7_high X x0 x1 x2).bind fun (v3, X2) =>
  if x1 ≤ 0 then (some ((v3 + 0), X2)) else (some ((v3 + 5), X2))
theorem wX8_high_0 (E : xE p m c cX8_high 3 s args RX8 D cA A Zs meth (some .int)) {X : AH} {x0 : Nat} {x1 : Int32} {x2 : Int32} (hf : fX8_high X x0 x1 x2 = some (r, Xf)) : ∀ (H : Heap) (locs : List Loc) (ls : Array Slot) (cells slots : Nat), cells + 0 ≤ 0 → slots + 0 ≤ 0 → xR D cA A Zs X H → va_S A s.heap H locs → lv_has ls 3 [(0, .ref x0), (1, .int x1), (2, .int x2)] → W p l e rmX8_high s m args below meth c H locs cells slots (MQ below (xQi D cA A Zs r Xf) args s 0 0 A) (F0 m 0 ls []) := by
  intro H locs ls cells slots hc hs hR hS hl
  refine lv_aload_n E.hx E.hb dX8_high_0 rfl (lv_at hl 0 rfl) ?_
  refine lv_iload_n E.hx E.hb dX8_high_1 rfl (lv_at hl 1 rfl) ?_
  refine lv_iload_n E.hx E.hb dX8_high_2 rfl (lv_at hl 2 rfl) ?_
  obtain ⟨u1, hu1, hf⟩ := bd_e hf
  obtain ⟨⟨v3, X2⟩, hv3, hf⟩ := bd_e hf
  refine xrun_i (va_runSU (As := [.int x1, .int x2]) (rest := []) (xClassAt (ci := 8) E rfl) E.1 (tX7_high l hv3) (cwX8_9_X8 E.ht ⟨Nat.le_of_ble_eq_true rfl, Nat.le_of_ble_eq_true rfl⟩) (xPreV (ci := 8) E hR hS rfl (ck_e hu1)) rfl rfl hl.1 rfl (lv_room (Nat.le_of_ble_eq_true rfl)) dX8_high_3 ⟨Nat.le_trans (by omega) (Nat.le_refl 0), Nat.le_trans (by omega) (Nat.le_refl 0)⟩) hS (fun H locs hR hS => ?_)
  refine lv_iload_n E.hx E.hb dX8_high_6 rfl (lv_at hl 1 rfl) ?_
  refine lv_if_le (tgt := 14) E.hx E.hb dX8_high_7 (by decide) (fun c4 => ?_) (fun c4 => ?_)
  · have hf := it_t hf c4
    refine lv_iconst (v := 0) E.hx E.hb dX8_high_14 (by decide) ?_
    refine lv_iadd E.hx E.hb dX8_high_15 ?_
    obtain ⟨rfl, rfl⟩ := rt_e hf
    exact xret_i E (by omega) (by omega) hR hS dX8_high_16
  · have hf := it_f hf c4
    refine lv_iconst (v := 5) E.hx E.hb dX8_high_10 (by decide) ?_
    refine lv_goto (tgt := 15) E.hx E.hb dX8_high_11 (by decide) ?_
    refine lv_iadd E.hx E.hb dX8_high_15 ?_
    obtain ⟨rfl, rfl⟩ := rt_e hf
    exact xret_i E (by omega) (by omega) hR hS dX8_high_16
theorem tX8_high (l : Launch) {D : va_G} {cA : Nat → ClassId} {A : Nat → Prop} {Zs : XZ} {X Xf : AH} {x0 : Nat} {x1 : Int32} {x2 : Int32} {r : Int32} (hf : fX8_high X x0 x1 x2 = some (r, Xf)) : Met l yX8_high (ws_ yX8_high cX8_high 3 (some .int)) rmX8_high (xPc D cA A Zs X [.ref x0, .int x1, .int x2]) (xQi D cA A Zs r Xf) 0 0 A := by
  refine Met.ofW (cc := cX8_high) (maxL := 3) (ret := (some .int)) (by decide) rfl ?_
  intro p e s m args below meth c s₁ B hml hv
  obtain ⟨rfl, hR, hK⟩ := hv
  have hts := atoms_spec (ws := (ws_ yX8_high cX8_high 3 (some .int))) B.pre
  rw [lg_entry_eq]
  exact wX8_high_0 (E := ⟨⟨B.exec, B.bytes, hml, findClass_of_methodNamed B.named, fun w h => hts w (List.mem_cons_of_mem _ h)⟩, hK, B.returns, B.notSynchronized⟩) hf _ _ _ 0 0 (Nat.le_of_ble_eq_true rfl) (Nat.le_of_ble_eq_true rfl) hR va_S.rf (lv_entry [.ref x0, .int x1, .int x2] (n := 3) (Nat.le_of_ble_eq_true rfl))
end
abbrev rmX7_sawn : Room := { frames := 2, cells := 0, slots := 0, locals := 33 }
theorem cwX7_9_X7 {R : Room} {s : State} {args : Array Value} (ht : ∀ w ∈ lw_all, w.before args s = true) (hR : rmX3_sawn.frames + 1 ≤ R.frames ∧ 8 + (2 + 11) + rmX3_sawn.locals ≤ R.locals) : va_CS R s args RX7 9 yX3_sawn cX3_sawn 2 (some .int) (ws_ yX3_sawn cX3_sawn 2 (some .int)) rmX3_sawn 0 0 1 :=
  va_cwSU (ws := (ws_ yX3_sawn cX3_sawn 2 (some .int))) 1 ht (xwsSU q830 q825 q260 q824 q74 (lw_meth q834)) rfl rfl rfl (by decide +kernel) hR
theorem cwX7_9_X8 {R : Room} {s : State} {args : Array Value} (ht : ∀ w ∈ lw_all, w.before args s = true) (hR : rmX3_sawn.frames + 1 ≤ R.frames ∧ 8 + (2 + 11) + rmX3_sawn.locals ≤ R.locals) : va_CS R s args RX7 9 yX3_sawn cX3_sawn 2 (some .int) (ws_ yX3_sawn cX3_sawn 2 (some .int)) rmX3_sawn 0 0 1 :=
  va_cwSU (ws := (ws_ yX3_sawn cX3_sawn 2 (some .int))) 1 ht (xwsSU q830 q825 q260 q824 q74 (lw_meth q834)) rfl rfl rfl (by decide +kernel) hR
section
variable {p : Program} {l : Launch} {e : Env} {s : State} {m : MethodId} {args : Array Value} {below : List Frame} {meth : Method} {c : Code} {D : va_G} {cA : Nat → ClassId} {A : Nat → Prop} {Zs : XZ} {Xf : AH} {r : Int32} {rl : Int64} {ra : Nat} {tv : Unit ⊕ Nat} {ti : Int32 ⊕ Nat} {tr : Nat ⊕ Nat} {q2 : Option Nat}
def fX7_sawn  (X : AH) (x0 : Nat) (x1 : Int32) : Option (Int32 × AH) :=
  (gC X x0).bind fun k1 =>
  if k1 = 7 then ((fX3_sawn X x0 x1).bind fun (v6, X5) =>
  some ((v6 / 2), X5)) else (if k1 = 8 then ((fX3_sawn X x0 x1).bind fun (v3, X2) =>
  some ((v3 / 2), X2)) else none)
theorem wX7_sawn_0 (E : xE p m c cX7_sawn 2 s args RX7 D cA A Zs meth (some .int)) {X : AH} {x0 : Nat} {x1 : Int32} (hf : fX7_sawn X x0 x1 = some (r, Xf)) : ∀ (H : Heap) (locs : List Loc) (ls : Array Slot) (cells slots : Nat), cells + 0 ≤ 0 → slots + 0 ≤ 0 → xR D cA A Zs X H → va_S A s.heap H locs → lv_has ls 2 [(0, .ref x0), (1, .int x1)] → W p l e rmX7_sawn s m args below meth c H locs cells slots (MQ below (xQi D cA A Zs r Xf) args s 0 0 A) (F0 m 0 ls []) := by
  intro H locs ls cells slots hc hs hR hS hl
  refine lv_aload_n E.hx E.hb dX7_sawn_0 rfl (lv_at hl 0 rfl) ?_
  refine lv_iload_n E.hx E.hb dX7_sawn_1 rfl (lv_at hl 1 rfl) ?_
  obtain ⟨k1, hk1, hf⟩ := bd_e hf
  by_cases c7 : k1 = 7
  · have hf := it_t hf c7
    obtain ⟨⟨v6, X5⟩, hv6, hf⟩ := bd_e hf
    refine xrun_i (va_runSU (As := [.int x1]) (rest := []) (xClassAt (ci := 7) E rfl) E.1 (tX3_sawn l hv6) (cwX7_9_X7 E.ht ⟨Nat.le_of_ble_eq_true rfl, Nat.le_of_ble_eq_true rfl⟩) (xPreV (ci := 7) E hR hS rfl (hk1.trans (congrArg some c7))) rfl rfl hl.1 rfl (lv_room (Nat.le_of_ble_eq_true rfl)) dX7_sawn_2 ⟨Nat.le_trans (by omega) (Nat.le_refl 0), Nat.le_trans (by omega) (Nat.le_refl 0)⟩) hS (fun H locs hR hS => ?_)
    refine lv_iconst (v := 2) E.hx E.hb dX7_sawn_5 (by decide) ?_
    refine lv_idiv E.hx E.hb dX7_sawn_6 (by decide) ?_
    obtain ⟨rfl, rfl⟩ := rt_e hf
    exact xret_i E (by omega) (by omega) hR hS dX7_sawn_7
  · have hf := it_f hf c7
    by_cases c4 : k1 = 8
    · have hf := it_t hf c4
      obtain ⟨⟨v3, X2⟩, hv3, hf⟩ := bd_e hf
      refine xrun_i (va_runSU (As := [.int x1]) (rest := []) (xClassAt (ci := 8) E rfl) E.1 (tX3_sawn l hv3) (cwX7_9_X8 E.ht ⟨Nat.le_of_ble_eq_true rfl, Nat.le_of_ble_eq_true rfl⟩) (xPreV (ci := 8) E hR hS rfl (hk1.trans (congrArg some c4))) rfl rfl hl.1 rfl (lv_room (Nat.le_of_ble_eq_true rfl)) dX7_sawn_2 ⟨Nat.le_trans (by omega) (Nat.le_refl 0), Nat.le_trans (by omega) (Nat.le_refl 0)⟩) hS (fun H locs hR hS => ?_)
      refine lv_iconst (v := 2) E.hx E.hb dX7_sawn_5 (by decide) ?_
      refine lv_idiv E.hx E.hb dX7_sawn_6 (by decide) ?_
      obtain ⟨rfl, rfl⟩ := rt_e hf
      exact xret_i E (by omega) (by omega) hR hS dX7_sawn_7
    · have hf := it_f hf c4
      have hf : none = some (r, Xf) := hf
      cases hf
theorem tX7_sawn (l : Launch) {D : va_G} {cA : Nat → ClassId} {A : Nat → Prop} {Zs : XZ} {X Xf : AH} {x0 : Nat} {x1 : Int32} {r : Int32} (hf : fX7_sawn X x0 x1 = some (r, Xf)) : Met l yX7_sawn (ws_ yX7_sawn cX7_sawn 2 (some .int)) rmX7_sawn (xPc D cA A Zs X [.ref x0, .int x1]) (xQi D cA A Zs r Xf) 0 0 A := by
  refine Met.ofW (cc := cX7_sawn) (maxL := 2) (ret := (some .int)) (by decide) rfl ?_
  intro p e s m args below meth c s₁ B hml hv
  obtain ⟨rfl, hR, hK⟩ := hv
  have hts := atoms_spec (ws := (ws_ yX7_sawn cX7_sawn 2 (some .int))) B.pre
  rw [lg_entry_eq]
  exact wX7_sawn_0 (E := ⟨⟨B.exec, B.bytes, hml, findClass_of_methodNamed B.named, fun w h => hts w (List.mem_cons_of_mem _ h)⟩, hK, B.returns, B.notSynchronized⟩) hf _ _ _ 0 0 (Nat.le_of_ble_eq_true rfl) (Nat.le_of_ble_eq_true rfl) hR va_S.rf (lv_entry [.ref x0, .int x1] (n := 2) (Nat.le_of_ble_eq_true rfl))
end
