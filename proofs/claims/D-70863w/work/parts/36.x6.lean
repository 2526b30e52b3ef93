set_option maxRecDepth 100000
section
variable {p : Program} {l : Launch} {e : Env} {R : Room} {s : State} {m : MethodId} {args : Array Value} {below : List Frame} {meth : Method} {c : Code} {H : Heap} {locs : List Loc} {cells slots : Nat} {Q : State → Prop} {cc : ByteArray} {pc nL : Nat} {ls : Array Slot} {rest : List Value} {D : va_G} {cA : Nat → ClassId} {A : Nat → Prop} {Zs : XZ} {X X' : AH} {ret : Option FieldType} {a : Nat}
theorem xpJ3_17n_X10 (E : xE p m c cc nL s args RJ3 D cA A Zs meth ret) (hR : xR D cA A Zs X H) (hS : va_S A s.heap H locs) (h : pF X a 10 1 (.null) = some X') (hdg : decode cc pc = .ok (.putfield 17, 3)) (kk : ∀ (H : Heap) (locs : List Loc), xR D cA A Zs X' H → va_S A s.heap H locs → W p l e R s m args below meth c H locs cells slots Q (F0 m (pc + 3) ls rest)) : W p l e R s m args below meth c H locs cells slots Q (F0 m pc ls (.null :: .ref a :: rest)) :=
  xput (ci := 10) (k := 1) E hR hS in_X10 tyX10 tyX10_ok nmX10 rfl (by decide) q376 (fun _ h => h) rfl (ty := (.array (.object "java/lang/StackTraceElement"))) rfl rfl rfl h hdg kk
theorem xpJ3_17n_X13 (E : xE p m c cc nL s args RJ3 D cA A Zs meth ret) (hR : xR D cA A Zs X H) (hS : va_S A s.heap H locs) (h : pF X a 13 1 (.null) = some X') (hdg : decode cc pc = .ok (.putfield 17, 3)) (kk : ∀ (H : Heap) (locs : List Loc), xR D cA A Zs X' H → va_S A s.heap H locs → W p l e R s m args below meth c H locs cells slots Q (F0 m (pc + 3) ls rest)) : W p l e R s m args below meth c H locs cells slots Q (F0 m pc ls (.null :: .ref a :: rest)) :=
  xput (ci := 13) (k := 1) E hR hS in_X13 tyX13 tyX13_ok nmX13 rfl (by decide) q376 (fun _ h => h) rfl (ty := (.array (.object "java/lang/StackTraceElement"))) rfl rfl rfl h hdg kk
theorem xpJ3_17q_X10 {x : Option Nat} (E : xE p m c cc nL s args RJ3 D cA A Zs meth ret) (hR : xR D cA A Zs X H) (hS : va_S A s.heap H locs) (h : pF X a 10 1 (va_rf x) = some X') (hdg : decode cc pc = .ok (.putfield 17, 3)) (kk : ∀ (H : Heap) (locs : List Loc), xR D cA A Zs X' H → va_S A s.heap H locs → W p l e R s m args below meth c H locs cells slots Q (F0 m (pc + 3) ls rest)) : W p l e R s m args below meth c H locs cells slots Q (F0 m pc ls (va_rf x :: .ref a :: rest)) :=
  xput (ci := 10) (k := 1) E hR hS in_X10 tyX10 tyX10_ok nmX10 rfl (by decide) q376 (fun _ h => h) rfl (ty := (.array (.object "java/lang/StackTraceElement"))) rfl (by cases x <;> rfl) (by cases x <;> rfl) h hdg kk
theorem xpJ3_17q_X13 {x : Option Nat} (E : xE p m c cc nL s args RJ3 D cA A Zs meth ret) (hR : xR D cA A Zs X H) (hS : va_S A s.heap H locs) (h : pF X a 13 1 (va_rf x) = some X') (hdg : decode cc pc = .ok (.putfield 17, 3)) (kk : ∀ (H : Heap) (locs : List Loc), xR D cA A Zs X' H → va_S A s.heap H locs → W p l e R s m args below meth c H locs cells slots Q (F0 m (pc + 3) ls rest)) : W p l e R s m args below meth c H locs cells slots Q (F0 m pc ls (va_rf x :: .ref a :: rest)) :=
  xput (ci := 13) (k := 1) E hR hS in_X13 tyX13 tyX13_ok nmX13 rfl (by decide) q376 (fun _ h => h) rfl (ty := (.array (.object "java/lang/StackTraceElement"))) rfl (by cases x <;> rfl) (by cases x <;> rfl) h hdg kk
theorem xpJ3_24n_X10 (E : xE p m c cc nL s args RJ3 D cA A Zs meth ret) (hR : xR D cA A Zs X H) (hS : va_S A s.heap H locs) (h : pF X a 10 2 (.null) = some X') (hdg : decode cc pc = .ok (.putfield 24, 3)) (kk : ∀ (H : Heap) (locs : List Loc), xR D cA A Zs X' H → va_S A s.heap H locs → W p l e R s m args below meth c H locs cells slots Q (F0 m (pc + 3) ls rest)) : W p l e R s m args below meth c H locs cells slots Q (F0 m pc ls (.null :: .ref a :: rest)) :=
  xput (ci := 10) (k := 2) E hR hS in_X10 tyX10 tyX10_ok nmX10 rfl (by decide) q377 (fun _ h => h) rfl (ty := (.object "java/util/List")) rfl rfl rfl h hdg kk
theorem xpJ3_24n_X13 (E : xE p m c cc nL s args RJ3 D cA A Zs meth ret) (hR : xR D cA A Zs X H) (hS : va_S A s.heap H locs) (h : pF X a 13 2 (.null) = some X') (hdg : decode cc pc = .ok (.putfield 24, 3)) (kk : ∀ (H : Heap) (locs : List Loc), xR D cA A Zs X' H → va_S A s.heap H locs → W p l e R s m args below meth c H locs cells slots Q (F0 m (pc + 3) ls rest)) : W p l e R s m args below meth c H locs cells slots Q (F0 m pc ls (.null :: .ref a :: rest)) :=
  xput (ci := 13) (k := 2) E hR hS in_X13 tyX13 tyX13_ok nmX13 rfl (by decide) q377 (fun _ h => h) rfl (ty := (.object "java/util/List")) rfl rfl rfl h hdg kk
theorem xpJ3_24q_X10 {x : Option Nat} (E : xE p m c cc nL s args RJ3 D cA A Zs meth ret) (hR : xR D cA A Zs X H) (hS : va_S A s.heap H locs) (h : pF X a 10 2 (va_rf x) = some X') (hdg : decode cc pc = .ok (.putfield 24, 3)) (kk : ∀ (H : Heap) (locs : List Loc), xR D cA A Zs X' H → va_S A s.heap H locs → W p l e R s m args below meth c H locs cells slots Q (F0 m (pc + 3) ls rest)) : W p l e R s m args below meth c H locs cells slots Q (F0 m pc ls (va_rf x :: .ref a :: rest)) :=
  xput (ci := 10) (k := 2) E hR hS in_X10 tyX10 tyX10_ok nmX10 rfl (by decide) q377 (fun _ h => h) rfl (ty := (.object "java/util/List")) rfl (by cases x <;> rfl) (by cases x <;> rfl) h hdg kk
theorem xpJ3_24q_X13 {x : Option Nat} (E : xE p m c cc nL s args RJ3 D cA A Zs meth ret) (hR : xR D cA A Zs X H) (hS : va_S A s.heap H locs) (h : pF X a 13 2 (va_rf x) = some X') (hdg : decode cc pc = .ok (.putfield 24, 3)) (kk : ∀ (H : Heap) (locs : List Loc), xR D cA A Zs X' H → va_S A s.heap H locs → W p l e R s m args below meth c H locs cells slots Q (F0 m (pc + 3) ls rest)) : W p l e R s m args below meth c H locs cells slots Q (F0 m pc ls (va_rf x :: .ref a :: rest)) :=
  xput (ci := 13) (k := 2) E hR hS in_X13 tyX13 tyX13_ok nmX13 rfl (by decide) q377 (fun _ h => h) rfl (ty := (.object "java/util/List")) rfl (by cases x <;> rfl) (by cases x <;> rfl) h hdg kk
theorem xpJ3_31n_X10 (E : xE p m c cc nL s args RJ3 D cA A Zs meth ret) (hR : xR D cA A Zs X H) (hS : va_S A s.heap H locs) (h : pF X a 10 3 (.null) = some X') (hdg : decode cc pc = .ok (.putfield 31, 3)) (kk : ∀ (H : Heap) (locs : List Loc), xR D cA A Zs X' H → va_S A s.heap H locs → W p l e R s m args below meth c H locs cells slots Q (F0 m (pc + 3) ls rest)) : W p l e R s m args below meth c H locs cells slots Q (F0 m pc ls (.null :: .ref a :: rest)) :=
  xput (ci := 10) (k := 3) E hR hS in_X10 tyX10 tyX10_ok nmX10 rfl (by decide) q374 (fun _ h => h) rfl (ty := (.object "java/lang/String")) rfl rfl rfl h hdg kk
theorem xpJ3_31n_X13 (E : xE p m c cc nL s args RJ3 D cA A Zs meth ret) (hR : xR D cA A Zs X H) (hS : va_S A s.heap H locs) (h : pF X a 13 3 (.null) = some X') (hdg : decode cc pc = .ok (.putfield 31, 3)) (kk : ∀ (H : Heap) (locs : List Loc), xR D cA A Zs X' H → va_S A s.heap H locs → W p l e R s m args below meth c H locs cells slots Q (F0 m (pc + 3) ls rest)) : W p l e R s m args below meth c H locs cells slots Q (F0 m pc ls (.null :: .ref a :: rest)) :=
  xput (ci := 13) (k := 3) E hR hS in_X13 tyX13 tyX13_ok nmX13 rfl (by decide) q374 (fun _ h => h) rfl (ty := (.object "java/lang/String")) rfl rfl rfl h hdg kk
theorem xpJ3_7_X10 {x : Nat} (E : xE p m c cc nL s args RJ3 D cA A Zs meth ret) (hR : xR D cA A Zs X H) (hS : va_S A s.heap H locs) (h : pF X a 10 0 (.ref x) = some X') (hdg : decode cc pc = .ok (.putfield 7, 3)) (kk : ∀ (H : Heap) (locs : List Loc), xR D cA A Zs X' H → va_S A s.heap H locs → W p l e R s m args below meth c H locs cells slots Q (F0 m (pc + 3) ls rest)) : W p l e R s m args below meth c H locs cells slots Q (F0 m pc ls (.ref x :: .ref a :: rest)) :=
  xput (ci := 10) (k := 0) E hR hS in_X10 tyX10 tyX10_ok nmX10 rfl (by decide) q375 (fun _ h => h) rfl (ty := (.object "java/lang/Throwable")) rfl rfl rfl h hdg kk
theorem xpJ3_7_X13 {x : Nat} (E : xE p m c cc nL s args RJ3 D cA A Zs meth ret) (hR : xR D cA A Zs X H) (hS : va_S A s.heap H locs) (h : pF X a 13 0 (.ref x) = some X') (hdg : decode cc pc = .ok (.putfield 7, 3)) (kk : ∀ (H : Heap) (locs : List Loc), xR D cA A Zs X' H → va_S A s.heap H locs → W p l e R s m args below meth c H locs cells slots Q (F0 m (pc + 3) ls rest)) : W p l e R s m args below meth c H locs cells slots Q (F0 m pc ls (.ref x :: .ref a :: rest)) :=
  xput (ci := 13) (k := 0) E hR hS in_X13 tyX13 tyX13_ok nmX13 rfl (by decide) q375 (fun _ h => h) rfl (ty := (.object "java/lang/Throwable")) rfl rfl rfl h hdg kk
theorem xpJ3_7n_X10 (E : xE p m c cc nL s args RJ3 D cA A Zs meth ret) (hR : xR D cA A Zs X H) (hS : va_S A s.heap H locs) (h : pF X a 10 0 (.null) = some X') (hdg : decode cc pc = .ok (.putfield 7, 3)) (kk : ∀ (H : Heap) (locs : List Loc), xR D cA A Zs X' H → va_S A s.heap H locs → W p l e R s m args below meth c H locs cells slots Q (F0 m (pc + 3) ls rest)) : W p l e R s m args below meth c H locs cells slots Q (F0 m pc ls (.null :: .ref a :: rest)) :=
  xput (ci := 10) (k := 0) E hR hS in_X10 tyX10 tyX10_ok nmX10 rfl (by decide) q375 (fun _ h => h) rfl (ty := (.object "java/lang/Throwable")) rfl rfl rfl h hdg kk
theorem xpJ3_7n_X13 (E : xE p m c cc nL s args RJ3 D cA A Zs meth ret) (hR : xR D cA A Zs X H) (hS : va_S A s.heap H locs) (h : pF X a 13 0 (.null) = some X') (hdg : decode cc pc = .ok (.putfield 7, 3)) (kk : ∀ (H : Heap) (locs : List Loc), xR D cA A Zs X' H → va_S A s.heap H locs → W p l e R s m args below meth c H locs cells slots Q (F0 m (pc + 3) ls rest)) : W p l e R s m args below meth c H locs cells slots Q (F0 m pc ls (.null :: .ref a :: rest)) :=
  xput (ci := 13) (k := 0) E hR hS in_X13 tyX13 tyX13_ok nmX13 rfl (by decide) q375 (fun _ h => h) rfl (ty := (.object "java/lang/Throwable")) rfl rfl rfl h hdg kk
theorem xpX10_7 {x : Int32} (E : xE p m c cc nL s args RX10 D cA A Zs meth ret) (hR : xR D cA A Zs X H) (hS : va_S A s.heap H locs) (hin : meth.name = "<init>") (h : pF X a 10 6 (.int x) = some X') (hdg : decode cc pc = .ok (.putfield 7, 3)) (kk : ∀ (H : Heap) (locs : List Loc), xR D cA A Zs X' H → va_S A s.heap H locs → W p l e R s m args below meth c H locs cells slots Q (F0 m (pc + 3) ls rest)) : W p l e R s m args below meth c H locs cells slots Q (F0 m pc ls (.int x :: .ref a :: rest)) :=
  xputF (ci := 10) (k := 6) E hR hS in_X10 tyX10 tyX10_ok nmX10 rfl (by decide) q371 (fun _ h => h) rfl hin rfl (ty := .int) rfl rfl rfl h hdg kk
theorem xpX13_13 {x : Int32} (E : xE p m c cc nL s args RX13 D cA A Zs meth ret) (hR : xR D cA A Zs X H) (hS : va_S A s.heap H locs) (hin : meth.name = "<init>") (h : pF X a 13 7 (.int x) = some X') (hdg : decode cc pc = .ok (.putfield 13, 3)) (kk : ∀ (H : Heap) (locs : List Loc), xR D cA A Zs X' H → va_S A s.heap H locs → W p l e R s m args below meth c H locs cells slots Q (F0 m (pc + 3) ls rest)) : W p l e R s m args below meth c H locs cells slots Q (F0 m pc ls (.int x :: .ref a :: rest)) :=
  xputF (ci := 13) (k := 7) E hR hS in_X13 tyX13 tyX13_ok nmX13 rfl (by decide) q551 (fun _ h => h) rfl hin rfl (ty := .int) rfl rfl rfl h hdg kk
theorem xpX13_7 {x : Int32} (E : xE p m c cc nL s args RX13 D cA A Zs meth ret) (hR : xR D cA A Zs X H) (hS : va_S A s.heap H locs) (hin : meth.name = "<init>") (h : pF X a 13 6 (.int x) = some X') (hdg : decode cc pc = .ok (.putfield 7, 3)) (kk : ∀ (H : Heap) (locs : List Loc), xR D cA A Zs X' H → va_S A s.heap H locs → W p l e R s m args below meth c H locs cells slots Q (F0 m (pc + 3) ls rest)) : W p l e R s m args below meth c H locs cells slots Q (F0 m pc ls (.int x :: .ref a :: rest)) :=
  xputF (ci := 13) (k := 6) E hR hS in_X13 tyX13 tyX13_ok nmX13 rfl (by decide) q549 (fun _ h => h) rfl hin rfl (ty := .int) rfl rfl rfl h hdg kk
theorem dfX10 : ∀ j, j < 7 → defaultValue (tyX10 j) = vp_V [.null, .null, .null, .null, .null, .int 0, .int 0] j := fun j hj => by
  match j, hj with
  | 0, _ => rfl
  | 1, _ => rfl
  | 2, _ => rfl
  | 3, _ => rfl
  | 4, _ => rfl
  | 5, _ => rfl
  | 6, _ => rfl
  | j + 7, h => exact absurd h (by omega)
theorem xgX0_66 {v : Int32} (E : xE p m c cc nL s args RX0 D cA A Zs meth ret) (hR : xR D cA A Zs X H) (h : gI X a 10 6 = some v) (hdg : decode cc pc = .ok (.getfield 66, 3)) (kk : W p l e R s m args below meth c H locs cells slots Q (F0 m (pc + 3) ls (.int v :: rest))) : W p l e R s m args below meth c H locs cells slots Q (F0 m pc ls (.ref a :: rest)) :=
  xget (ci := 10) (k := 6) E hR in_X10 rfl (by decide) q372 (fun _ h => h) (gI_e h) hdg kk
theorem xpX11_15 {x : Nat} (E : xE p m c cc nL s args RX11 D cA A Zs meth ret) (hR : xR D cA A Zs X H) (hS : va_S A s.heap H locs) (hin : meth.name = "<init>") (h : pF X a 11 1 (.ref x) = some X') (hdg : decode cc pc = .ok (.putfield 15, 3)) (kk : ∀ (H : Heap) (locs : List Loc), xR D cA A Zs X' H → va_S A s.heap H locs → W p l e R s m args below meth c H locs cells slots Q (F0 m (pc + 3) ls rest)) : W p l e R s m args below meth c H locs cells slots Q (F0 m pc ls (.ref x :: .ref a :: rest)) :=
  xputF (ci := 11) (k := 1) E hR hS in_X11 tyX11 tyX11_ok nmX11 rfl (by decide) q395 (fun _ h => h) rfl hin rfl (ty := (.array .int)) rfl rfl rfl h hdg kk
theorem xpX11_9 {x : Int32} (E : xE p m c cc nL s args RX11 D cA A Zs meth ret) (hR : xR D cA A Zs X H) (hS : va_S A s.heap H locs) (hin : meth.name = "<init>") (h : pF X a 11 0 (.int x) = some X') (hdg : decode cc pc = .ok (.putfield 9, 3)) (kk : ∀ (H : Heap) (locs : List Loc), xR D cA A Zs X' H → va_S A s.heap H locs → W p l e R s m args below meth c H locs cells slots Q (F0 m (pc + 3) ls rest)) : W p l e R s m args below meth c H locs cells slots Q (F0 m pc ls (.int x :: .ref a :: rest)) :=
  xputF (ci := 11) (k := 0) E hR hS in_X11 tyX11 tyX11_ok nmX11 rfl (by decide) q393 (fun _ h => h) rfl hin rfl (ty := .int) rfl rfl rfl h hdg kk
theorem xgX11_9 {v : Int32} (E : xE p m c cc nL s args RX11 D cA A Zs meth ret) (hR : xR D cA A Zs X H) (h : gI X a 11 0 = some v) (hdg : decode cc pc = .ok (.getfield 9, 3)) (kk : W p l e R s m args below meth c H locs cells slots Q (F0 m (pc + 3) ls (.int v :: rest))) : W p l e R s m args below meth c H locs cells slots Q (F0 m pc ls (.ref a :: rest)) :=
  xget (ci := 11) (k := 0) E hR in_X11 rfl (by decide) q393 (fun _ h => h) (gI_e h) hdg kk
theorem xgX11_15 {v : Nat} (E : xE p m c cc nL s args RX11 D cA A Zs meth ret) (hR : xR D cA A Zs X H) (h : gR X a 11 1 = some v) (hdg : decode cc pc = .ok (.getfield 15, 3)) (kk : W p l e R s m args below meth c H locs cells slots Q (F0 m (pc + 3) ls (.ref v :: rest))) : W p l e R s m args below meth c H locs cells slots Q (F0 m pc ls (.ref a :: rest)) :=
  xget (ci := 11) (k := 1) E hR in_X11 rfl (by decide) q395 (fun _ h => h) (gR_e h) hdg kk
theorem dfX11 : ∀ j, j < 2 → defaultValue (tyX11 j) = vp_V [.int 0, .null] j := fun j hj => by
  match j, hj with
  | 0, _ => rfl
  | 1, _ => rfl
  | j + 2, h => exact absurd h (by omega)
theorem xgX0_109 {v : Nat} (E : xE p m c cc nL s args RX0 D cA A Zs meth ret) (hR : xR D cA A Zs X H) (h : gR X a 11 1 = some v) (hdg : decode cc pc = .ok (.getfield 109, 3)) (kk : W p l e R s m args below meth c H locs cells slots Q (F0 m (pc + 3) ls (.ref v :: rest))) : W p l e R s m args below meth c H locs cells slots Q (F0 m pc ls (.ref a :: rest)) :=
  xget (ci := 11) (k := 1) E hR in_X11 rfl (by decide) q396 (fun _ h => h) (gR_e h) hdg kk
end
abbrev rmJ3_init_2 : Room := { frames := 1, cells := 0, slots := 0, locals := 12 }
section
variable {p : Program} {l : Launch} {e : Env} {s : State} {m : MethodId} {args : Array Value} {below : List Frame} {meth : Method} {c : Code} {D : va_G} {cA : Nat → ClassId} {A : Nat → Prop} {Zs : XZ} {Xf : AH} {r : Int32} {rl : Int64} {ra : Nat} {tv : Unit ⊕ Nat} {ti : Int32 ⊕ Nat} {tr : Nat ⊕ Nat} {q2 : Option Nat}
def fJ3_init_2  (X : AH) (x0 : Nat) (x3 : Int32) (x4 : Int32) : Option AH :=
  (gC X x0).bind fun k1 =>
  if k1 = 10 then ((pF X x0 10 0 (.ref x0)).bind fun X12 =>
  (pF X12 x0 10 1 (va_rf (X12.2.1.2.1))).bind fun X13 =>
  (pF X13 x0 10 2 (va_rf (X13.2.1.2.2.1))).bind fun X14 =>
  if x4 = 0 then ((pF X14 x0 10 1 (.null)).bind fun X16 =>
  (pF X16 x0 10 3 (.null)).bind fun X17 =>
  (pF X17 x0 10 0 (.null)).bind fun X18 =>
  if x3 = 0 then ((pF X18 x0 10 2 (.null)).bind fun X20 =>
  some X20) else (some X18)) else none) else (if k1 = 13 then ((pF X x0 13 0 (.ref x0)).bind fun X2 =>
  (pF X2 x0 13 1 (va_rf (X2.2.1.2.1))).bind fun X3 =>
  (pF X3 x0 13 2 (va_rf (X3.2.1.2.2.1))).bind fun X4 =>
  if x4 = 0 then ((pF X4 x0 13 1 (.null)).bind fun X6 =>
  (pF X6 x0 13 3 (.null)).bind fun X7 =>
  (pF X7 x0 13 0 (.null)).bind fun X8 =>
  if x3 = 0 then ((pF X8 x0 13 2 (.null)).bind fun X10 =>
  some X10) else (some X8)) else none) else none)
theorem wJ3_init_2_0 (E : xE p m c cJ3_init_2 5 s args RJ3 D cA A Zs meth none) (hin : meth.name = "<init>") {X : AH} {x0 : Nat} {x3 : Int32} {x4 : Int32} (hf : fJ3_init_2 X x0 x3 x4 = some Xf) : ∀ (H : Heap) (locs : List Loc) (ls : Array Slot) (cells slots : Nat), cells + 0 ≤ 0 → slots + 0 ≤ 0 → xR D cA A Zs X H → va_S A s.heap H locs → lv_has ls 5 [(0, .ref x0), (1, .null), (2, .null), (3, .int x3), (4, .int x4)] → W p l e rmJ3_init_2 s m args below meth c H locs cells slots (MQ below (xQv D cA A Zs Xf) args s 0 0 A) (F0 m 0 ls []) := by
  intro H locs ls cells slots hc hs hR hS hl
  refine lv_aload_n E.hx E.hb dJ3_init_2_0 rfl (lv_at hl 0 rfl) ?_
  refine W.objInit E.hx E.hb E.ho (E.ht _ q345) (E.ht _ q107) (E.ht _ q108) rfl (by rw [E.1.2.2.1]; exact hl.1) rfl dJ3_init_2_1 (Nat.le_of_ble_eq_true rfl) (Nat.le_of_ble_eq_true rfl) ?_
  refine W.eq (g2 := F0 m 4 ls []) rfl ?_
  refine lv_aload_n E.hx E.hb dJ3_init_2_4 rfl (lv_at hl 0 rfl) ?_
  refine lv_aload_n E.hx E.hb dJ3_init_2_5 rfl (lv_at hl 0 rfl) ?_
  obtain ⟨k1, hk1, hf⟩ := bd_e hf
  by_cases c21 : k1 = 10
  · have hf := it_t hf c21
    obtain ⟨X12, hX12, hf⟩ := bd_e hf
    refine xpJ3_7_X10 E hR hS hX12 dJ3_init_2_6 (fun H locs hR hS => ?_)
    refine lv_aload_n E.hx E.hb dJ3_init_2_9 rfl (lv_at hl 0 rfl) ?_
    refine xgetU E hR hS q346 dJ3_init_2_10 ?_
    obtain ⟨X13, hX13, hf⟩ := bd_e hf
    refine xpJ3_17q_X10 E hR hS hX13 dJ3_init_2_13 (fun H locs hR hS => ?_)
    refine lv_aload_n E.hx E.hb dJ3_init_2_16 rfl (lv_at hl 0 rfl) ?_
    refine xgetS E hR hS q348 dJ3_init_2_17 ?_
    obtain ⟨X14, hX14, hf⟩ := bd_e hf
    refine xpJ3_24q_X10 E hR hS hX14 dJ3_init_2_20 (fun H locs hR hS => ?_)
    refine lv_iload E.hx E.hb dJ3_init_2_23 (lv_at hl 4 rfl) ?_
    refine lv_if_eq (tgt := 36) E.hx E.hb dJ3_init_2_25 (by decide) (fun c15 => ?_) (fun c15 => ?_)
    · have hf := it_t hf c15
      refine lv_aload_n E.hx E.hb dJ3_init_2_36 rfl (lv_at hl 0 rfl) ?_
      refine lv_null E.hx E.hb dJ3_init_2_37 ?_
      obtain ⟨X16, hX16, hf⟩ := bd_e hf
      refine xpJ3_17n_X10 E hR hS hX16 dJ3_init_2_38 (fun H locs hR hS => ?_)
      refine lv_aload_n E.hx E.hb dJ3_init_2_41 rfl (lv_at hl 0 rfl) ?_
      refine lv_aload_nN E.hx E.hb dJ3_init_2_42 rfl (lv_at hl 1 rfl) ?_
      obtain ⟨X17, hX17, hf⟩ := bd_e hf
      refine xpJ3_31n_X10 E hR hS hX17 dJ3_init_2_43 (fun H locs hR hS => ?_)
      refine lv_aload_n E.hx E.hb dJ3_init_2_46 rfl (lv_at hl 0 rfl) ?_
      refine lv_aload_nN E.hx E.hb dJ3_init_2_47 rfl (lv_at hl 2 rfl) ?_
      obtain ⟨X18, hX18, hf⟩ := bd_e hf
      refine xpJ3_7n_X10 E hR hS hX18 dJ3_init_2_48 (fun H locs hR hS => ?_)
      refine lv_iload_n E.hx E.hb dJ3_init_2_51 rfl (lv_at hl 3 rfl) ?_
      refine lv_if_ne (tgt := 60) E.hx E.hb dJ3_init_2_52 (by decide) (fun c19 => ?_) (fun c19 => ?_)
      · have hf := it_f hf c19
        obtain rfl := Option.some.inj hf
        exact xret_v E (by omega) (by omega) hR hS dJ3_init_2_60
      · have hf := it_t hf c19
        refine lv_aload_n E.hx E.hb dJ3_init_2_55 rfl (lv_at hl 0 rfl) ?_
        refine lv_null E.hx E.hb dJ3_init_2_56 ?_
        obtain ⟨X20, hX20, hf⟩ := bd_e hf
        refine xpJ3_24n_X10 E hR hS hX20 dJ3_init_2_57 (fun H locs hR hS => ?_)
        obtain rfl := Option.some.inj hf
        exact xret_v E (by omega) (by omega) hR hS dJ3_init_2_60
    · have hf := it_f hf c15
      have hf : none = some Xf := hf
      cases hf
  · have hf := it_f hf c21
    by_cases c11 : k1 = 13
    · have hf := it_t hf c11
      obtain ⟨X2, hX2, hf⟩ := bd_e hf
      refine xpJ3_7_X13 E hR hS hX2 dJ3_init_2_6 (fun H locs hR hS => ?_)
      refine lv_aload_n E.hx E.hb dJ3_init_2_9 rfl (lv_at hl 0 rfl) ?_
      refine xgetU E hR hS q346 dJ3_init_2_10 ?_
      obtain ⟨X3, hX3, hf⟩ := bd_e hf
      refine xpJ3_17q_X13 E hR hS hX3 dJ3_init_2_13 (fun H locs hR hS => ?_)
      refine lv_aload_n E.hx E.hb dJ3_init_2_16 rfl (lv_at hl 0 rfl) ?_
      refine xgetS E hR hS q348 dJ3_init_2_17 ?_
      obtain ⟨X4, hX4, hf⟩ := bd_e hf
      refine xpJ3_24q_X13 E hR hS hX4 dJ3_init_2_20 (fun H locs hR hS => ?_)
      refine lv_iload E.hx E.hb dJ3_init_2_23 (lv_at hl 4 rfl) ?_
      refine lv_if_eq (tgt := 36) E.hx E.hb dJ3_init_2_25 (by decide) (fun c5 => ?_) (fun c5 => ?_)
      · have hf := it_t hf c5
        refine lv_aload_n E.hx E.hb dJ3_init_2_36 rfl (lv_at hl 0 rfl) ?_
        refine lv_null E.hx E.hb dJ3_init_2_37 ?_
        obtain ⟨X6, hX6, hf⟩ := bd_e hf
        refine xpJ3_17n_X13 E hR hS hX6 dJ3_init_2_38 (fun H locs hR hS => ?_)
        refine lv_aload_n E.hx E.hb dJ3_init_2_41 rfl (lv_at hl 0 rfl) ?_
        refine lv_aload_nN E.hx E.hb dJ3_init_2_42 rfl (lv_at hl 1 rfl) ?_
        obtain ⟨X7, hX7, hf⟩ := bd_e hf
        refine xpJ3_31n_X13 E hR hS hX7 dJ3_init_2_43 (fun H locs hR hS => ?_)
        refine lv_aload_n E.hx E.hb dJ3_init_2_46 rfl (lv_at hl 0 rfl) ?_
        refine lv_aload_nN E.hx E.hb dJ3_init_2_47 rfl (lv_at hl 2 rfl) ?_
        obtain ⟨X8, hX8, hf⟩ := bd_e hf
        refine xpJ3_7n_X13 E hR hS hX8 dJ3_init_2_48 (fun H locs hR hS => ?_)
        refine lv_iload_n E.hx E.hb dJ3_init_2_51 rfl (lv_at hl 3 rfl) ?_
        refine lv_if_ne (tgt := 60) E.hx E.hb dJ3_init_2_52 (by decide) (fun c9 => ?_) (fun c9 => ?_)
        · have hf := it_f hf c9
          obtain rfl := Option.some.inj hf
          exact xret_v E (by omega) (by omega) hR hS dJ3_init_2_60
        · have hf := it_t hf c9
          refine lv_aload_n E.hx E.hb dJ3_init_2_55 rfl (lv_at hl 0 rfl) ?_
          refine lv_null E.hx E.hb dJ3_init_2_56 ?_
          obtain ⟨X10, hX10, hf⟩ := bd_e hf
          refine xpJ3_24n_X13 E hR hS hX10 dJ3_init_2_57 (fun H locs hR hS => ?_)
          obtain rfl := Option.some.inj hf
          exact xret_v E (by omega) (by omega) hR hS dJ3_init_2_60
      · have hf := it_f hf c5
        have hf : none = some Xf := hf
        cases hf
    · have hf := it_f hf c11
      have hf : none = some Xf := hf
      cases hf
theorem tJ3_init_2 (l : Launch) {D : va_G} {cA : Nat → ClassId} {A : Nat → Prop} {Zs : XZ} {X Xf : AH} {x0 : Nat} {x3 : Int32} {x4 : Int32}  (hf : fJ3_init_2 X x0 x3 x4 = some Xf) : Met l yJ3_init_2 (ws_ yJ3_init_2 cJ3_init_2 5 none) rmJ3_init_2 (xPc D cA A Zs X [.ref x0, .null, .null, .int x3, .int x4]) (xQv D cA A Zs Xf) 0 0 A := by
  refine Met.ofW (cc := cJ3_init_2) (maxL := 5) (ret := none) (by decide) rfl ?_
  intro p e s m args below meth c s₁ B hml hv
  obtain ⟨rfl, hR, hK⟩ := hv
  have hts := atoms_spec (ws := (ws_ yJ3_init_2 cJ3_init_2 5 none)) B.pre
  rw [lg_entry_eq]
  exact wJ3_init_2_0 (E := ⟨⟨B.exec, B.bytes, hml, findClass_of_methodNamed B.named, fun w h => hts w (List.mem_cons_of_mem _ h)⟩, hK, B.returns, B.notSynchronized⟩) (name_of_methodNamed B.named B.method).1 hf _ _ _ 0 0 (Nat.le_of_ble_eq_true rfl) (Nat.le_of_ble_eq_true rfl) hR va_S.rf (lv_entry [.ref x0, .null, .null, .int x3, .int x4] (n := 5) (Nat.le_of_ble_eq_true rfl))
end
abbrev rmJ4_init : Room := { frames := 2, cells := 0, slots := 0, locals := 36 }
theorem cwJ4_16 {R : Room} {s : State} {args : Array Value} (ht : ∀ w ∈ lw_all, w.before args s = true) (hR : rmJ3_init_2.frames + 1 ≤ R.frames ∧ 8 + (5 + 11) + rmJ3_init_2.locals ≤ R.locals) : CallB R s args RJ4 16 yJ3_init_2 cJ3_init_2 5 none (ws_ yJ3_init_2 cJ3_init_2 5 none) rmJ3_init_2 0 0 4 ∧ yJ3_init_2.name = "<init>" ∧ (Cond.instanceMethod yJ3_init_2).before args s = true :=
  cwI 4 ht (lw_meth q370) rfl rfl rfl (ht _ q81) (ht _ q368) (ht _ q369) rfl (by decide +kernel) hR
section
variable {p : Program} {l : Launch} {e : Env} {s : State} {m : MethodId} {args : Array Value} {below : List Frame} {meth : Method} {c : Code} {D : va_G} {cA : Nat → ClassId} {A : Nat → Prop} {Zs : XZ} {Xf : AH} {r : Int32} {rl : Int64} {ra : Nat} {tv : Unit ⊕ Nat} {ti : Int32 ⊕ Nat} {tr : Nat ⊕ Nat} {q2 : Option Nat}
def fJ4_init  (X : AH) (x0 : Nat) (x3 : Int32) (x4 : Int32) : Option AH :=
  (fJ3_init_2 X x0 x3 x4).bind fun X1 =>
  some X1
theorem wJ4_init_0 (E : xE p m c cJ4_init 5 s args RJ4 D cA A Zs meth none) (hin : meth.name = "<init>") {X : AH} {x0 : Nat} {x3 : Int32} {x4 : Int32} (hf : fJ4_init X x0 x3 x4 = some Xf) : ∀ (H : Heap) (locs : List Loc) (ls : Array Slot) (cells slots : Nat), cells + 0 ≤ 0 → slots + 0 ≤ 0 → xR D cA A Zs X H → va_S A s.heap H locs → lv_has ls 5 [(0, .ref x0), (1, .null), (2, .null), (3, .int x3), (4, .int x4)] → W p l e rmJ4_init s m args below meth c H locs cells slots (MQ below (xQv D cA A Zs Xf) args s 0 0 A) (F0 m 0 ls []) := by
  intro H locs ls cells slots hc hs hR hS hl
  refine lv_aload_n E.hx E.hb dJ4_init_0 rfl (lv_at hl 0 rfl) ?_
  refine lv_aload_nN E.hx E.hb dJ4_init_1 rfl (lv_at hl 1 rfl) ?_
  refine lv_aload_nN E.hx E.hb dJ4_init_2 rfl (lv_at hl 2 rfl) ?_
  refine lv_iload_n E.hx E.hb dJ4_init_3 rfl (lv_at hl 3 rfl) ?_
  refine lv_iload E.hx E.hb dJ4_init_4 (lv_at hl 4 rfl) ?_
  obtain ⟨X1, hX1, hf⟩ := bd_e hf
  refine xrun_v (va_runI (As := [.null, .null, .int x3, .int x4]) (rest := []) E.1 (tJ3_init_2 l hX1) (cwJ4_16 E.ht ⟨Nat.le_of_ble_eq_true rfl, Nat.le_of_ble_eq_true rfl⟩) (xPreS E hR hS) rfl rfl hl.1 rfl (lv_room (Nat.le_of_ble_eq_true rfl)) dJ4_init_6 ⟨Nat.le_trans (by omega) (Nat.le_refl 0), Nat.le_trans (by omega) (Nat.le_refl 0)⟩) hS (fun H locs hR hS => ?_)
  obtain rfl := Option.some.inj hf
  exact xret_v E (by omega) (by omega) hR hS dJ4_init_9
theorem tJ4_init (l : Launch) {D : va_G} {cA : Nat → ClassId} {A : Nat → Prop} {Zs : XZ} {X Xf : AH} {x0 : Nat} {x3 : Int32} {x4 : Int32}  (hf : fJ4_init X x0 x3 x4 = some Xf) : Met l yJ4_init (ws_ yJ4_init cJ4_init 5 none) rmJ4_init (xPc D cA A Zs X [.ref x0, .null, .null, .int x3, .int x4]) (xQv D cA A Zs Xf) 0 0 A := by
  refine Met.ofW (cc := cJ4_init) (maxL := 5) (ret := none) (by decide) rfl ?_
  intro p e s m args below meth c s₁ B hml hv
  obtain ⟨rfl, hR, hK⟩ := hv
  have hts := atoms_spec (ws := (ws_ yJ4_init cJ4_init 5 none)) B.pre
  rw [lg_entry_eq]
  exact wJ4_init_0 (E := ⟨⟨B.exec, B.bytes, hml, findClass_of_methodNamed B.named, fun w h => hts w (List.mem_cons_of_mem _ h)⟩, hK, B.returns, B.notSynchronized⟩) (name_of_methodNamed B.named B.method).1 hf _ _ _ 0 0 (Nat.le_of_ble_eq_true rfl) (Nat.le_of_ble_eq_true rfl) hR va_S.rf (lv_entry [.ref x0, .null, .null, .int x3, .int x4] (n := 5) (Nat.le_of_ble_eq_true rfl))
end
abbrev rmX10_init : Room := { frames := 3, cells := 0, slots := 0, locals := 60 }
theorem cwX10_1 {R : Room} {s : State} {args : Array Value} (ht : ∀ w ∈ lw_all, w.before args s = true) (hR : rmJ4_init.frames + 1 ≤ R.frames ∧ 8 + (5 + 11) + rmJ4_init.locals ≤ R.locals) : CallB R s args RX10 1 yJ4_init cJ4_init 5 none (ws_ yJ4_init cJ4_init 5 none) rmJ4_init 0 0 4 ∧ yJ4_init.name = "<init>" ∧ (Cond.instanceMethod yJ4_init).before args s = true :=
  cwI 4 ht (lw_meth q367) rfl rfl rfl (ht _ q82) (ht _ q365) (ht _ q366) rfl (by decide +kernel) hR
section
variable {p : Program} {l : Launch} {e : Env} {s : State} {m : MethodId} {args : Array Value} {below : List Frame} {meth : Method} {c : Code} {D : va_G} {cA : Nat → ClassId} {A : Nat → Prop} {Zs : XZ} {Xf : AH} {r : Int32} {rl : Int64} {ra : Nat} {tv : Unit ⊕ Nat} {ti : Int32 ⊕ Nat} {tr : Nat ⊕ Nat} {q2 : Option Nat}
def fX10_init  (X : AH) (x0 : Nat) (x1 : Int32) : Option AH :=
  (fJ4_init X x0 0 0).bind fun X1 =>
  (pF X1 x0 10 6 (.int x1)).bind fun X3 =>
  some X3
theorem wX10_init_0 (E : xE p m c cX10_init 2 s args RX10 D cA A Zs meth none) (hin : meth.name = "<init>") {X : AH} {x0 : Nat} {x1 : Int32} (hf : fX10_init X x0 x1 = some Xf) : ∀ (H : Heap) (locs : List Loc) (ls : Array Slot) (cells slots : Nat), cells + 0 ≤ 0 → slots + 0 ≤ 0 → xR D cA A Zs X H → va_S A s.heap H locs → lv_has ls 2 [(0, .ref x0), (1, .int x1)] → W p l e rmX10_init s m args below meth c H locs cells slots (MQ below (xQv D cA A Zs Xf) args s 0 0 A) (F0 m 0 ls []) := by
  intro H locs ls cells slots hc hs hR hS hl
  refine lv_aload_n E.hx E.hb dX10_init_0 rfl (lv_at hl 0 rfl) ?_
  refine lv_null E.hx E.hb dX10_init_1 ?_
  refine lv_null E.hx E.hb dX10_init_2 ?_
  refine lv_iconst (v := 0) E.hx E.hb dX10_init_3 (by decide) ?_
  refine lv_iconst (v := 0) E.hx E.hb dX10_init_4 (by decide) ?_
  obtain ⟨X1, hX1, hf⟩ := bd_e hf
  refine xrun_v (va_runI (As := [.null, .null, .int 0, .int 0]) (rest := []) E.1 (tJ4_init l hX1) (cwX10_1 E.ht ⟨Nat.le_of_ble_eq_true rfl, Nat.le_of_ble_eq_true rfl⟩) (xPreS E hR hS) rfl rfl hl.1 rfl (lv_room (Nat.le_of_ble_eq_true rfl)) dX10_init_5 ⟨Nat.le_trans (by omega) (Nat.le_refl 0), Nat.le_trans (by omega) (Nat.le_refl 0)⟩) hS (fun H locs hR hS => ?_)
  refine lv_aload_n E.hx E.hb dX10_init_8 rfl (lv_at hl 0 rfl) ?_
  refine lv_iload_n E.hx E.hb dX10_init_9 rfl (lv_at hl 1 rfl) ?_
  obtain ⟨X3, hX3, hf⟩ := bd_e hf
  refine xpX10_7 E hR hS hin hX3 dX10_init_10 (fun H locs hR hS => ?_)
  obtain rfl := Option.some.inj hf
  exact xret_v E (by omega) (by omega) hR hS dX10_init_13
theorem tX10_init (l : Launch) {D : va_G} {cA : Nat → ClassId} {A : Nat → Prop} {Zs : XZ} {X Xf : AH} {x0 : Nat} {x1 : Int32}  (hf : fX10_init X x0 x1 = some Xf) : Met l yX10_init (ws_ yX10_init cX10_init 2 none) rmX10_init (xPc D cA A Zs X [.ref x0, .int x1]) (xQv D cA A Zs Xf) 0 0 A := by
  refine Met.ofW (cc := cX10_init) (maxL := 2) (ret := none) (by decide) rfl ?_
  intro p e s m args below meth c s₁ B hml hv
  obtain ⟨rfl, hR, hK⟩ := hv
  have hts := atoms_spec (ws := (ws_ yX10_init cX10_init 2 none)) B.pre
  rw [lg_entry_eq]
  exact wX10_init_0 (E := ⟨⟨B.exec, B.bytes, hml, findClass_of_methodNamed B.named, fun w h => hts w (List.mem_cons_of_mem _ h)⟩, hK, B.returns, B.notSynchronized⟩) (name_of_methodNamed B.named B.method).1 hf _ _ _ 0 0 (Nat.le_of_ble_eq_true rfl) (Nat.le_of_ble_eq_true rfl) hR va_S.rf (lv_entry [.ref x0, .int x1] (n := 2) (Nat.le_of_ble_eq_true rfl))
end
abbrev rmX13_init : Room := { frames := 3, cells := 0, slots := 0, locals := 60 }
theorem cwX13_1 {R : Room} {s : State} {args : Array Value} (ht : ∀ w ∈ lw_all, w.before args s = true) (hR : rmJ4_init.frames + 1 ≤ R.frames ∧ 8 + (5 + 11) + rmJ4_init.locals ≤ R.locals) : CallB R s args RX13 1 yJ4_init cJ4_init 5 none (ws_ yJ4_init cJ4_init 5 none) rmJ4_init 0 0 4 ∧ yJ4_init.name = "<init>" ∧ (Cond.instanceMethod yJ4_init).before args s = true :=
  cwI 4 ht (lw_meth q367) rfl rfl rfl (ht _ q82) (ht _ q548) (ht _ q366) rfl (by decide +kernel) hR
section
variable {p : Program} {l : Launch} {e : Env} {s : State} {m : MethodId} {args : Array Value} {below : List Frame} {meth : Method} {c : Code} {D : va_G} {cA : Nat → ClassId} {A : Nat → Prop} {Zs : XZ} {Xf : AH} {r : Int32} {rl : Int64} {ra : Nat} {tv : Unit ⊕ Nat} {ti : Int32 ⊕ Nat} {tr : Nat ⊕ Nat} {q2 : Option Nat}
def fX13_init  (X : AH) (x0 : Nat) (x1 : Int32) (x2 : Int32) : Option AH :=
  (fJ4_init X x0 0 0).bind fun X1 =>
  (pF X1 x0 13 6 (.int x1)).bind fun X3 =>
  (pF X3 x0 13 7 (.int x2)).bind fun X4 =>
  some X4
theorem wX13_init_0 (E : xE p m c cX13_init 3 s args RX13 D cA A Zs meth none) (hin : meth.name = "<init>") {X : AH} {x0 : Nat} {x1 : Int32} {x2 : Int32} (hf : fX13_init X x0 x1 x2 = some Xf) : ∀ (H : Heap) (locs : List Loc) (ls : Array Slot) (cells slots : Nat), cells + 0 ≤ 0 → slots + 0 ≤ 0 → xR D cA A Zs X H → va_S A s.heap H locs → lv_has ls 3 [(0, .ref x0), (1, .int x1), (2, .int x2)] → W p l e rmX13_init s m args below meth c H locs cells slots (MQ below (xQv D cA A Zs Xf) args s 0 0 A) (F0 m 0 ls []) := by
  intro H locs ls cells slots hc hs hR hS hl
  refine lv_aload_n E.hx E.hb dX13_init_0 rfl (lv_at hl 0 rfl) ?_
  refine lv_null E.hx E.hb dX13_init_1 ?_
  refine lv_null E.hx E.hb dX13_init_2 ?_
  refine lv_iconst (v := 0) E.hx E.hb dX13_init_3 (by decide) ?_
  refine lv_iconst (v := 0) E.hx E.hb dX13_init_4 (by decide) ?_
  obtain ⟨X1, hX1, hf⟩ := bd_e hf
  refine xrun_v (va_runI (As := [.null, .null, .int 0, .int 0]) (rest := []) E.1 (tJ4_init l hX1) (cwX13_1 E.ht ⟨Nat.le_of_ble_eq_true rfl, Nat.le_of_ble_eq_true rfl⟩) (xPreS E hR hS) rfl rfl hl.1 rfl (lv_room (Nat.le_of_ble_eq_true rfl)) dX13_init_5 ⟨Nat.le_trans (by omega) (Nat.le_refl 0), Nat.le_trans (by omega) (Nat.le_refl 0)⟩) hS (fun H locs hR hS => ?_)
  refine lv_aload_n E.hx E.hb dX13_init_8 rfl (lv_at hl 0 rfl) ?_
  refine lv_iload_n E.hx E.hb dX13_init_9 rfl (lv_at hl 1 rfl) ?_
  obtain ⟨X3, hX3, hf⟩ := bd_e hf
  refine xpX13_7 E hR hS hin hX3 dX13_init_10 (fun H locs hR hS => ?_)
  refine lv_aload_n E.hx E.hb dX13_init_13 rfl (lv_at hl 0 rfl) ?_
  refine lv_iload_n E.hx E.hb dX13_init_14 rfl (lv_at hl 2 rfl) ?_
  obtain ⟨X4, hX4, hf⟩ := bd_e hf
  refine xpX13_13 E hR hS hin hX4 dX13_init_15 (fun H locs hR hS => ?_)
  obtain rfl := Option.some.inj hf
  exact xret_v E (by omega) (by omega) hR hS dX13_init_18
theorem tX13_init (l : Launch) {D : va_G} {cA : Nat → ClassId} {A : Nat → Prop} {Zs : XZ} {X Xf : AH} {x0 : Nat} {x1 : Int32} {x2 : Int32}  (hf : fX13_init X x0 x1 x2 = some Xf) : Met l yX13_init (ws_ yX13_init cX13_init 3 none) rmX13_init (xPc D cA A Zs X [.ref x0, .int x1, .int x2]) (xQv D cA A Zs Xf) 0 0 A := by
  refine Met.ofW (cc := cX13_init) (maxL := 3) (ret := none) (by decide) rfl ?_
  intro p e s m args below meth c s₁ B hml hv
  obtain ⟨rfl, hR, hK⟩ := hv
  have hts := atoms_spec (ws := (ws_ yX13_init cX13_init 3 none)) B.pre
  rw [lg_entry_eq]
  exact wX13_init_0 (E := ⟨⟨B.exec, B.bytes, hml, findClass_of_methodNamed B.named, fun w h => hts w (List.mem_cons_of_mem _ h)⟩, hK, B.returns, B.notSynchronized⟩) (name_of_methodNamed B.named B.method).1 hf _ _ _ 0 0 (Nat.le_of_ble_eq_true rfl) (Nat.le_of_ble_eq_true rfl) hR va_S.rf (lv_entry [.ref x0, .int x1, .int x2] (n := 3) (Nat.le_of_ble_eq_true rfl))
end
abbrev rmX0_must : Room := { frames := 4, cells := 1, slots := 7, locals := 81 }
theorem cwX0_76 {R : Room} {s : State} {args : Array Value} (ht : ∀ w ∈ lw_all, w.before args s = true) (hR : rmX10_init.frames + 1 ≤ R.frames ∧ 8 + (2 + 11) + rmX10_init.locals ≤ R.locals) : CallB R s args RX0 76 yX10_init cX10_init 2 none (ws_ yX10_init cX10_init 2 none) rmX10_init 0 0 1 ∧ yX10_init.name = "<init>" ∧ (Cond.instanceMethod yX10_init).before args s = true :=
  cwI 1 ht (lw_meth q364) rfl rfl rfl (ht _ q83) (ht _ q362) (ht _ q363) rfl (by decide +kernel) hR
section
variable {p : Program} {l : Launch} {e : Env} {s : State} {m : MethodId} {args : Array Value} {below : List Frame} {meth : Method} {c : Code} {D : va_G} {cA : Nat → ClassId} {A : Nat → Prop} {Zs : XZ} {Xf : AH} {r : Int32} {rl : Int64} {ra : Nat} {tv : Unit ⊕ Nat} {ti : Int32 ⊕ Nat} {tr : Nat ⊕ Nat} {q2 : Option Nat}
def fX0_must  (X : AH) (x0 : Int32) (x1 : Int32) : Option ((Unit ⊕ Nat) × AH) :=
  if x0 = 0 then ((some (xnw X (.inl (10, [.null, .null, .null, .null, .null, .int 0, .int 0])))).bind fun X2 =>
  (fX10_init X2 X.1 x1).bind fun X3 =>
  some (.inr X.1, X3)) else (some (.inl (), X))
theorem wX0_must_0 (E : xE p m c cX0_must 2 s args RX0 D cA A Zs meth none) (hne : c.exceptionTable.toList = []) {X : AH} {x0 : Int32} {x1 : Int32} (hf : fX0_must X x0 x1 = some (tv, Xf)) : ∀ (H : Heap) (locs : List Loc) (ls : Array Slot) (cells slots : Nat), cells + 1 ≤ 1 → slots + 7 ≤ 7 → xR D cA A Zs X H → va_S A s.heap H locs → lv_has ls 2 [(0, .int x0), (1, .int x1)] → W p l e rmX0_must s m args below meth c H locs cells slots (MQT below (xQT D cA A Zs (ov tv) Xf) args s 1 7 A) (F0 m 0 ls []) := by
  intro H locs ls cells slots hc hs hR hS hl
  refine lv_iload_n E.hx E.hb dX0_must_0 rfl (lv_at hl 0 rfl) ?_
  refine lv_if_ne (tgt := 13) E.hx E.hb dX0_must_1 (by decide) (fun c1 => ?_) (fun c1 => ?_)
  · have hf := it_f hf c1
    obtain ⟨rfl, rfl⟩ := rt_e hf
    exact xretT_v E (by omega) (by omega) hR hS dX0_must_13
  · have hf := it_t hf c1
    obtain ⟨X2, hX2, hf⟩ := bd_e hf
    refine xnew (ci := 10) E hR hS in_X10 tyX10 tyX10_ok q310 q323 q83 rfl dfX10 (Nat.le_trans (by omega) (Nat.le_refl 1)) (Nat.le_trans (by omega) (Nat.le_refl 7)) dX0_must_4 (fun H hR hS => ?_)
    rw [Option.some.inj hX2] at hR
    refine lv_dup E.hx E.hb dX0_must_7 rfl ?_
    refine lv_iload_n E.hx E.hb dX0_must_8 rfl (lv_at hl 1 rfl) ?_
    obtain ⟨X3, hX3, hf⟩ := bd_e hf
    refine xrun_v (va_runI (As := [.int x1]) (rest := [.ref X.1]) E.1 (tX10_init l hX3) (cwX0_76 E.ht ⟨Nat.le_of_ble_eq_true rfl, Nat.le_of_ble_eq_true rfl⟩) (xPreS E hR hS) rfl rfl hl.1 rfl (lv_room (Nat.le_of_ble_eq_true rfl)) dX0_must_9 ⟨Nat.le_trans (by omega) (Nat.le_refl 1), Nat.le_trans (by omega) (Nat.le_refl 7)⟩) hS (fun H locs hR hS => ?_)
    obtain ⟨rfl, rfl⟩ := rt_e hf
    exact xathrow E hne rfl (by omega) (by omega) hR hS dX0_must_12
theorem tX0_must (l : Launch) {D : va_G} {cA : Nat → ClassId} {A : Nat → Prop} {Zs : XZ} {X Xf : AH} {x0 : Int32} {x1 : Int32} {tv : Unit ⊕ Nat} (hf : fX0_must X x0 x1 = some (tv, Xf)) : MetT l yX0_must (ws_ yX0_must cX0_must 2 none) rmX0_must (xPc D cA A Zs X [.int x0, .int x1]) (xQT D cA A Zs (ov tv) Xf) 1 7 A := by
  refine MetT.ofW (cc := cX0_must) (maxL := 2) (ret := none) (by decide) rfl ?_
  intro p e s m args below meth c s₁ B hml hne hv
  obtain ⟨rfl, hR, hK⟩ := hv
  have hts := atoms_spec (ws := (ws_ yX0_must cX0_must 2 none)) B.pre
  rw [lg_entry_eq]
  exact wX0_must_0 (E := ⟨⟨B.exec, B.bytes, hml, findClass_of_methodNamed B.named, fun w h => hts w (List.mem_cons_of_mem _ h)⟩, hK, B.returns, B.notSynchronized⟩) hne hf _ _ _ 0 0 (Nat.le_of_ble_eq_true rfl) (Nat.le_of_ble_eq_true rfl) hR va_S.rf (lv_entry [.int x0, .int x1] (n := 2) (Nat.le_of_ble_eq_true rfl))
end
abbrev rmX0_found : Room := { frames := 1, cells := 0, slots := 0, locals := 12 }
section
variable {p : Program} {l : Launch} {e : Env} {s : State} {m : MethodId} {args : Array Value} {below : List Frame} {meth : Method} {c : Code} {D : va_G} {cA : Nat → ClassId} {A : Nat → Prop} {Zs : XZ} {Xf : AH} {r : Int32} {rl : Int64} {ra : Nat} {tv : Unit ⊕ Nat} {ti : Int32 ⊕ Nat} {tr : Nat ⊕ Nat} {q2 : Option Nat}
def fX0_found  (X : AH) (x0 : Nat) (x1 : Nat) : Option (Int32 × AH) :=
  (gI X x1 10 6).bind fun v1 =>
  (pF X x0 0 10 (.int v1)).bind fun X2 =>
  (gI X2 x1 10 6).bind fun v3 =>
  some (((-1000010) - v3), X2)
theorem wX0_found_0 (E : xE p m c cX0_found 2 s args RX0 D cA A Zs meth (some .int)) {X : AH} {x0 : Nat} {x1 : Nat} (hf : fX0_found X x0 x1 = some (r, Xf)) : ∀ (H : Heap) (locs : List Loc) (ls : Array Slot) (cells slots : Nat), cells + 0 ≤ 0 → slots + 0 ≤ 0 → xR D cA A Zs X H → va_S A s.heap H locs → lv_has ls 2 [(0, .ref x0), (1, .ref x1)] → W p l e rmX0_found s m args below meth c H locs cells slots (MQ below (xQi D cA A Zs r Xf) args s 0 0 A) (F0 m 0 ls []) := by
  intro H locs ls cells slots hc hs hR hS hl
  refine lv_aload_n E.hx E.hb dX0_found_0 rfl (lv_at hl 0 rfl) ?_
  refine lv_aload_n E.hx E.hb dX0_found_1 rfl (lv_at hl 1 rfl) ?_
  obtain ⟨v1, hv1, hf⟩ := bd_e hf
  refine xgX0_66 E hR hv1 dX0_found_2 ?_
  obtain ⟨X2, hX2, hf⟩ := bd_e hf
  refine xpX0_72 E hR hS hX2 dX0_found_5 (fun H locs hR hS => ?_)
  refine lv_ldc (v := (-1000010)) E.hx E.hb E.ho (E.ht _ q410) dX0_found_8 ?_
  refine lv_aload_n E.hx E.hb dX0_found_10 rfl (lv_at hl 1 rfl) ?_
  obtain ⟨v3, hv3, hf⟩ := bd_e hf
  refine xgX0_66 E hR hv3 dX0_found_11 ?_
  refine lv_isub E.hx E.hb dX0_found_14 ?_
  obtain ⟨rfl, rfl⟩ := rt_e hf
  exact xret_i E (by omega) (by omega) hR hS dX0_found_15
theorem tX0_found (l : Launch) {D : va_G} {cA : Nat → ClassId} {A : Nat → Prop} {Zs : XZ} {X Xf : AH} {x0 : Nat} {x1 : Nat} {r : Int32} (hf : fX0_found X x0 x1 = some (r, Xf)) : Met l yX0_found (ws_ yX0_found cX0_found 2 (some .int)) rmX0_found (xPc D cA A Zs X [.ref x0, .ref x1]) (xQi D cA A Zs r Xf) 0 0 A := by
  refine Met.ofW (cc := cX0_found) (maxL := 2) (ret := (some .int)) (by decide) rfl ?_
  intro p e s m args below meth c s₁ B hml hv
  obtain ⟨rfl, hR, hK⟩ := hv
  have hts := atoms_spec (ws := (ws_ yX0_found cX0_found 2 (some .int))) B.pre
  rw [lg_entry_eq]
  exact wX0_found_0 (E := ⟨⟨B.exec, B.bytes, hml, findClass_of_methodNamed B.named, fun w h => hts w (List.mem_cons_of_mem _ h)⟩, hK, B.returns, B.notSynchronized⟩) hf _ _ _ 0 0 (Nat.le_of_ble_eq_true rfl) (Nat.le_of_ble_eq_true rfl) hR va_S.rf (lv_entry [.ref x0, .ref x1] (n := 2) (Nat.le_of_ble_eq_true rfl))
end
abbrev rmX0_rowAt : Room := { frames := 5, cells := 1, slots := 7, locals := 102 }
theorem cwX0_83 {R : Room} {s : State} {args : Array Value} (ht : ∀ w ∈ lw_all, w.before args s = true) (hR : rmX0_must.frames + 1 ≤ R.frames ∧ 8 + (2 + 11) + rmX0_must.locals ≤ R.locals) : CallB R s args RX0 83 yX0_must cX0_must 2 none (ws_ yX0_must cX0_must 2 none) rmX0_must 1 7 2 ∧ (Cond.static yX0_must).before args s = true :=
  va_cwS 2 ht (lw_S q320 q321 q68 q322) rfl rfl rfl (by decide +kernel) hR
section
variable {p : Program} {l : Launch} {e : Env} {s : State} {m : MethodId} {args : Array Value} {below : List Frame} {meth : Method} {c : Code} {D : va_G} {cA : Nat → ClassId} {A : Nat → Prop} {Zs : XZ} {Xf : AH} {r : Int32} {rl : Int64} {ra : Nat} {tv : Unit ⊕ Nat} {ti : Int32 ⊕ Nat} {tr : Nat ⊕ Nat} {q2 : Option Nat}
def fX0_rowAt_b14  (X : AH) (s0 : Int32) (x0 : Nat) (x1 : Int32) : Option ((Nat ⊕ Nat) × AH) :=
  (fX0_must X s0 1).bind fun (o1, X2) => match o1 with
    | .inl _ => ((gR X2 x0 0 0).bind fun v5 =>
  (gQn X2 v5 2 x1).bind fun v6 =>
  some (.inl v6, X2))
    | .inr y4 => (some (.inr y4, X2))
theorem wX0_rowAt_b14 (E : xE p m c cX0_rowAt 2 s args RX0 D cA A Zs meth (some (.object "ChairRanks$Row"))) (hne : c.exceptionTable.toList = []) {X : AH} {s0 : Int32} {x0 : Nat} {x1 : Int32} (hf : fX0_rowAt_b14 X s0 x0 x1 = some (tr, Xf)) : ∀ (H : Heap) (locs : List Loc) (ls : Array Slot) (cells slots : Nat), cells + 1 ≤ 1 → slots + 7 ≤ 7 → xR D cA A Zs X H → va_S A s.heap H locs → lv_has ls 2 [(0, .ref x0), (1, .int x1)] → W p l e rmX0_rowAt s m args below meth c H locs cells slots (MQT below (xQT D cA A Zs (orf tr) Xf) args s 1 7 A) (F0 m 14 ls [.int s0]) := by
  intro H locs ls cells slots hc hs hR hS hl
  refine lv_iconst (v := 1) E.hx E.hb dX0_rowAt_14 (by decide) ?_
  obtain ⟨⟨o1, X2⟩, ho1, hf⟩ := bd_e hf
  cases o1 with
  | inl v3 =>
    refine xrunT_v (runST (As := [.int s0, .int 1]) (rest := []) E.1 (tX0_must l ho1) (cwX0_83 E.ht ⟨Nat.le_of_ble_eq_true rfl, Nat.le_of_ble_eq_true rfl⟩) (xPreS E hR hS) rfl rfl hl.1 rfl (lv_room (Nat.le_of_ble_eq_true rfl)) dX0_rowAt_15 ⟨Nat.le_trans (by omega) (Nat.le_refl 1), Nat.le_trans (by omega) (Nat.le_refl 7)⟩) hS (fun H locs hR hS => ?_)
    refine lv_aload_n E.hx E.hb dX0_rowAt_18 rfl (lv_at hl 0 rfl) ?_
    obtain ⟨v5, hv5, hf⟩ := bd_e hf
    refine xgX0_28 E hR hv5 dX0_rowAt_19 ?_
    refine lv_iload_n E.hx E.hb dX0_rowAt_22 rfl (lv_at hl 1 rfl) ?_
    obtain ⟨v6, hv6, hf⟩ := bd_e hf
    refine xaldn (kd := 2) E hR rfl hv6 dX0_rowAt_23 ?_
    obtain ⟨rfl, rfl⟩ := rt_e hf
    exact xretT_r E (Or.inl ⟨_, rfl⟩) (by omega) (by omega) hR hS dX0_rowAt_24
  | inr y4 =>
    obtain ⟨rfl, rfl⟩ := rt_e hf
    exact xrunT_out E hne (runST (As := [.int s0, .int 1]) (rest := []) E.1 (tX0_must l ho1) (cwX0_83 E.ht ⟨Nat.le_of_ble_eq_true rfl, Nat.le_of_ble_eq_true rfl⟩) (xPreS E hR hS) rfl rfl hl.1 rfl (lv_room (Nat.le_of_ble_eq_true rfl)) dX0_rowAt_15 ⟨Nat.le_trans (by omega) (Nat.le_refl 1), Nat.le_trans (by omega) (Nat.le_refl 7)⟩) rfl rfl (by omega) (by omega) hS
def fX0_rowAt  (X : AH) (x0 : Nat) (x1 : Int32) : Option ((Nat ⊕ Nat) × AH) :=
  (gR X x0 0 0).bind fun v1 =>
  (gQ X v1 2 x1).bind fun v2 => match v2 with
    | none => (fX0_rowAt_b14 X 0 x0 x1)
    | some _ => (fX0_rowAt_b14 X 1 x0 x1)
theorem wX0_rowAt_0 (E : xE p m c cX0_rowAt 2 s args RX0 D cA A Zs meth (some (.object "ChairRanks$Row"))) (hne : c.exceptionTable.toList = []) {X : AH} {x0 : Nat} {x1 : Int32} (hf : fX0_rowAt X x0 x1 = some (tr, Xf)) : ∀ (H : Heap) (locs : List Loc) (ls : Array Slot) (cells slots : Nat), cells + 1 ≤ 1 → slots + 7 ≤ 7 → xR D cA A Zs X H → va_S A s.heap H locs → lv_has ls 2 [(0, .ref x0), (1, .int x1)] → W p l e rmX0_rowAt s m args below meth c H locs cells slots (MQT below (xQT D cA A Zs (orf tr) Xf) args s 1 7 A) (F0 m 0 ls []) := by
  intro H locs ls cells slots hc hs hR hS hl
  refine lv_aload_n E.hx E.hb dX0_rowAt_0 rfl (lv_at hl 0 rfl) ?_
  obtain ⟨v1, hv1, hf⟩ := bd_e hf
  refine xgX0_28 E hR hv1 dX0_rowAt_1 ?_
  refine lv_iload_n E.hx E.hb dX0_rowAt_4 rfl (lv_at hl 1 rfl) ?_
  obtain ⟨v2, hv2, hf⟩ := bd_e hf
  refine xald (kd := 2) E hR rfl hv2 dX0_rowAt_5 ?_
  cases v2 with
  | none =>
    refine lv_ifnullN (tgt := 13) E.hx E.hb dX0_rowAt_6 (by decide) ?_
    refine lv_iconst (v := 0) E.hx E.hb dX0_rowAt_13 (by decide) ?_
    exact wX0_rowAt_b14 E hne  hf _ _ _ _ _ (by omega) (by omega) hR hS (lv_sub hl [0, 1] rfl)
  | some v2b =>
    refine lv_ifnull E.hx E.hb dX0_rowAt_6 ?_
    refine lv_iconst (v := 1) E.hx E.hb dX0_rowAt_9 (by decide) ?_
    refine lv_goto (tgt := 14) E.hx E.hb dX0_rowAt_10 (by decide) ?_
    exact wX0_rowAt_b14 E hne  hf _ _ _ _ _ (by omega) (by omega) hR hS (lv_sub hl [0, 1] rfl)
theorem tX0_rowAt (l : Launch) {D : va_G} {cA : Nat → ClassId} {A : Nat → Prop} {Zs : XZ} {X Xf : AH} {x0 : Nat} {x1 : Int32} {tr : Nat ⊕ Nat} (hf : fX0_rowAt X x0 x1 = some (tr, Xf)) : MetT l yX0_rowAt (ws_ yX0_rowAt cX0_rowAt 2 (some (.object "ChairRanks$Row"))) rmX0_rowAt (xPc D cA A Zs X [.ref x0, .int x1]) (xQT D cA A Zs (orf tr) Xf) 1 7 A := by
  refine MetT.ofW (cc := cX0_rowAt) (maxL := 2) (ret := (some (.object "ChairRanks$Row"))) (by decide) rfl ?_
  intro p e s m args below meth c s₁ B hml hne hv
  obtain ⟨rfl, hR, hK⟩ := hv
  have hts := atoms_spec (ws := (ws_ yX0_rowAt cX0_rowAt 2 (some (.object "ChairRanks$Row")))) B.pre
  rw [lg_entry_eq]
  exact wX0_rowAt_0 (E := ⟨⟨B.exec, B.bytes, hml, findClass_of_methodNamed B.named, fun w h => hts w (List.mem_cons_of_mem _ h)⟩, hK, B.returns, B.notSynchronized⟩) hne hf _ _ _ 0 0 (Nat.le_of_ble_eq_true rfl) (Nat.le_of_ble_eq_true rfl) hR va_S.rf (lv_entry [.ref x0, .int x1] (n := 2) (Nat.le_of_ble_eq_true rfl))
end
abbrev rmX11_init : Room := { frames := 1, cells := 1, slots := 40, locals := 12 }
section
variable {p : Program} {l : Launch} {e : Env} {s : State} {m : MethodId} {args : Array Value} {below : List Frame} {meth : Method} {c : Code} {D : va_G} {cA : Nat → ClassId} {A : Nat → Prop} {Zs : XZ} {Xf : AH} {r : Int32} {rl : Int64} {ra : Nat} {tv : Unit ⊕ Nat} {ti : Int32 ⊕ Nat} {tr : Nat ⊕ Nat} {q2 : Option Nat}
def fX11_init  (X : AH) (x0 : Nat) (x1 : Int32) (x2 : Int32) : Option AH :=
  (pF X x0 11 0 (.int x1)).bind fun X1 =>
  (szg x2 40).bind fun n3 =>
  (some (xnw X1 (.inr (.inl (0, n3, fun _ => 0))))).bind fun X2 =>
  (pF X2 x0 11 1 (.ref X1.1)).bind fun X4 =>
  some X4
theorem wX11_init_0 (E : xE p m c cX11_init 3 s args RX11 D cA A Zs meth none) (hin : meth.name = "<init>") {X : AH} {x0 : Nat} {x1 : Int32} {x2 : Int32} (hf : fX11_init X x0 x1 x2 = some Xf) : ∀ (H : Heap) (locs : List Loc) (ls : Array Slot) (cells slots : Nat), cells + 1 ≤ 1 → slots + 40 ≤ 40 → xR D cA A Zs X H → va_S A s.heap H locs → lv_has ls 3 [(0, .ref x0), (1, .int x1), (2, .int x2)] → W p l e rmX11_init s m args below meth c H locs cells slots (MQ below (xQv D cA A Zs Xf) args s 1 40 A) (F0 m 0 ls []) := by
  intro H locs ls cells slots hc hs hR hS hl
  refine lv_aload_n E.hx E.hb dX11_init_0 rfl (lv_at hl 0 rfl) ?_
  refine W.objInit E.hx E.hb E.ho (E.ht _ q392) (E.ht _ q107) (E.ht _ q108) rfl (by rw [E.1.2.2.1]; exact hl.1) rfl dX11_init_1 (Nat.le_of_ble_eq_true rfl) (Nat.le_of_ble_eq_true rfl) ?_
  refine W.eq (g2 := F0 m 4 ls []) rfl ?_
  refine lv_aload_n E.hx E.hb dX11_init_4 rfl (lv_at hl 0 rfl) ?_
  refine lv_iload_n E.hx E.hb dX11_init_5 rfl (lv_at hl 1 rfl) ?_
  obtain ⟨X1, hX1, hf⟩ := bd_e hf
  refine xpX11_9 E hR hS hin hX1 dX11_init_6 (fun H locs hR hS => ?_)
  refine lv_aload_n E.hx E.hb dX11_init_9 rfl (lv_at hl 0 rfl) ?_
  refine lv_iload_n E.hx E.hb dX11_init_10 rfl (lv_at hl 2 rfl) ?_
  obtain ⟨n3, hn3, hf⟩ := bd_e hf
  obtain ⟨hn3a, hn3b, hn3c⟩ := szg_e hn3
  obtain ⟨X2, hX2, hf⟩ := bd_e hf
  refine xnewa E hR hS hn3a hn3b (by omega) (Nat.le_trans (by omega) (Nat.le_refl 1)) (Nat.le_trans (by omega) (Nat.le_refl 40)) q205 dX11_init_11 (fun H hR hS => ?_)
  rw [Option.some.inj hX2] at hR
  obtain ⟨X4, hX4, hf⟩ := bd_e hf
  refine xpX11_15 E hR hS hin hX4 dX11_init_13 (fun H locs hR hS => ?_)
  obtain rfl := Option.some.inj hf
  exact xret_v E (by omega) (by omega) hR hS dX11_init_16
theorem tX11_init (l : Launch) {D : va_G} {cA : Nat → ClassId} {A : Nat → Prop} {Zs : XZ} {X Xf : AH} {x0 : Nat} {x1 : Int32} {x2 : Int32}  (hf : fX11_init X x0 x1 x2 = some Xf) : Met l yX11_init (ws_ yX11_init cX11_init 3 none) rmX11_init (xPc D cA A Zs X [.ref x0, .int x1, .int x2]) (xQv D cA A Zs Xf) 1 40 A := by
  refine Met.ofW (cc := cX11_init) (maxL := 3) (ret := none) (by decide) rfl ?_
  intro p e s m args below meth c s₁ B hml hv
  obtain ⟨rfl, hR, hK⟩ := hv
  have hts := atoms_spec (ws := (ws_ yX11_init cX11_init 3 none)) B.pre
  rw [lg_entry_eq]
  exact wX11_init_0 (E := ⟨⟨B.exec, B.bytes, hml, findClass_of_methodNamed B.named, fun w h => hts w (List.mem_cons_of_mem _ h)⟩, hK, B.returns, B.notSynchronized⟩) (name_of_methodNamed B.named B.method).1 hf _ _ _ 0 0 (Nat.le_of_ble_eq_true rfl) (Nat.le_of_ble_eq_true rfl) hR va_S.rf (lv_entry [.ref x0, .int x1, .int x2] (n := 3) (Nat.le_of_ble_eq_true rfl))
end
abbrev rmX11_cut : Room := { frames := 1, cells := 0, slots := 0, locals := 12 }
section
variable {p : Program} {l : Launch} {e : Env} {s : State} {m : MethodId} {args : Array Value} {below : List Frame} {meth : Method} {c : Code} {D : va_G} {cA : Nat → ClassId} {A : Nat → Prop} {Zs : XZ} {Xf : AH} {r : Int32} {rl : Int64} {ra : Nat} {tv : Unit ⊕ Nat} {ti : Int32 ⊕ Nat} {tr : Nat ⊕ Nat} {q2 : Option Nat}
def fX11_cut  (X : AH) (x0 : Nat) (x1 : Int32) : Option (Int32 × AH) :=
  (gI X x0 11 0).bind fun v1 =>
  if v1 = 0 then (some ((x1.toInt8.toInt32), X)) else ((gI X x0 11 0).bind fun v3 =>
  if v3 = 1 then (some ((x1.toInt16.toInt32), X)) else (some (x1, X)))
theorem wX11_cut_0 (E : xE p m c cX11_cut 2 s args RX11 D cA A Zs meth (some .int)) {X : AH} {x0 : Nat} {x1 : Int32} (hf : fX11_cut X x0 x1 = some (r, Xf)) : ∀ (H : Heap) (locs : List Loc) (ls : Array Slot) (cells slots : Nat), cells + 0 ≤ 0 → slots + 0 ≤ 0 → xR D cA A Zs X H → va_S A s.heap H locs → lv_has ls 2 [(0, .ref x0), (1, .int x1)] → W p l e rmX11_cut s m args below meth c H locs cells slots (MQ below (xQi D cA A Zs r Xf) args s 0 0 A) (F0 m 0 ls []) := by
  intro H locs ls cells slots hc hs hR hS hl
  refine lv_aload_n E.hx E.hb dX11_cut_0 rfl (lv_at hl 0 rfl) ?_
  obtain ⟨v1, hv1, hf⟩ := bd_e hf
  refine xgX11_9 E hR hv1 dX11_cut_1 ?_
  refine lv_if_ne (tgt := 12) E.hx E.hb dX11_cut_4 (by decide) (fun c2 => ?_) (fun c2 => ?_)
  · have hf := it_f hf c2
    refine lv_aload_n E.hx E.hb dX11_cut_12 rfl (lv_at hl 0 rfl) ?_
    obtain ⟨v3, hv3, hf⟩ := bd_e hf
    refine xgX11_9 E hR hv3 dX11_cut_13 ?_
    refine lv_iconst (v := 1) E.hx E.hb dX11_cut_16 (by decide) ?_
    refine lv_icmp_ne (tgt := 25) E.hx E.hb dX11_cut_17 (by decide) (fun c4 => ?_) (fun c4 => ?_)
    · have hf := it_f hf c4
      refine lv_iload_n E.hx E.hb dX11_cut_25 rfl (lv_at hl 1 rfl) ?_
      obtain ⟨rfl, rfl⟩ := rt_e hf
      exact xret_i E (by omega) (by omega) hR hS dX11_cut_26
    · have hf := it_t hf c4
      refine lv_iload_n E.hx E.hb dX11_cut_20 rfl (lv_at hl 1 rfl) ?_
      refine lv_i2s E.hx E.hb dX11_cut_21 rfl ?_
      refine lv_goto (tgt := 26) E.hx E.hb dX11_cut_22 (by decide) ?_
      obtain ⟨rfl, rfl⟩ := rt_e hf
      exact xret_i E (by omega) (by omega) hR hS dX11_cut_26
  · have hf := it_t hf c2
    refine lv_iload_n E.hx E.hb dX11_cut_7 rfl (lv_at hl 1 rfl) ?_
    refine lv_i2b E.hx E.hb dX11_cut_8 rfl ?_
    refine lv_goto (tgt := 26) E.hx E.hb dX11_cut_9 (by decide) ?_
    obtain ⟨rfl, rfl⟩ := rt_e hf
    exact xret_i E (by omega) (by omega) hR hS dX11_cut_26
theorem tX11_cut (l : Launch) {D : va_G} {cA : Nat → ClassId} {A : Nat → Prop} {Zs : XZ} {X Xf : AH} {x0 : Nat} {x1 : Int32} {r : Int32} (hf : fX11_cut X x0 x1 = some (r, Xf)) : Met l yX11_cut (ws_ yX11_cut cX11_cut 2 (some .int)) rmX11_cut (xPc D cA A Zs X [.ref x0, .int x1]) (xQi D cA A Zs r Xf) 0 0 A := by
  refine Met.ofW (cc := cX11_cut) (maxL := 2) (ret := (some .int)) (by decide) rfl ?_
  intro p e s m args below meth c s₁ B hml hv
  obtain ⟨rfl, hR, hK⟩ := hv
  have hts := atoms_spec (ws := (ws_ yX11_cut cX11_cut 2 (some .int))) B.pre
  rw [lg_entry_eq]
  exact wX11_cut_0 (E := ⟨⟨B.exec, B.bytes, hml, findClass_of_methodNamed B.named, fun w h => hts w (List.mem_cons_of_mem _ h)⟩, hK, B.returns, B.notSynchronized⟩) hf _ _ _ 0 0 (Nat.le_of_ble_eq_true rfl) (Nat.le_of_ble_eq_true rfl) hR va_S.rf (lv_entry [.ref x0, .int x1] (n := 2) (Nat.le_of_ble_eq_true rfl))
end
abbrev rmX11_row : Room := { frames := 5, cells := 2, slots := 47, locals := 102 }
theorem cwX11_19 {R : Room} {s : State} {args : Array Value} (ht : ∀ w ∈ lw_all, w.before args s = true) (hl : va_Nw (.methodLinkNest RX11 19 yX0_must "ChairRanks") s) (hR : rmX0_must.frames + 1 ≤ R.frames ∧ 8 + (2 + 11) + rmX0_must.locals ≤ R.locals) : va_CN R s args RX11 19 yX0_must "ChairRanks" cX0_must 2 none (ws_ yX0_must cX0_must 2 none) rmX0_must 1 7 2 ∧ (Cond.static yX0_must).before args s = true ∧ True :=
  ⟨va_cnB 2 ht (lw_meth q322) rfl rfl rfl hl (ht _ q68) (by decide +kernel) hR, ht _ q321, trivial⟩
section
variable {p : Program} {l : Launch} {e : Env} {s : State} {m : MethodId} {args : Array Value} {below : List Frame} {meth : Method} {c : Code} {D : va_G} {cA : Nat → ClassId} {A : Nat → Prop} {Zs : XZ} {Xf : AH} {r : Int32} {rl : Int64} {ra : Nat} {tv : Unit ⊕ Nat} {ti : Int32 ⊕ Nat} {tr : Nat ⊕ Nat} {q2 : Option Nat}
def fX11_row_b24  (X : AH) (s0 : Int32) (x0 : Nat) (x1 : Int32) (x2 : Int32) : Option ((Nat ⊕ Nat) × AH) :=
  (fX0_must X s0 2).bind fun (o1, X2) => match o1 with
    | .inl _ => ((szg x2 40).bind fun n6 =>
  (some (xnw X2 (.inr (.inl (0, n6, fun _ => 0))))).bind fun X5 =>
  (gR X5 x0 11 1).bind fun v7 =>
  (cpA X5 v7 x1 X2.1 0 x2).bind fun X8 =>
  some (.inl X2.1, X8))
    | .inr y4 => (some (.inr y4, X2))
theorem wX11_row_b24 (E : xE p m c cX11_row 4 s args RX11 D cA A Zs meth (some (.array .int))) (hne : c.exceptionTable.toList = []) {X : AH} {s0 : Int32} {x0 : Nat} {x1 : Int32} {x2 : Int32} (hf : fX11_row_b24 X s0 x0 x1 x2 = some (tr, Xf)) : ∀ (H : Heap) (locs : List Loc) (ls : Array Slot) (cells slots : Nat), cells + 2 ≤ 2 → slots + 47 ≤ 47 → xR D cA A Zs X H → va_S A s.heap H locs → lv_has ls 4 [(0, .ref x0), (1, .int x1), (2, .int x2)] → W p l e rmX11_row s m args below meth c H locs cells slots (MQT below (xQT D cA A Zs (orf tr) Xf) args s 2 47 A) (F0 m 24 ls [.int s0]) := by
  intro H locs ls cells slots hc hs hR hS hl
  refine lv_iconst (v := 2) E.hx E.hb dX11_row_24 (by decide) ?_
  obtain ⟨⟨o1, X2⟩, ho1, hf⟩ := bd_e hf
  cases o1 with
  | inl v3 =>
    refine xrunT_v (runSNT (As := [.int s0, .int 2]) (rest := []) E.1 (tX0_must l ho1) (cwX11_19 E.ht (E.2.1.2.2.2.1 ("ChairRanks$Row", 19, ⟨"ChairRanks", "must", "(ZI)V"⟩, "ChairRanks") (by decide +kernel)) ⟨Nat.le_of_ble_eq_true rfl, Nat.le_of_ble_eq_true rfl⟩) (xPreS E hR hS) rfl rfl hl.1 rfl (lv_room (Nat.le_of_ble_eq_true rfl)) dX11_row_25 ⟨Nat.le_trans (by omega) (Nat.le_refl 2), Nat.le_trans (by omega) (Nat.le_refl 47)⟩) hS (fun H locs hR hS => ?_)
    refine lv_iload_n E.hx E.hb dX11_row_28 rfl (lv_at hl 2 rfl) ?_
    obtain ⟨n6, hn6, hf⟩ := bd_e hf
    obtain ⟨hn6a, hn6b, hn6c⟩ := szg_e hn6
    obtain ⟨X5, hX5, hf⟩ := bd_e hf
    refine xnewa E hR hS hn6a hn6b (by omega) (Nat.le_trans (by omega) (Nat.le_refl 2)) (Nat.le_trans (by omega) (Nat.le_refl 47)) q205 dX11_row_29 (fun H hR hS => ?_)
    rw [Option.some.inj hX5] at hR
    refine lv_astore_n (lv' := [(3, .ref X2.1), (0, .ref x0), (1, .int x1), (2, .int x2)]) E.hx E.hb dX11_row_31 rfl hl (by decide) rfl (fun ls hl => ?_)
    refine lv_aload_n E.hx E.hb dX11_row_32 rfl (lv_at hl 1 rfl) ?_
    obtain ⟨v7, hv7, hf⟩ := bd_e hf
    refine xgX11_15 E hR hv7 dX11_row_33 ?_
    refine lv_iload_n E.hx E.hb dX11_row_36 rfl (lv_at hl 2 rfl) ?_
    refine lv_aload_n E.hx E.hb dX11_row_37 rfl (lv_at hl 0 rfl) ?_
    refine lv_iconst (v := 0) E.hx E.hb dX11_row_38 (by decide) ?_
    refine lv_iload_n E.hx E.hb dX11_row_39 rfl (lv_at hl 3 rfl) ?_
    obtain ⟨X8, hX8, hf⟩ := bd_e hf
    refine xcopy E hR hS hl.1 q977 q463 q462 q89 hX8 (Nat.le_of_ble_eq_true rfl) (Nat.le_of_ble_eq_true rfl) dX11_row_40 (fun H locs hR hS => ?_)
    refine lv_aload_n E.hx E.hb dX11_row_43 rfl (lv_at hl 0 rfl) ?_
    obtain ⟨rfl, rfl⟩ := rt_e hf
    exact xretT_r E (Or.inr ⟨_, rfl⟩) (by omega) (by omega) hR hS dX11_row_44
  | inr y4 =>
    obtain ⟨rfl, rfl⟩ := rt_e hf
    exact xrunT_out E hne (runSNT (As := [.int s0, .int 2]) (rest := []) E.1 (tX0_must l ho1) (cwX11_19 E.ht (E.2.1.2.2.2.1 ("ChairRanks$Row", 19, ⟨"ChairRanks", "must", "(ZI)V"⟩, "ChairRanks") (by decide +kernel)) ⟨Nat.le_of_ble_eq_true rfl, Nat.le_of_ble_eq_true rfl⟩) (xPreS E hR hS) rfl rfl hl.1 rfl (lv_room (Nat.le_of_ble_eq_true rfl)) dX11_row_25 ⟨Nat.le_trans (by omega) (Nat.le_refl 2), Nat.le_trans (by omega) (Nat.le_refl 47)⟩) rfl rfl (by omega) (by omega) hS
def fX11_row  (X : AH) (x0 : Nat) (x1 : Int32) (x2 : Int32) : Option ((Nat ⊕ Nat) × AH) :=
  if x1 < 0 then (fX11_row_b24 X 0 x0 x1 x2) else ((gR X x0 11 1).bind fun v2 =>
  (gL X v2 0).bind fun v3 =>
  if 0 < (lg_cmp ((x1.toInt64) + (x2.toInt64)) (v3.toInt64)) then (fX11_row_b24 X 0 x0 x1 x2) else (fX11_row_b24 X 1 x0 x1 x2))
theorem wX11_row_0 (E : xE p m c cX11_row 4 s args RX11 D cA A Zs meth (some (.array .int))) (hne : c.exceptionTable.toList = []) {X : AH} {x0 : Nat} {x1 : Int32} {x2 : Int32} (hf : fX11_row X x0 x1 x2 = some (tr, Xf)) : ∀ (H : Heap) (locs : List Loc) (ls : Array Slot) (cells slots : Nat), cells + 2 ≤ 2 → slots + 47 ≤ 47 → xR D cA A Zs X H → va_S A s.heap H locs → lv_has ls 4 [(0, .ref x0), (1, .int x1), (2, .int x2)] → W p l e rmX11_row s m args below meth c H locs cells slots (MQT below (xQT D cA A Zs (orf tr) Xf) args s 2 47 A) (F0 m 0 ls []) := by
  intro H locs ls cells slots hc hs hR hS hl
  refine lv_iload_n E.hx E.hb dX11_row_0 rfl (lv_at hl 1 rfl) ?_
  refine lv_if_lt (tgt := 23) E.hx E.hb dX11_row_1 (by decide) (fun c1 => ?_) (fun c1 => ?_)
  · have hf := it_t hf c1
    refine lv_iconst (v := 0) E.hx E.hb dX11_row_23 (by decide) ?_
    exact wX11_row_b24 E hne  hf _ _ _ _ _ (by omega) (by omega) hR hS (lv_sub hl [0, 1, 2] rfl)
  · have hf := it_f hf c1
    refine lv_iload_n E.hx E.hb dX11_row_4 rfl (lv_at hl 1 rfl) ?_
    refine lv_i2l E.hx E.hb dX11_row_5 rfl ?_
    refine lv_iload_n E.hx E.hb dX11_row_6 rfl (lv_at hl 2 rfl) ?_
    refine lv_i2l E.hx E.hb dX11_row_7 rfl ?_
    refine lv_ladd E.hx E.hb dX11_row_8 ?_
    refine lv_aload_n E.hx E.hb dX11_row_9 rfl (lv_at hl 0 rfl) ?_
    obtain ⟨v2, hv2, hf⟩ := bd_e hf
    refine xgX11_15 E hR hv2 dX11_row_10 ?_
    obtain ⟨v3, hv3, hf⟩ := bd_e hf
    refine xlen (kd := 0) E hR rfl hv3 dX11_row_13 ?_
    refine lv_i2l E.hx E.hb dX11_row_14 rfl ?_
    refine W.lcmp E.hx E.hb dX11_row_15 ?_
    refine lv_if_gt (tgt := 23) E.hx E.hb dX11_row_16 (by decide) (fun c4 => ?_) (fun c4 => ?_)
    · have hf := it_t hf c4
      refine lv_iconst (v := 0) E.hx E.hb dX11_row_23 (by decide) ?_
      exact wX11_row_b24 E hne  hf _ _ _ _ _ (by omega) (by omega) hR hS (lv_sub hl [0, 1, 2] rfl)
    · have hf := it_f hf c4
      refine lv_iconst (v := 1) E.hx E.hb dX11_row_19 (by decide) ?_
      refine lv_goto (tgt := 24) E.hx E.hb dX11_row_20 (by decide) ?_
      exact wX11_row_b24 E hne  hf _ _ _ _ _ (by omega) (by omega) hR hS (lv_sub hl [0, 1, 2] rfl)
theorem tX11_row (l : Launch) {D : va_G} {cA : Nat → ClassId} {A : Nat → Prop} {Zs : XZ} {X Xf : AH} {x0 : Nat} {x1 : Int32} {x2 : Int32} {tr : Nat ⊕ Nat} (hf : fX11_row X x0 x1 x2 = some (tr, Xf)) : MetT l yX11_row (ws_ yX11_row cX11_row 4 (some (.array .int))) rmX11_row (xPc D cA A Zs X [.ref x0, .int x1, .int x2]) (xQT D cA A Zs (orf tr) Xf) 2 47 A := by
  refine MetT.ofW (cc := cX11_row) (maxL := 4) (ret := (some (.array .int))) (by decide) rfl ?_
  intro p e s m args below meth c s₁ B hml hne hv
  obtain ⟨rfl, hR, hK⟩ := hv
  have hts := atoms_spec (ws := (ws_ yX11_row cX11_row 4 (some (.array .int)))) B.pre
  rw [lg_entry_eq]
  exact wX11_row_0 (E := ⟨⟨B.exec, B.bytes, hml, findClass_of_methodNamed B.named, fun w h => hts w (List.mem_cons_of_mem _ h)⟩, hK, B.returns, B.notSynchronized⟩) hne hf _ _ _ 0 0 (Nat.le_of_ble_eq_true rfl) (Nat.le_of_ble_eq_true rfl) hR va_S.rf (lv_entry [.ref x0, .int x1, .int x2] (n := 4) (Nat.le_of_ble_eq_true rfl))
end
abbrev rmX0_row : Room := { frames := 5, cells := 3, slots := 49, locals := 102 }
theorem cwX0_101 {R : Room} {s : State} {args : Array Value} (ht : ∀ w ∈ lw_all, w.before args s = true) (hR : rmX0_found.frames + 1 ≤ R.frames ∧ 8 + (2 + 11) + rmX0_found.locals ≤ R.locals) : CallW R s args RX0 RX0 101 yX0_found cX0_found 2 (some .int) (ws_ yX0_found cX0_found 2 (some .int)) rmX0_found 0 0 1 :=
  cwV 1 ht (lw_V q406 q408 qs2 q68 q409) rfl rfl rfl (by decide +kernel) hR
theorem cwX0_87 {R : Room} {s : State} {args : Array Value} (ht : ∀ w ∈ lw_all, w.before args s = true) (hR : rmX0_isRow.frames + 1 ≤ R.frames ∧ 8 + (1 + 11) + rmX0_isRow.locals ≤ R.locals) : CallB R s args RX0 87 yX0_isRow cX0_isRow 1 (some .boolean) (ws_ yX0_isRow cX0_isRow 1 (some .boolean)) rmX0_isRow 0 0 1 ∧ (Cond.static yX0_isRow).before args s = true :=
  va_cwS 1 ht (lw_S q311 q312 q68 q313) rfl rfl rfl (by decide +kernel) hR
theorem cwX0_94 {R : Room} {s : State} {args : Array Value} (ht : ∀ w ∈ lw_all, w.before args s = true) (hR : rmX11_init.frames + 1 ≤ R.frames ∧ 8 + (3 + 11) + rmX11_init.locals ≤ R.locals) : CallB R s args RX0 94 yX11_init cX11_init 3 none (ws_ yX11_init cX11_init 3 none) rmX11_init 1 40 2 ∧ yX11_init.name = "<init>" ∧ (Cond.instanceMethod yX11_init).before args s = true :=
  cwI 2 ht (lw_meth q391) rfl rfl rfl (ht _ q84) (ht _ q389) (ht _ q390) rfl (by decide +kernel) hR
theorem cwX0_97 {R : Room} {s : State} {args : Array Value} (ht : ∀ w ∈ lw_all, w.before args s = true) (hR : rmX0_well.frames + 1 ≤ R.frames ∧ 8 + (2 + 11) + rmX0_well.locals ≤ R.locals) : CallW R s args RX0 RX0 97 yX0_well cX0_well 2 (some .int) (ws_ yX0_well cX0_well 2 (some .int)) rmX0_well 0 0 1 :=
  cwV 1 ht (lw_V q402 q404 qs1 q68 q405) rfl rfl rfl (by decide +kernel) hR
section
variable {p : Program} {l : Launch} {e : Env} {s : State} {m : MethodId} {args : Array Value} {below : List Frame} {meth : Method} {c : Code} {D : va_G} {cA : Nat → ClassId} {A : Nat → Prop} {Zs : XZ} {Xf : AH} {r : Int32} {rl : Int64} {ra : Nat} {tv : Unit ⊕ Nat} {ti : Int32 ⊕ Nat} {tr : Nat ⊕ Nat} {q2 : Option Nat}
def fX0_row_b37  (X : AH) (s0 : Int32) (x0 : Nat) (x1 : Int32) (x2 : Int32) (x3 : Int32) : Option (Int32 × AH) :=
  (fX0_must X s0 4).bind fun (o1, X2) => match o1 with
    | .inl _ => ((gR X2 x0 0 0).bind fun v5 =>
  (some (xnw X2 (.inl (11, [.int 0, .null])))).bind fun X6 =>
  (fX11_init X6 X2.1 x2 x3).bind fun X7 =>
  (ck X7 X2.1 11).bind fun _ =>
  (pQ X7 v5 2 x1 (some X2.1)).bind fun X9 =>
  (ck X9 x0 0).bind fun _ =>
  (fX0_well X9 x0 x3).bind fun (v13, X12) =>
  some (v13, X12))
    | .inr y4 => ((ck X2 y4 10).bind fun _ =>
  (ck X2 x0 0).bind fun _ =>
  (fX0_found X2 x0 y4).bind fun (v17, X16) =>
  some (v17, X16))
theorem wX0_row_b37 (E : xE p m c cX0_row 5 s args RX0 D cA A Zs meth (some .int)) (ht : c.exceptionTable.toList.map (fun h => (h.startPc, h.endPc, h.handlerPc, h.catchType)) = [(28, 61, 62, 67)]) {X : AH} {s0 : Int32} {x0 : Nat} {x1 : Int32} {x2 : Int32} {x3 : Int32} (hf : fX0_row_b37 X s0 x0 x1 x2 x3 = some (r, Xf)) : ∀ (H : Heap) (locs : List Loc) (ls : Array Slot) (cells slots : Nat), cells + 3 ≤ 3 → slots + 49 ≤ 49 → xR D cA A Zs X H → va_S A s.heap H locs → lv_has ls 5 [(0, .ref x0), (1, .int x1), (2, .int x2), (3, .int x3)] → W p l e rmX0_row s m args below meth c H locs cells slots (MQ below (xQi D cA A Zs r Xf) args s 3 49 A) (F0 m 37 ls [.int s0]) := by
  intro H locs ls cells slots hc hs hR hS hl
  refine lv_iconst (v := 4) E.hx E.hb dX0_row_37 (by decide) ?_
  obtain ⟨⟨o1, X2⟩, ho1, hf⟩ := bd_e hf
  cases o1 with
  | inl v3 =>
    refine xrunT_v (runST (As := [.int s0, .int 4]) (rest := []) E.1 (tX0_must l ho1) (cwX0_83 E.ht ⟨Nat.le_of_ble_eq_true rfl, Nat.le_of_ble_eq_true rfl⟩) (xPreS E hR hS) rfl rfl hl.1 rfl (lv_room (Nat.le_of_ble_eq_true rfl)) dX0_row_38 ⟨Nat.le_trans (by omega) (Nat.le_refl 3), Nat.le_trans (by omega) (Nat.le_refl 49)⟩) hS (fun H locs hR hS => ?_)
    refine lv_aload_n E.hx E.hb dX0_row_41 rfl (lv_at hl 0 rfl) ?_
    obtain ⟨v5, hv5, hf⟩ := bd_e hf
    refine xgX0_28 E hR hv5 dX0_row_42 ?_
    refine lv_iload_n E.hx E.hb dX0_row_45 rfl (lv_at hl 1 rfl) ?_
    obtain ⟨X6, hX6, hf⟩ := bd_e hf
    refine xnew (ci := 11) E hR hS in_X11 tyX11 tyX11_ok q109 q388 q84 rfl dfX11 (Nat.le_trans (by omega) (Nat.le_refl 3)) (Nat.le_trans (by omega) (Nat.le_refl 49)) dX0_row_46 (fun H hR hS => ?_)
    rw [Option.some.inj hX6] at hR
    refine lv_dup E.hx E.hb dX0_row_49 rfl ?_
    refine lv_iload_n E.hx E.hb dX0_row_50 rfl (lv_at hl 2 rfl) ?_
    refine lv_iload_n E.hx E.hb dX0_row_51 rfl (lv_at hl 3 rfl) ?_
    obtain ⟨X7, hX7, hf⟩ := bd_e hf
    refine xrun_v (va_runI (As := [.int x2, .int x3]) (rest := [.ref X2.1, .int x1, .ref v5]) E.1 (tX11_init l hX7) (cwX0_94 E.ht ⟨Nat.le_of_ble_eq_true rfl, Nat.le_of_ble_eq_true rfl⟩) (xPreS E hR hS) rfl rfl hl.1 rfl (lv_room (Nat.le_of_ble_eq_true rfl)) dX0_row_52 ⟨Nat.le_trans (by omega) (Nat.le_refl 3), Nat.le_trans (by omega) (Nat.le_refl 49)⟩) hS (fun H locs hR hS => ?_)
    obtain ⟨u10, hu10, hf⟩ := bd_e hf
    obtain ⟨X9, hX9, hf⟩ := bd_e hf
    refine xast (kd := 2) (ci := 11) E hR hS rfl rfl (Or.inr rfl) (ck_e hu10) hX9 dX0_row_55 (fun H locs hR hS => ?_)
    refine lv_aload_n E.hx E.hb dX0_row_56 rfl (lv_at hl 0 rfl) ?_
    refine lv_iload_n E.hx E.hb dX0_row_57 rfl (lv_at hl 3 rfl) ?_
    obtain ⟨u11, hu11, hf⟩ := bd_e hf
    obtain ⟨⟨v13, X12⟩, hv13, hf⟩ := bd_e hf
    refine xrun_i (va_runV (As := [.int x3]) (rest := []) E.1 (tX0_well l hv13) (cwX0_97 E.ht ⟨Nat.le_of_ble_eq_true rfl, Nat.le_of_ble_eq_true rfl⟩) (xPreV (ci := 0) E hR hS rfl (ck_e hu11)) rfl rfl hl.1 rfl (lv_room (Nat.le_of_ble_eq_true rfl)) dX0_row_58 ⟨Nat.le_trans (by omega) (Nat.le_refl 3), Nat.le_trans (by omega) (Nat.le_refl 49)⟩) hS (fun H locs hR hS => ?_)
    obtain ⟨rfl, rfl⟩ := rt_e hf
    exact xret_i E (by omega) (by omega) hR hS dX0_row_61
  | inr y4 =>
    obtain ⟨u14, hu14, hf⟩ := bd_e hf
    refine xrunT_catch (hp := []) (q := (28, 61, 62, 67)) (hr' := []) (ci := 10) (name := "ChairRanks$Finding") E ht rfl (by decide) (by decide) (by decide) q310 rfl (E.2.1.2.1 ("ChairRanks$Finding", "ChairRanks$Finding") (by decide +kernel)) (ck_e hu14) (runST (As := [.int s0, .int 4]) (rest := []) E.1 (tX0_must l ho1) (cwX0_83 E.ht ⟨Nat.le_of_ble_eq_true rfl, Nat.le_of_ble_eq_true rfl⟩) (xPreS E hR hS) rfl rfl hl.1 rfl (lv_room (Nat.le_of_ble_eq_true rfl)) dX0_row_38 ⟨Nat.le_trans (by omega) (Nat.le_refl 3), Nat.le_trans (by omega) (Nat.le_refl 49)⟩) rfl hS (fun H locs hR hS => ?_)
    refine lv_astore (lv' := [(4, .ref y4), (0, .ref x0), (1, .int x1), (2, .int x2), (3, .int x3)]) E.hx E.hb dX0_row_62 hl (by decide) rfl (fun ls hl => ?_)
    refine lv_aload_n E.hx E.hb dX0_row_64 rfl (lv_at hl 1 rfl) ?_
    refine lv_aload E.hx E.hb dX0_row_65 (lv_at hl 0 rfl) ?_
    obtain ⟨u15, hu15, hf⟩ := bd_e hf
    obtain ⟨⟨v17, X16⟩, hv17, hf⟩ := bd_e hf
    refine xrun_i (va_runV (As := [.ref y4]) (rest := []) E.1 (tX0_found l hv17) (cwX0_101 E.ht ⟨Nat.le_of_ble_eq_true rfl, Nat.le_of_ble_eq_true rfl⟩) (xPreV (ci := 0) E hR hS rfl (ck_e hu15)) rfl rfl hl.1 rfl (lv_room (Nat.le_of_ble_eq_true rfl)) dX0_row_67 ⟨Nat.le_trans (by omega) (Nat.le_refl 3), Nat.le_trans (by omega) (Nat.le_refl 49)⟩) hS (fun H locs hR hS => ?_)
    obtain ⟨rfl, rfl⟩ := rt_e hf
    exact xret_i E (by omega) (by omega) hR hS dX0_row_70
def fX0_row  (X : AH) (x0 : Nat) (x1 : Int32) (x2 : Int32) (x3 : Int32) : Option (Int32 × AH) :=
  (fX0_isRow x1).bind fun v1 =>
  if v1 = 0 then (some ((-1000001), X)) else ((fX0_isIn (x2.toInt64) 0 2).bind fun v3 =>
  if v3 = 0 then (some ((-1000001), X)) else (if x3 ≤ 40 then (if x3 < 0 then (fX0_row_b37 X 0 x0 x1 x2 x3) else (fX0_row_b37 X 1 x0 x1 x2 x3)) else (some ((-1000001), X))))
theorem wX0_row_0 (E : xE p m c cX0_row 5 s args RX0 D cA A Zs meth (some .int)) (ht : c.exceptionTable.toList.map (fun h => (h.startPc, h.endPc, h.handlerPc, h.catchType)) = [(28, 61, 62, 67)]) {X : AH} {x0 : Nat} {x1 : Int32} {x2 : Int32} {x3 : Int32} (hf : fX0_row X x0 x1 x2 x3 = some (r, Xf)) : ∀ (H : Heap) (locs : List Loc) (ls : Array Slot) (cells slots : Nat), cells + 3 ≤ 3 → slots + 49 ≤ 49 → xR D cA A Zs X H → va_S A s.heap H locs → lv_has ls 5 [(0, .ref x0), (1, .int x1), (2, .int x2), (3, .int x3)] → W p l e rmX0_row s m args below meth c H locs cells slots (MQ below (xQi D cA A Zs r Xf) args s 3 49 A) (F0 m 0 ls []) := by
  intro H locs ls cells slots hc hs hR hS hl
  refine lv_iload_n E.hx E.hb dX0_row_0 rfl (lv_at hl 1 rfl) ?_
  obtain ⟨v1, hv1, hf⟩ := bd_e hf
  refine scall_i (rest := []) E.1 (tX0_isRow l hv1) (cwX0_87 E.ht ⟨Nat.le_of_ble_eq_true rfl, Nat.le_of_ble_eq_true rfl⟩) rfl hl.1 rfl (Nat.le_of_ble_eq_true rfl) dX0_row_1 ⟨Nat.le_trans (by omega) (Nat.le_refl 3), Nat.le_trans (by omega) (Nat.le_refl 49)⟩ ?_
  refine lv_if_eq (tgt := 25) E.hx E.hb dX0_row_4 (by decide) (fun c2 => ?_) (fun c2 => ?_)
  · have hf := it_t hf c2
    refine lv_ldc (v := (-1000001)) E.hx E.hb E.ho (E.ht _ q319) dX0_row_25 ?_
    obtain ⟨rfl, rfl⟩ := rt_e hf
    exact xret_i E (by omega) (by omega) hR hS dX0_row_27
  · have hf := it_f hf c2
    refine lv_iload_n E.hx E.hb dX0_row_7 rfl (lv_at hl 2 rfl) ?_
    refine lv_i2l E.hx E.hb dX0_row_8 rfl ?_
    refine lv_lconst (v := 0) E.hx E.hb dX0_row_9 (by decide) ?_
    refine lv_ldc2 (v := 2) E.hx E.hb E.ho (E.ht _ q318) dX0_row_10 ?_
    obtain ⟨v3, hv3, hf⟩ := bd_e hf
    refine scall_i (rest := []) E.1 (tX0_isIn l hv3) (cwX0_79 E.ht ⟨Nat.le_of_ble_eq_true rfl, Nat.le_of_ble_eq_true rfl⟩) rfl hl.1 rfl (Nat.le_of_ble_eq_true rfl) dX0_row_13 ⟨Nat.le_trans (by omega) (Nat.le_refl 3), Nat.le_trans (by omega) (Nat.le_refl 49)⟩ ?_
    refine lv_if_eq (tgt := 25) E.hx E.hb dX0_row_16 (by decide) (fun c4 => ?_) (fun c4 => ?_)
    · have hf := it_t hf c4
      refine lv_ldc (v := (-1000001)) E.hx E.hb E.ho (E.ht _ q319) dX0_row_25 ?_
      obtain ⟨rfl, rfl⟩ := rt_e hf
      exact xret_i E (by omega) (by omega) hR hS dX0_row_27
    · have hf := it_f hf c4
      refine lv_iload_n E.hx E.hb dX0_row_19 rfl (lv_at hl 3 rfl) ?_
      refine lv_bipush (v := 40) E.hx E.hb dX0_row_20 (by decide) ?_
      refine lv_icmp_le (tgt := 28) E.hx E.hb dX0_row_22 (by decide) (fun c5 => ?_) (fun c5 => ?_)
      · have hf := it_t hf c5
        refine lv_iload_n E.hx E.hb dX0_row_28 rfl (lv_at hl 3 rfl) ?_
        refine lv_if_lt (tgt := 36) E.hx E.hb dX0_row_29 (by decide) (fun c6 => ?_) (fun c6 => ?_)
        · have hf := it_t hf c6
          refine lv_iconst (v := 0) E.hx E.hb dX0_row_36 (by decide) ?_
          exact wX0_row_b37 E ht  hf _ _ _ _ _ (by omega) (by omega) hR hS (lv_sub hl [0, 1, 2, 3] rfl)
        · have hf := it_f hf c6
          refine lv_iconst (v := 1) E.hx E.hb dX0_row_32 (by decide) ?_
          refine lv_goto (tgt := 37) E.hx E.hb dX0_row_33 (by decide) ?_
          exact wX0_row_b37 E ht  hf _ _ _ _ _ (by omega) (by omega) hR hS (lv_sub hl [0, 1, 2, 3] rfl)
      · have hf := it_f hf c5
        refine lv_ldc (v := (-1000001)) E.hx E.hb E.ho (E.ht _ q319) dX0_row_25 ?_
        obtain ⟨rfl, rfl⟩ := rt_e hf
        exact xret_i E (by omega) (by omega) hR hS dX0_row_27
theorem tX0_row (l : Launch) {D : va_G} {cA : Nat → ClassId} {A : Nat → Prop} {Zs : XZ} {X Xf : AH} {x0 : Nat} {x1 : Int32} {x2 : Int32} {x3 : Int32} {r : Int32} (hf : fX0_row X x0 x1 x2 x3 = some (r, Xf)) : Met l yX0_row (wsW_ yX0_row cX0_row 5 (some .int) [(28, 61, 62, 67)]) rmX0_row (xPc D cA A Zs X [.ref x0, .int x1, .int x2, .int x3]) (xQi D cA A Zs r Xf) 3 49 A := by
  refine Met.ofWH (cc := cX0_row) (maxL := 5) (ret := (some .int)) (by decide) rfl ?_
  intro p e s m args below meth c s₁ B hml ht hv
  obtain ⟨rfl, hR, hK⟩ := hv
  have hts := atoms_spec (ws := (wsW_ yX0_row cX0_row 5 (some .int) [(28, 61, 62, 67)])) B.pre
  rw [lg_entry_eq]
  exact wX0_row_0 (E := ⟨⟨B.exec, B.bytes, hml, findClass_of_methodNamed B.named, fun w h => hts w (List.mem_cons_of_mem _ h)⟩, hK, B.returns, B.notSynchronized⟩) ht hf _ _ _ 0 0 (Nat.le_of_ble_eq_true rfl) (Nat.le_of_ble_eq_true rfl) hR va_S.rf (lv_entry [.ref x0, .int x1, .int x2, .int x3] (n := 5) (Nat.le_of_ble_eq_true rfl))
end
abbrev rmX0_set : Room := { frames := 6, cells := 2, slots := 14, locals := 123 }
theorem cwX0_105 {R : Room} {s : State} {args : Array Value} (ht : ∀ w ∈ lw_all, w.before args s = true) (hR : rmX0_rowAt.frames + 1 ≤ R.frames ∧ 8 + (2 + 11) + rmX0_rowAt.locals ≤ R.locals) : CallW R s args RX0 RX0 105 yX0_rowAt cX0_rowAt 2 (some (.object "ChairRanks$Row")) (ws_ yX0_rowAt cX0_rowAt 2 (some (.object "ChairRanks$Row"))) rmX0_rowAt 1 7 1 :=
  cwV 1 ht (lw_V q415 q417 qs3 q68 q418) rfl rfl rfl (by decide +kernel) hR
theorem cwX0_113 {R : Room} {s : State} {args : Array Value} (ht : ∀ w ∈ lw_all, w.before args s = true) (hR : rmX11_cut.frames + 1 ≤ R.frames ∧ 8 + (2 + 11) + rmX11_cut.locals ≤ R.locals) : CallW R s args RX0 RX11 113 yX11_cut cX11_cut 2 (some .int) (ws_ yX11_cut cX11_cut 2 (some .int)) rmX11_cut 0 0 1 :=
  cwV 1 ht (lw_V q419 q420 q421 q84 q422) rfl rfl rfl (by decide +kernel) hR
section
variable {p : Program} {l : Launch} {e : Env} {s : State} {m : MethodId} {args : Array Value} {below : List Frame} {meth : Method} {c : Code} {D : va_G} {cA : Nat → ClassId} {A : Nat → Prop} {Zs : XZ} {Xf : AH} {r : Int32} {rl : Int64} {ra : Nat} {tv : Unit ⊕ Nat} {ti : Int32 ⊕ Nat} {tr : Nat ⊕ Nat} {q2 : Option Nat}
def fX0_set_b61  (X : AH) (s0 : Nat) (x0 : Nat) : Option (Int32 × AH) :=
  (ck X x0 0).bind fun _ =>
  (fX0_found X x0 s0).bind fun (v3, X2) =>
  some (v3, X2)
theorem wX0_set_b61 (E : xE p m c cX0_set 5 s args RX0 D cA A Zs meth (some .int)) (ht : c.exceptionTable.toList.map (fun h => (h.startPc, h.endPc, h.handlerPc, h.catchType)) = [(10, 60, 61, 67)]) {X : AH} {s0 : Nat} {x0 : Nat} (hf : fX0_set_b61 X s0 x0 = some (r, Xf)) : ∀ (H : Heap) (locs : List Loc) (ls : Array Slot) (cells slots : Nat), cells + 0 ≤ 2 → slots + 0 ≤ 14 → xR D cA A Zs X H → va_S A s.heap H locs → lv_has ls 5 [(0, .ref x0)] → W p l e rmX0_set s m args below meth c H locs cells slots (MQ below (xQi D cA A Zs r Xf) args s 2 14 A) (F0 m 61 ls [.ref s0]) := by
  intro H locs ls cells slots hc hs hR hS hl
  refine lv_astore (lv' := [(4, .ref s0), (0, .ref x0)]) E.hx E.hb dX0_set_61 hl (by decide) rfl (fun ls hl => ?_)
  refine lv_aload_n E.hx E.hb dX0_set_63 rfl (lv_at hl 1 rfl) ?_
  refine lv_aload E.hx E.hb dX0_set_64 (lv_at hl 0 rfl) ?_
  obtain ⟨u1, hu1, hf⟩ := bd_e hf
  obtain ⟨⟨v3, X2⟩, hv3, hf⟩ := bd_e hf
  refine xrun_i (va_runV (As := [.ref s0]) (rest := []) E.1 (tX0_found l hv3) (cwX0_101 E.ht ⟨Nat.le_of_ble_eq_true rfl, Nat.le_of_ble_eq_true rfl⟩) (xPreV (ci := 0) E hR hS rfl (ck_e hu1)) rfl rfl hl.1 rfl (lv_room (Nat.le_of_ble_eq_true rfl)) dX0_set_66 ⟨Nat.le_trans (by omega) (Nat.le_refl 2), Nat.le_trans (by omega) (Nat.le_refl 14)⟩) hS (fun H locs hR hS => ?_)
  obtain ⟨rfl, rfl⟩ := rt_e hf
  exact xret_i E (by omega) (by omega) hR hS dX0_set_69
def fX0_set  (X : AH) (x0 : Nat) (x1 : Int32) (x2 : Int32) (x3 : Int32) : Option (Int32 × AH) :=
  (fX0_isRow x1).bind fun v1 =>
  if v1 = 0 then (some ((-1000001), X)) else ((ck X x0 0).bind fun _ =>
  (fX0_rowAt X x0 x1).bind fun (o3, X4) => match o3 with
    | .inl v5 => ((gR X4 v5 11 1).bind fun v7 =>
  (gL X4 v7 0).bind fun v8 =>
  (fX0_isIn (x2.toInt64) 0 ((v8 - 1).toInt64)).bind fun v9 =>
  (fX0_must X4 v9 2).bind fun (o10, X11) => match o10 with
    | .inl _ => ((gR X11 v5 11 1).bind fun v14 =>
  (ck X11 v5 11).bind fun _ =>
  (fX11_cut X11 v5 x3).bind fun (v17, X16) =>
  (pA X16 v14 0 x2 v17).bind fun X18 =>
  (gR X18 v5 11 1).bind fun v19 =>
  (gA X18 v19 0 x2).bind fun v20 =>
  (ck X18 x0 0).bind fun _ =>
  (fX0_well X18 x0 v20).bind fun (v23, X22) =>
  some (v23, X22))
    | .inr y13 => ((ck X11 y13 10).bind fun _ =>
  fX0_set_b61 X11 y13 x0))
    | .inr y6 => ((ck X4 y6 10).bind fun _ =>
  fX0_set_b61 X4 y6 x0))
theorem wX0_set_0 (E : xE p m c cX0_set 5 s args RX0 D cA A Zs meth (some .int)) (ht : c.exceptionTable.toList.map (fun h => (h.startPc, h.endPc, h.handlerPc, h.catchType)) = [(10, 60, 61, 67)]) {X : AH} {x0 : Nat} {x1 : Int32} {x2 : Int32} {x3 : Int32} (hf : fX0_set X x0 x1 x2 x3 = some (r, Xf)) : ∀ (H : Heap) (locs : List Loc) (ls : Array Slot) (cells slots : Nat), cells + 2 ≤ 2 → slots + 14 ≤ 14 → xR D cA A Zs X H → va_S A s.heap H locs → lv_has ls 5 [(0, .ref x0), (1, .int x1), (2, .int x2), (3, .int x3)] → W p l e rmX0_set s m args below meth c H locs cells slots (MQ below (xQi D cA A Zs r Xf) args s 2 14 A) (F0 m 0 ls []) := by
  intro H locs ls cells slots hc hs hR hS hl
  refine lv_iload_n E.hx E.hb dX0_set_0 rfl (lv_at hl 1 rfl) ?_
  obtain ⟨v1, hv1, hf⟩ := bd_e hf
  refine scall_i (rest := []) E.1 (tX0_isRow l hv1) (cwX0_87 E.ht ⟨Nat.le_of_ble_eq_true rfl, Nat.le_of_ble_eq_true rfl⟩) rfl hl.1 rfl (Nat.le_of_ble_eq_true rfl) dX0_set_1 ⟨Nat.le_trans (by omega) (Nat.le_refl 2), Nat.le_trans (by omega) (Nat.le_refl 14)⟩ ?_
  refine lv_if_ne (tgt := 10) E.hx E.hb dX0_set_4 (by decide) (fun c2 => ?_) (fun c2 => ?_)
  · have hf := it_f hf c2
    refine lv_aload_n E.hx E.hb dX0_set_10 rfl (lv_at hl 0 rfl) ?_
    refine lv_iload_n E.hx E.hb dX0_set_11 rfl (lv_at hl 1 rfl) ?_
    obtain ⟨u25, hu25, hf⟩ := bd_e hf
    obtain ⟨⟨o3, X4⟩, ho3, hf⟩ := bd_e hf
    cases o3 with
    | inl v5 =>
      refine xrunT_r (runVT (As := [.int x1]) (rest := []) E.1 (tX0_rowAt l ho3) (cwX0_105 E.ht ⟨Nat.le_of_ble_eq_true rfl, Nat.le_of_ble_eq_true rfl⟩) (xPreV (ci := 0) E hR hS rfl (ck_e hu25)) rfl rfl hl.1 rfl (lv_room (Nat.le_of_ble_eq_true rfl)) dX0_set_12 ⟨Nat.le_trans (by omega) (Nat.le_refl 2), Nat.le_trans (by omega) (Nat.le_refl 14)⟩) hS (fun H locs hR hS => ?_)
      refine lv_astore (lv' := [(4, .ref v5), (0, .ref x0), (1, .int x1), (2, .int x2), (3, .int x3)]) E.hx E.hb dX0_set_15 hl (by decide) rfl (fun ls hl => ?_)
      refine lv_iload_n E.hx E.hb dX0_set_17 rfl (lv_at hl 3 rfl) ?_
      refine lv_i2l E.hx E.hb dX0_set_18 rfl ?_
      refine lv_lconst (v := 0) E.hx E.hb dX0_set_19 (by decide) ?_
      refine lv_aload E.hx E.hb dX0_set_20 (lv_at hl 0 rfl) ?_
      obtain ⟨v7, hv7, hf⟩ := bd_e hf
      refine xgX0_109 E hR hv7 dX0_set_22 ?_
      obtain ⟨v8, hv8, hf⟩ := bd_e hf
      refine xlen (kd := 0) E hR rfl hv8 dX0_set_25 ?_
      refine lv_iconst (v := 1) E.hx E.hb dX0_set_26 (by decide) ?_
      refine lv_isub E.hx E.hb dX0_set_27 ?_
      refine lv_i2l E.hx E.hb dX0_set_28 rfl ?_
      obtain ⟨v9, hv9, hf⟩ := bd_e hf
      refine scall_i (rest := []) E.1 (tX0_isIn l hv9) (cwX0_79 E.ht ⟨Nat.le_of_ble_eq_true rfl, Nat.le_of_ble_eq_true rfl⟩) rfl hl.1 rfl (Nat.le_of_ble_eq_true rfl) dX0_set_29 ⟨Nat.le_trans (by omega) (Nat.le_refl 2), Nat.le_trans (by omega) (Nat.le_refl 14)⟩ ?_
      refine lv_iconst (v := 2) E.hx E.hb dX0_set_32 (by decide) ?_
      obtain ⟨⟨o10, X11⟩, ho10, hf⟩ := bd_e hf
      cases o10 with
      | inl v12 =>
        refine xrunT_v (runST (As := [.int v9, .int 2]) (rest := []) E.1 (tX0_must l ho10) (cwX0_83 E.ht ⟨Nat.le_of_ble_eq_true rfl, Nat.le_of_ble_eq_true rfl⟩) (xPreS E hR hS) rfl rfl hl.1 rfl (lv_room (Nat.le_of_ble_eq_true rfl)) dX0_set_33 ⟨Nat.le_trans (by omega) (Nat.le_refl 2), Nat.le_trans (by omega) (Nat.le_refl 14)⟩) hS (fun H locs hR hS => ?_)
        refine lv_aload E.hx E.hb dX0_set_36 (lv_at hl 0 rfl) ?_
        obtain ⟨v14, hv14, hf⟩ := bd_e hf
        refine xgX0_109 E hR hv14 dX0_set_38 ?_
        refine lv_iload_n E.hx E.hb dX0_set_41 rfl (lv_at hl 3 rfl) ?_
        refine lv_aload E.hx E.hb dX0_set_42 (lv_at hl 0 rfl) ?_
        refine lv_iload_n E.hx E.hb dX0_set_44 rfl (lv_at hl 4 rfl) ?_
        obtain ⟨u15, hu15, hf⟩ := bd_e hf
        obtain ⟨⟨v17, X16⟩, hv17, hf⟩ := bd_e hf
        refine xrun_i (va_runV (As := [.int x3]) (rest := [.int x2, .ref v14]) E.1 (tX11_cut l hv17) (cwX0_113 E.ht ⟨Nat.le_of_ble_eq_true rfl, Nat.le_of_ble_eq_true rfl⟩) (xPreV (ci := 11) E hR hS rfl (ck_e hu15)) rfl rfl hl.1 rfl (lv_room (Nat.le_of_ble_eq_true rfl)) dX0_set_45 ⟨Nat.le_trans (by omega) (Nat.le_refl 2), Nat.le_trans (by omega) (Nat.le_refl 14)⟩) hS (fun H locs hR hS => ?_)
        obtain ⟨X18, hX18, hf⟩ := bd_e hf
        refine xist E hR hS hX18 dX0_set_48 (fun H locs hR hS => ?_)
        refine lv_aload_n E.hx E.hb dX0_set_49 rfl (lv_at hl 1 rfl) ?_
        refine lv_aload E.hx E.hb dX0_set_50 (lv_at hl 0 rfl) ?_
        obtain ⟨v19, hv19, hf⟩ := bd_e hf
        refine xgX0_109 E hR hv19 dX0_set_52 ?_
        refine lv_iload_n E.hx E.hb dX0_set_55 rfl (lv_at hl 3 rfl) ?_
        obtain ⟨v20, hv20, hf⟩ := bd_e hf
        refine xild E hR hv20 dX0_set_56 ?_
        obtain ⟨u21, hu21, hf⟩ := bd_e hf
        obtain ⟨⟨v23, X22⟩, hv23, hf⟩ := bd_e hf
        refine xrun_i (va_runV (As := [.int v20]) (rest := []) E.1 (tX0_well l hv23) (cwX0_97 E.ht ⟨Nat.le_of_ble_eq_true rfl, Nat.le_of_ble_eq_true rfl⟩) (xPreV (ci := 0) E hR hS rfl (ck_e hu21)) rfl rfl hl.1 rfl (lv_room (Nat.le_of_ble_eq_true rfl)) dX0_set_57 ⟨Nat.le_trans (by omega) (Nat.le_refl 2), Nat.le_trans (by omega) (Nat.le_refl 14)⟩) hS (fun H locs hR hS => ?_)
        obtain ⟨rfl, rfl⟩ := rt_e hf
        exact xret_i E (by omega) (by omega) hR hS dX0_set_60
      | inr y13 =>
        obtain ⟨u24, hu24, hf⟩ := bd_e hf
        refine xrunT_catch (hp := []) (q := (10, 60, 61, 67)) (hr' := []) (ci := 10) (name := "ChairRanks$Finding") E ht rfl (by decide) (by decide) (by decide) q310 rfl (E.2.1.2.1 ("ChairRanks$Finding", "ChairRanks$Finding") (by decide +kernel)) (ck_e hu24) (runST (As := [.int v9, .int 2]) (rest := []) E.1 (tX0_must l ho10) (cwX0_83 E.ht ⟨Nat.le_of_ble_eq_true rfl, Nat.le_of_ble_eq_true rfl⟩) (xPreS E hR hS) rfl rfl hl.1 rfl (lv_room (Nat.le_of_ble_eq_true rfl)) dX0_set_33 ⟨Nat.le_trans (by omega) (Nat.le_refl 2), Nat.le_trans (by omega) (Nat.le_refl 14)⟩) rfl hS (fun H locs hR hS => ?_)
        exact wX0_set_b61 E ht  hf _ _ _ _ _ (by omega) (by omega) hR hS (lv_sub hl [1] rfl)
    | inr y6 =>
      obtain ⟨u26, hu26, hf⟩ := bd_e hf
      refine xrunT_catch (hp := []) (q := (10, 60, 61, 67)) (hr' := []) (ci := 10) (name := "ChairRanks$Finding") E ht rfl (by decide) (by decide) (by decide) q310 rfl (E.2.1.2.1 ("ChairRanks$Finding", "ChairRanks$Finding") (by decide +kernel)) (ck_e hu26) (runVT (As := [.int x1]) (rest := []) E.1 (tX0_rowAt l ho3) (cwX0_105 E.ht ⟨Nat.le_of_ble_eq_true rfl, Nat.le_of_ble_eq_true rfl⟩) (xPreV (ci := 0) E hR hS rfl (ck_e hu25)) rfl rfl hl.1 rfl (lv_room (Nat.le_of_ble_eq_true rfl)) dX0_set_12 ⟨Nat.le_trans (by omega) (Nat.le_refl 2), Nat.le_trans (by omega) (Nat.le_refl 14)⟩) rfl hS (fun H locs hR hS => ?_)
      exact wX0_set_b61 E ht  hf _ _ _ _ _ (by omega) (by omega) hR hS (lv_sub hl [0] rfl)
  · have hf := it_t hf c2
    refine lv_ldc (v := (-1000001)) E.hx E.hb E.ho (E.ht _ q319) dX0_set_7 ?_
    obtain ⟨rfl, rfl⟩ := rt_e hf
    exact xret_i E (by omega) (by omega) hR hS dX0_set_9
theorem tX0_set (l : Launch) {D : va_G} {cA : Nat → ClassId} {A : Nat → Prop} {Zs : XZ} {X Xf : AH} {x0 : Nat} {x1 : Int32} {x2 : Int32} {x3 : Int32} {r : Int32} (hf : fX0_set X x0 x1 x2 x3 = some (r, Xf)) : Met l yX0_set (wsW_ yX0_set cX0_set 5 (some .int) [(10, 60, 61, 67)]) rmX0_set (xPc D cA A Zs X [.ref x0, .int x1, .int x2, .int x3]) (xQi D cA A Zs r Xf) 2 14 A := by
  refine Met.ofWH (cc := cX0_set) (maxL := 5) (ret := (some .int)) (by decide) rfl ?_
  intro p e s m args below meth c s₁ B hml ht hv
  obtain ⟨rfl, hR, hK⟩ := hv
  have hts := atoms_spec (ws := (wsW_ yX0_set cX0_set 5 (some .int) [(10, 60, 61, 67)])) B.pre
  rw [lg_entry_eq]
  exact wX0_set_0 (E := ⟨⟨B.exec, B.bytes, hml, findClass_of_methodNamed B.named, fun w h => hts w (List.mem_cons_of_mem _ h)⟩, hK, B.returns, B.notSynchronized⟩) ht hf _ _ _ 0 0 (Nat.le_of_ble_eq_true rfl) (Nat.le_of_ble_eq_true rfl) hR va_S.rf (lv_entry [.ref x0, .int x1, .int x2, .int x3] (n := 5) (Nat.le_of_ble_eq_true rfl))
end
abbrev rmX0_drop : Room := { frames := 6, cells := 1, slots := 7, locals := 123 }
section
variable {p : Program} {l : Launch} {e : Env} {s : State} {m : MethodId} {args : Array Value} {below : List Frame} {meth : Method} {c : Code} {D : va_G} {cA : Nat → ClassId} {A : Nat → Prop} {Zs : XZ} {Xf : AH} {r : Int32} {rl : Int64} {ra : Nat} {tv : Unit ⊕ Nat} {ti : Int32 ⊕ Nat} {tr : Nat ⊕ Nat} {q2 : Option Nat}
def fX0_drop  (X : AH) (x0 : Nat) (x1 : Int32) : Option (Int32 × AH) :=
  (fX0_isRow x1).bind fun v1 =>
  if v1 = 0 then (some ((-1000001), X)) else ((ck X x0 0).bind fun _ =>
  (fX0_rowAt X x0 x1).bind fun (o3, X4) => match o3 with
    | .inl v5 => ((gR X4 v5 11 1).bind fun v7 =>
  (gL X4 v7 0).bind fun v8 =>
  (gR X4 x0 0 0).bind fun v9 =>
  (pQ X4 v9 2 x1 none).bind fun X10 =>
  (ck X10 x0 0).bind fun _ =>
  (fX0_well X10 x0 v8).bind fun (v13, X12) =>
  some (v13, X12))
    | .inr y6 => ((ck X4 y6 10).bind fun _ =>
  (ck X4 x0 0).bind fun _ =>
  (fX0_found X4 x0 y6).bind fun (v18, X17) =>
  some (v18, X17)))
theorem wX0_drop_0 (E : xE p m c cX0_drop 3 s args RX0 D cA A Zs meth (some .int)) (ht : c.exceptionTable.toList.map (fun h => (h.startPc, h.endPc, h.handlerPc, h.catchType)) = [(10, 32, 33, 67)]) {X : AH} {x0 : Nat} {x1 : Int32} (hf : fX0_drop X x0 x1 = some (r, Xf)) : ∀ (H : Heap) (locs : List Loc) (ls : Array Slot) (cells slots : Nat), cells + 1 ≤ 1 → slots + 7 ≤ 7 → xR D cA A Zs X H → va_S A s.heap H locs → lv_has ls 3 [(0, .ref x0), (1, .int x1)] → W p l e rmX0_drop s m args below meth c H locs cells slots (MQ below (xQi D cA A Zs r Xf) args s 1 7 A) (F0 m 0 ls []) := by
  intro H locs ls cells slots hc hs hR hS hl
  refine lv_iload_n E.hx E.hb dX0_drop_0 rfl (lv_at hl 1 rfl) ?_
  obtain ⟨v1, hv1, hf⟩ := bd_e hf
  refine scall_i (rest := []) E.1 (tX0_isRow l hv1) (cwX0_87 E.ht ⟨Nat.le_of_ble_eq_true rfl, Nat.le_of_ble_eq_true rfl⟩) rfl hl.1 rfl (Nat.le_of_ble_eq_true rfl) dX0_drop_1 ⟨Nat.le_trans (by omega) (Nat.le_refl 1), Nat.le_trans (by omega) (Nat.le_refl 7)⟩ ?_
  refine lv_if_ne (tgt := 10) E.hx E.hb dX0_drop_4 (by decide) (fun c2 => ?_) (fun c2 => ?_)
  · have hf := it_f hf c2
    refine lv_aload_n E.hx E.hb dX0_drop_10 rfl (lv_at hl 0 rfl) ?_
    refine lv_iload_n E.hx E.hb dX0_drop_11 rfl (lv_at hl 1 rfl) ?_
    obtain ⟨u14, hu14, hf⟩ := bd_e hf
    obtain ⟨⟨o3, X4⟩, ho3, hf⟩ := bd_e hf
    cases o3 with
    | inl v5 =>
      refine xrunT_r (runVT (As := [.int x1]) (rest := []) E.1 (tX0_rowAt l ho3) (cwX0_105 E.ht ⟨Nat.le_of_ble_eq_true rfl, Nat.le_of_ble_eq_true rfl⟩) (xPreV (ci := 0) E hR hS rfl (ck_e hu14)) rfl rfl hl.1 rfl (lv_room (Nat.le_of_ble_eq_true rfl)) dX0_drop_12 ⟨Nat.le_trans (by omega) (Nat.le_refl 1), Nat.le_trans (by omega) (Nat.le_refl 7)⟩) hS (fun H locs hR hS => ?_)
      obtain ⟨v7, hv7, hf⟩ := bd_e hf
      refine xgX0_109 E hR hv7 dX0_drop_15 ?_
      obtain ⟨v8, hv8, hf⟩ := bd_e hf
      refine xlen (kd := 0) E hR rfl hv8 dX0_drop_18 ?_
      refine lv_istore_n (lv' := [(2, .int v8), (0, .ref x0), (1, .int x1)]) E.hx E.hb dX0_drop_19 rfl hl (by decide) rfl (fun ls hl => ?_)
      refine lv_aload_n E.hx E.hb dX0_drop_20 rfl (lv_at hl 1 rfl) ?_
      obtain ⟨v9, hv9, hf⟩ := bd_e hf
      refine xgX0_28 E hR hv9 dX0_drop_21 ?_
      refine lv_iload_n E.hx E.hb dX0_drop_24 rfl (lv_at hl 2 rfl) ?_
      refine lv_null E.hx E.hb dX0_drop_25 ?_
      obtain ⟨X10, hX10, hf⟩ := bd_e hf
      refine xastN (kd := 2) E hR hS rfl hX10 dX0_drop_26 (fun H locs hR hS => ?_)
      refine lv_aload_n E.hx E.hb dX0_drop_27 rfl (lv_at hl 1 rfl) ?_
      refine lv_iload_n E.hx E.hb dX0_drop_28 rfl (lv_at hl 0 rfl) ?_
      obtain ⟨u11, hu11, hf⟩ := bd_e hf
      obtain ⟨⟨v13, X12⟩, hv13, hf⟩ := bd_e hf
      refine xrun_i (va_runV (As := [.int v8]) (rest := []) E.1 (tX0_well l hv13) (cwX0_97 E.ht ⟨Nat.le_of_ble_eq_true rfl, Nat.le_of_ble_eq_true rfl⟩) (xPreV (ci := 0) E hR hS rfl (ck_e hu11)) rfl rfl hl.1 rfl (lv_room (Nat.le_of_ble_eq_true rfl)) dX0_drop_29 ⟨Nat.le_trans (by omega) (Nat.le_refl 1), Nat.le_trans (by omega) (Nat.le_refl 7)⟩) hS (fun H locs hR hS => ?_)
      obtain ⟨rfl, rfl⟩ := rt_e hf
      exact xret_i E (by omega) (by omega) hR hS dX0_drop_32
    | inr y6 =>
      obtain ⟨u15, hu15, hf⟩ := bd_e hf
      refine xrunT_catch (hp := []) (q := (10, 32, 33, 67)) (hr' := []) (ci := 10) (name := "ChairRanks$Finding") E ht rfl (by decide) (by decide) (by decide) q310 rfl (E.2.1.2.1 ("ChairRanks$Finding", "ChairRanks$Finding") (by decide +kernel)) (ck_e hu15) (runVT (As := [.int x1]) (rest := []) E.1 (tX0_rowAt l ho3) (cwX0_105 E.ht ⟨Nat.le_of_ble_eq_true rfl, Nat.le_of_ble_eq_true rfl⟩) (xPreV (ci := 0) E hR hS rfl (ck_e hu14)) rfl rfl hl.1 rfl (lv_room (Nat.le_of_ble_eq_true rfl)) dX0_drop_12 ⟨Nat.le_trans (by omega) (Nat.le_refl 1), Nat.le_trans (by omega) (Nat.le_refl 7)⟩) rfl hS (fun H locs hR hS => ?_)
      refine lv_astore_n (lv' := [(2, .ref y6), (0, .ref x0), (1, .int x1)]) E.hx E.hb dX0_drop_33 rfl hl (by decide) rfl (fun ls hl => ?_)
      refine lv_aload_n E.hx E.hb dX0_drop_34 rfl (lv_at hl 1 rfl) ?_
      refine lv_aload_n E.hx E.hb dX0_drop_35 rfl (lv_at hl 0 rfl) ?_
      obtain ⟨u16, hu16, hf⟩ := bd_e hf
      obtain ⟨⟨v18, X17⟩, hv18, hf⟩ := bd_e hf
      refine xrun_i (va_runV (As := [.ref y6]) (rest := []) E.1 (tX0_found l hv18) (cwX0_101 E.ht ⟨Nat.le_of_ble_eq_true rfl, Nat.le_of_ble_eq_true rfl⟩) (xPreV (ci := 0) E hR hS rfl (ck_e hu16)) rfl rfl hl.1 rfl (lv_room (Nat.le_of_ble_eq_true rfl)) dX0_drop_36 ⟨Nat.le_trans (by omega) (Nat.le_refl 1), Nat.le_trans (by omega) (Nat.le_refl 7)⟩) hS (fun H locs hR hS => ?_)
      obtain ⟨rfl, rfl⟩ := rt_e hf
      exact xret_i E (by omega) (by omega) hR hS dX0_drop_39
  · have hf := it_t hf c2
    refine lv_ldc (v := (-1000001)) E.hx E.hb E.ho (E.ht _ q319) dX0_drop_7 ?_
    obtain ⟨rfl, rfl⟩ := rt_e hf
    exact xret_i E (by omega) (by omega) hR hS dX0_drop_9
theorem tX0_drop (l : Launch) {D : va_G} {cA : Nat → ClassId} {A : Nat → Prop} {Zs : XZ} {X Xf : AH} {x0 : Nat} {x1 : Int32} {r : Int32} (hf : fX0_drop X x0 x1 = some (r, Xf)) : Met l yX0_drop (wsW_ yX0_drop cX0_drop 3 (some .int) [(10, 32, 33, 67)]) rmX0_drop (xPc D cA A Zs X [.ref x0, .int x1]) (xQi D cA A Zs r Xf) 1 7 A := by
  refine Met.ofWH (cc := cX0_drop) (maxL := 3) (ret := (some .int)) (by decide) rfl ?_
  intro p e s m args below meth c s₁ B hml ht hv
  obtain ⟨rfl, hR, hK⟩ := hv
  have hts := atoms_spec (ws := (wsW_ yX0_drop cX0_drop 3 (some .int) [(10, 32, 33, 67)])) B.pre
  rw [lg_entry_eq]
  exact wX0_drop_0 (E := ⟨⟨B.exec, B.bytes, hml, findClass_of_methodNamed B.named, fun w h => hts w (List.mem_cons_of_mem _ h)⟩, hK, B.returns, B.notSynchronized⟩) ht hf _ _ _ 0 0 (Nat.le_of_ble_eq_true rfl) (Nat.le_of_ble_eq_true rfl) hR va_S.rf (lv_entry [.ref x0, .int x1] (n := 3) (Nat.le_of_ble_eq_true rfl))
end
abbrev rmX0_orderOf : Room := { frames := 6, cells := 11, slots := 110, locals := 125 }
theorem cwX0_284 {R : Room} {s : State} {args : Array Value} (ht : ∀ w ∈ lw_all, w.before args s = true) (hR : rmX11_row.frames + 1 ≤ R.frames ∧ 8 + (4 + 11) + rmX11_row.locals ≤ R.locals) : CallW R s args RX0 RX11 284 yX11_row cX11_row 4 (some (.array .int)) (ws_ yX11_row cX11_row 4 (some (.array .int))) rmX11_row 2 47 2 :=
  cwV 2 ht (lw_V q972 q973 q974 q84 q975) rfl rfl rfl (by decide +kernel) hR
section
variable {p : Program} {l : Launch} {e : Env} {s : State} {m : MethodId} {args : Array Value} {below : List Frame} {meth : Method} {c : Code} {D : va_G} {cA : Nat → ClassId} {A : Nat → Prop} {Zs : XZ} {Xf : AH} {r : Int32} {rl : Int64} {ra : Nat} {tv : Unit ⊕ Nat} {ti : Int32 ⊕ Nat} {tr : Nat ⊕ Nat} {q2 : Option Nat}
def fX0_orderOf_b58 (k23 : AH → Nat → Nat → Int32 → Int32 → Option ((Nat ⊕ Nat) × AH)) (X : AH) (s0 : Int32) (x0 : Nat) (x3 : Nat) (x4 : Int32) (x5 : Int32) : Option ((Nat ⊕ Nat) × AH) :=
  (fX0_must X s0 3).bind fun (o1, X2) => match o1 with
    | .inl _ => ((gA X2 x3 0 x5).bind fun v5 =>
  k23 X2 x0 x3 (x4 ||| (1 <<< (v5 &&& 31))) (x5 + 1))
    | .inr y4 => (some (.inr y4, X2))
theorem wX0_orderOf_b58 (E : xE p m c cX0_orderOf 6 s args RX0 D cA A Zs meth (some (.array .int))) (hne : c.exceptionTable.toList = []) {n23 : Nat} {k23 : AH → Nat → Nat → Int32 → Int32 → Option ((Nat ⊕ Nat) × AH)} (hk23 : ∀ (X : AH) (x0 : Nat) (x3 : Nat) (x4 : Int32) (x5 : Int32), k23 X x0 x3 x4 x5 = some (tr, Xf) → ∀ (H : Heap) (locs : List Loc) (ls : Array Slot) (cells slots : Nat), cells + (n23 * 1 + 0) ≤ 11 → slots + (n23 * 7 + 0) ≤ 110 → xR D cA A Zs X H → va_S A s.heap H locs → lv_has ls 6 [(0, .ref x0), (3, .ref x3), (4, .int x4), (5, .int x5)] → W p l e rmX0_orderOf s m args below meth c H locs cells slots (MQT below (xQT D cA A Zs (orf tr) Xf) args s 11 110 A) (F0 m 23 ls [])) {X : AH} {s0 : Int32} {x0 : Nat} {x3 : Nat} {x4 : Int32} {x5 : Int32} (hf : fX0_orderOf_b58 k23 X s0 x0 x3 x4 x5 = some (tr, Xf)) : ∀ (H : Heap) (locs : List Loc) (ls : Array Slot) (cells slots : Nat), cells + (1 + (n23 * 1 + 0)) ≤ 11 → slots + (7 + (n23 * 7 + 0)) ≤ 110 → xR D cA A Zs X H → va_S A s.heap H locs → lv_has ls 6 [(0, .ref x0), (3, .ref x3), (4, .int x4), (5, .int x5)] → W p l e rmX0_orderOf s m args below meth c H locs cells slots (MQT below (xQT D cA A Zs (orf tr) Xf) args s 11 110 A) (F0 m 58 ls [.int s0]) := by
  intro H locs ls cells slots hc hs hR hS hl
  refine lv_iconst (v := 3) E.hx E.hb dX0_orderOf_58 (by decide) ?_
  obtain ⟨⟨o1, X2⟩, ho1, hf⟩ := bd_e hf
  cases o1 with
  | inl v3 =>
    refine xrunT_v (runST (As := [.int s0, .int 3]) (rest := []) E.1 (tX0_must l ho1) (cwX0_83 E.ht ⟨Nat.le_of_ble_eq_true rfl, Nat.le_of_ble_eq_true rfl⟩) (xPreS E hR hS) rfl rfl hl.1 rfl (lv_room (Nat.le_of_ble_eq_true rfl)) dX0_orderOf_59 ⟨Nat.le_trans (by omega) (Nat.le_refl 11), Nat.le_trans (by omega) (Nat.le_refl 110)⟩) hS (fun H locs hR hS => ?_)
    refine lv_iload E.hx E.hb dX0_orderOf_62 (lv_at hl 2 rfl) ?_
    refine lv_iconst (v := 1) E.hx E.hb dX0_orderOf_64 (by decide) ?_
    refine lv_aload_n E.hx E.hb dX0_orderOf_65 rfl (lv_at hl 1 rfl) ?_
    refine lv_iload E.hx E.hb dX0_orderOf_66 (lv_at hl 3 rfl) ?_
    obtain ⟨v5, hv5, hf⟩ := bd_e hf
    refine xild E hR hv5 dX0_orderOf_68 ?_
    refine lv_ishl E.hx E.hb dX0_orderOf_69 ?_
    refine lv_ior E.hx E.hb dX0_orderOf_70 ?_
    refine lv_istore (lv' := [(4, .int (x4 ||| (1 <<< (v5 &&& 31)))), (0, .ref x0), (3, .ref x3), (5, .int x5)]) E.hx E.hb dX0_orderOf_71 hl (by decide) rfl (fun ls hl => ?_)
    refine lv_iinc (v := (x5 + 1)) (lv' := [(5, .int (x5 + 1)), (4, .int (x4 ||| (1 <<< (v5 &&& 31)))), (0, .ref x0), (3, .ref x3)]) E.hx E.hb dX0_orderOf_73 hl (k := 3) rfl rfl (by decide) rfl (fun ls hl => ?_)
    refine lv_goto (tgt := 23) E.hx E.hb dX0_orderOf_76 (by decide) ?_
    exact hk23 X2 _ _ _ _ hf _ _ _ _ _ (by omega) (by omega) hR hS (lv_sub hl [2, 3, 1, 0] rfl)
  | inr y4 =>
    obtain ⟨rfl, rfl⟩ := rt_e hf
    exact xrunT_out E hne (runST (As := [.int s0, .int 3]) (rest := []) E.1 (tX0_must l ho1) (cwX0_83 E.ht ⟨Nat.le_of_ble_eq_true rfl, Nat.le_of_ble_eq_true rfl⟩) (xPreS E hR hS) rfl rfl hl.1 rfl (lv_room (Nat.le_of_ble_eq_true rfl)) dX0_orderOf_59 ⟨Nat.le_trans (by omega) (Nat.le_refl 11), Nat.le_trans (by omega) (Nat.le_refl 110)⟩) rfl rfl (by omega) (by omega) hS
def fX0_orderOf_L23  : Nat → AH → Nat → Nat → Int32 → Int32 → Option ((Nat ⊕ Nat) × AH)
  | 0, _, _, _, _, _ => none
  | n + 1, X, x0, x3, x4, x5 =>
    (gL X x3 0).bind fun v1 =>
    if v1 ≤ x5 then (some (.inl x3, X)) else ((gA X x3 0 x5).bind fun v3 =>
    (ck X x0 0).bind fun _ =>
    (fX0_isChair X x0 v3).bind fun (v6, X5) =>
    if v6 = 0 then (fX0_orderOf_b58 (fX0_orderOf_L23 n) X5 0 x0 x3 x4 x5) else ((gA X5 x3 0 x5).bind fun v8 =>
    (fX0_has x4 v8).bind fun v9 =>
    if v9 = 0 then (fX0_orderOf_b58 (fX0_orderOf_L23 n) X5 1 x0 x3 x4 x5) else (fX0_orderOf_b58 (fX0_orderOf_L23 n) X5 0 x0 x3 x4 x5)))
theorem wX0_orderOf_L23 (E : xE p m c cX0_orderOf 6 s args RX0 D cA A Zs meth (some (.array .int))) (hne : c.exceptionTable.toList = []) : ∀ (n : Nat) (X : AH) (x0 : Nat) (x3 : Nat) (x4 : Int32) (x5 : Int32), fX0_orderOf_L23 n X x0 x3 x4 x5 = some (tr, Xf) → ∀ (H : Heap) (locs : List Loc) (ls : Array Slot) (cells slots : Nat), cells + (n * 1 + 0) ≤ 11 → slots + (n * 7 + 0) ≤ 110 → xR D cA A Zs X H → va_S A s.heap H locs → lv_has ls 6 [(0, .ref x0), (3, .ref x3), (4, .int x4), (5, .int x5)] → W p l e rmX0_orderOf s m args below meth c H locs cells slots (MQT below (xQT D cA A Zs (orf tr) Xf) args s 11 110 A) (F0 m 23 ls []) := by
  intro n
  induction n with
  | zero =>
    intro X x0 x3 x4 x5 hf
    have hf : none = some (tr, Xf) := hf
    cases hf
  | succ n ih =>
    intro X x0 x3 x4 x5 hf H locs ls cells slots hc hs hR hS hl
    refine lv_iload E.hx E.hb dX0_orderOf_23 (lv_at hl 3 rfl) ?_
    refine lv_aload_n E.hx E.hb dX0_orderOf_25 rfl (lv_at hl 1 rfl) ?_
    obtain ⟨v1, hv1, hf⟩ := bd_e hf
    refine xlen (kd := 0) E hR rfl hv1 dX0_orderOf_26 ?_
    refine lv_icmp_ge (tgt := 79) E.hx E.hb dX0_orderOf_27 (by decide) (fun c2 => ?_) (fun c2 => ?_)
    · have hf := it_t hf c2
      refine lv_aload_n E.hx E.hb dX0_orderOf_79 rfl (lv_at hl 1 rfl) ?_
      obtain ⟨rfl, rfl⟩ := rt_e hf
      exact xretT_r E (Or.inr ⟨_, rfl⟩) (by omega) (by omega) hR hS dX0_orderOf_80
    · have hf := it_f hf c2
      refine lv_aload_n E.hx E.hb dX0_orderOf_30 rfl (lv_at hl 0 rfl) ?_
      refine lv_aload_n E.hx E.hb dX0_orderOf_31 rfl (lv_at hl 1 rfl) ?_
      refine lv_iload E.hx E.hb dX0_orderOf_32 (lv_at hl 3 rfl) ?_
      obtain ⟨v3, hv3, hf⟩ := bd_e hf
      refine xild E hR hv3 dX0_orderOf_34 ?_
      obtain ⟨u4, hu4, hf⟩ := bd_e hf
      obtain ⟨⟨v6, X5⟩, hv6, hf⟩ := bd_e hf
      refine xrun_i (va_runV (As := [.int v3]) (rest := []) E.1 (tX0_isChair l hv6) (cwX0_196 E.ht ⟨Nat.le_of_ble_eq_true rfl, Nat.le_of_ble_eq_true rfl⟩) (xPreV (ci := 0) E hR hS rfl (ck_e hu4)) rfl rfl hl.1 rfl (lv_room (Nat.le_of_ble_eq_true rfl)) dX0_orderOf_35 ⟨Nat.le_trans (by omega) (Nat.le_refl 11), Nat.le_trans (by omega) (Nat.le_refl 110)⟩) hS (fun H locs hR hS => ?_)
      refine lv_if_eq (tgt := 57) E.hx E.hb dX0_orderOf_38 (by decide) (fun c7 => ?_) (fun c7 => ?_)
      · have hf := it_t hf c7
        refine lv_iconst (v := 0) E.hx E.hb dX0_orderOf_57 (by decide) ?_
        exact wX0_orderOf_b58 E hne ih hf _ _ _ _ _ (by omega) (by omega) hR hS (lv_sub hl [0, 1, 2, 3] rfl)
      · have hf := it_f hf c7
        refine lv_iload E.hx E.hb dX0_orderOf_41 (lv_at hl 2 rfl) ?_
        refine lv_aload_n E.hx E.hb dX0_orderOf_43 rfl (lv_at hl 1 rfl) ?_
        refine lv_iload E.hx E.hb dX0_orderOf_44 (lv_at hl 3 rfl) ?_
        obtain ⟨v8, hv8, hf⟩ := bd_e hf
        refine xild E hR hv8 dX0_orderOf_46 ?_
        obtain ⟨v9, hv9, hf⟩ := bd_e hf
        refine scall_i (rest := []) E.1 (tX0_has l hv9) (cwX0_288 E.ht ⟨Nat.le_of_ble_eq_true rfl, Nat.le_of_ble_eq_true rfl⟩) rfl hl.1 rfl (Nat.le_of_ble_eq_true rfl) dX0_orderOf_47 ⟨Nat.le_trans (by omega) (Nat.le_refl 11), Nat.le_trans (by omega) (Nat.le_refl 110)⟩ ?_
        refine lv_if_ne (tgt := 57) E.hx E.hb dX0_orderOf_50 (by decide) (fun c10 => ?_) (fun c10 => ?_)
        · have hf := it_f hf c10
          refine lv_iconst (v := 0) E.hx E.hb dX0_orderOf_57 (by decide) ?_
          exact wX0_orderOf_b58 E hne ih hf _ _ _ _ _ (by omega) (by omega) hR hS (lv_sub hl [0, 1, 2, 3] rfl)
        · have hf := it_t hf c10
          refine lv_iconst (v := 1) E.hx E.hb dX0_orderOf_53 (by decide) ?_
          refine lv_goto (tgt := 58) E.hx E.hb dX0_orderOf_54 (by decide) ?_
          exact wX0_orderOf_b58 E hne ih hf _ _ _ _ _ (by omega) (by omega) hR hS (lv_sub hl [0, 1, 2, 3] rfl)
def fX0_orderOf  (X : AH) (x0 : Nat) (x1 : Int32) (x2 : Int32) : Option ((Nat ⊕ Nat) × AH) :=
  (ck X x0 0).bind fun _ =>
  (fX0_rowAt X x0 x1).bind fun (o1, X2) => match o1 with
    | .inl v3 => ((gR X2 x0 0 4).bind fun v5 =>
  (ck X2 v5 1).bind fun _ =>
  (fX1_many X2 v5).bind fun (v8, X7) =>
  (ck X7 v3 11).bind fun _ =>
  (fX11_row X7 v3 x2 v8).bind fun (o9, X10) => match o9 with
    | .inl v11 => (fX0_orderOf_L23 8 X10 x0 v11 0 0)
    | .inr y12 => (some (.inr y12, X10)))
    | .inr y4 => (some (.inr y4, X2))
theorem wX0_orderOf_0 (E : xE p m c cX0_orderOf 6 s args RX0 D cA A Zs meth (some (.array .int))) (hne : c.exceptionTable.toList = []) {X : AH} {x0 : Nat} {x1 : Int32} {x2 : Int32} (hf : fX0_orderOf X x0 x1 x2 = some (tr, Xf)) : ∀ (H : Heap) (locs : List Loc) (ls : Array Slot) (cells slots : Nat), cells + 11 ≤ 11 → slots + 110 ≤ 110 → xR D cA A Zs X H → va_S A s.heap H locs → lv_has ls 6 [(0, .ref x0), (1, .int x1), (2, .int x2)] → W p l e rmX0_orderOf s m args below meth c H locs cells slots (MQT below (xQT D cA A Zs (orf tr) Xf) args s 11 110 A) (F0 m 0 ls []) := by
  intro H locs ls cells slots hc hs hR hS hl
  refine lv_aload_n E.hx E.hb dX0_orderOf_0 rfl (lv_at hl 0 rfl) ?_
  refine lv_iload_n E.hx E.hb dX0_orderOf_1 rfl (lv_at hl 1 rfl) ?_
  obtain ⟨u14, hu14, hf⟩ := bd_e hf
  obtain ⟨⟨o1, X2⟩, ho1, hf⟩ := bd_e hf
  cases o1 with
  | inl v3 =>
    refine xrunT_r (runVT (As := [.int x1]) (rest := []) E.1 (tX0_rowAt l ho1) (cwX0_105 E.ht ⟨Nat.le_of_ble_eq_true rfl, Nat.le_of_ble_eq_true rfl⟩) (xPreV (ci := 0) E hR hS rfl (ck_e hu14)) rfl rfl hl.1 rfl (lv_room (Nat.le_of_ble_eq_true rfl)) dX0_orderOf_2 ⟨Nat.le_trans (by omega) (Nat.le_refl 11), Nat.le_trans (by omega) (Nat.le_refl 110)⟩) hS (fun H locs hR hS => ?_)
    refine lv_iload_n E.hx E.hb dX0_orderOf_5 rfl (lv_at hl 2 rfl) ?_
    refine lv_aload_n E.hx E.hb dX0_orderOf_6 rfl (lv_at hl 0 rfl) ?_
    obtain ⟨v5, hv5, hf⟩ := bd_e hf
    refine xgX0_39 E hR hv5 dX0_orderOf_7 ?_
    obtain ⟨u6, hu6, hf⟩ := bd_e hf
    obtain ⟨⟨v8, X7⟩, hv8, hf⟩ := bd_e hf
    refine xrun_i (va_runV (As := []) (rest := [.int x2, .ref v3]) E.1 (tX1_many l hv8) (cwX0_163 E.ht ⟨Nat.le_of_ble_eq_true rfl, Nat.le_of_ble_eq_true rfl⟩) (xPreV (ci := 1) E hR hS rfl (ck_e hu6)) rfl rfl hl.1 rfl (lv_room (Nat.le_of_ble_eq_true rfl)) dX0_orderOf_10 ⟨Nat.le_trans (by omega) (Nat.le_refl 11), Nat.le_trans (by omega) (Nat.le_refl 110)⟩) hS (fun H locs hR hS => ?_)
    obtain ⟨u13, hu13, hf⟩ := bd_e hf
    obtain ⟨⟨o9, X10⟩, ho9, hf⟩ := bd_e hf
    cases o9 with
    | inl v11 =>
      refine xrunT_r (runVT (As := [.int x2, .int v8]) (rest := []) E.1 (tX11_row l ho9) (cwX0_284 E.ht ⟨Nat.le_of_ble_eq_true rfl, Nat.le_of_ble_eq_true rfl⟩) (xPreV (ci := 11) E hR hS rfl (ck_e hu13)) rfl rfl hl.1 rfl (lv_room (Nat.le_of_ble_eq_true rfl)) dX0_orderOf_13 ⟨Nat.le_trans (by omega) (Nat.le_refl 11), Nat.le_trans (by omega) (Nat.le_refl 110)⟩) hS (fun H locs hR hS => ?_)
      refine lv_astore_n (lv' := [(3, .ref v11), (0, .ref x0), (1, .int x1), (2, .int x2)]) E.hx E.hb dX0_orderOf_16 rfl hl (by decide) rfl (fun ls hl => ?_)
      refine lv_iconst (v := 0) E.hx E.hb dX0_orderOf_17 (by decide) ?_
      refine lv_istore (lv' := [(4, .int 0), (3, .ref v11), (0, .ref x0), (1, .int x1), (2, .int x2)]) E.hx E.hb dX0_orderOf_18 hl (by decide) rfl (fun ls hl => ?_)
      refine lv_iconst (v := 0) E.hx E.hb dX0_orderOf_20 (by decide) ?_
      refine lv_istore (lv' := [(5, .int 0), (4, .int 0), (3, .ref v11), (0, .ref x0), (1, .int x1), (2, .int x2)]) E.hx E.hb dX0_orderOf_21 hl (by decide) rfl (fun ls hl => ?_)
      exact wX0_orderOf_L23 E hne  8 X10 _ _ _ _ hf _ _ _ _ _ (by omega) (by omega) hR hS (lv_sub hl [3, 2, 1, 0] rfl)
    | inr y12 =>
      obtain ⟨rfl, rfl⟩ := rt_e hf
      exact xrunT_out E hne (runVT (As := [.int x2, .int v8]) (rest := []) E.1 (tX11_row l ho9) (cwX0_284 E.ht ⟨Nat.le_of_ble_eq_true rfl, Nat.le_of_ble_eq_true rfl⟩) (xPreV (ci := 11) E hR hS rfl (ck_e hu13)) rfl rfl hl.1 rfl (lv_room (Nat.le_of_ble_eq_true rfl)) dX0_orderOf_13 ⟨Nat.le_trans (by omega) (Nat.le_refl 11), Nat.le_trans (by omega) (Nat.le_refl 110)⟩) rfl rfl (by omega) (by omega) hS
  | inr y4 =>
    obtain ⟨rfl, rfl⟩ := rt_e hf
    exact xrunT_out E hne (runVT (As := [.int x1]) (rest := []) E.1 (tX0_rowAt l ho1) (cwX0_105 E.ht ⟨Nat.le_of_ble_eq_true rfl, Nat.le_of_ble_eq_true rfl⟩) (xPreV (ci := 0) E hR hS rfl (ck_e hu14)) rfl rfl hl.1 rfl (lv_room (Nat.le_of_ble_eq_true rfl)) dX0_orderOf_2 ⟨Nat.le_trans (by omega) (Nat.le_refl 11), Nat.le_trans (by omega) (Nat.le_refl 110)⟩) rfl rfl (by omega) (by omega) hS
theorem tX0_orderOf (l : Launch) {D : va_G} {cA : Nat → ClassId} {A : Nat → Prop} {Zs : XZ} {X Xf : AH} {x0 : Nat} {x1 : Int32} {x2 : Int32} {tr : Nat ⊕ Nat} (hf : fX0_orderOf X x0 x1 x2 = some (tr, Xf)) : MetT l yX0_orderOf (ws_ yX0_orderOf cX0_orderOf 6 (some (.array .int))) rmX0_orderOf (xPc D cA A Zs X [.ref x0, .int x1, .int x2]) (xQT D cA A Zs (orf tr) Xf) 11 110 A := by
  refine MetT.ofW (cc := cX0_orderOf) (maxL := 6) (ret := (some (.array .int))) (by decide) rfl ?_
  intro p e s m args below meth c s₁ B hml hne hv
  obtain ⟨rfl, hR, hK⟩ := hv
  have hts := atoms_spec (ws := (ws_ yX0_orderOf cX0_orderOf 6 (some (.array .int)))) B.pre
  rw [lg_entry_eq]
  exact wX0_orderOf_0 (E := ⟨⟨B.exec, B.bytes, hml, findClass_of_methodNamed B.named, fun w h => hts w (List.mem_cons_of_mem _ h)⟩, hK, B.returns, B.notSynchronized⟩) hne hf _ _ _ 0 0 (Nat.le_of_ble_eq_true rfl) (Nat.le_of_ble_eq_true rfl) hR va_S.rf (lv_entry [.ref x0, .int x1, .int x2] (n := 6) (Nat.le_of_ble_eq_true rfl))
end
abbrev rmX0_sawdust : Room := { frames := 9, cells := 11, slots := 110, locals := 187 }
theorem cwX0_298 {R : Room} {s : State} {args : Array Value} (ht : ∀ w ∈ lw_all, w.before args s = true) (hR : rmX0_orderOf.frames + 1 ≤ R.frames ∧ 8 + (6 + 11) + rmX0_orderOf.locals ≤ R.locals) : CallW R s args RX0 RX0 298 yX0_orderOf cX0_orderOf 6 (some (.array .int)) (ws_ yX0_orderOf cX0_orderOf 6 (some (.array .int))) rmX0_orderOf 11 110 2 :=
  cwV 2 ht (lw_V q968 q970 qs25 q68 q971) rfl rfl rfl (by decide +kernel) hR
theorem cwX0_301 {R : Room} {s : State} {args : Array Value} (ht : ∀ w ∈ lw_all, w.before args s = true) (hR : rmX0_dustOf.frames + 1 ≤ R.frames ∧ 8 + (5 + 11) + rmX0_dustOf.locals ≤ R.locals) : CallW R s args RX0 RX0 301 yX0_dustOf cX0_dustOf 5 (some .int) (ws_ yX0_dustOf cX0_dustOf 5 (some .int)) rmX0_dustOf 0 0 1 :=
  cwV 1 ht (lw_V q981 q983 qs26 q68 q984) rfl rfl rfl (by decide +kernel) hR
section
variable {p : Program} {l : Launch} {e : Env} {s : State} {m : MethodId} {args : Array Value} {below : List Frame} {meth : Method} {c : Code} {D : va_G} {cA : Nat → ClassId} {A : Nat → Prop} {Zs : XZ} {Xf : AH} {r : Int32} {rl : Int64} {ra : Nat} {tv : Unit ⊕ Nat} {ti : Int32 ⊕ Nat} {tr : Nat ⊕ Nat} {q2 : Option Nat}
def fX0_sawdust  (X : AH) (x0 : Nat) (x1 : Int32) (x2 : Int32) : Option (Int32 × AH) :=
  (ck X x0 0).bind fun _ =>
  (fX0_isMinistry X x0).bind fun (v3, X2) =>
  if v3 = 0 then (some ((-1000002), X2)) else ((fX0_isRow x1).bind fun v5 =>
  if v5 = 0 then (some ((-1000001), X2)) else ((ck X2 x0 0).bind fun _ =>
  (fX0_orderOf X2 x0 x1 x2).bind fun (o7, X8) => match o7 with
    | .inl v9 => ((ck X8 x0 0).bind fun _ =>
  (fX0_dustOf X8 x0 v9).bind fun (v13, X12) =>
  (ck X12 x0 0).bind fun _ =>
  (fX0_well X12 x0 v13).bind fun (v16, X15) =>
  some (v16, X15))
    | .inr y10 => ((ck X8 y10 10).bind fun _ =>
  (ck X8 x0 0).bind fun _ =>
  (fX0_found X8 x0 y10).bind fun (v21, X20) =>
  some (v21, X20))))
theorem wX0_sawdust_0 (E : xE p m c cX0_sawdust 4 s args RX0 D cA A Zs meth (some .int)) (ht : c.exceptionTable.toList.map (fun h => (h.startPc, h.endPc, h.handlerPc, h.catchType)) = [(20, 34, 35, 67)]) {X : AH} {x0 : Nat} {x1 : Int32} {x2 : Int32} (hf : fX0_sawdust X x0 x1 x2 = some (r, Xf)) : ∀ (H : Heap) (locs : List Loc) (ls : Array Slot) (cells slots : Nat), cells + 11 ≤ 11 → slots + 110 ≤ 110 → xR D cA A Zs X H → va_S A s.heap H locs → lv_has ls 4 [(0, .ref x0), (1, .int x1), (2, .int x2)] → W p l e rmX0_sawdust s m args below meth c H locs cells slots (MQ below (xQi D cA A Zs r Xf) args s 11 110 A) (F0 m 0 ls []) := by
  intro H locs ls cells slots hc hs hR hS hl
  refine lv_aload_n E.hx E.hb dX0_sawdust_0 rfl (lv_at hl 0 rfl) ?_
  obtain ⟨u1, hu1, hf⟩ := bd_e hf
  obtain ⟨⟨v3, X2⟩, hv3, hf⟩ := bd_e hf
  refine xrun_i (va_runV (As := []) (rest := []) E.1 (tX0_isMinistry l hv3) (cwX0_177 E.ht ⟨Nat.le_of_ble_eq_true rfl, Nat.le_of_ble_eq_true rfl⟩) (xPreV (ci := 0) E hR hS rfl (ck_e hu1)) rfl rfl hl.1 rfl (lv_room (Nat.le_of_ble_eq_true rfl)) dX0_sawdust_1 ⟨Nat.le_trans (by omega) (Nat.le_refl 11), Nat.le_trans (by omega) (Nat.le_refl 110)⟩) hS (fun H locs hR hS => ?_)
  refine lv_if_ne (tgt := 10) E.hx E.hb dX0_sawdust_4 (by decide) (fun c4 => ?_) (fun c4 => ?_)
  · have hf := it_f hf c4
    refine lv_iload_n E.hx E.hb dX0_sawdust_10 rfl (lv_at hl 1 rfl) ?_
    obtain ⟨v5, hv5, hf⟩ := bd_e hf
    refine scall_i (rest := []) E.1 (tX0_isRow l hv5) (cwX0_87 E.ht ⟨Nat.le_of_ble_eq_true rfl, Nat.le_of_ble_eq_true rfl⟩) rfl hl.1 rfl (Nat.le_of_ble_eq_true rfl) dX0_sawdust_11 ⟨Nat.le_trans (by omega) (Nat.le_refl 11), Nat.le_trans (by omega) (Nat.le_refl 110)⟩ ?_
    refine lv_if_ne (tgt := 20) E.hx E.hb dX0_sawdust_14 (by decide) (fun c6 => ?_) (fun c6 => ?_)
    · have hf := it_f hf c6
      refine lv_aload_n E.hx E.hb dX0_sawdust_20 rfl (lv_at hl 0 rfl) ?_
      refine lv_aload_n E.hx E.hb dX0_sawdust_21 rfl (lv_at hl 0 rfl) ?_
      refine lv_aload_n E.hx E.hb dX0_sawdust_22 rfl (lv_at hl 0 rfl) ?_
      refine lv_iload_n E.hx E.hb dX0_sawdust_23 rfl (lv_at hl 1 rfl) ?_
      refine lv_iload_n E.hx E.hb dX0_sawdust_24 rfl (lv_at hl 2 rfl) ?_
      obtain ⟨u17, hu17, hf⟩ := bd_e hf
      obtain ⟨⟨o7, X8⟩, ho7, hf⟩ := bd_e hf
      cases o7 with
      | inl v9 =>
        refine xrunT_r (runVT (As := [.int x1, .int x2]) (rest := [.ref x0, .ref x0]) E.1 (tX0_orderOf l ho7) (cwX0_298 E.ht ⟨Nat.le_of_ble_eq_true rfl, Nat.le_of_ble_eq_true rfl⟩) (xPreV (ci := 0) E hR hS rfl (ck_e hu17)) rfl rfl hl.1 rfl (lv_room (Nat.le_of_ble_eq_true rfl)) dX0_sawdust_25 ⟨Nat.le_trans (by omega) (Nat.le_refl 11), Nat.le_trans (by omega) (Nat.le_refl 110)⟩) hS (fun H locs hR hS => ?_)
        obtain ⟨u11, hu11, hf⟩ := bd_e hf
        obtain ⟨⟨v13, X12⟩, hv13, hf⟩ := bd_e hf
        refine xrun_i (va_runV (As := [.ref v9]) (rest := [.ref x0]) E.1 (tX0_dustOf l hv13) (cwX0_301 E.ht ⟨Nat.le_of_ble_eq_true rfl, Nat.le_of_ble_eq_true rfl⟩) (xPreV (ci := 0) E hR hS rfl (ck_e hu11)) rfl rfl hl.1 rfl (lv_room (Nat.le_of_ble_eq_true rfl)) dX0_sawdust_28 ⟨Nat.le_trans (by omega) (Nat.le_refl 11), Nat.le_trans (by omega) (Nat.le_refl 110)⟩) hS (fun H locs hR hS => ?_)
        obtain ⟨u14, hu14, hf⟩ := bd_e hf
        obtain ⟨⟨v16, X15⟩, hv16, hf⟩ := bd_e hf
        refine xrun_i (va_runV (As := [.int v13]) (rest := []) E.1 (tX0_well l hv16) (cwX0_97 E.ht ⟨Nat.le_of_ble_eq_true rfl, Nat.le_of_ble_eq_true rfl⟩) (xPreV (ci := 0) E hR hS rfl (ck_e hu14)) rfl rfl hl.1 rfl (lv_room (Nat.le_of_ble_eq_true rfl)) dX0_sawdust_31 ⟨Nat.le_trans (by omega) (Nat.le_refl 11), Nat.le_trans (by omega) (Nat.le_refl 110)⟩) hS (fun H locs hR hS => ?_)
        obtain ⟨rfl, rfl⟩ := rt_e hf
        exact xret_i E (by omega) (by omega) hR hS dX0_sawdust_34
      | inr y10 =>
        obtain ⟨u18, hu18, hf⟩ := bd_e hf
        refine xrunT_catch (hp := []) (q := (20, 34, 35, 67)) (hr' := []) (ci := 10) (name := "ChairRanks$Finding") E ht rfl (by decide) (by decide) (by decide) q310 rfl (E.2.1.2.1 ("ChairRanks$Finding", "ChairRanks$Finding") (by decide +kernel)) (ck_e hu18) (runVT (As := [.int x1, .int x2]) (rest := [.ref x0, .ref x0]) E.1 (tX0_orderOf l ho7) (cwX0_298 E.ht ⟨Nat.le_of_ble_eq_true rfl, Nat.le_of_ble_eq_true rfl⟩) (xPreV (ci := 0) E hR hS rfl (ck_e hu17)) rfl rfl hl.1 rfl (lv_room (Nat.le_of_ble_eq_true rfl)) dX0_sawdust_25 ⟨Nat.le_trans (by omega) (Nat.le_refl 11), Nat.le_trans (by omega) (Nat.le_refl 110)⟩) rfl hS (fun H locs hR hS => ?_)
        refine lv_astore_n (lv' := [(3, .ref y10), (0, .ref x0), (1, .int x1), (2, .int x2)]) E.hx E.hb dX0_sawdust_35 rfl hl (by decide) rfl (fun ls hl => ?_)
        refine lv_aload_n E.hx E.hb dX0_sawdust_36 rfl (lv_at hl 1 rfl) ?_
        refine lv_aload_n E.hx E.hb dX0_sawdust_37 rfl (lv_at hl 0 rfl) ?_
        obtain ⟨u19, hu19, hf⟩ := bd_e hf
        obtain ⟨⟨v21, X20⟩, hv21, hf⟩ := bd_e hf
        refine xrun_i (va_runV (As := [.ref y10]) (rest := []) E.1 (tX0_found l hv21) (cwX0_101 E.ht ⟨Nat.le_of_ble_eq_true rfl, Nat.le_of_ble_eq_true rfl⟩) (xPreV (ci := 0) E hR hS rfl (ck_e hu19)) rfl rfl hl.1 rfl (lv_room (Nat.le_of_ble_eq_true rfl)) dX0_sawdust_38 ⟨Nat.le_trans (by omega) (Nat.le_refl 11), Nat.le_trans (by omega) (Nat.le_refl 110)⟩) hS (fun H locs hR hS => ?_)
        obtain ⟨rfl, rfl⟩ := rt_e hf
        exact xret_i E (by omega) (by omega) hR hS dX0_sawdust_41
    · have hf := it_t hf c6
      refine lv_ldc (v := (-1000001)) E.hx E.hb E.ho (E.ht _ q319) dX0_sawdust_17 ?_
      obtain ⟨rfl, rfl⟩ := rt_e hf
      exact xret_i E (by omega) (by omega) hR hS dX0_sawdust_19
  · have hf := it_t hf c4
    refine lv_ldc (v := (-1000002)) E.hx E.hb E.ho (E.ht _ q733) dX0_sawdust_7 ?_
    obtain ⟨rfl, rfl⟩ := rt_e hf
    exact xret_i E (by omega) (by omega) hR hS dX0_sawdust_9
theorem tX0_sawdust (l : Launch) {D : va_G} {cA : Nat → ClassId} {A : Nat → Prop} {Zs : XZ} {X Xf : AH} {x0 : Nat} {x1 : Int32} {x2 : Int32} {r : Int32} (hf : fX0_sawdust X x0 x1 x2 = some (r, Xf)) : Met l yX0_sawdust (wsW_ yX0_sawdust cX0_sawdust 4 (some .int) [(20, 34, 35, 67)]) rmX0_sawdust (xPc D cA A Zs X [.ref x0, .int x1, .int x2]) (xQi D cA A Zs r Xf) 11 110 A := by
  refine Met.ofWH (cc := cX0_sawdust) (maxL := 4) (ret := (some .int)) (by decide) rfl ?_
  intro p e s m args below meth c s₁ B hml ht hv
  obtain ⟨rfl, hR, hK⟩ := hv
  have hts := atoms_spec (ws := (wsW_ yX0_sawdust cX0_sawdust 4 (some .int) [(20, 34, 35, 67)])) B.pre
  rw [lg_entry_eq]
  exact wX0_sawdust_0 (E := ⟨⟨B.exec, B.bytes, hml, findClass_of_methodNamed B.named, fun w h => hts w (List.mem_cons_of_mem _ h)⟩, hK, B.returns, B.notSynchronized⟩) ht hf _ _ _ 0 0 (Nat.le_of_ble_eq_true rfl) (Nat.le_of_ble_eq_true rfl) hR va_S.rf (lv_entry [.ref x0, .int x1, .int x2] (n := 4) (Nat.le_of_ble_eq_true rfl))
end
abbrev rmX0_pile : Room := { frames := 9, cells := 11, slots := 110, locals := 187 }
theorem cwX0_308 {R : Room} {s : State} {args : Array Value} (ht : ∀ w ∈ lw_all, w.before args s = true) (hR : rmX0_pileOf.frames + 1 ≤ R.frames ∧ 8 + (5 + 11) + rmX0_pileOf.locals ≤ R.locals) : CallW R s args RX0 RX0 308 yX0_pileOf cX0_pileOf 5 (some .int) (ws_ yX0_pileOf cX0_pileOf 5 (some .int)) rmX0_pileOf 0 0 1 :=
  cwV 1 ht (lw_V q994 q996 qs28 q68 q997) rfl rfl rfl (by decide +kernel) hR
section
variable {p : Program} {l : Launch} {e : Env} {s : State} {m : MethodId} {args : Array Value} {below : List Frame} {meth : Method} {c : Code} {D : va_G} {cA : Nat → ClassId} {A : Nat → Prop} {Zs : XZ} {Xf : AH} {r : Int32} {rl : Int64} {ra : Nat} {tv : Unit ⊕ Nat} {ti : Int32 ⊕ Nat} {tr : Nat ⊕ Nat} {q2 : Option Nat}
def fX0_pile  (X : AH) (x0 : Nat) (x1 : Int32) (x2 : Int32) : Option (Int32 × AH) :=
  (ck X x0 0).bind fun _ =>
  (fX0_isMinistry X x0).bind fun (v3, X2) =>
  if v3 = 0 then (some ((-1000002), X2)) else ((fX0_isRow x1).bind fun v5 =>
  if v5 = 0 then (some ((-1000001), X2)) else ((ck X2 x0 0).bind fun _ =>
  (fX0_orderOf X2 x0 x1 x2).bind fun (o7, X8) => match o7 with
    | .inl v9 => ((ck X8 x0 0).bind fun _ =>
  (fX0_pileOf X8 x0 v9).bind fun (v13, X12) =>
  (ck X12 x0 0).bind fun _ =>
  (fX0_well X12 x0 v13).bind fun (v16, X15) =>
  some (v16, X15))
    | .inr y10 => ((ck X8 y10 10).bind fun _ =>
  (ck X8 x0 0).bind fun _ =>
  (fX0_found X8 x0 y10).bind fun (v21, X20) =>
  some (v21, X20))))
theorem wX0_pile_0 (E : xE p m c cX0_pile 4 s args RX0 D cA A Zs meth (some .int)) (ht : c.exceptionTable.toList.map (fun h => (h.startPc, h.endPc, h.handlerPc, h.catchType)) = [(20, 34, 35, 67)]) {X : AH} {x0 : Nat} {x1 : Int32} {x2 : Int32} (hf : fX0_pile X x0 x1 x2 = some (r, Xf)) : ∀ (H : Heap) (locs : List Loc) (ls : Array Slot) (cells slots : Nat), cells + 11 ≤ 11 → slots + 110 ≤ 110 → xR D cA A Zs X H → va_S A s.heap H locs → lv_has ls 4 [(0, .ref x0), (1, .int x1), (2, .int x2)] → W p l e rmX0_pile s m args below meth c H locs cells slots (MQ below (xQi D cA A Zs r Xf) args s 11 110 A) (F0 m 0 ls []) := by
  intro H locs ls cells slots hc hs hR hS hl
  refine lv_aload_n E.hx E.hb dX0_pile_0 rfl (lv_at hl 0 rfl) ?_
  obtain ⟨u1, hu1, hf⟩ := bd_e hf
  obtain ⟨⟨v3, X2⟩, hv3, hf⟩ := bd_e hf
  refine xrun_i (va_runV (As := []) (rest := []) E.1 (tX0_isMinistry l hv3) (cwX0_177 E.ht ⟨Nat.le_of_ble_eq_true rfl, Nat.le_of_ble_eq_true rfl⟩) (xPreV (ci := 0) E hR hS rfl (ck_e hu1)) rfl rfl hl.1 rfl (lv_room (Nat.le_of_ble_eq_true rfl)) dX0_pile_1 ⟨Nat.le_trans (by omega) (Nat.le_refl 11), Nat.le_trans (by omega) (Nat.le_refl 110)⟩) hS (fun H locs hR hS => ?_)
  refine lv_if_ne (tgt := 10) E.hx E.hb dX0_pile_4 (by decide) (fun c4 => ?_) (fun c4 => ?_)
  · have hf := it_f hf c4
    refine lv_iload_n E.hx E.hb dX0_pile_10 rfl (lv_at hl 1 rfl) ?_
    obtain ⟨v5, hv5, hf⟩ := bd_e hf
    refine scall_i (rest := []) E.1 (tX0_isRow l hv5) (cwX0_87 E.ht ⟨Nat.le_of_ble_eq_true rfl, Nat.le_of_ble_eq_true rfl⟩) rfl hl.1 rfl (Nat.le_of_ble_eq_true rfl) dX0_pile_11 ⟨Nat.le_trans (by omega) (Nat.le_refl 11), Nat.le_trans (by omega) (Nat.le_refl 110)⟩ ?_
    refine lv_if_ne (tgt := 20) E.hx E.hb dX0_pile_14 (by decide) (fun c6 => ?_) (fun c6 => ?_)
    · have hf := it_f hf c6
      refine lv_aload_n E.hx E.hb dX0_pile_20 rfl (lv_at hl 0 rfl) ?_
      refine lv_aload_n E.hx E.hb dX0_pile_21 rfl (lv_at hl 0 rfl) ?_
      refine lv_aload_n E.hx E.hb dX0_pile_22 rfl (lv_at hl 0 rfl) ?_
      refine lv_iload_n E.hx E.hb dX0_pile_23 rfl (lv_at hl 1 rfl) ?_
      refine lv_iload_n E.hx E.hb dX0_pile_24 rfl (lv_at hl 2 rfl) ?_
      obtain ⟨u17, hu17, hf⟩ := bd_e hf
      obtain ⟨⟨o7, X8⟩, ho7, hf⟩ := bd_e hf
      cases o7 with
      | inl v9 =>
        refine xrunT_r (runVT (As := [.int x1, .int x2]) (rest := [.ref x0, .ref x0]) E.1 (tX0_orderOf l ho7) (cwX0_298 E.ht ⟨Nat.le_of_ble_eq_true rfl, Nat.le_of_ble_eq_true rfl⟩) (xPreV (ci := 0) E hR hS rfl (ck_e hu17)) rfl rfl hl.1 rfl (lv_room (Nat.le_of_ble_eq_true rfl)) dX0_pile_25 ⟨Nat.le_trans (by omega) (Nat.le_refl 11), Nat.le_trans (by omega) (Nat.le_refl 110)⟩) hS (fun H locs hR hS => ?_)
        obtain ⟨u11, hu11, hf⟩ := bd_e hf
        obtain ⟨⟨v13, X12⟩, hv13, hf⟩ := bd_e hf
        refine xrun_i (va_runV (As := [.ref v9]) (rest := [.ref x0]) E.1 (tX0_pileOf l hv13) (cwX0_308 E.ht ⟨Nat.le_of_ble_eq_true rfl, Nat.le_of_ble_eq_true rfl⟩) (xPreV (ci := 0) E hR hS rfl (ck_e hu11)) rfl rfl hl.1 rfl (lv_room (Nat.le_of_ble_eq_true rfl)) dX0_pile_28 ⟨Nat.le_trans (by omega) (Nat.le_refl 11), Nat.le_trans (by omega) (Nat.le_refl 110)⟩) hS (fun H locs hR hS => ?_)
        obtain ⟨u14, hu14, hf⟩ := bd_e hf
        obtain ⟨⟨v16, X15⟩, hv16, hf⟩ := bd_e hf
        refine xrun_i (va_runV (As := [.int v13]) (rest := []) E.1 (tX0_well l hv16) (cwX0_97 E.ht ⟨Nat.le_of_ble_eq_true rfl, Nat.le_of_ble_eq_true rfl⟩) (xPreV (ci := 0) E hR hS rfl (ck_e hu14)) rfl rfl hl.1 rfl (lv_room (Nat.le_of_ble_eq_true rfl)) dX0_pile_31 ⟨Nat.le_trans (by omega) (Nat.le_refl 11), Nat.le_trans (by omega) (Nat.le_refl 110)⟩) hS (fun H locs hR hS => ?_)
        obtain ⟨rfl, rfl⟩ := rt_e hf
        exact xret_i E (by omega) (by omega) hR hS dX0_pile_34
      | inr y10 =>
        obtain ⟨u18, hu18, hf⟩ := bd_e hf
        refine xrunT_catch (hp := []) (q := (20, 34, 35, 67)) (hr' := []) (ci := 10) (name := "ChairRanks$Finding") E ht rfl (by decide) (by decide) (by decide) q310 rfl (E.2.1.2.1 ("ChairRanks$Finding", "ChairRanks$Finding") (by decide +kernel)) (ck_e hu18) (runVT (As := [.int x1, .int x2]) (rest := [.ref x0, .ref x0]) E.1 (tX0_orderOf l ho7) (cwX0_298 E.ht ⟨Nat.le_of_ble_eq_true rfl, Nat.le_of_ble_eq_true rfl⟩) (xPreV (ci := 0) E hR hS rfl (ck_e hu17)) rfl rfl hl.1 rfl (lv_room (Nat.le_of_ble_eq_true rfl)) dX0_pile_25 ⟨Nat.le_trans (by omega) (Nat.le_refl 11), Nat.le_trans (by omega) (Nat.le_refl 110)⟩) rfl hS (fun H locs hR hS => ?_)
        refine lv_astore_n (lv' := [(3, .ref y10), (0, .ref x0), (1, .int x1), (2, .int x2)]) E.hx E.hb dX0_pile_35 rfl hl (by decide) rfl (fun ls hl => ?_)
        refine lv_aload_n E.hx E.hb dX0_pile_36 rfl (lv_at hl 1 rfl) ?_
        refine lv_aload_n E.hx E.hb dX0_pile_37 rfl (lv_at hl 0 rfl) ?_
        obtain ⟨u19, hu19, hf⟩ := bd_e hf
        obtain ⟨⟨v21, X20⟩, hv21, hf⟩ := bd_e hf
        refine xrun_i (va_runV (As := [.ref y10]) (rest := []) E.1 (tX0_found l hv21) (cwX0_101 E.ht ⟨Nat.le_of_ble_eq_true rfl, Nat.le_of_ble_eq_true rfl⟩) (xPreV (ci := 0) E hR hS rfl (ck_e hu19)) rfl rfl hl.1 rfl (lv_room (Nat.le_of_ble_eq_true rfl)) dX0_pile_38 ⟨Nat.le_trans (by omega) (Nat.le_refl 11), Nat.le_trans (by omega) (Nat.le_refl 110)⟩) hS (fun H locs hR hS => ?_)
        obtain ⟨rfl, rfl⟩ := rt_e hf
        exact xret_i E (by omega) (by omega) hR hS dX0_pile_41
    · have hf := it_t hf c6
      refine lv_ldc (v := (-1000001)) E.hx E.hb E.ho (E.ht _ q319) dX0_pile_17 ?_
      obtain ⟨rfl, rfl⟩ := rt_e hf
      exact xret_i E (by omega) (by omega) hR hS dX0_pile_19
  · have hf := it_t hf c4
    refine lv_ldc (v := (-1000002)) E.hx E.hb E.ho (E.ht _ q733) dX0_pile_7 ?_
    obtain ⟨rfl, rfl⟩ := rt_e hf
    exact xret_i E (by omega) (by omega) hR hS dX0_pile_9
theorem tX0_pile (l : Launch) {D : va_G} {cA : Nat → ClassId} {A : Nat → Prop} {Zs : XZ} {X Xf : AH} {x0 : Nat} {x1 : Int32} {x2 : Int32} {r : Int32} (hf : fX0_pile X x0 x1 x2 = some (r, Xf)) : Met l yX0_pile (wsW_ yX0_pile cX0_pile 4 (some .int) [(20, 34, 35, 67)]) rmX0_pile (xPc D cA A Zs X [.ref x0, .int x1, .int x2]) (xQi D cA A Zs r Xf) 11 110 A := by
  refine Met.ofWH (cc := cX0_pile) (maxL := 4) (ret := (some .int)) (by decide) rfl ?_
  intro p e s m args below meth c s₁ B hml ht hv
  obtain ⟨rfl, hR, hK⟩ := hv
  have hts := atoms_spec (ws := (wsW_ yX0_pile cX0_pile 4 (some .int) [(20, 34, 35, 67)])) B.pre
  rw [lg_entry_eq]
  exact wX0_pile_0 (E := ⟨⟨B.exec, B.bytes, hml, findClass_of_methodNamed B.named, fun w h => hts w (List.mem_cons_of_mem _ h)⟩, hK, B.returns, B.notSynchronized⟩) ht hf _ _ _ 0 0 (Nat.le_of_ble_eq_true rfl) (Nat.le_of_ble_eq_true rfl) hR va_S.rf (lv_entry [.ref x0, .int x1, .int x2] (n := 4) (Nat.le_of_ble_eq_true rfl))
end
abbrev rmX0_who : Room := { frames := 13, cells := 3, slots := 54, locals := 274 }
theorem cwX0_323 {R : Room} {s : State} {args : Array Value} (ht : ∀ w ∈ lw_all, w.before args s = true) (hR : rmX0_isTold.frames + 1 ≤ R.frames ∧ 8 + (1 + 11) + rmX0_isTold.locals ≤ R.locals) : CallB R s args RX0 323 yX0_isTold cX0_isTold 1 (some .boolean) (ws_ yX0_isTold cX0_isTold 1 (some .boolean)) rmX0_isTold 0 0 1 ∧ (Cond.static yX0_isTold).before args s = true :=
  va_cwS 1 ht (lw_S q1030 q1031 q68 q1032) rfl rfl rfl (by decide +kernel) hR
theorem cwX0_326 {R : Room} {s : State} {args : Array Value} (ht : ∀ w ∈ lw_all, w.before args s = true) (hR : rmX0_alters.frames + 1 ≤ R.frames ∧ 8 + (4 + 11) + rmX0_alters.locals ≤ R.locals) : CallW R s args RX0 RX0 326 yX0_alters cX0_alters 4 none (ws_ yX0_alters cX0_alters 4 none) rmX0_alters 0 0 3 :=
  cwV 3 ht (lw_V q1034 q1036 qs30 q68 q1037) rfl rfl rfl (by decide +kernel) hR
theorem cwX0_330 {R : Room} {s : State} {args : Array Value} (ht : ∀ w ∈ lw_all, w.before args s = true) (hR : rmX0_isSeen.frames + 1 ≤ R.frames ∧ 8 + (5 + 11) + rmX0_isSeen.locals ≤ R.locals) : CallW R s args RX0 RX0 330 yX0_isSeen cX0_isSeen 5 (some .boolean) (ws_ yX0_isSeen cX0_isSeen 5 (some .boolean)) rmX0_isSeen 0 0 2 :=
  cwV 2 ht (lw_V q1038 q1040 qs31 q68 q1041) rfl rfl rfl (by decide +kernel) hR
section
variable {p : Program} {l : Launch} {e : Env} {s : State} {m : MethodId} {args : Array Value} {below : List Frame} {meth : Method} {c : Code} {D : va_G} {cA : Nat → ClassId} {A : Nat → Prop} {Zs : XZ} {Xf : AH} {r : Int32} {rl : Int64} {ra : Nat} {tv : Unit ⊕ Nat} {ti : Int32 ⊕ Nat} {tr : Nat ⊕ Nat} {q2 : Option Nat}
def fX0_who_L101  : Nat → AH → Nat → Int32 → Int32 → Int32 → Nat → Int32 → Int32 → Int32 → Option (Int32 × AH)
  | 0, _, _, _, _, _, _, _, _, _ => none
  | n + 1, X, x0, x1, x2, x3, x7, x8, x9, x10 =>
    if x8 < x10 then ((ck X x0 0).bind fun _ =>
    (fX0_well X x0 x9).bind fun (v4, X3) =>
    some (v4, X3)) else ((ck X x0 0).bind fun _ =>
    (fX0_alters X x0 x1 x2 x10).bind fun X6 =>
    (ck X6 x0 0).bind fun _ =>
    (fX0_isSeen X6 x0 x3 x7).bind fun (v10, X9) =>
    if v10 = 0 then ((fX0_who_L101 n) X9 x0 x1 x2 x3 x7 x8 (x9 ||| 0) (x10 + 1)) else ((fX0_who_L101 n) X9 x0 x1 x2 x3 x7 x8 (x9 ||| (1 <<< (x10 &&& 31))) (x10 + 1)))
theorem wX0_who_L101 (E : xE p m c cX0_who 11 s args RX0 D cA A Zs meth (some .int)) (ht : c.exceptionTable.toList.map (fun h => (h.startPc, h.endPc, h.handlerPc, h.catchType)) = [(47, 151, 152, 67)]) : ∀ (n : Nat) (X : AH) (x0 : Nat) (x1 : Int32) (x2 : Int32) (x3 : Int32) (x7 : Nat) (x8 : Int32) (x9 : Int32) (x10 : Int32), fX0_who_L101 n X x0 x1 x2 x3 x7 x8 x9 x10 = some (r, Xf) → ∀ (H : Heap) (locs : List Loc) (ls : Array Slot) (cells slots : Nat), cells + 0 ≤ 3 → slots + 0 ≤ 54 → xR D cA A Zs X H → va_S A s.heap H locs → lv_has ls 11 [(0, .ref x0), (1, .int x1), (2, .int x2), (3, .int x3), (7, .ref x7), (8, .int x8), (9, .int x9), (10, .int x10)] → W p l e rmX0_who s m args below meth c H locs cells slots (MQ below (xQi D cA A Zs r Xf) args s 3 54 A) (F0 m 101 ls []) := by
  intro n
  induction n with
  | zero =>
    intro X x0 x1 x2 x3 x7 x8 x9 x10 hf
    have hf : none = some (r, Xf) := hf
    cases hf
  | succ n ih =>
    intro X x0 x1 x2 x3 x7 x8 x9 x10 hf H locs ls cells slots hc hs hR hS hl
    refine lv_iload E.hx E.hb dX0_who_101 (lv_at hl 7 rfl) ?_
    refine lv_iload E.hx E.hb dX0_who_103 (lv_at hl 5 rfl) ?_
    refine lv_icmp_gt (tgt := 145) E.hx E.hb dX0_who_105 (by decide) (fun c1 => ?_) (fun c1 => ?_)
    · have hf := it_t hf c1
      refine lv_aload_n E.hx E.hb dX0_who_145 rfl (lv_at hl 0 rfl) ?_
      refine lv_iload E.hx E.hb dX0_who_146 (lv_at hl 6 rfl) ?_
      obtain ⟨u2, hu2, hf⟩ := bd_e hf
      obtain ⟨⟨v4, X3⟩, hv4, hf⟩ := bd_e hf
      refine xrun_i (va_runV (As := [.int x9]) (rest := []) E.1 (tX0_well l hv4) (cwX0_97 E.ht ⟨Nat.le_of_ble_eq_true rfl, Nat.le_of_ble_eq_true rfl⟩) (xPreV (ci := 0) E hR hS rfl (ck_e hu2)) rfl rfl hl.1 rfl (lv_room (Nat.le_of_ble_eq_true rfl)) dX0_who_148 ⟨Nat.le_trans (by omega) (Nat.le_refl 3), Nat.le_trans (by omega) (Nat.le_refl 54)⟩) hS (fun H locs hR hS => ?_)
      obtain ⟨rfl, rfl⟩ := rt_e hf
      exact xret_i E (by omega) (by omega) hR hS dX0_who_151
    · have hf := it_f hf c1
      refine lv_aload_n E.hx E.hb dX0_who_108 rfl (lv_at hl 0 rfl) ?_
      refine lv_iload_n E.hx E.hb dX0_who_109 rfl (lv_at hl 1 rfl) ?_
      refine lv_iload_n E.hx E.hb dX0_who_110 rfl (lv_at hl 2 rfl) ?_
      refine lv_iload E.hx E.hb dX0_who_111 (lv_at hl 7 rfl) ?_
      obtain ⟨u5, hu5, hf⟩ := bd_e hf
      obtain ⟨X6, hX6, hf⟩ := bd_e hf
      refine xrun_v (va_runV (As := [.int x1, .int x2, .int x10]) (rest := []) E.1 (tX0_alters l hX6) (cwX0_326 E.ht ⟨Nat.le_of_ble_eq_true rfl, Nat.le_of_ble_eq_true rfl⟩) (xPreV (ci := 0) E hR hS rfl (ck_e hu5)) rfl rfl hl.1 rfl (lv_room (Nat.le_of_ble_eq_true rfl)) dX0_who_113 ⟨Nat.le_trans (by omega) (Nat.le_refl 3), Nat.le_trans (by omega) (Nat.le_refl 54)⟩) hS (fun H locs hR hS => ?_)
      refine lv_iload E.hx E.hb dX0_who_116 (lv_at hl 6 rfl) ?_
      refine lv_aload_n E.hx E.hb dX0_who_118 rfl (lv_at hl 0 rfl) ?_
      refine lv_iload_n E.hx E.hb dX0_who_119 rfl (lv_at hl 3 rfl) ?_
      refine lv_aload E.hx E.hb dX0_who_120 (lv_at hl 4 rfl) ?_
      obtain ⟨u8, hu8, hf⟩ := bd_e hf
      obtain ⟨⟨v10, X9⟩, hv10, hf⟩ := bd_e hf
      refine xrun_i (va_runV (As := [.int x3, .ref x7]) (rest := [.int x9]) E.1 (tX0_isSeen l hv10) (cwX0_330 E.ht ⟨Nat.le_of_ble_eq_true rfl, Nat.le_of_ble_eq_true rfl⟩) (xPreV (ci := 0) E hR hS rfl (ck_e hu8)) rfl rfl hl.1 rfl (lv_room (Nat.le_of_ble_eq_true rfl)) dX0_who_122 ⟨Nat.le_trans (by omega) (Nat.le_refl 3), Nat.le_trans (by omega) (Nat.le_refl 54)⟩) hS (fun H locs hR hS => ?_)
      refine lv_if_eq (tgt := 135) E.hx E.hb dX0_who_125 (by decide) (fun c11 => ?_) (fun c11 => ?_)
      · have hf := it_t hf c11
        refine lv_iconst (v := 0) E.hx E.hb dX0_who_135 (by decide) ?_
        refine lv_ior E.hx E.hb dX0_who_136 ?_
        refine lv_istore (lv' := [(9, .int (x9 ||| 0)), (0, .ref x0), (1, .int x1), (2, .int x2), (3, .int x3), (7, .ref x7), (8, .int x8), (10, .int x10)]) E.hx E.hb dX0_who_137 hl (by decide) rfl (fun ls hl => ?_)
        refine lv_iinc (v := (x10 + 1)) (lv' := [(10, .int (x10 + 1)), (9, .int (x9 ||| 0)), (0, .ref x0), (1, .int x1), (2, .int x2), (3, .int x3), (7, .ref x7), (8, .int x8)]) E.hx E.hb dX0_who_139 hl (k := 7) rfl rfl (by decide) rfl (fun ls hl => ?_)
        refine lv_goto (tgt := 101) E.hx E.hb dX0_who_142 (by decide) ?_
        exact ih X9 _ _ _ _ _ _ _ _ hf _ _ _ _ _ (by omega) (by omega) hR hS (lv_sub hl [2, 3, 4, 5, 6, 7, 1, 0] rfl)
      · have hf := it_f hf c11
        refine lv_iconst (v := 1) E.hx E.hb dX0_who_128 (by decide) ?_
        refine lv_iload E.hx E.hb dX0_who_129 (lv_at hl 7 rfl) ?_
        refine lv_ishl E.hx E.hb dX0_who_131 ?_
        refine lv_goto (tgt := 136) E.hx E.hb dX0_who_132 (by decide) ?_
        refine lv_ior E.hx E.hb dX0_who_136 ?_
        refine lv_istore (lv' := [(9, .int (x9 ||| (1 <<< (x10 &&& 31)))), (0, .ref x0), (1, .int x1), (2, .int x2), (3, .int x3), (7, .ref x7), (8, .int x8), (10, .int x10)]) E.hx E.hb dX0_who_137 hl (by decide) rfl (fun ls hl => ?_)
        refine lv_iinc (v := (x10 + 1)) (lv' := [(10, .int (x10 + 1)), (9, .int (x9 ||| (1 <<< (x10 &&& 31)))), (0, .ref x0), (1, .int x1), (2, .int x2), (3, .int x3), (7, .ref x7), (8, .int x8)]) E.hx E.hb dX0_who_139 hl (k := 7) rfl rfl (by decide) rfl (fun ls hl => ?_)
        refine lv_goto (tgt := 101) E.hx E.hb dX0_who_142 (by decide) ?_
        exact ih X9 _ _ _ _ _ _ _ _ hf _ _ _ _ _ (by omega) (by omega) hR hS (lv_sub hl [2, 3, 4, 5, 6, 7, 1, 0] rfl)
def fX0_who_b85  (X : AH) (s0 : Int32) (x0 : Nat) (x1 : Int32) (x2 : Int32) (x3 : Int32) (x7 : Nat) : Option (Int32 × AH) :=
  if x2 = 0 then (fX0_who_L101 2000 X x0 x1 x2 x3 x7 s0 0 1) else (fX0_who_L101 2000 X x0 x1 x2 x3 x7 s0 0 0)
theorem wX0_who_b85 (E : xE p m c cX0_who 11 s args RX0 D cA A Zs meth (some .int)) (ht : c.exceptionTable.toList.map (fun h => (h.startPc, h.endPc, h.handlerPc, h.catchType)) = [(47, 151, 152, 67)]) {X : AH} {s0 : Int32} {x0 : Nat} {x1 : Int32} {x2 : Int32} {x3 : Int32} {x7 : Nat} (hf : fX0_who_b85 X s0 x0 x1 x2 x3 x7 = some (r, Xf)) : ∀ (H : Heap) (locs : List Loc) (ls : Array Slot) (cells slots : Nat), cells + 0 ≤ 3 → slots + 0 ≤ 54 → xR D cA A Zs X H → va_S A s.heap H locs → lv_has ls 11 [(0, .ref x0), (1, .int x1), (2, .int x2), (3, .int x3), (7, .ref x7)] → W p l e rmX0_who s m args below meth c H locs cells slots (MQ below (xQi D cA A Zs r Xf) args s 3 54 A) (F0 m 85 ls [.int s0]) := by
  intro H locs ls cells slots hc hs hR hS hl
  refine lv_istore (lv' := [(8, .int s0), (0, .ref x0), (1, .int x1), (2, .int x2), (3, .int x3), (7, .ref x7)]) E.hx E.hb dX0_who_85 hl (by decide) rfl (fun ls hl => ?_)
  refine lv_iconst (v := 0) E.hx E.hb dX0_who_87 (by decide) ?_
  refine lv_istore (lv' := [(9, .int 0), (8, .int s0), (0, .ref x0), (1, .int x1), (2, .int x2), (3, .int x3), (7, .ref x7)]) E.hx E.hb dX0_who_88 hl (by decide) rfl (fun ls hl => ?_)
  refine lv_iload_n E.hx E.hb dX0_who_90 rfl (lv_at hl 4 rfl) ?_
  refine lv_if_ne (tgt := 98) E.hx E.hb dX0_who_91 (by decide) (fun c1 => ?_) (fun c1 => ?_)
  · have hf := it_f hf c1
    refine lv_iconst (v := 0) E.hx E.hb dX0_who_98 (by decide) ?_
    refine lv_istore (lv' := [(10, .int 0), (9, .int 0), (8, .int s0), (0, .ref x0), (1, .int x1), (2, .int x2), (3, .int x3), (7, .ref x7)]) E.hx E.hb dX0_who_99 hl (by decide) rfl (fun ls hl => ?_)
    exact wX0_who_L101 E ht  2000 X _ _ _ _ _ _ _ _ hf _ _ _ _ _ (by omega) (by omega) hR hS (lv_sub hl [3, 4, 5, 6, 7, 2, 1, 0] rfl)
  · have hf := it_t hf c1
    refine lv_iconst (v := 1) E.hx E.hb dX0_who_94 (by decide) ?_
    refine lv_goto (tgt := 99) E.hx E.hb dX0_who_95 (by decide) ?_
    refine lv_istore (lv' := [(10, .int 1), (9, .int 0), (8, .int s0), (0, .ref x0), (1, .int x1), (2, .int x2), (3, .int x3), (7, .ref x7)]) E.hx E.hb dX0_who_99 hl (by decide) rfl (fun ls hl => ?_)
    exact wX0_who_L101 E ht  2000 X _ _ _ _ _ _ _ _ hf _ _ _ _ _ (by omega) (by omega) hR hS (lv_sub hl [3, 4, 5, 6, 7, 2, 1, 0] rfl)
def fX0_who_b152  (X : AH) (s0 : Nat) (x0 : Nat) : Option (Int32 × AH) :=
  (ck X x0 0).bind fun _ =>
  (fX0_found X x0 s0).bind fun (v3, X2) =>
  some (v3, X2)
theorem wX0_who_b152 (E : xE p m c cX0_who 11 s args RX0 D cA A Zs meth (some .int)) (ht : c.exceptionTable.toList.map (fun h => (h.startPc, h.endPc, h.handlerPc, h.catchType)) = [(47, 151, 152, 67)]) {X : AH} {s0 : Nat} {x0 : Nat} (hf : fX0_who_b152 X s0 x0 = some (r, Xf)) : ∀ (H : Heap) (locs : List Loc) (ls : Array Slot) (cells slots : Nat), cells + 0 ≤ 3 → slots + 0 ≤ 54 → xR D cA A Zs X H → va_S A s.heap H locs → lv_has ls 11 [(0, .ref x0)] → W p l e rmX0_who s m args below meth c H locs cells slots (MQ below (xQi D cA A Zs r Xf) args s 3 54 A) (F0 m 152 ls [.ref s0]) := by
  intro H locs ls cells slots hc hs hR hS hl
  refine lv_astore (lv' := [(7, .ref s0), (0, .ref x0)]) E.hx E.hb dX0_who_152 hl (by decide) rfl (fun ls hl => ?_)
  refine lv_aload_n E.hx E.hb dX0_who_154 rfl (lv_at hl 1 rfl) ?_
  refine lv_aload E.hx E.hb dX0_who_155 (lv_at hl 0 rfl) ?_
  obtain ⟨u1, hu1, hf⟩ := bd_e hf
  obtain ⟨⟨v3, X2⟩, hv3, hf⟩ := bd_e hf
  refine xrun_i (va_runV (As := [.ref s0]) (rest := []) E.1 (tX0_found l hv3) (cwX0_101 E.ht ⟨Nat.le_of_ble_eq_true rfl, Nat.le_of_ble_eq_true rfl⟩) (xPreV (ci := 0) E hR hS rfl (ck_e hu1)) rfl rfl hl.1 rfl (lv_room (Nat.le_of_ble_eq_true rfl)) dX0_who_157 ⟨Nat.le_trans (by omega) (Nat.le_refl 3), Nat.le_trans (by omega) (Nat.le_refl 54)⟩) hS (fun H locs hR hS => ?_)
  obtain ⟨rfl, rfl⟩ := rt_e hf
  exact xret_i E (by omega) (by omega) hR hS dX0_who_160
def fX0_who  (X : AH) (x0 : Nat) (x1 : Int32) (x2 : Int32) (x3 : Int32) (x4 : Int32) (x5 : Int32) (x6 : Int32) : Option (Int32 × AH) :=
  (ck X x0 0).bind fun _ =>
  (fX0_isChair X x0 x1).bind fun (v3, X2) =>
  if v3 = 0 then (some ((-1000001), X2)) else ((fX0_isIn (x2.toInt64) 0 2).bind fun v5 =>
  if v5 = 0 then (some ((-1000001), X2)) else ((ck X2 x0 0).bind fun _ =>
  (fX0_isChair X2 x0 x3).bind fun (v9, X8) =>
  if v9 = 0 then (some ((-1000001), X8)) else ((fX0_isRow x4).bind fun v11 =>
  if v11 = 0 then (some ((-1000001), X8)) else ((fX0_isTold x6).bind fun v13 =>
  if v13 = 0 then (some ((-1000001), X8)) else ((ck X8 x0 0).bind fun _ =>
  (fX0_rowAt X8 x0 x4).bind fun (o15, X16) => match o15 with
    | .inl v17 => ((ck X16 v17 11).bind fun _ =>
  (fX11_row X16 v17 x5 x6).bind fun (o19, X20) => match o19 with
    | .inl v21 => (if x2 = 0 then ((gR X20 x0 0 11).bind fun v25 =>
  (gL X20 v25 4).bind fun v26 =>
  fX0_who_b85 X20 v26 x0 x1 x2 x3 v21) else (if x2 = 1 then (fX0_who_b85 X20 9 x0 x1 x2 x3 v21) else (fX0_who_b85 X20 3 x0 x1 x2 x3 v21)))
    | .inr y22 => ((ck X20 y22 10).bind fun _ =>
  fX0_who_b152 X20 y22 x0))
    | .inr y18 => ((ck X16 y18 10).bind fun _ =>
  fX0_who_b152 X16 y18 x0))))))
theorem wX0_who_0 (E : xE p m c cX0_who 11 s args RX0 D cA A Zs meth (some .int)) (ht : c.exceptionTable.toList.map (fun h => (h.startPc, h.endPc, h.handlerPc, h.catchType)) = [(47, 151, 152, 67)]) {X : AH} {x0 : Nat} {x1 : Int32} {x2 : Int32} {x3 : Int32} {x4 : Int32} {x5 : Int32} {x6 : Int32} (hf : fX0_who X x0 x1 x2 x3 x4 x5 x6 = some (r, Xf)) : ∀ (H : Heap) (locs : List Loc) (ls : Array Slot) (cells slots : Nat), cells + 3 ≤ 3 → slots + 54 ≤ 54 → xR D cA A Zs X H → va_S A s.heap H locs → lv_has ls 11 [(0, .ref x0), (1, .int x1), (2, .int x2), (3, .int x3), (4, .int x4), (5, .int x5), (6, .int x6)] → W p l e rmX0_who s m args below meth c H locs cells slots (MQ below (xQi D cA A Zs r Xf) args s 3 54 A) (F0 m 0 ls []) := by
  intro H locs ls cells slots hc hs hR hS hl
  refine lv_aload_n E.hx E.hb dX0_who_0 rfl (lv_at hl 0 rfl) ?_
  refine lv_iload_n E.hx E.hb dX0_who_1 rfl (lv_at hl 1 rfl) ?_
  obtain ⟨u1, hu1, hf⟩ := bd_e hf
  obtain ⟨⟨v3, X2⟩, hv3, hf⟩ := bd_e hf
  refine xrun_i (va_runV (As := [.int x1]) (rest := []) E.1 (tX0_isChair l hv3) (cwX0_196 E.ht ⟨Nat.le_of_ble_eq_true rfl, Nat.le_of_ble_eq_true rfl⟩) (xPreV (ci := 0) E hR hS rfl (ck_e hu1)) rfl rfl hl.1 rfl (lv_room (Nat.le_of_ble_eq_true rfl)) dX0_who_2 ⟨Nat.le_trans (by omega) (Nat.le_refl 3), Nat.le_trans (by omega) (Nat.le_refl 54)⟩) hS (fun H locs hR hS => ?_)
  refine lv_if_eq (tgt := 44) E.hx E.hb dX0_who_5 (by decide) (fun c4 => ?_) (fun c4 => ?_)
  · have hf := it_t hf c4
    refine lv_ldc (v := (-1000001)) E.hx E.hb E.ho (E.ht _ q319) dX0_who_44 ?_
    obtain ⟨rfl, rfl⟩ := rt_e hf
    exact xret_i E (by omega) (by omega) hR hS dX0_who_46
  · have hf := it_f hf c4
    refine lv_iload_n E.hx E.hb dX0_who_8 rfl (lv_at hl 2 rfl) ?_
    refine lv_i2l E.hx E.hb dX0_who_9 rfl ?_
    refine lv_lconst (v := 0) E.hx E.hb dX0_who_10 (by decide) ?_
    refine lv_ldc2 (v := 2) E.hx E.hb E.ho (E.ht _ q318) dX0_who_11 ?_
    obtain ⟨v5, hv5, hf⟩ := bd_e hf
    refine scall_i (rest := []) E.1 (tX0_isIn l hv5) (cwX0_79 E.ht ⟨Nat.le_of_ble_eq_true rfl, Nat.le_of_ble_eq_true rfl⟩) rfl hl.1 rfl (Nat.le_of_ble_eq_true rfl) dX0_who_14 ⟨Nat.le_trans (by omega) (Nat.le_refl 3), Nat.le_trans (by omega) (Nat.le_refl 54)⟩ ?_
    refine lv_if_eq (tgt := 44) E.hx E.hb dX0_who_17 (by decide) (fun c6 => ?_) (fun c6 => ?_)
    · have hf := it_t hf c6
      refine lv_ldc (v := (-1000001)) E.hx E.hb E.ho (E.ht _ q319) dX0_who_44 ?_
      obtain ⟨rfl, rfl⟩ := rt_e hf
      exact xret_i E (by omega) (by omega) hR hS dX0_who_46
    · have hf := it_f hf c6
      refine lv_aload_n E.hx E.hb dX0_who_20 rfl (lv_at hl 0 rfl) ?_
      refine lv_iload_n E.hx E.hb dX0_who_21 rfl (lv_at hl 3 rfl) ?_
      obtain ⟨u7, hu7, hf⟩ := bd_e hf
      obtain ⟨⟨v9, X8⟩, hv9, hf⟩ := bd_e hf
      refine xrun_i (va_runV (As := [.int x3]) (rest := []) E.1 (tX0_isChair l hv9) (cwX0_196 E.ht ⟨Nat.le_of_ble_eq_true rfl, Nat.le_of_ble_eq_true rfl⟩) (xPreV (ci := 0) E hR hS rfl (ck_e hu7)) rfl rfl hl.1 rfl (lv_room (Nat.le_of_ble_eq_true rfl)) dX0_who_22 ⟨Nat.le_trans (by omega) (Nat.le_refl 3), Nat.le_trans (by omega) (Nat.le_refl 54)⟩) hS (fun H locs hR hS => ?_)
      refine lv_if_eq (tgt := 44) E.hx E.hb dX0_who_25 (by decide) (fun c10 => ?_) (fun c10 => ?_)
      · have hf := it_t hf c10
        refine lv_ldc (v := (-1000001)) E.hx E.hb E.ho (E.ht _ q319) dX0_who_44 ?_
        obtain ⟨rfl, rfl⟩ := rt_e hf
        exact xret_i E (by omega) (by omega) hR hS dX0_who_46
      · have hf := it_f hf c10
        refine lv_iload E.hx E.hb dX0_who_28 (lv_at hl 4 rfl) ?_
        obtain ⟨v11, hv11, hf⟩ := bd_e hf
        refine scall_i (rest := []) E.1 (tX0_isRow l hv11) (cwX0_87 E.ht ⟨Nat.le_of_ble_eq_true rfl, Nat.le_of_ble_eq_true rfl⟩) rfl hl.1 rfl (Nat.le_of_ble_eq_true rfl) dX0_who_30 ⟨Nat.le_trans (by omega) (Nat.le_refl 3), Nat.le_trans (by omega) (Nat.le_refl 54)⟩ ?_
        refine lv_if_eq (tgt := 44) E.hx E.hb dX0_who_33 (by decide) (fun c12 => ?_) (fun c12 => ?_)
        · have hf := it_t hf c12
          refine lv_ldc (v := (-1000001)) E.hx E.hb E.ho (E.ht _ q319) dX0_who_44 ?_
          obtain ⟨rfl, rfl⟩ := rt_e hf
          exact xret_i E (by omega) (by omega) hR hS dX0_who_46
        · have hf := it_f hf c12
          refine lv_iload E.hx E.hb dX0_who_36 (lv_at hl 6 rfl) ?_
          obtain ⟨v13, hv13, hf⟩ := bd_e hf
          refine scall_i (rest := []) E.1 (tX0_isTold l hv13) (cwX0_323 E.ht ⟨Nat.le_of_ble_eq_true rfl, Nat.le_of_ble_eq_true rfl⟩) rfl hl.1 rfl (Nat.le_of_ble_eq_true rfl) dX0_who_38 ⟨Nat.le_trans (by omega) (Nat.le_refl 3), Nat.le_trans (by omega) (Nat.le_refl 54)⟩ ?_
          refine lv_if_ne (tgt := 47) E.hx E.hb dX0_who_41 (by decide) (fun c14 => ?_) (fun c14 => ?_)
          · have hf := it_f hf c14
            refine lv_aload_n E.hx E.hb dX0_who_47 rfl (lv_at hl 0 rfl) ?_
            refine lv_iload E.hx E.hb dX0_who_48 (lv_at hl 4 rfl) ?_
            obtain ⟨u29, hu29, hf⟩ := bd_e hf
            obtain ⟨⟨o15, X16⟩, ho15, hf⟩ := bd_e hf
            cases o15 with
            | inl v17 =>
              refine xrunT_r (runVT (As := [.int x4]) (rest := []) E.1 (tX0_rowAt l ho15) (cwX0_105 E.ht ⟨Nat.le_of_ble_eq_true rfl, Nat.le_of_ble_eq_true rfl⟩) (xPreV (ci := 0) E hR hS rfl (ck_e hu29)) rfl rfl hl.1 rfl (lv_room (Nat.le_of_ble_eq_true rfl)) dX0_who_50 ⟨Nat.le_trans (by omega) (Nat.le_refl 3), Nat.le_trans (by omega) (Nat.le_refl 54)⟩) hS (fun H locs hR hS => ?_)
              refine lv_iload E.hx E.hb dX0_who_53 (lv_at hl 5 rfl) ?_
              refine lv_iload E.hx E.hb dX0_who_55 (lv_at hl 6 rfl) ?_
              obtain ⟨u27, hu27, hf⟩ := bd_e hf
              obtain ⟨⟨o19, X20⟩, ho19, hf⟩ := bd_e hf
              cases o19 with
              | inl v21 =>
                refine xrunT_r (runVT (As := [.int x5, .int x6]) (rest := []) E.1 (tX11_row l ho19) (cwX0_284 E.ht ⟨Nat.le_of_ble_eq_true rfl, Nat.le_of_ble_eq_true rfl⟩) (xPreV (ci := 11) E hR hS rfl (ck_e hu27)) rfl rfl hl.1 rfl (lv_room (Nat.le_of_ble_eq_true rfl)) dX0_who_57 ⟨Nat.le_trans (by omega) (Nat.le_refl 3), Nat.le_trans (by omega) (Nat.le_refl 54)⟩) hS (fun H locs hR hS => ?_)
                refine lv_astore (lv' := [(7, .ref v21), (0, .ref x0), (1, .int x1), (2, .int x2), (3, .int x3), (4, .int x4), (5, .int x5), (6, .int x6)]) E.hx E.hb dX0_who_60 hl (by decide) rfl (fun ls hl => ?_)
                refine lv_iload_n E.hx E.hb dX0_who_62 rfl (lv_at hl 3 rfl) ?_
                refine lv_if_ne (tgt := 74) E.hx E.hb dX0_who_63 (by decide) (fun c23 => ?_) (fun c23 => ?_)
                · have hf := it_f hf c23
                  refine lv_iload_n E.hx E.hb dX0_who_74 rfl (lv_at hl 3 rfl) ?_
                  refine lv_iconst (v := 1) E.hx E.hb dX0_who_75 (by decide) ?_
                  refine lv_icmp_ne (tgt := 84) E.hx E.hb dX0_who_76 (by decide) (fun c24 => ?_) (fun c24 => ?_)
                  · have hf := it_f hf c24
                    refine lv_iconst (v := 3) E.hx E.hb dX0_who_84 (by decide) ?_
                    exact wX0_who_b85 E ht  hf _ _ _ _ _ (by omega) (by omega) hR hS (lv_sub hl [1, 2, 3, 4, 0] rfl)
                  · have hf := it_t hf c24
                    refine lv_bipush (v := 9) E.hx E.hb dX0_who_79 (by decide) ?_
                    refine lv_goto (tgt := 85) E.hx E.hb dX0_who_81 (by decide) ?_
                    exact wX0_who_b85 E ht  hf _ _ _ _ _ (by omega) (by omega) hR hS (lv_sub hl [1, 2, 3, 4, 0] rfl)
                · have hf := it_t hf c23
                  refine lv_aload_n E.hx E.hb dX0_who_66 rfl (lv_at hl 1 rfl) ?_
                  obtain ⟨v25, hv25, hf⟩ := bd_e hf
                  refine xgX0_62 E hR hv25 dX0_who_67 ?_
                  obtain ⟨v26, hv26, hf⟩ := bd_e hf
                  refine xlen (kd := 4) E hR rfl hv26 dX0_who_70 ?_
                  refine lv_goto (tgt := 85) E.hx E.hb dX0_who_71 (by decide) ?_
                  exact wX0_who_b85 E ht  hf _ _ _ _ _ (by omega) (by omega) hR hS (lv_sub hl [1, 2, 3, 4, 0] rfl)
              | inr y22 =>
                obtain ⟨u28, hu28, hf⟩ := bd_e hf
                refine xrunT_catch (hp := []) (q := (47, 151, 152, 67)) (hr' := []) (ci := 10) (name := "ChairRanks$Finding") E ht rfl (by decide) (by decide) (by decide) q310 rfl (E.2.1.2.1 ("ChairRanks$Finding", "ChairRanks$Finding") (by decide +kernel)) (ck_e hu28) (runVT (As := [.int x5, .int x6]) (rest := []) E.1 (tX11_row l ho19) (cwX0_284 E.ht ⟨Nat.le_of_ble_eq_true rfl, Nat.le_of_ble_eq_true rfl⟩) (xPreV (ci := 11) E hR hS rfl (ck_e hu27)) rfl rfl hl.1 rfl (lv_room (Nat.le_of_ble_eq_true rfl)) dX0_who_57 ⟨Nat.le_trans (by omega) (Nat.le_refl 3), Nat.le_trans (by omega) (Nat.le_refl 54)⟩) rfl hS (fun H locs hR hS => ?_)
                exact wX0_who_b152 E ht  hf _ _ _ _ _ (by omega) (by omega) hR hS (lv_sub hl [0] rfl)
            | inr y18 =>
              obtain ⟨u30, hu30, hf⟩ := bd_e hf
              refine xrunT_catch (hp := []) (q := (47, 151, 152, 67)) (hr' := []) (ci := 10) (name := "ChairRanks$Finding") E ht rfl (by decide) (by decide) (by decide) q310 rfl (E.2.1.2.1 ("ChairRanks$Finding", "ChairRanks$Finding") (by decide +kernel)) (ck_e hu30) (runVT (As := [.int x4]) (rest := []) E.1 (tX0_rowAt l ho15) (cwX0_105 E.ht ⟨Nat.le_of_ble_eq_true rfl, Nat.le_of_ble_eq_true rfl⟩) (xPreV (ci := 0) E hR hS rfl (ck_e hu29)) rfl rfl hl.1 rfl (lv_room (Nat.le_of_ble_eq_true rfl)) dX0_who_50 ⟨Nat.le_trans (by omega) (Nat.le_refl 3), Nat.le_trans (by omega) (Nat.le_refl 54)⟩) rfl hS (fun H locs hR hS => ?_)
              exact wX0_who_b152 E ht  hf _ _ _ _ _ (by omega) (by omega) hR hS (lv_sub hl [0] rfl)
          · have hf := it_t hf c14
            refine lv_ldc (v := (-1000001)) E.hx E.hb E.ho (E.ht _ q319) dX0_who_44 ?_
            obtain ⟨rfl, rfl⟩ := rt_e hf
            exact xret_i E (by omega) (by omega) hR hS dX0_who_46
theorem tX0_who (l : Launch) {D : va_G} {cA : Nat → ClassId} {A : Nat → Prop} {Zs : XZ} {X Xf : AH} {x0 : Nat} {x1 : Int32} {x2 : Int32} {x3 : Int32} {x4 : Int32} {x5 : Int32} {x6 : Int32} {r : Int32} (hf : fX0_who X x0 x1 x2 x3 x4 x5 x6 = some (r, Xf)) : Met l yX0_who (wsW_ yX0_who cX0_who 11 (some .int) [(47, 151, 152, 67)]) rmX0_who (xPc D cA A Zs X [.ref x0, .int x1, .int x2, .int x3, .int x4, .int x5, .int x6]) (xQi D cA A Zs r Xf) 3 54 A := by
  refine Met.ofWH (cc := cX0_who) (maxL := 11) (ret := (some .int)) (by decide) rfl ?_
  intro p e s m args below meth c s₁ B hml ht hv
  obtain ⟨rfl, hR, hK⟩ := hv
  have hts := atoms_spec (ws := (wsW_ yX0_who cX0_who 11 (some .int) [(47, 151, 152, 67)])) B.pre
  rw [lg_entry_eq]
  exact wX0_who_0 (E := ⟨⟨B.exec, B.bytes, hml, findClass_of_methodNamed B.named, fun w h => hts w (List.mem_cons_of_mem _ h)⟩, hK, B.returns, B.notSynchronized⟩) ht hf _ _ _ 0 0 (Nat.le_of_ble_eq_true rfl) (Nat.le_of_ble_eq_true rfl) hR va_S.rf (lv_entry [.ref x0, .int x1, .int x2, .int x3, .int x4, .int x5, .int x6] (n := 11) (Nat.le_of_ble_eq_true rfl))
end
abbrev rmX0_guarded : Room := { frames := 13, cells := 3, slots := 54, locals := 274 }
theorem cwX0_334 {R : Room} {s : State} {args : Array Value} (ht : ∀ w ∈ lw_all, w.before args s = true) (hR : rmX1_isWatched.frames + 1 ≤ R.frames ∧ 8 + (2 + 11) + rmX1_isWatched.locals ≤ R.locals) : CallW R s args RX0 RX1 334 yX1_isWatched cX1_isWatched 2 (some .boolean) (ws_ yX1_isWatched cX1_isWatched 2 (some .boolean)) rmX1_isWatched 0 0 1 :=
  cwV 1 ht (lw_V q1046 q820 q821 q69 q822) rfl rfl rfl (by decide +kernel) hR
section
variable {p : Program} {l : Launch} {e : Env} {s : State} {m : MethodId} {args : Array Value} {below : List Frame} {meth : Method} {c : Code} {D : va_G} {cA : Nat → ClassId} {A : Nat → Prop} {Zs : XZ} {Xf : AH} {r : Int32} {rl : Int64} {ra : Nat} {tv : Unit ⊕ Nat} {ti : Int32 ⊕ Nat} {tr : Nat ⊕ Nat} {q2 : Option Nat}
def fX0_guarded_L65  : Nat → AH → Nat → Int32 → Nat → Int32 → Int32 → Option (Int32 × AH)
  | 0, _, _, _, _, _, _ => none
  | n + 1, X, x0, x1, x5, x6, x7 =>
    (gR X x0 0 4).bind fun v1 =>
    (ck X v1 1).bind fun _ =>
    (fX1_many X v1).bind fun (v4, X3) =>
    if v4 ≤ x7 then ((ck X3 x0 0).bind fun _ =>
    (fX0_well X3 x0 x6).bind fun (v8, X7) =>
    some (v8, X7)) else ((gR X3 x0 0 4).bind fun v9 =>
    (ck X3 v9 1).bind fun _ =>
    (fX1_isWatched X3 v9 x7).bind fun (v12, X11) =>
    if v12 = 0 then ((ck X11 x0 0).bind fun _ =>
    (fX0_tried X11 x0).bind fun (v16, X15) =>
    (gI X15 v16 1 8).bind fun v17 =>
    (pF X15 v16 1 8 (.int (v17 ||| (1 <<< (x7 &&& 31))))).bind fun X18 =>
    (ck X18 x0 0).bind fun _ =>
    (fX0_isSeen X18 x0 x1 x5).bind fun (v21, X20) =>
    if v21 = 0 then ((fX0_guarded_L65 n) X20 x0 x1 x5 (x6 ||| 0) (x7 + 1)) else ((fX0_guarded_L65 n) X20 x0 x1 x5 (x6 ||| (1 <<< (x7 &&& 31))) (x7 + 1))) else ((fX0_guarded_L65 n) X11 x0 x1 x5 x6 (x7 + 1)))
theorem wX0_guarded_L65 (E : xE p m c cX0_guarded 8 s args RX0 D cA A Zs meth (some .int)) (ht : c.exceptionTable.toList.map (fun h => (h.startPc, h.endPc, h.handlerPc, h.catchType)) = [(26, 143, 144, 67)]) : ∀ (n : Nat) (X : AH) (x0 : Nat) (x1 : Int32) (x5 : Nat) (x6 : Int32) (x7 : Int32), fX0_guarded_L65 n X x0 x1 x5 x6 x7 = some (r, Xf) → ∀ (H : Heap) (locs : List Loc) (ls : Array Slot) (cells slots : Nat), cells + 0 ≤ 3 → slots + 0 ≤ 54 → xR D cA A Zs X H → va_S A s.heap H locs → lv_has ls 8 [(0, .ref x0), (1, .int x1), (5, .ref x5), (6, .int x6), (7, .int x7)] → W p l e rmX0_guarded s m args below meth c H locs cells slots (MQ below (xQi D cA A Zs r Xf) args s 3 54 A) (F0 m 65 ls []) := by
  intro n
  induction n with
  | zero =>
    intro X x0 x1 x5 x6 x7 hf
    have hf : none = some (r, Xf) := hf
    cases hf
  | succ n ih =>
    intro X x0 x1 x5 x6 x7 hf H locs ls cells slots hc hs hR hS hl
    refine lv_iload E.hx E.hb dX0_guarded_65 (lv_at hl 4 rfl) ?_
    refine lv_aload_n E.hx E.hb dX0_guarded_67 rfl (lv_at hl 0 rfl) ?_
    obtain ⟨v1, hv1, hf⟩ := bd_e hf
    refine xgX0_39 E hR hv1 dX0_guarded_68 ?_
    obtain ⟨u2, hu2, hf⟩ := bd_e hf
    obtain ⟨⟨v4, X3⟩, hv4, hf⟩ := bd_e hf
    refine xrun_i (va_runV (As := []) (rest := [.int x7]) E.1 (tX1_many l hv4) (cwX0_163 E.ht ⟨Nat.le_of_ble_eq_true rfl, Nat.le_of_ble_eq_true rfl⟩) (xPreV (ci := 1) E hR hS rfl (ck_e hu2)) rfl rfl hl.1 rfl (lv_room (Nat.le_of_ble_eq_true rfl)) dX0_guarded_71 ⟨Nat.le_trans (by omega) (Nat.le_refl 3), Nat.le_trans (by omega) (Nat.le_refl 54)⟩) hS (fun H locs hR hS => ?_)
    refine lv_icmp_ge (tgt := 137) E.hx E.hb dX0_guarded_74 (by decide) (fun c5 => ?_) (fun c5 => ?_)
    · have hf := it_t hf c5
      refine lv_aload_n E.hx E.hb dX0_guarded_137 rfl (lv_at hl 0 rfl) ?_
      refine lv_iload E.hx E.hb dX0_guarded_138 (lv_at hl 3 rfl) ?_
      obtain ⟨u6, hu6, hf⟩ := bd_e hf
      obtain ⟨⟨v8, X7⟩, hv8, hf⟩ := bd_e hf
      refine xrun_i (va_runV (As := [.int x6]) (rest := []) E.1 (tX0_well l hv8) (cwX0_97 E.ht ⟨Nat.le_of_ble_eq_true rfl, Nat.le_of_ble_eq_true rfl⟩) (xPreV (ci := 0) E hR hS rfl (ck_e hu6)) rfl rfl hl.1 rfl (lv_room (Nat.le_of_ble_eq_true rfl)) dX0_guarded_140 ⟨Nat.le_trans (by omega) (Nat.le_refl 3), Nat.le_trans (by omega) (Nat.le_refl 54)⟩) hS (fun H locs hR hS => ?_)
      obtain ⟨rfl, rfl⟩ := rt_e hf
      exact xret_i E (by omega) (by omega) hR hS dX0_guarded_143
    · have hf := it_f hf c5
      refine lv_aload_n E.hx E.hb dX0_guarded_77 rfl (lv_at hl 0 rfl) ?_
      obtain ⟨v9, hv9, hf⟩ := bd_e hf
      refine xgX0_39 E hR hv9 dX0_guarded_78 ?_
      refine lv_iload E.hx E.hb dX0_guarded_81 (lv_at hl 4 rfl) ?_
      obtain ⟨u10, hu10, hf⟩ := bd_e hf
      obtain ⟨⟨v12, X11⟩, hv12, hf⟩ := bd_e hf
      refine xrun_i (va_runV (As := [.int x7]) (rest := []) E.1 (tX1_isWatched l hv12) (cwX0_334 E.ht ⟨Nat.le_of_ble_eq_true rfl, Nat.le_of_ble_eq_true rfl⟩) (xPreV (ci := 1) E hR hS rfl (ck_e hu10)) rfl rfl hl.1 rfl (lv_room (Nat.le_of_ble_eq_true rfl)) dX0_guarded_83 ⟨Nat.le_trans (by omega) (Nat.le_refl 3), Nat.le_trans (by omega) (Nat.le_refl 54)⟩) hS (fun H locs hR hS => ?_)
      refine lv_if_eq (tgt := 92) E.hx E.hb dX0_guarded_86 (by decide) (fun c13 => ?_) (fun c13 => ?_)
      · have hf := it_t hf c13
        refine lv_aload_n E.hx E.hb dX0_guarded_92 rfl (lv_at hl 0 rfl) ?_
        obtain ⟨u14, hu14, hf⟩ := bd_e hf
        obtain ⟨⟨v16, X15⟩, hv16, hf⟩ := bd_e hf
        refine xrun_r (va_runV (As := []) (rest := []) E.1 (tX0_tried l hv16) (cwX0_254 E.ht ⟨Nat.le_of_ble_eq_true rfl, Nat.le_of_ble_eq_true rfl⟩) (xPreV (ci := 0) E hR hS rfl (ck_e hu14)) rfl rfl hl.1 rfl (lv_room (Nat.le_of_ble_eq_true rfl)) dX0_guarded_93 ⟨Nat.le_trans (by omega) (Nat.le_refl 3), Nat.le_trans (by omega) (Nat.le_refl 54)⟩) hS (fun H locs hR hS => ?_)
        refine lv_dup E.hx E.hb dX0_guarded_96 rfl ?_
        obtain ⟨v17, hv17, hf⟩ := bd_e hf
        refine xgX0_217 E hR hv17 dX0_guarded_97 ?_
        refine lv_iconst (v := 1) E.hx E.hb dX0_guarded_100 (by decide) ?_
        refine lv_iload E.hx E.hb dX0_guarded_101 (lv_at hl 4 rfl) ?_
        refine lv_ishl E.hx E.hb dX0_guarded_103 ?_
        refine lv_ior E.hx E.hb dX0_guarded_104 ?_
        obtain ⟨X18, hX18, hf⟩ := bd_e hf
        refine xpX0_217 E hR hS hX18 dX0_guarded_105 (fun H locs hR hS => ?_)
        refine lv_iload E.hx E.hb dX0_guarded_108 (lv_at hl 3 rfl) ?_
        refine lv_aload_n E.hx E.hb dX0_guarded_110 rfl (lv_at hl 0 rfl) ?_
        refine lv_iload_n E.hx E.hb dX0_guarded_111 rfl (lv_at hl 1 rfl) ?_
        refine lv_aload E.hx E.hb dX0_guarded_112 (lv_at hl 2 rfl) ?_
        obtain ⟨u19, hu19, hf⟩ := bd_e hf
        obtain ⟨⟨v21, X20⟩, hv21, hf⟩ := bd_e hf
        refine xrun_i (va_runV (As := [.int x1, .ref x5]) (rest := [.int x6]) E.1 (tX0_isSeen l hv21) (cwX0_330 E.ht ⟨Nat.le_of_ble_eq_true rfl, Nat.le_of_ble_eq_true rfl⟩) (xPreV (ci := 0) E hR hS rfl (ck_e hu19)) rfl rfl hl.1 rfl (lv_room (Nat.le_of_ble_eq_true rfl)) dX0_guarded_114 ⟨Nat.le_trans (by omega) (Nat.le_refl 3), Nat.le_trans (by omega) (Nat.le_refl 54)⟩) hS (fun H locs hR hS => ?_)
        refine lv_if_eq (tgt := 127) E.hx E.hb dX0_guarded_117 (by decide) (fun c22 => ?_) (fun c22 => ?_)
        · have hf := it_t hf c22
          refine lv_iconst (v := 0) E.hx E.hb dX0_guarded_127 (by decide) ?_
          refine lv_ior E.hx E.hb dX0_guarded_128 ?_
          refine lv_istore (lv' := [(6, .int (x6 ||| 0)), (0, .ref x0), (1, .int x1), (5, .ref x5), (7, .int x7)]) E.hx E.hb dX0_guarded_129 hl (by decide) rfl (fun ls hl => ?_)
          refine lv_iinc (v := (x7 + 1)) (lv' := [(7, .int (x7 + 1)), (6, .int (x6 ||| 0)), (0, .ref x0), (1, .int x1), (5, .ref x5)]) E.hx E.hb dX0_guarded_131 hl (k := 4) rfl rfl (by decide) rfl (fun ls hl => ?_)
          refine lv_goto (tgt := 65) E.hx E.hb dX0_guarded_134 (by decide) ?_
          exact ih X20 _ _ _ _ _ hf _ _ _ _ _ (by omega) (by omega) hR hS (lv_sub hl [2, 3, 4, 1, 0] rfl)
        · have hf := it_f hf c22
          refine lv_iconst (v := 1) E.hx E.hb dX0_guarded_120 (by decide) ?_
          refine lv_iload E.hx E.hb dX0_guarded_121 (lv_at hl 4 rfl) ?_
          refine lv_ishl E.hx E.hb dX0_guarded_123 ?_
          refine lv_goto (tgt := 128) E.hx E.hb dX0_guarded_124 (by decide) ?_
          refine lv_ior E.hx E.hb dX0_guarded_128 ?_
          refine lv_istore (lv' := [(6, .int (x6 ||| (1 <<< (x7 &&& 31)))), (0, .ref x0), (1, .int x1), (5, .ref x5), (7, .int x7)]) E.hx E.hb dX0_guarded_129 hl (by decide) rfl (fun ls hl => ?_)
          refine lv_iinc (v := (x7 + 1)) (lv' := [(7, .int (x7 + 1)), (6, .int (x6 ||| (1 <<< (x7 &&& 31)))), (0, .ref x0), (1, .int x1), (5, .ref x5)]) E.hx E.hb dX0_guarded_131 hl (k := 4) rfl rfl (by decide) rfl (fun ls hl => ?_)
          refine lv_goto (tgt := 65) E.hx E.hb dX0_guarded_134 (by decide) ?_
          exact ih X20 _ _ _ _ _ hf _ _ _ _ _ (by omega) (by omega) hR hS (lv_sub hl [2, 3, 4, 1, 0] rfl)
      · have hf := it_f hf c13
        refine lv_goto (tgt := 131) E.hx E.hb dX0_guarded_89 (by decide) ?_
        refine lv_iinc (v := (x7 + 1)) (lv' := [(7, .int (x7 + 1)), (0, .ref x0), (1, .int x1), (5, .ref x5), (6, .int x6)]) E.hx E.hb dX0_guarded_131 hl (k := 4) rfl rfl (by decide) rfl (fun ls hl => ?_)
        refine lv_goto (tgt := 65) E.hx E.hb dX0_guarded_134 (by decide) ?_
        exact ih X11 _ _ _ _ _ hf _ _ _ _ _ (by omega) (by omega) hR hS (lv_sub hl [1, 2, 3, 4, 0] rfl)
def fX0_guarded_b144  (X : AH) (s0 : Nat) (x0 : Nat) : Option (Int32 × AH) :=
  (ck X x0 0).bind fun _ =>
  (fX0_found X x0 s0).bind fun (v3, X2) =>
  some (v3, X2)
theorem wX0_guarded_b144 (E : xE p m c cX0_guarded 8 s args RX0 D cA A Zs meth (some .int)) (ht : c.exceptionTable.toList.map (fun h => (h.startPc, h.endPc, h.handlerPc, h.catchType)) = [(26, 143, 144, 67)]) {X : AH} {s0 : Nat} {x0 : Nat} (hf : fX0_guarded_b144 X s0 x0 = some (r, Xf)) : ∀ (H : Heap) (locs : List Loc) (ls : Array Slot) (cells slots : Nat), cells + 0 ≤ 3 → slots + 0 ≤ 54 → xR D cA A Zs X H → va_S A s.heap H locs → lv_has ls 8 [(0, .ref x0)] → W p l e rmX0_guarded s m args below meth c H locs cells slots (MQ below (xQi D cA A Zs r Xf) args s 3 54 A) (F0 m 144 ls [.ref s0]) := by
  intro H locs ls cells slots hc hs hR hS hl
  refine lv_astore (lv' := [(5, .ref s0), (0, .ref x0)]) E.hx E.hb dX0_guarded_144 hl (by decide) rfl (fun ls hl => ?_)
  refine lv_aload_n E.hx E.hb dX0_guarded_146 rfl (lv_at hl 1 rfl) ?_
  refine lv_aload E.hx E.hb dX0_guarded_147 (lv_at hl 0 rfl) ?_
  obtain ⟨u1, hu1, hf⟩ := bd_e hf
  obtain ⟨⟨v3, X2⟩, hv3, hf⟩ := bd_e hf
  refine xrun_i (va_runV (As := [.ref s0]) (rest := []) E.1 (tX0_found l hv3) (cwX0_101 E.ht ⟨Nat.le_of_ble_eq_true rfl, Nat.le_of_ble_eq_true rfl⟩) (xPreV (ci := 0) E hR hS rfl (ck_e hu1)) rfl rfl hl.1 rfl (lv_room (Nat.le_of_ble_eq_true rfl)) dX0_guarded_149 ⟨Nat.le_trans (by omega) (Nat.le_refl 3), Nat.le_trans (by omega) (Nat.le_refl 54)⟩) hS (fun H locs hR hS => ?_)
  obtain ⟨rfl, rfl⟩ := rt_e hf
  exact xret_i E (by omega) (by omega) hR hS dX0_guarded_152
def fX0_guarded  (X : AH) (x0 : Nat) (x1 : Int32) (x2 : Int32) (x3 : Int32) (x4 : Int32) : Option (Int32 × AH) :=
  (ck X x0 0).bind fun _ =>
  (fX0_isChair X x0 x1).bind fun (v3, X2) =>
  if v3 = 0 then (some ((-1000001), X2)) else ((fX0_isRow x2).bind fun v5 =>
  if v5 = 0 then (some ((-1000001), X2)) else ((fX0_isTold x4).bind fun v7 =>
  if v7 = 0 then (some ((-1000001), X2)) else ((ck X2 x0 0).bind fun _ =>
  (fX0_rowAt X2 x0 x2).bind fun (o9, X10) => match o9 with
    | .inl v11 => ((ck X10 v11 11).bind fun _ =>
  (fX11_row X10 v11 x3 x4).bind fun (o13, X14) => match o13 with
    | .inl v15 => ((ck X14 x0 0).bind fun _ =>
  (fX0_tried X14 x0).bind fun (v19, X18) =>
  (ck X18 x0 0).bind fun _ =>
  (fX0_isSeen X18 x0 x1 v15).bind fun (v22, X21) =>
  if v22 = 0 then (fX0_guarded_L65 2000 X21 x0 x1 v15 0 0) else (fX0_guarded_L65 2000 X21 x0 x1 v15 64 0))
    | .inr y16 => ((ck X14 y16 10).bind fun _ =>
  fX0_guarded_b144 X14 y16 x0))
    | .inr y12 => ((ck X10 y12 10).bind fun _ =>
  fX0_guarded_b144 X10 y12 x0))))
theorem wX0_guarded_0 (E : xE p m c cX0_guarded 8 s args RX0 D cA A Zs meth (some .int)) (ht : c.exceptionTable.toList.map (fun h => (h.startPc, h.endPc, h.handlerPc, h.catchType)) = [(26, 143, 144, 67)]) {X : AH} {x0 : Nat} {x1 : Int32} {x2 : Int32} {x3 : Int32} {x4 : Int32} (hf : fX0_guarded X x0 x1 x2 x3 x4 = some (r, Xf)) : ∀ (H : Heap) (locs : List Loc) (ls : Array Slot) (cells slots : Nat), cells + 3 ≤ 3 → slots + 54 ≤ 54 → xR D cA A Zs X H → va_S A s.heap H locs → lv_has ls 8 [(0, .ref x0), (1, .int x1), (2, .int x2), (3, .int x3), (4, .int x4)] → W p l e rmX0_guarded s m args below meth c H locs cells slots (MQ below (xQi D cA A Zs r Xf) args s 3 54 A) (F0 m 0 ls []) := by
  intro H locs ls cells slots hc hs hR hS hl
  refine lv_aload_n E.hx E.hb dX0_guarded_0 rfl (lv_at hl 0 rfl) ?_
  refine lv_iload_n E.hx E.hb dX0_guarded_1 rfl (lv_at hl 1 rfl) ?_
  obtain ⟨u1, hu1, hf⟩ := bd_e hf
  obtain ⟨⟨v3, X2⟩, hv3, hf⟩ := bd_e hf
  refine xrun_i (va_runV (As := [.int x1]) (rest := []) E.1 (tX0_isChair l hv3) (cwX0_196 E.ht ⟨Nat.le_of_ble_eq_true rfl, Nat.le_of_ble_eq_true rfl⟩) (xPreV (ci := 0) E hR hS rfl (ck_e hu1)) rfl rfl hl.1 rfl (lv_room (Nat.le_of_ble_eq_true rfl)) dX0_guarded_2 ⟨Nat.le_trans (by omega) (Nat.le_refl 3), Nat.le_trans (by omega) (Nat.le_refl 54)⟩) hS (fun H locs hR hS => ?_)
  refine lv_if_eq (tgt := 23) E.hx E.hb dX0_guarded_5 (by decide) (fun c4 => ?_) (fun c4 => ?_)
  · have hf := it_t hf c4
    refine lv_ldc (v := (-1000001)) E.hx E.hb E.ho (E.ht _ q319) dX0_guarded_23 ?_
    obtain ⟨rfl, rfl⟩ := rt_e hf
    exact xret_i E (by omega) (by omega) hR hS dX0_guarded_25
  · have hf := it_f hf c4
    refine lv_iload_n E.hx E.hb dX0_guarded_8 rfl (lv_at hl 2 rfl) ?_
    obtain ⟨v5, hv5, hf⟩ := bd_e hf
    refine scall_i (rest := []) E.1 (tX0_isRow l hv5) (cwX0_87 E.ht ⟨Nat.le_of_ble_eq_true rfl, Nat.le_of_ble_eq_true rfl⟩) rfl hl.1 rfl (Nat.le_of_ble_eq_true rfl) dX0_guarded_9 ⟨Nat.le_trans (by omega) (Nat.le_refl 3), Nat.le_trans (by omega) (Nat.le_refl 54)⟩ ?_
    refine lv_if_eq (tgt := 23) E.hx E.hb dX0_guarded_12 (by decide) (fun c6 => ?_) (fun c6 => ?_)
    · have hf := it_t hf c6
      refine lv_ldc (v := (-1000001)) E.hx E.hb E.ho (E.ht _ q319) dX0_guarded_23 ?_
      obtain ⟨rfl, rfl⟩ := rt_e hf
      exact xret_i E (by omega) (by omega) hR hS dX0_guarded_25
    · have hf := it_f hf c6
      refine lv_iload E.hx E.hb dX0_guarded_15 (lv_at hl 4 rfl) ?_
      obtain ⟨v7, hv7, hf⟩ := bd_e hf
      refine scall_i (rest := []) E.1 (tX0_isTold l hv7) (cwX0_323 E.ht ⟨Nat.le_of_ble_eq_true rfl, Nat.le_of_ble_eq_true rfl⟩) rfl hl.1 rfl (Nat.le_of_ble_eq_true rfl) dX0_guarded_17 ⟨Nat.le_trans (by omega) (Nat.le_refl 3), Nat.le_trans (by omega) (Nat.le_refl 54)⟩ ?_
      refine lv_if_ne (tgt := 26) E.hx E.hb dX0_guarded_20 (by decide) (fun c8 => ?_) (fun c8 => ?_)
      · have hf := it_f hf c8
        refine lv_aload_n E.hx E.hb dX0_guarded_26 rfl (lv_at hl 0 rfl) ?_
        refine lv_iload_n E.hx E.hb dX0_guarded_27 rfl (lv_at hl 2 rfl) ?_
        obtain ⟨u26, hu26, hf⟩ := bd_e hf
        obtain ⟨⟨o9, X10⟩, ho9, hf⟩ := bd_e hf
        cases o9 with
        | inl v11 =>
          refine xrunT_r (runVT (As := [.int x2]) (rest := []) E.1 (tX0_rowAt l ho9) (cwX0_105 E.ht ⟨Nat.le_of_ble_eq_true rfl, Nat.le_of_ble_eq_true rfl⟩) (xPreV (ci := 0) E hR hS rfl (ck_e hu26)) rfl rfl hl.1 rfl (lv_room (Nat.le_of_ble_eq_true rfl)) dX0_guarded_28 ⟨Nat.le_trans (by omega) (Nat.le_refl 3), Nat.le_trans (by omega) (Nat.le_refl 54)⟩) hS (fun H locs hR hS => ?_)
          refine lv_iload_n E.hx E.hb dX0_guarded_31 rfl (lv_at hl 3 rfl) ?_
          refine lv_iload E.hx E.hb dX0_guarded_32 (lv_at hl 4 rfl) ?_
          obtain ⟨u24, hu24, hf⟩ := bd_e hf
          obtain ⟨⟨o13, X14⟩, ho13, hf⟩ := bd_e hf
          cases o13 with
          | inl v15 =>
            refine xrunT_r (runVT (As := [.int x3, .int x4]) (rest := []) E.1 (tX11_row l ho13) (cwX0_284 E.ht ⟨Nat.le_of_ble_eq_true rfl, Nat.le_of_ble_eq_true rfl⟩) (xPreV (ci := 11) E hR hS rfl (ck_e hu24)) rfl rfl hl.1 rfl (lv_room (Nat.le_of_ble_eq_true rfl)) dX0_guarded_34 ⟨Nat.le_trans (by omega) (Nat.le_refl 3), Nat.le_trans (by omega) (Nat.le_refl 54)⟩) hS (fun H locs hR hS => ?_)
            refine lv_astore (lv' := [(5, .ref v15), (0, .ref x0), (1, .int x1), (2, .int x2), (3, .int x3), (4, .int x4)]) E.hx E.hb dX0_guarded_37 hl (by decide) rfl (fun ls hl => ?_)
            refine lv_aload_n E.hx E.hb dX0_guarded_39 rfl (lv_at hl 1 rfl) ?_
            obtain ⟨u17, hu17, hf⟩ := bd_e hf
            obtain ⟨⟨v19, X18⟩, hv19, hf⟩ := bd_e hf
            refine xrun_r (va_runV (As := []) (rest := []) E.1 (tX0_tried l hv19) (cwX0_254 E.ht ⟨Nat.le_of_ble_eq_true rfl, Nat.le_of_ble_eq_true rfl⟩) (xPreV (ci := 0) E hR hS rfl (ck_e hu17)) rfl rfl hl.1 rfl (lv_room (Nat.le_of_ble_eq_true rfl)) dX0_guarded_40 ⟨Nat.le_trans (by omega) (Nat.le_refl 3), Nat.le_trans (by omega) (Nat.le_refl 54)⟩) hS (fun H locs hR hS => ?_)
            refine lv_pop E.hx E.hb dX0_guarded_43 rfl ?_
            refine lv_aload_n E.hx E.hb dX0_guarded_44 rfl (lv_at hl 1 rfl) ?_
            refine lv_iload_n E.hx E.hb dX0_guarded_45 rfl (lv_at hl 2 rfl) ?_
            refine lv_aload E.hx E.hb dX0_guarded_46 (lv_at hl 0 rfl) ?_
            obtain ⟨u20, hu20, hf⟩ := bd_e hf
            obtain ⟨⟨v22, X21⟩, hv22, hf⟩ := bd_e hf
            refine xrun_i (va_runV (As := [.int x1, .ref v15]) (rest := []) E.1 (tX0_isSeen l hv22) (cwX0_330 E.ht ⟨Nat.le_of_ble_eq_true rfl, Nat.le_of_ble_eq_true rfl⟩) (xPreV (ci := 0) E hR hS rfl (ck_e hu20)) rfl rfl hl.1 rfl (lv_room (Nat.le_of_ble_eq_true rfl)) dX0_guarded_48 ⟨Nat.le_trans (by omega) (Nat.le_refl 3), Nat.le_trans (by omega) (Nat.le_refl 54)⟩) hS (fun H locs hR hS => ?_)
            refine lv_if_eq (tgt := 59) E.hx E.hb dX0_guarded_51 (by decide) (fun c23 => ?_) (fun c23 => ?_)
            · have hf := it_t hf c23
              refine lv_iconst (v := 0) E.hx E.hb dX0_guarded_59 (by decide) ?_
              refine lv_istore (lv' := [(6, .int 0), (5, .ref v15), (0, .ref x0), (1, .int x1), (2, .int x2), (3, .int x3), (4, .int x4)]) E.hx E.hb dX0_guarded_60 hl (by decide) rfl (fun ls hl => ?_)
              refine lv_iconst (v := 0) E.hx E.hb dX0_guarded_62 (by decide) ?_
              refine lv_istore (lv' := [(7, .int 0), (6, .int 0), (5, .ref v15), (0, .ref x0), (1, .int x1), (2, .int x2), (3, .int x3), (4, .int x4)]) E.hx E.hb dX0_guarded_63 hl (by decide) rfl (fun ls hl => ?_)
              exact wX0_guarded_L65 E ht  2000 X21 _ _ _ _ _ hf _ _ _ _ _ (by omega) (by omega) hR hS (lv_sub hl [3, 4, 2, 1, 0] rfl)
            · have hf := it_f hf c23
              refine lv_bipush (v := 64) E.hx E.hb dX0_guarded_54 (by decide) ?_
              refine lv_goto (tgt := 60) E.hx E.hb dX0_guarded_56 (by decide) ?_
              refine lv_istore (lv' := [(6, .int 64), (5, .ref v15), (0, .ref x0), (1, .int x1), (2, .int x2), (3, .int x3), (4, .int x4)]) E.hx E.hb dX0_guarded_60 hl (by decide) rfl (fun ls hl => ?_)
              refine lv_iconst (v := 0) E.hx E.hb dX0_guarded_62 (by decide) ?_
              refine lv_istore (lv' := [(7, .int 0), (6, .int 64), (5, .ref v15), (0, .ref x0), (1, .int x1), (2, .int x2), (3, .int x3), (4, .int x4)]) E.hx E.hb dX0_guarded_63 hl (by decide) rfl (fun ls hl => ?_)
              exact wX0_guarded_L65 E ht  2000 X21 _ _ _ _ _ hf _ _ _ _ _ (by omega) (by omega) hR hS (lv_sub hl [3, 4, 2, 1, 0] rfl)
          | inr y16 =>
            obtain ⟨u25, hu25, hf⟩ := bd_e hf
            refine xrunT_catch (hp := []) (q := (26, 143, 144, 67)) (hr' := []) (ci := 10) (name := "ChairRanks$Finding") E ht rfl (by decide) (by decide) (by decide) q310 rfl (E.2.1.2.1 ("ChairRanks$Finding", "ChairRanks$Finding") (by decide +kernel)) (ck_e hu25) (runVT (As := [.int x3, .int x4]) (rest := []) E.1 (tX11_row l ho13) (cwX0_284 E.ht ⟨Nat.le_of_ble_eq_true rfl, Nat.le_of_ble_eq_true rfl⟩) (xPreV (ci := 11) E hR hS rfl (ck_e hu24)) rfl rfl hl.1 rfl (lv_room (Nat.le_of_ble_eq_true rfl)) dX0_guarded_34 ⟨Nat.le_trans (by omega) (Nat.le_refl 3), Nat.le_trans (by omega) (Nat.le_refl 54)⟩) rfl hS (fun H locs hR hS => ?_)
            exact wX0_guarded_b144 E ht  hf _ _ _ _ _ (by omega) (by omega) hR hS (lv_sub hl [0] rfl)
        | inr y12 =>
          obtain ⟨u27, hu27, hf⟩ := bd_e hf
          refine xrunT_catch (hp := []) (q := (26, 143, 144, 67)) (hr' := []) (ci := 10) (name := "ChairRanks$Finding") E ht rfl (by decide) (by decide) (by decide) q310 rfl (E.2.1.2.1 ("ChairRanks$Finding", "ChairRanks$Finding") (by decide +kernel)) (ck_e hu27) (runVT (As := [.int x2]) (rest := []) E.1 (tX0_rowAt l ho9) (cwX0_105 E.ht ⟨Nat.le_of_ble_eq_true rfl, Nat.le_of_ble_eq_true rfl⟩) (xPreV (ci := 0) E hR hS rfl (ck_e hu26)) rfl rfl hl.1 rfl (lv_room (Nat.le_of_ble_eq_true rfl)) dX0_guarded_28 ⟨Nat.le_trans (by omega) (Nat.le_refl 3), Nat.le_trans (by omega) (Nat.le_refl 54)⟩) rfl hS (fun H locs hR hS => ?_)
          exact wX0_guarded_b144 E ht  hf _ _ _ _ _ (by omega) (by omega) hR hS (lv_sub hl [0] rfl)
      · have hf := it_t hf c8
        refine lv_ldc (v := (-1000001)) E.hx E.hb E.ho (E.ht _ q319) dX0_guarded_23 ?_
        obtain ⟨rfl, rfl⟩ := rt_e hf
        exact xret_i E (by omega) (by omega) hR hS dX0_guarded_25
theorem tX0_guarded (l : Launch) {D : va_G} {cA : Nat → ClassId} {A : Nat → Prop} {Zs : XZ} {X Xf : AH} {x0 : Nat} {x1 : Int32} {x2 : Int32} {x3 : Int32} {x4 : Int32} {r : Int32} (hf : fX0_guarded X x0 x1 x2 x3 x4 = some (r, Xf)) : Met l yX0_guarded (wsW_ yX0_guarded cX0_guarded 8 (some .int) [(26, 143, 144, 67)]) rmX0_guarded (xPc D cA A Zs X [.ref x0, .int x1, .int x2, .int x3, .int x4]) (xQi D cA A Zs r Xf) 3 54 A := by
  refine Met.ofWH (cc := cX0_guarded) (maxL := 8) (ret := (some .int)) (by decide) rfl ?_
  intro p e s m args below meth c s₁ B hml ht hv
  obtain ⟨rfl, hR, hK⟩ := hv
  have hts := atoms_spec (ws := (wsW_ yX0_guarded cX0_guarded 8 (some .int) [(26, 143, 144, 67)])) B.pre
  rw [lg_entry_eq]
  exact wX0_guarded_0 (E := ⟨⟨B.exec, B.bytes, hml, findClass_of_methodNamed B.named, fun w h => hts w (List.mem_cons_of_mem _ h)⟩, hK, B.returns, B.notSynchronized⟩) ht hf _ _ _ 0 0 (Nat.le_of_ble_eq_true rfl) (Nat.le_of_ble_eq_true rfl) hR va_S.rf (lv_entry [.ref x0, .int x1, .int x2, .int x3, .int x4] (n := 8) (Nat.le_of_ble_eq_true rfl))
end
