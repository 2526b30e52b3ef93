set_option maxRecDepth 100000
section
variable {p : Program} {l : Launch} {e : Env} {R : Room} {s : State} {m : MethodId} {args : Array Value} {below : List Frame} {meth : Method} {c : Code} {H : Heap} {locs : List Loc} {cells slots : Nat} {Q : State → Prop} {cc : ByteArray} {pc nL : Nat} {ls : Array Slot} {rest : List Value} {D : va_G} {cA : Nat → ClassId} {A : Nat → Prop} {Zs : XZ} {X X' : AH} {ret : Option FieldType} {a : Nat}
theorem dfJ2 : ∀ j, j < 3 → defaultValue (tyJ2 j) = vp_V [.int 0, .null, .int 0] j := fun j hj => by
  match j, hj with
  | 0, _ => rfl
  | 1, _ => rfl
  | 2, _ => rfl
  | j + 3, h => exact absurd h (by omega)
theorem xpX1_12 {x : Nat} (E : xE p m c cc nL s args RX1 D cA A Zs meth ret) (hR : xR D cA A Zs X H) (hS : va_S A s.heap H locs) (h : pF X a 1 2 (.ref x) = some X') (hdg : decode cc pc = .ok (.putfield 12, 3)) (kk : ∀ (H : Heap) (locs : List Loc), xR D cA A Zs X' H → va_S A s.heap H locs → W p l e R s m args below meth c H locs cells slots Q (F0 m (pc + 3) ls rest)) : W p l e R s m args below meth c H locs cells slots Q (F0 m pc ls (.ref x :: .ref a :: rest)) :=
  xput (ci := 1) (k := 2) E hR hS in_X1 tyX1 tyX1_ok nmX1 rfl (by decide) q151 (fun _ h => h) rfl (ty := (.object "java/util/List")) rfl rfl rfl h hdg kk
theorem xpX1_18 {x : Nat} (E : xE p m c cc nL s args RX1 D cA A Zs meth ret) (hR : xR D cA A Zs X H) (hS : va_S A s.heap H locs) (hin : meth.name = "<init>") (h : pF X a 1 3 (.ref x) = some X') (hdg : decode cc pc = .ok (.putfield 18, 3)) (kk : ∀ (H : Heap) (locs : List Loc), xR D cA A Zs X' H → va_S A s.heap H locs → W p l e R s m args below meth c H locs cells slots Q (F0 m (pc + 3) ls rest)) : W p l e R s m args below meth c H locs cells slots Q (F0 m pc ls (.ref x :: .ref a :: rest)) :=
  xputF (ci := 1) (k := 3) E hR hS in_X1 tyX1 tyX1_ok nmX1 rfl (by decide) q154 (fun _ h => h) rfl hin rfl (ty := (.array .int)) rfl rfl rfl h hdg kk
theorem xpX1_22 {x : Nat} (E : xE p m c cc nL s args RX1 D cA A Zs meth ret) (hR : xR D cA A Zs X H) (hS : va_S A s.heap H locs) (hin : meth.name = "<init>") (h : pF X a 1 4 (.ref x) = some X') (hdg : decode cc pc = .ok (.putfield 22, 3)) (kk : ∀ (H : Heap) (locs : List Loc), xR D cA A Zs X' H → va_S A s.heap H locs → W p l e R s m args below meth c H locs cells slots Q (F0 m (pc + 3) ls rest)) : W p l e R s m args below meth c H locs cells slots Q (F0 m pc ls (.ref x :: .ref a :: rest)) :=
  xputF (ci := 1) (k := 4) E hR hS in_X1 tyX1 tyX1_ok nmX1 rfl (by decide) q158 (fun _ h => h) rfl hin rfl (ty := (.array .int)) rfl rfl rfl h hdg kk
theorem xpX1_25 {x : Nat} (E : xE p m c cc nL s args RX1 D cA A Zs meth ret) (hR : xR D cA A Zs X H) (hS : va_S A s.heap H locs) (hin : meth.name = "<init>") (h : pF X a 1 5 (.ref x) = some X') (hdg : decode cc pc = .ok (.putfield 25, 3)) (kk : ∀ (H : Heap) (locs : List Loc), xR D cA A Zs X' H → va_S A s.heap H locs → W p l e R s m args below meth c H locs cells slots Q (F0 m (pc + 3) ls rest)) : W p l e R s m args below meth c H locs cells slots Q (F0 m pc ls (.ref x :: .ref a :: rest)) :=
  xputF (ci := 1) (k := 5) E hR hS in_X1 tyX1 tyX1_ok nmX1 rfl (by decide) q161 (fun _ h => h) rfl hin rfl (ty := (.array .int)) rfl rfl rfl h hdg kk
theorem xpX1_28 {x : Nat} (E : xE p m c cc nL s args RX1 D cA A Zs meth ret) (hR : xR D cA A Zs X H) (hS : va_S A s.heap H locs) (hin : meth.name = "<init>") (h : pF X a 1 6 (.ref x) = some X') (hdg : decode cc pc = .ok (.putfield 28, 3)) (kk : ∀ (H : Heap) (locs : List Loc), xR D cA A Zs X' H → va_S A s.heap H locs → W p l e R s m args below meth c H locs cells slots Q (F0 m (pc + 3) ls rest)) : W p l e R s m args below meth c H locs cells slots Q (F0 m pc ls (.ref x :: .ref a :: rest)) :=
  xputF (ci := 1) (k := 6) E hR hS in_X1 tyX1 tyX1_ok nmX1 rfl (by decide) q164 (fun _ h => h) rfl hin rfl (ty := (.array .int)) rfl rfl rfl h hdg kk
theorem xpX1_31 {x : Nat} (E : xE p m c cc nL s args RX1 D cA A Zs meth ret) (hR : xR D cA A Zs X H) (hS : va_S A s.heap H locs) (hin : meth.name = "<init>") (h : pF X a 1 7 (.ref x) = some X') (hdg : decode cc pc = .ok (.putfield 31, 3)) (kk : ∀ (H : Heap) (locs : List Loc), xR D cA A Zs X' H → va_S A s.heap H locs → W p l e R s m args below meth c H locs cells slots Q (F0 m (pc + 3) ls rest)) : W p l e R s m args below meth c H locs cells slots Q (F0 m pc ls (.ref x :: .ref a :: rest)) :=
  xputF (ci := 1) (k := 7) E hR hS in_X1 tyX1 tyX1_ok nmX1 rfl (by decide) q167 (fun _ h => h) rfl hin rfl (ty := (.array .int)) rfl rfl rfl h hdg kk
theorem xpX1_34 {x : Nat} (E : xE p m c cc nL s args RX1 D cA A Zs meth ret) (hR : xR D cA A Zs X H) (hS : va_S A s.heap H locs) (hin : meth.name = "<init>") (h : pF X a 1 10 (.ref x) = some X') (hdg : decode cc pc = .ok (.putfield 34, 3)) (kk : ∀ (H : Heap) (locs : List Loc), xR D cA A Zs X' H → va_S A s.heap H locs → W p l e R s m args below meth c H locs cells slots Q (F0 m (pc + 3) ls rest)) : W p l e R s m args below meth c H locs cells slots Q (F0 m pc ls (.ref x :: .ref a :: rest)) :=
  xputF (ci := 1) (k := 10) E hR hS in_X1 tyX1 tyX1_ok nmX1 rfl (by decide) q173 (fun _ h => h) rfl hin rfl (ty := (.array .int)) rfl rfl rfl h hdg kk
theorem xpX1_38 {x : Int32} (E : xE p m c cc nL s args RX1 D cA A Zs meth ret) (hR : xR D cA A Zs X H) (hS : va_S A s.heap H locs) (h : pF X a 1 11 (.int x) = some X') (hdg : decode cc pc = .ok (.putfield 38, 3)) (kk : ∀ (H : Heap) (locs : List Loc), xR D cA A Zs X' H → va_S A s.heap H locs → W p l e R s m args below meth c H locs cells slots Q (F0 m (pc + 3) ls rest)) : W p l e R s m args below meth c H locs cells slots Q (F0 m pc ls (.int x :: .ref a :: rest)) :=
  xput (ci := 1) (k := 11) E hR hS in_X1 tyX1 tyX1_ok nmX1 rfl (by decide) q174 (fun _ h => h) rfl (ty := .int) rfl rfl rfl h hdg kk
theorem xgX1_12 {v : Nat} (E : xE p m c cc nL s args RX1 D cA A Zs meth ret) (hR : xR D cA A Zs X H) (h : gR X a 1 2 = some v) (hdg : decode cc pc = .ok (.getfield 12, 3)) (kk : W p l e R s m args below meth c H locs cells slots Q (F0 m (pc + 3) ls (.ref v :: rest))) : W p l e R s m args below meth c H locs cells slots Q (F0 m pc ls (.ref a :: rest)) :=
  xget (ci := 1) (k := 2) E hR in_X1 rfl (by decide) q151 (fun _ h => h) (gR_e h) hdg kk
theorem xgX1_38 {v : Int32} (E : xE p m c cc nL s args RX1 D cA A Zs meth ret) (hR : xR D cA A Zs X H) (h : gI X a 1 11 = some v) (hdg : decode cc pc = .ok (.getfield 38, 3)) (kk : W p l e R s m args below meth c H locs cells slots Q (F0 m (pc + 3) ls (.int v :: rest))) : W p l e R s m args below meth c H locs cells slots Q (F0 m pc ls (.ref a :: rest)) :=
  xget (ci := 1) (k := 11) E hR in_X1 rfl (by decide) q174 (fun _ h => h) (gI_e h) hdg kk
theorem xgX1_66 {v : Nat} (E : xE p m c cc nL s args RX1 D cA A Zs meth ret) (hR : xR D cA A Zs X H) (h : gR X a 1 12 = some v) (hdg : decode cc pc = .ok (.getfield 66, 3)) (kk : W p l e R s m args below meth c H locs cells slots Q (F0 m (pc + 3) ls (.ref v :: rest))) : W p l e R s m args below meth c H locs cells slots Q (F0 m pc ls (.ref a :: rest)) :=
  xget (ci := 1) (k := 12) E hR in_X1 rfl (by decide) q176 (fun _ h => h) (gR_e h) hdg kk
theorem xgX1_18 {v : Nat} (E : xE p m c cc nL s args RX1 D cA A Zs meth ret) (hR : xR D cA A Zs X H) (h : gR X a 1 3 = some v) (hdg : decode cc pc = .ok (.getfield 18, 3)) (kk : W p l e R s m args below meth c H locs cells slots Q (F0 m (pc + 3) ls (.ref v :: rest))) : W p l e R s m args below meth c H locs cells slots Q (F0 m pc ls (.ref a :: rest)) :=
  xget (ci := 1) (k := 3) E hR in_X1 rfl (by decide) q154 (fun _ h => h) (gR_e h) hdg kk
theorem xgX1_22 {v : Nat} (E : xE p m c cc nL s args RX1 D cA A Zs meth ret) (hR : xR D cA A Zs X H) (h : gR X a 1 4 = some v) (hdg : decode cc pc = .ok (.getfield 22, 3)) (kk : W p l e R s m args below meth c H locs cells slots Q (F0 m (pc + 3) ls (.ref v :: rest))) : W p l e R s m args below meth c H locs cells slots Q (F0 m pc ls (.ref a :: rest)) :=
  xget (ci := 1) (k := 4) E hR in_X1 rfl (by decide) q158 (fun _ h => h) (gR_e h) hdg kk
theorem xgX1_28 {v : Nat} (E : xE p m c cc nL s args RX1 D cA A Zs meth ret) (hR : xR D cA A Zs X H) (h : gR X a 1 6 = some v) (hdg : decode cc pc = .ok (.getfield 28, 3)) (kk : W p l e R s m args below meth c H locs cells slots Q (F0 m (pc + 3) ls (.ref v :: rest))) : W p l e R s m args below meth c H locs cells slots Q (F0 m pc ls (.ref a :: rest)) :=
  xget (ci := 1) (k := 6) E hR in_X1 rfl (by decide) q164 (fun _ h => h) (gR_e h) hdg kk
theorem xgX1_25 {v : Nat} (E : xE p m c cc nL s args RX1 D cA A Zs meth ret) (hR : xR D cA A Zs X H) (h : gR X a 1 5 = some v) (hdg : decode cc pc = .ok (.getfield 25, 3)) (kk : W p l e R s m args below meth c H locs cells slots Q (F0 m (pc + 3) ls (.ref v :: rest))) : W p l e R s m args below meth c H locs cells slots Q (F0 m pc ls (.ref a :: rest)) :=
  xget (ci := 1) (k := 5) E hR in_X1 rfl (by decide) q161 (fun _ h => h) (gR_e h) hdg kk
theorem xgX1_54 {v : Int32} (E : xE p m c cc nL s args RX1 D cA A Zs meth ret) (hR : xR D cA A Zs X H) (h : gI X a 1 8 = some v) (hdg : decode cc pc = .ok (.getfield 54, 3)) (kk : W p l e R s m args below meth c H locs cells slots Q (F0 m (pc + 3) ls (.int v :: rest))) : W p l e R s m args below meth c H locs cells slots Q (F0 m pc ls (.ref a :: rest)) :=
  xget (ci := 1) (k := 8) E hR in_X1 rfl (by decide) q169 (fun _ h => h) (gI_e h) hdg kk
theorem xgX1_31 {v : Nat} (E : xE p m c cc nL s args RX1 D cA A Zs meth ret) (hR : xR D cA A Zs X H) (h : gR X a 1 7 = some v) (hdg : decode cc pc = .ok (.getfield 31, 3)) (kk : W p l e R s m args below meth c H locs cells slots Q (F0 m (pc + 3) ls (.ref v :: rest))) : W p l e R s m args below meth c H locs cells slots Q (F0 m pc ls (.ref a :: rest)) :=
  xget (ci := 1) (k := 7) E hR in_X1 rfl (by decide) q167 (fun _ h => h) (gR_e h) hdg kk
theorem xgX1_34 {v : Nat} (E : xE p m c cc nL s args RX1 D cA A Zs meth ret) (hR : xR D cA A Zs X H) (h : gR X a 1 10 = some v) (hdg : decode cc pc = .ok (.getfield 34, 3)) (kk : W p l e R s m args below meth c H locs cells slots Q (F0 m (pc + 3) ls (.ref v :: rest))) : W p l e R s m args below meth c H locs cells slots Q (F0 m pc ls (.ref a :: rest)) :=
  xget (ci := 1) (k := 10) E hR in_X1 rfl (by decide) q173 (fun _ h => h) (gR_e h) hdg kk
theorem xgX1_57 {v : Int32} (E : xE p m c cc nL s args RX1 D cA A Zs meth ret) (hR : xR D cA A Zs X H) (h : gI X a 1 9 = some v) (hdg : decode cc pc = .ok (.getfield 57, 3)) (kk : W p l e R s m args below meth c H locs cells slots Q (F0 m (pc + 3) ls (.int v :: rest))) : W p l e R s m args below meth c H locs cells slots Q (F0 m pc ls (.ref a :: rest)) :=
  xget (ci := 1) (k := 9) E hR in_X1 rfl (by decide) q171 (fun _ h => h) (gI_e h) hdg kk
theorem xpX1_57 {x : Int32} (E : xE p m c cc nL s args RX1 D cA A Zs meth ret) (hR : xR D cA A Zs X H) (hS : va_S A s.heap H locs) (h : pF X a 1 9 (.int x) = some X') (hdg : decode cc pc = .ok (.putfield 57, 3)) (kk : ∀ (H : Heap) (locs : List Loc), xR D cA A Zs X' H → va_S A s.heap H locs → W p l e R s m args below meth c H locs cells slots Q (F0 m (pc + 3) ls rest)) : W p l e R s m args below meth c H locs cells slots Q (F0 m pc ls (.int x :: .ref a :: rest)) :=
  xput (ci := 1) (k := 9) E hR hS in_X1 tyX1 tyX1_ok nmX1 rfl (by decide) q171 (fun _ h => h) rfl (ty := .int) rfl rfl rfl h hdg kk
theorem xgX1_45 {v : Int32} (E : xE p m c cc nL s args RX1 D cA A Zs meth ret) (hR : xR D cA A Zs X H) (h : gI X a 1 1 = some v) (hdg : decode cc pc = .ok (.getfield 45, 3)) (kk : W p l e R s m args below meth c H locs cells slots Q (F0 m (pc + 3) ls (.int v :: rest))) : W p l e R s m args below meth c H locs cells slots Q (F0 m pc ls (.ref a :: rest)) :=
  xget (ci := 1) (k := 1) E hR in_X1 rfl (by decide) q148 (fun _ h => h) (gI_e h) hdg kk
theorem xgX1_42 {v : Int32} (E : xE p m c cc nL s args RX1 D cA A Zs meth ret) (hR : xR D cA A Zs X H) (h : gI X a 1 0 = some v) (hdg : decode cc pc = .ok (.getfield 42, 3)) (kk : W p l e R s m args below meth c H locs cells slots Q (F0 m (pc + 3) ls (.int v :: rest))) : W p l e R s m args below meth c H locs cells slots Q (F0 m pc ls (.ref a :: rest)) :=
  xget (ci := 1) (k := 0) E hR in_X1 rfl (by decide) q145 (fun _ h => h) (gI_e h) hdg kk
theorem xpX1_42 {x : Int32} (E : xE p m c cc nL s args RX1 D cA A Zs meth ret) (hR : xR D cA A Zs X H) (hS : va_S A s.heap H locs) (h : pF X a 1 0 (.int x) = some X') (hdg : decode cc pc = .ok (.putfield 42, 3)) (kk : ∀ (H : Heap) (locs : List Loc), xR D cA A Zs X' H → va_S A s.heap H locs → W p l e R s m args below meth c H locs cells slots Q (F0 m (pc + 3) ls rest)) : W p l e R s m args below meth c H locs cells slots Q (F0 m pc ls (.int x :: .ref a :: rest)) :=
  xput (ci := 1) (k := 0) E hR hS in_X1 tyX1 tyX1_ok nmX1 rfl (by decide) q145 (fun _ h => h) rfl (ty := .int) rfl rfl rfl h hdg kk
theorem xpX1_45 {x : Int32} (E : xE p m c cc nL s args RX1 D cA A Zs meth ret) (hR : xR D cA A Zs X H) (hS : va_S A s.heap H locs) (h : pF X a 1 1 (.int x) = some X') (hdg : decode cc pc = .ok (.putfield 45, 3)) (kk : ∀ (H : Heap) (locs : List Loc), xR D cA A Zs X' H → va_S A s.heap H locs → W p l e R s m args below meth c H locs cells slots Q (F0 m (pc + 3) ls rest)) : W p l e R s m args below meth c H locs cells slots Q (F0 m pc ls (.int x :: .ref a :: rest)) :=
  xput (ci := 1) (k := 1) E hR hS in_X1 tyX1 tyX1_ok nmX1 rfl (by decide) q148 (fun _ h => h) rfl (ty := .int) rfl rfl rfl h hdg kk
theorem xpX1_54 {x : Int32} (E : xE p m c cc nL s args RX1 D cA A Zs meth ret) (hR : xR D cA A Zs X H) (hS : va_S A s.heap H locs) (h : pF X a 1 8 (.int x) = some X') (hdg : decode cc pc = .ok (.putfield 54, 3)) (kk : ∀ (H : Heap) (locs : List Loc), xR D cA A Zs X' H → va_S A s.heap H locs → W p l e R s m args below meth c H locs cells slots Q (F0 m (pc + 3) ls rest)) : W p l e R s m args below meth c H locs cells slots Q (F0 m pc ls (.int x :: .ref a :: rest)) :=
  xput (ci := 1) (k := 8) E hR hS in_X1 tyX1 tyX1_ok nmX1 rfl (by decide) q169 (fun _ h => h) rfl (ty := .int) rfl rfl rfl h hdg kk
end
abbrev rmX1_init : Room := { frames := 4, cells := 7, slots := 39, locals := 72 }
theorem cwX1_11 {R : Room} {s : State} {args : Array Value} (ht : ∀ w ∈ lw_all, w.before args s = true) (hR : rmJ2_init.frames + 1 ≤ R.frames ∧ 8 + (1 + 11) + rmJ2_init.locals ≤ R.locals) : CallB R s args RX1 11 yJ2_init cJ2_init 1 none (ws_ yJ2_init cJ2_init 1 none) rmJ2_init 0 0 0 ∧ yJ2_init.name = "<init>" ∧ (Cond.instanceMethod yJ2_init).before args s = true :=
  cwI 0 ht (lw_meth q121) rfl rfl rfl (ht _ q72) (ht _ q119) (ht _ q120) rfl (by decide +kernel) hR
section
variable {p : Program} {l : Launch} {e : Env} {s : State} {m : MethodId} {args : Array Value} {below : List Frame} {meth : Method} {c : Code} {D : va_G} {cA : Nat → ClassId} {A : Nat → Prop} {Zs : XZ} {Xf : AH} {r : Int32} {rl : Int64} {ra : Nat} {tv : Unit ⊕ Nat} {ti : Int32 ⊕ Nat} {tr : Nat ⊕ Nat} {q2 : Option Nat}
def fX1_init  (X : AH) (x0 : Nat) : Option AH :=
  (some (xnw X (.inl (9, [.int 0, .null, .int 0])))).bind fun X1 =>
  (fJ2_init X1 X.1).bind fun X2 =>
  (pF X2 x0 1 2 (.ref X.1)).bind fun X4 =>
  (some (xnw X4 (.inr (.inl (0, 6, fun _ => 0))))).bind fun X5 =>
  (pF X5 x0 1 3 (.ref X4.1)).bind fun X6 =>
  (some (xnw X6 (.inr (.inl (0, 6, fun _ => 0))))).bind fun X7 =>
  (pF X7 x0 1 4 (.ref X6.1)).bind fun X8 =>
  (some (xnw X8 (.inr (.inl (0, 6, fun _ => 0))))).bind fun X9 =>
  (pF X9 x0 1 5 (.ref X8.1)).bind fun X10 =>
  (some (xnw X10 (.inr (.inl (0, 6, fun _ => 0))))).bind fun X11 =>
  (pF X11 x0 1 6 (.ref X10.1)).bind fun X12 =>
  (some (xnw X12 (.inr (.inl (0, 6, fun _ => 0))))).bind fun X13 =>
  (pF X13 x0 1 7 (.ref X12.1)).bind fun X14 =>
  (some (xnw X14 (.inr (.inl (0, 6, fun _ => 0))))).bind fun X15 =>
  (pF X15 x0 1 10 (.ref X14.1)).bind fun X16 =>
  (pF X16 x0 1 11 (.int (-1000000))).bind fun X17 =>
  some X17
theorem wX1_init_0 (E : xE p m c cX1_init 1 s args RX1 D cA A Zs meth none) (hin : meth.name = "<init>") {X : AH} {x0 : Nat} (hf : fX1_init X x0 = some Xf) : ∀ (H : Heap) (locs : List Loc) (ls : Array Slot) (cells slots : Nat), cells + 7 ≤ 7 → slots + 39 ≤ 39 → xR D cA A Zs X H → va_S A s.heap H locs → lv_has ls 1 [(0, .ref x0)] → W p l e rmX1_init s m args below meth c H locs cells slots (MQ below (xQv D cA A Zs Xf) args s 7 39 A) (F0 m 0 ls []) := by
  intro H locs ls cells slots hc hs hR hS hl
  refine lv_aload_n E.hx E.hb dX1_init_0 rfl (lv_at hl 0 rfl) ?_
  refine W.objInit E.hx E.hb E.ho (E.ht _ q116) (E.ht _ q107) (E.ht _ q108) rfl (by rw [E.1.2.2.1]; exact hl.1) rfl dX1_init_1 (Nat.le_of_ble_eq_true rfl) (Nat.le_of_ble_eq_true rfl) ?_
  refine W.eq (g2 := F0 m 4 ls []) rfl ?_
  refine lv_aload_n E.hx E.hb dX1_init_4 rfl (lv_at hl 0 rfl) ?_
  obtain ⟨X1, hX1, hf⟩ := bd_e hf
  refine xnew (ci := 9) E hR hS in_J2 tyJ2 tyJ2_ok q117 q118 q72 rfl dfJ2 (Nat.le_trans (by omega) (Nat.le_refl 7)) (Nat.le_trans (by omega) (Nat.le_refl 39)) dX1_init_5 (fun H hR hS => ?_)
  rw [Option.some.inj hX1] at hR
  refine lv_dup E.hx E.hb dX1_init_8 rfl ?_
  obtain ⟨X2, hX2, hf⟩ := bd_e hf
  refine xrun_v (va_runI (As := []) (rest := [.ref X.1, .ref x0]) E.1 (tJ2_init l hX2) (cwX1_11 E.ht ⟨Nat.le_of_ble_eq_true rfl, Nat.le_of_ble_eq_true rfl⟩) (xPreS E hR hS) rfl rfl hl.1 rfl (lv_room (Nat.le_of_ble_eq_true rfl)) dX1_init_9 ⟨Nat.le_trans (by omega) (Nat.le_refl 7), Nat.le_trans (by omega) (Nat.le_refl 39)⟩) hS (fun H locs hR hS => ?_)
  obtain ⟨X4, hX4, hf⟩ := bd_e hf
  refine xpX1_12 E hR hS hX4 dX1_init_12 (fun H locs hR hS => ?_)
  refine lv_aload_n E.hx E.hb dX1_init_15 rfl (lv_at hl 0 rfl) ?_
  refine lv_bipush (v := 6) E.hx E.hb dX1_init_16 (by decide) ?_
  obtain ⟨X5, hX5, hf⟩ := bd_e hf
  refine xnewa (N' := 6) E hR hS (by decide) (by decide) (by decide) (Nat.le_trans (by omega) (Nat.le_refl 7)) (Nat.le_trans (by omega) (Nat.le_refl 39)) q205 dX1_init_18 (fun H hR hS => ?_)
  rw [Option.some.inj hX5] at hR
  obtain ⟨X6, hX6, hf⟩ := bd_e hf
  refine xpX1_18 E hR hS hin hX6 dX1_init_20 (fun H locs hR hS => ?_)
  refine lv_aload_n E.hx E.hb dX1_init_23 rfl (lv_at hl 0 rfl) ?_
  refine lv_bipush (v := 6) E.hx E.hb dX1_init_24 (by decide) ?_
  obtain ⟨X7, hX7, hf⟩ := bd_e hf
  refine xnewa (N' := 6) E hR hS (by decide) (by decide) (by decide) (Nat.le_trans (by omega) (Nat.le_refl 7)) (Nat.le_trans (by omega) (Nat.le_refl 39)) q205 dX1_init_26 (fun H hR hS => ?_)
  rw [Option.some.inj hX7] at hR
  obtain ⟨X8, hX8, hf⟩ := bd_e hf
  refine xpX1_22 E hR hS hin hX8 dX1_init_28 (fun H locs hR hS => ?_)
  refine lv_aload_n E.hx E.hb dX1_init_31 rfl (lv_at hl 0 rfl) ?_
  refine lv_bipush (v := 6) E.hx E.hb dX1_init_32 (by decide) ?_
  obtain ⟨X9, hX9, hf⟩ := bd_e hf
  refine xnewa (N' := 6) E hR hS (by decide) (by decide) (by decide) (Nat.le_trans (by omega) (Nat.le_refl 7)) (Nat.le_trans (by omega) (Nat.le_refl 39)) q205 dX1_init_34 (fun H hR hS => ?_)
  rw [Option.some.inj hX9] at hR
  obtain ⟨X10, hX10, hf⟩ := bd_e hf
  refine xpX1_25 E hR hS hin hX10 dX1_init_36 (fun H locs hR hS => ?_)
  refine lv_aload_n E.hx E.hb dX1_init_39 rfl (lv_at hl 0 rfl) ?_
  refine lv_bipush (v := 6) E.hx E.hb dX1_init_40 (by decide) ?_
  obtain ⟨X11, hX11, hf⟩ := bd_e hf
  refine xnewa (N' := 6) E hR hS (by decide) (by decide) (by decide) (Nat.le_trans (by omega) (Nat.le_refl 7)) (Nat.le_trans (by omega) (Nat.le_refl 39)) q205 dX1_init_42 (fun H hR hS => ?_)
  rw [Option.some.inj hX11] at hR
  obtain ⟨X12, hX12, hf⟩ := bd_e hf
  refine xpX1_28 E hR hS hin hX12 dX1_init_44 (fun H locs hR hS => ?_)
  refine lv_aload_n E.hx E.hb dX1_init_47 rfl (lv_at hl 0 rfl) ?_
  refine lv_bipush (v := 6) E.hx E.hb dX1_init_48 (by decide) ?_
  obtain ⟨X13, hX13, hf⟩ := bd_e hf
  refine xnewa (N' := 6) E hR hS (by decide) (by decide) (by decide) (Nat.le_trans (by omega) (Nat.le_refl 7)) (Nat.le_trans (by omega) (Nat.le_refl 39)) q205 dX1_init_50 (fun H hR hS => ?_)
  rw [Option.some.inj hX13] at hR
  obtain ⟨X14, hX14, hf⟩ := bd_e hf
  refine xpX1_31 E hR hS hin hX14 dX1_init_52 (fun H locs hR hS => ?_)
  refine lv_aload_n E.hx E.hb dX1_init_55 rfl (lv_at hl 0 rfl) ?_
  refine lv_bipush (v := 6) E.hx E.hb dX1_init_56 (by decide) ?_
  obtain ⟨X15, hX15, hf⟩ := bd_e hf
  refine xnewa (N' := 6) E hR hS (by decide) (by decide) (by decide) (Nat.le_trans (by omega) (Nat.le_refl 7)) (Nat.le_trans (by omega) (Nat.le_refl 39)) q205 dX1_init_58 (fun H hR hS => ?_)
  rw [Option.some.inj hX15] at hR
  obtain ⟨X16, hX16, hf⟩ := bd_e hf
  refine xpX1_34 E hR hS hin hX16 dX1_init_60 (fun H locs hR hS => ?_)
  refine lv_aload_n E.hx E.hb dX1_init_63 rfl (lv_at hl 0 rfl) ?_
  refine lv_ldc (v := (-1000000)) E.hx E.hb E.ho (E.ht _ q144) dX1_init_64 ?_
  obtain ⟨X17, hX17, hf⟩ := bd_e hf
  refine xpX1_38 E hR hS hX17 dX1_init_66 (fun H locs hR hS => ?_)
  obtain rfl := Option.some.inj hf
  exact xret_v E (by omega) (by omega) hR hS dX1_init_69
theorem tX1_init (l : Launch) {D : va_G} {cA : Nat → ClassId} {A : Nat → Prop} {Zs : XZ} {X Xf : AH} {x0 : Nat}  (hf : fX1_init X x0 = some Xf) : Met l yX1_init (ws_ yX1_init cX1_init 1 none) rmX1_init (xPc D cA A Zs X [.ref x0]) (xQv D cA A Zs Xf) 7 39 A := by
  refine Met.ofW (cc := cX1_init) (maxL := 1) (ret := none) (by decide) rfl ?_
  intro p e s m args below meth c s₁ B hml hv
  obtain ⟨rfl, hR, hK⟩ := hv
  have hts := atoms_spec (ws := (ws_ yX1_init cX1_init 1 none)) B.pre
  rw [lg_entry_eq]
  exact wX1_init_0 (E := ⟨⟨B.exec, B.bytes, hml, findClass_of_methodNamed B.named, fun w h => hts w (List.mem_cons_of_mem _ h)⟩, hK, B.returns, B.notSynchronized⟩) (name_of_methodNamed B.named B.method).1 hf _ _ _ 0 0 (Nat.le_of_ble_eq_true rfl) (Nat.le_of_ble_eq_true rfl) hR va_S.rf (lv_entry [.ref x0] (n := 1) (Nat.le_of_ble_eq_true rfl))
end
abbrev rmX1_many : Room := { frames := 2, cells := 0, slots := 0, locals := 32 }
theorem cwX1_60_J2 {R : Room} {s : State} {args : Array Value} (ht : ∀ w ∈ lw_all, w.before args s = true) (hF : va_Fw "java/util/ArrayList" ⟨"java/util/List", "size", "()I"⟩ ⟨"java/util/ArrayList", "size", "()I"⟩ s) (hR : rmJ2_size.frames + 1 ≤ R.frames ∧ 8 + (1 + 11) + rmJ2_size.locals ≤ R.locals) : va_CI R s args RX1 "java/util/ArrayList" 60 ⟨"java/util/List", "size", "()I"⟩ yJ2_size cJ2_size 1 (some .int) (ws_ yJ2_size cJ2_size 1 (some .int)) rmJ2_size 0 0 0 :=
  va_cwF (ws := (ws_ yJ2_size cJ2_size 1 (some .int))) 0 ht (xwsF q636 q640 q642 q72 (lw_meth q644)) rfl rfl rfl hF (by decide +kernel) hR
section
variable {p : Program} {l : Launch} {e : Env} {s : State} {m : MethodId} {args : Array Value} {below : List Frame} {meth : Method} {c : Code} {D : va_G} {cA : Nat → ClassId} {A : Nat → Prop} {Zs : XZ} {Xf : AH} {r : Int32} {rl : Int64} {ra : Nat} {tv : Unit ⊕ Nat} {ti : Int32 ⊕ Nat} {tr : Nat ⊕ Nat} {q2 : Option Nat}
def fX1_many  (X : AH) (x0 : Nat) : Option (Int32 × AH) :=
  (gR X x0 1 2).bind fun v1 =>
  (ck X v1 9).bind fun _ =>
  (fJ2_size X v1).bind fun (v4, X3) =>
  some (v4, X3)
theorem wX1_many_0 (E : xE p m c cX1_many 1 s args RX1 D cA A Zs meth (some .int)) {X : AH} {x0 : Nat} (hf : fX1_many X x0 = some (r, Xf)) : ∀ (H : Heap) (locs : List Loc) (ls : Array Slot) (cells slots : Nat), cells + 0 ≤ 0 → slots + 0 ≤ 0 → xR D cA A Zs X H → va_S A s.heap H locs → lv_has ls 1 [(0, .ref x0)] → W p l e rmX1_many s m args below meth c H locs cells slots (MQ below (xQi D cA A Zs r Xf) args s 0 0 A) (F0 m 0 ls []) := by
  intro H locs ls cells slots hc hs hR hS hl
  refine lv_aload_n E.hx E.hb dX1_many_0 rfl (lv_at hl 0 rfl) ?_
  obtain ⟨v1, hv1, hf⟩ := bd_e hf
  refine xgX1_12 E hR hv1 dX1_many_1 ?_
  obtain ⟨u2, hu2, hf⟩ := bd_e hf
  obtain ⟨⟨v4, X3⟩, hv4, hf⟩ := bd_e hf
  refine xrun5_i (va_runF (As := []) (rest := []) (xClassAt (ci := 9) E rfl) E.1 (tJ2_size l hv4) (cwX1_60_J2 E.ht (E.2.1.2.2.2.2.2.2.1 ("java/util/ArrayList", ⟨"java/util/List", "size", "()I"⟩, ⟨"java/util/ArrayList", "size", "()I"⟩) (by decide +kernel)) ⟨Nat.le_of_ble_eq_true rfl, Nat.le_of_ble_eq_true rfl⟩) (xPreV (ci := 9) E hR hS rfl (ck_e hu2)) rfl rfl hl.1 rfl (lv_room (Nat.le_of_ble_eq_true rfl)) dX1_many_4 ⟨Nat.le_trans (by omega) (Nat.le_refl 0), Nat.le_trans (by omega) (Nat.le_refl 0)⟩) hS (fun H locs hR hS => ?_)
  obtain ⟨rfl, rfl⟩ := rt_e hf
  exact xret_i E (by omega) (by omega) hR hS dX1_many_9
theorem tX1_many (l : Launch) {D : va_G} {cA : Nat → ClassId} {A : Nat → Prop} {Zs : XZ} {X Xf : AH} {x0 : Nat} {r : Int32} (hf : fX1_many X x0 = some (r, Xf)) : Met l yX1_many (ws_ yX1_many cX1_many 1 (some .int)) rmX1_many (xPc D cA A Zs X [.ref x0]) (xQi D cA A Zs r Xf) 0 0 A := by
  refine Met.ofW (cc := cX1_many) (maxL := 1) (ret := (some .int)) (by decide) rfl ?_
  intro p e s m args below meth c s₁ B hml hv
  obtain ⟨rfl, hR, hK⟩ := hv
  have hts := atoms_spec (ws := (ws_ yX1_many cX1_many 1 (some .int))) B.pre
  rw [lg_entry_eq]
  exact wX1_many_0 (E := ⟨⟨B.exec, B.bytes, hml, findClass_of_methodNamed B.named, fun w h => hts w (List.mem_cons_of_mem _ h)⟩, hK, B.returns, B.notSynchronized⟩) hf _ _ _ 0 0 (Nat.le_of_ble_eq_true rfl) (Nat.le_of_ble_eq_true rfl) hR va_S.rf (lv_entry [.ref x0] (n := 1) (Nat.le_of_ble_eq_true rfl))
end
abbrev rmX1_chair : Room := { frames := 4, cells := 0, slots := 0, locals := 76 }
theorem cwX1_70_J2 {R : Room} {s : State} {args : Array Value} (ht : ∀ w ∈ lw_all, w.before args s = true) (hF : va_Fw "java/util/ArrayList" ⟨"java/util/List", "get", "(I)Ljava/lang/Object;"⟩ ⟨"java/util/ArrayList", "get", "(I)Ljava/lang/Object;"⟩ s) (hR : rmJ2_get.frames + 1 ≤ R.frames ∧ 8 + (2 + 11) + rmJ2_get.locals ≤ R.locals) : va_CI R s args RX1 "java/util/ArrayList" 70 ⟨"java/util/List", "get", "(I)Ljava/lang/Object;"⟩ yJ2_get cJ2_get 2 (some (.object "java/lang/Object")) (ws_ yJ2_get cJ2_get 2 (some (.object "java/lang/Object"))) rmJ2_get 0 0 1 :=
  va_cwF (ws := (ws_ yJ2_get cJ2_get 2 (some (.object "java/lang/Object")))) 1 ht (xwsF q777 q780 q782 q72 (lw_meth q784)) rfl rfl rfl hF (by decide +kernel) hR
section
variable {p : Program} {l : Launch} {e : Env} {s : State} {m : MethodId} {args : Array Value} {below : List Frame} {meth : Method} {c : Code} {D : va_G} {cA : Nat → ClassId} {A : Nat → Prop} {Zs : XZ} {Xf : AH} {r : Int32} {rl : Int64} {ra : Nat} {tv : Unit ⊕ Nat} {ti : Int32 ⊕ Nat} {tr : Nat ⊕ Nat} {q2 : Option Nat}
def fX1_chair  (X : AH) (x0 : Nat) (x1 : Int32) : Option (Nat × AH) :=
  (gI X x0 1 11).bind fun v1 =>
  if x1 = v1 then ((gR X x0 1 12).bind fun v8 =>
  some (v8, X)) else ((gR X x0 1 2).bind fun v3 =>
  (ck X v3 9).bind fun _ =>
  (fJ2_get X v3 x1).bind fun (v6, X5) =>
  (gCh X5 v6).bind fun v7 =>
  some (v6, X5))
theorem wX1_chair_0 (E : xE p m c cX1_chair 2 s args RX1 D cA A Zs meth (some (.object "ChairRanks$Chair"))) {X : AH} {x0 : Nat} {x1 : Int32} (hf : fX1_chair X x0 x1 = some (ra, Xf)) : ∀ (H : Heap) (locs : List Loc) (ls : Array Slot) (cells slots : Nat), cells + 0 ≤ 0 → slots + 0 ≤ 0 → xR D cA A Zs X H → va_S A s.heap H locs → lv_has ls 2 [(0, .ref x0), (1, .int x1)] → W p l e rmX1_chair s m args below meth c H locs cells slots (MQ below (xQr D cA A Zs ra Xf) args s 0 0 A) (F0 m 0 ls []) := by
  intro H locs ls cells slots hc hs hR hS hl
  refine lv_iload_n E.hx E.hb dX1_chair_0 rfl (lv_at hl 1 rfl) ?_
  refine lv_aload_n E.hx E.hb dX1_chair_1 rfl (lv_at hl 0 rfl) ?_
  obtain ⟨v1, hv1, hf⟩ := bd_e hf
  refine xgX1_38 E hR hv1 dX1_chair_2 ?_
  refine lv_icmp_ne (tgt := 15) E.hx E.hb dX1_chair_5 (by decide) (fun c2 => ?_) (fun c2 => ?_)
  · have hf := it_f hf c2
    refine lv_aload_n E.hx E.hb dX1_chair_15 rfl (lv_at hl 0 rfl) ?_
    obtain ⟨v3, hv3, hf⟩ := bd_e hf
    refine xgX1_12 E hR hv3 dX1_chair_16 ?_
    refine lv_iload_n E.hx E.hb dX1_chair_19 rfl (lv_at hl 1 rfl) ?_
    obtain ⟨u4, hu4, hf⟩ := bd_e hf
    obtain ⟨⟨v6, X5⟩, hv6, hf⟩ := bd_e hf
    refine xrun5_r (va_runF (As := [.int x1]) (rest := []) (xClassAt (ci := 9) E rfl) E.1 (tJ2_get l hv6) (cwX1_70_J2 E.ht (E.2.1.2.2.2.2.2.2.1 ("java/util/ArrayList", ⟨"java/util/List", "get", "(I)Ljava/lang/Object;"⟩, ⟨"java/util/ArrayList", "get", "(I)Ljava/lang/Object;"⟩) (by decide +kernel)) ⟨Nat.le_of_ble_eq_true rfl, Nat.le_of_ble_eq_true rfl⟩) (xPreV (ci := 9) E hR hS rfl (ck_e hu4)) rfl rfl hl.1 rfl (lv_room (Nat.le_of_ble_eq_true rfl)) dX1_chair_20 ⟨Nat.le_trans (by omega) (Nat.le_refl 0), Nat.le_trans (by omega) (Nat.le_refl 0)⟩) hS (fun H locs hR hS => ?_)
    obtain ⟨v7, hv7, hf⟩ := bd_e hf
    refine xcastC E hR hv7 q793 dX1_chair_25 ?_
    obtain ⟨rfl, rfl⟩ := rt_e hf
    exact xret_r E (Or.inl ⟨_, rfl⟩) (by omega) (by omega) hR hS dX1_chair_28
  · have hf := it_t hf c2
    refine lv_aload_n E.hx E.hb dX1_chair_8 rfl (lv_at hl 0 rfl) ?_
    obtain ⟨v8, hv8, hf⟩ := bd_e hf
    refine xgX1_66 E hR hv8 dX1_chair_9 ?_
    refine lv_goto (tgt := 28) E.hx E.hb dX1_chair_12 (by decide) ?_
    obtain ⟨rfl, rfl⟩ := rt_e hf
    exact xret_r E (Or.inl ⟨_, rfl⟩) (by omega) (by omega) hR hS dX1_chair_28
theorem tX1_chair (l : Launch) {D : va_G} {cA : Nat → ClassId} {A : Nat → Prop} {Zs : XZ} {X Xf : AH} {x0 : Nat} {x1 : Int32} {ra : Nat} (hf : fX1_chair X x0 x1 = some (ra, Xf)) : Met l yX1_chair (ws_ yX1_chair cX1_chair 2 (some (.object "ChairRanks$Chair"))) rmX1_chair (xPc D cA A Zs X [.ref x0, .int x1]) (xQr D cA A Zs ra Xf) 0 0 A := by
  refine Met.ofW (cc := cX1_chair) (maxL := 2) (ret := (some (.object "ChairRanks$Chair"))) (by decide) rfl ?_
  intro p e s m args below meth c s₁ B hml hv
  obtain ⟨rfl, hR, hK⟩ := hv
  have hts := atoms_spec (ws := (ws_ yX1_chair cX1_chair 2 (some (.object "ChairRanks$Chair")))) B.pre
  rw [lg_entry_eq]
  exact wX1_chair_0 (E := ⟨⟨B.exec, B.bytes, hml, findClass_of_methodNamed B.named, fun w h => hts w (List.mem_cons_of_mem _ h)⟩, hK, B.returns, B.notSynchronized⟩) hf _ _ _ 0 0 (Nat.le_of_ble_eq_true rfl) (Nat.le_of_ble_eq_true rfl) hR va_S.rf (lv_entry [.ref x0, .int x1] (n := 2) (Nat.le_of_ble_eq_true rfl))
end
abbrev rmX1_high : Room := { frames := 5, cells := 0, slots := 0, locals := 97 }
theorem cwX1_76 {R : Room} {s : State} {args : Array Value} (ht : ∀ w ∈ lw_all, w.before args s = true) (hR : rmX1_chair.frames + 1 ≤ R.frames ∧ 8 + (2 + 11) + rmX1_chair.locals ≤ R.locals) : CallW R s args RX1 RX1 76 yX1_chair cX1_chair 2 (some (.object "ChairRanks$Chair")) (ws_ yX1_chair cX1_chair 2 (some (.object "ChairRanks$Chair"))) rmX1_chair 0 0 1 :=
  cwV 1 ht (lw_V q772 q773 q774 q69 q775) rfl rfl rfl (by decide +kernel) hR
theorem cwX1_80_X4 {R : Room} {s : State} {args : Array Value} (ht : ∀ w ∈ lw_all, w.before args s = true) (hd : va_Decl s ⟨"ChairRanks$Chair", "high", "(II)I"⟩) (hR : rmX4_high.frames + 1 ≤ R.frames ∧ 8 + (3 + 11) + rmX4_high.locals ≤ R.locals) : va_CU R s args RX1 "ChairRanks$Plain" "ChairRanks$Chair" 80 ⟨"ChairRanks$Chair", "high", "(II)I"⟩ yX4_high cX4_high 3 (some .int) (ws_ yX4_high cX4_high 3 (some .int)) rmX4_high 0 0 2 :=
  xCU (ws := (ws_ yX4_high cX4_high 3 (some .int))) ht (lw_meth q802) rfl rfl rfl q794 q796 hd q806 q801 q75 (by decide +kernel) hR
theorem cwX1_80_X5 {R : Room} {s : State} {args : Array Value} (ht : ∀ w ∈ lw_all, w.before args s = true) (hd : va_Decl s ⟨"ChairRanks$Chair", "high", "(II)I"⟩) (hR : rmX5_high.frames + 1 ≤ R.frames ∧ 8 + (3 + 11) + rmX5_high.locals ≤ R.locals) : va_CU R s args RX1 "ChairRanks$Rocker" "ChairRanks$Chair" 80 ⟨"ChairRanks$Chair", "high", "(II)I"⟩ yX5_high cX5_high 3 (some .int) (ws_ yX5_high cX5_high 3 (some .int)) rmX5_high 0 0 2 :=
  xCU (ws := (ws_ yX5_high cX5_high 3 (some .int))) ht (lw_meth q809) rfl rfl rfl q794 q796 hd q807 q808 q76 (by decide +kernel) hR
theorem cwX1_80_X6 {R : Room} {s : State} {args : Array Value} (ht : ∀ w ∈ lw_all, w.before args s = true) (hd : va_Decl s ⟨"ChairRanks$Chair", "high", "(II)I"⟩) (hR : rmX6_high.frames + 1 ≤ R.frames ∧ 8 + (3 + 11) + rmX6_high.locals ≤ R.locals) : va_CU R s args RX1 "ChairRanks$Cushioned" "ChairRanks$Chair" 80 ⟨"ChairRanks$Chair", "high", "(II)I"⟩ yX6_high cX6_high 3 (some .int) (ws_ yX6_high cX6_high 3 (some .int)) rmX6_high 0 0 2 :=
  xCU (ws := (ws_ yX6_high cX6_high 3 (some .int))) ht (lw_meth q799) rfl rfl rfl q794 q796 hd q797 q798 q77 (by decide +kernel) hR
theorem cwX1_80_X7 {R : Room} {s : State} {args : Array Value} (ht : ∀ w ∈ lw_all, w.before args s = true) (hd : va_Decl s ⟨"ChairRanks$Chair", "high", "(II)I"⟩) (hR : rmX7_high.frames + 1 ≤ R.frames ∧ 8 + (3 + 11) + rmX7_high.locals ≤ R.locals) : va_CU R s args RX1 "ChairRanks$Oak" "ChairRanks$Chair" 80 ⟨"ChairRanks$Chair", "high", "(II)I"⟩ yX7_high cX7_high 3 (some .int) (ws_ yX7_high cX7_high 3 (some .int)) rmX7_high 0 0 2 :=
  xCU (ws := (ws_ yX7_high cX7_high 3 (some .int))) ht (lw_meth q805) rfl rfl rfl q794 q796 hd q803 q804 q78 (by decide +kernel) hR
theorem cwX1_80_X8 {R : Room} {s : State} {args : Array Value} (ht : ∀ w ∈ lw_all, w.before args s = true) (hd : va_Decl s ⟨"ChairRanks$Chair", "high", "(II)I"⟩) (hR : rmX8_high.frames + 1 ≤ R.frames ∧ 8 + (3 + 11) + rmX8_high.locals ≤ R.locals) : va_CU R s args RX1 "ChairRanks$Throne" "ChairRanks$Chair" 80 ⟨"ChairRanks$Chair", "high", "(II)I"⟩ yX8_high cX8_high 3 (some .int) (ws_ yX8_high cX8_high 3 (some .int)) rmX8_high 0 0 2 :=
  xCU (ws := (ws_ yX8_high cX8_high 3 (some .int))) ht (lw_meth q813) rfl rfl rfl q794 q796 hd q811 q812 q79 (by decide +kernel) hR
section
variable {p : Program} {l : Launch} {e : Env} {s : State} {m : MethodId} {args : Array Value} {below : List Frame} {meth : Method} {c : Code} {D : va_G} {cA : Nat → ClassId} {A : Nat → Prop} {Zs : XZ} {Xf : AH} {r : Int32} {rl : Int64} {ra : Nat} {tv : Unit ⊕ Nat} {ti : Int32 ⊕ Nat} {tr : Nat ⊕ Nat} {q2 : Option Nat}
def fX1_high  (X : AH) (x0 : Nat) (x1 : Int32) : Option (Int32 × AH) :=
  (ck X x0 1).bind fun _ =>
  (fX1_chair X x0 x1).bind fun (v3, X2) =>
  (gR X2 x0 1 3).bind fun v4 =>
  (gA X2 v4 0 x1).bind fun v5 =>
  (gR X2 x0 1 4).bind fun v6 =>
  (gA X2 v6 0 x1).bind fun v7 =>
  (gC X2 v3).bind fun k8 =>
  if k8 = 4 then ((fX4_high X2 v3 v5 v7).bind fun (v22, X21) =>
  some (v22, X21)) else (if k8 = 5 then ((fX5_high X2 v3 v5 v7).bind fun (v19, X18) =>
  some (v19, X18)) else (if k8 = 6 then ((fX6_high X2 v3 v5 v7).bind fun (v16, X15) =>
  some (v16, X15)) else (if k8 = 7 then ((fX7_high X2 v3 v5 v7).bind fun (v13, X12) =>
  some (v13, X12)) else (if k8 = 8 then ((fX8_high X2 v3 v5 v7).bind fun (v10, X9) =>
  some (v10, X9)) else none))))
theorem wX1_high_0 (E : xE p m c cX1_high 2 s args RX1 D cA A Zs meth (some .int)) {X : AH} {x0 : Nat} {x1 : Int32} (hf : fX1_high X x0 x1 = some (r, Xf)) : ∀ (H : Heap) (locs : List Loc) (ls : Array Slot) (cells slots : Nat), cells + 0 ≤ 0 → slots + 0 ≤ 0 → xR D cA A Zs X H → va_S A s.heap H locs → lv_has ls 2 [(0, .ref x0), (1, .int x1)] → W p l e rmX1_high s m args below meth c H locs cells slots (MQ below (xQi D cA A Zs r Xf) args s 0 0 A) (F0 m 0 ls []) := by
  intro H locs ls cells slots hc hs hR hS hl
  refine lv_aload_n E.hx E.hb dX1_high_0 rfl (lv_at hl 0 rfl) ?_
  refine lv_iload_n E.hx E.hb dX1_high_1 rfl (lv_at hl 1 rfl) ?_
  obtain ⟨u1, hu1, hf⟩ := bd_e hf
  obtain ⟨⟨v3, X2⟩, hv3, hf⟩ := bd_e hf
  refine xrun_r (va_runV (As := [.int x1]) (rest := []) E.1 (tX1_chair l hv3) (cwX1_76 E.ht ⟨Nat.le_of_ble_eq_true rfl, Nat.le_of_ble_eq_true rfl⟩) (xPreV (ci := 1) E hR hS rfl (ck_e hu1)) rfl rfl hl.1 rfl (lv_room (Nat.le_of_ble_eq_true rfl)) dX1_high_2 ⟨Nat.le_trans (by omega) (Nat.le_refl 0), Nat.le_trans (by omega) (Nat.le_refl 0)⟩) hS (fun H locs hR hS => ?_)
  refine lv_aload_n E.hx E.hb dX1_high_5 rfl (lv_at hl 0 rfl) ?_
  obtain ⟨v4, hv4, hf⟩ := bd_e hf
  refine xgX1_18 E hR hv4 dX1_high_6 ?_
  refine lv_iload_n E.hx E.hb dX1_high_9 rfl (lv_at hl 1 rfl) ?_
  obtain ⟨v5, hv5, hf⟩ := bd_e hf
  refine xild E hR hv5 dX1_high_10 ?_
  refine lv_aload_n E.hx E.hb dX1_high_11 rfl (lv_at hl 0 rfl) ?_
  obtain ⟨v6, hv6, hf⟩ := bd_e hf
  refine xgX1_22 E hR hv6 dX1_high_12 ?_
  refine lv_iload_n E.hx E.hb dX1_high_15 rfl (lv_at hl 1 rfl) ?_
  obtain ⟨v7, hv7, hf⟩ := bd_e hf
  refine xild E hR hv7 dX1_high_16 ?_
  obtain ⟨k8, hk8, hf⟩ := bd_e hf
  by_cases c23 : k8 = 4
  · have hf := it_t hf c23
    obtain ⟨⟨v22, X21⟩, hv22, hf⟩ := bd_e hf
    refine xrun_i (va_runU (As := [.int v5, .int v7]) (rest := []) E.1 (tX4_high l hv22) (cwX1_80_X4 E.ht (va_Decl.abs (E.2.1.2.2.1 ⟨"ChairRanks$Chair", "high", "(II)I"⟩ (by decide +kernel))) ⟨Nat.le_of_ble_eq_true rfl, Nat.le_of_ble_eq_true rfl⟩) (xPreV (ci := 4) E hR hS rfl (hk8.trans (congrArg some c23))) rfl rfl hl.1 rfl (lv_room (Nat.le_of_ble_eq_true rfl)) dX1_high_17 ⟨Nat.le_trans (by omega) (Nat.le_refl 0), Nat.le_trans (by omega) (Nat.le_refl 0)⟩) hS (fun H locs hR hS => ?_)
    obtain ⟨rfl, rfl⟩ := rt_e hf
    exact xret_i E (by omega) (by omega) hR hS dX1_high_20
  · have hf := it_f hf c23
    by_cases c20 : k8 = 5
    · have hf := it_t hf c20
      obtain ⟨⟨v19, X18⟩, hv19, hf⟩ := bd_e hf
      refine xrun_i (va_runU (As := [.int v5, .int v7]) (rest := []) E.1 (tX5_high l hv19) (cwX1_80_X5 E.ht (va_Decl.abs (E.2.1.2.2.1 ⟨"ChairRanks$Chair", "high", "(II)I"⟩ (by decide +kernel))) ⟨Nat.le_of_ble_eq_true rfl, Nat.le_of_ble_eq_true rfl⟩) (xPreV (ci := 5) E hR hS rfl (hk8.trans (congrArg some c20))) rfl rfl hl.1 rfl (lv_room (Nat.le_of_ble_eq_true rfl)) dX1_high_17 ⟨Nat.le_trans (by omega) (Nat.le_refl 0), Nat.le_trans (by omega) (Nat.le_refl 0)⟩) hS (fun H locs hR hS => ?_)
      obtain ⟨rfl, rfl⟩ := rt_e hf
      exact xret_i E (by omega) (by omega) hR hS dX1_high_20
    · have hf := it_f hf c20
      by_cases c17 : k8 = 6
      · have hf := it_t hf c17
        obtain ⟨⟨v16, X15⟩, hv16, hf⟩ := bd_e hf
        refine xrun_i (va_runU (As := [.int v5, .int v7]) (rest := []) E.1 (tX6_high l hv16) (cwX1_80_X6 E.ht (va_Decl.abs (E.2.1.2.2.1 ⟨"ChairRanks$Chair", "high", "(II)I"⟩ (by decide +kernel))) ⟨Nat.le_of_ble_eq_true rfl, Nat.le_of_ble_eq_true rfl⟩) (xPreV (ci := 6) E hR hS rfl (hk8.trans (congrArg some c17))) rfl rfl hl.1 rfl (lv_room (Nat.le_of_ble_eq_true rfl)) dX1_high_17 ⟨Nat.le_trans (by omega) (Nat.le_refl 0), Nat.le_trans (by omega) (Nat.le_refl 0)⟩) hS (fun H locs hR hS => ?_)
        obtain ⟨rfl, rfl⟩ := rt_e hf
        exact xret_i E (by omega) (by omega) hR hS dX1_high_20
      · have hf := it_f hf c17
        by_cases c14 : k8 = 7
        · have hf := it_t hf c14
          obtain ⟨⟨v13, X12⟩, hv13, hf⟩ := bd_e hf
          refine xrun_i (va_runU (As := [.int v5, .int v7]) (rest := []) E.1 (tX7_high l hv13) (cwX1_80_X7 E.ht (va_Decl.abs (E.2.1.2.2.1 ⟨"ChairRanks$Chair", "high", "(II)I"⟩ (by decide +kernel))) ⟨Nat.le_of_ble_eq_true rfl, Nat.le_of_ble_eq_true rfl⟩) (xPreV (ci := 7) E hR hS rfl (hk8.trans (congrArg some c14))) rfl rfl hl.1 rfl (lv_room (Nat.le_of_ble_eq_true rfl)) dX1_high_17 ⟨Nat.le_trans (by omega) (Nat.le_refl 0), Nat.le_trans (by omega) (Nat.le_refl 0)⟩) hS (fun H locs hR hS => ?_)
          obtain ⟨rfl, rfl⟩ := rt_e hf
          exact xret_i E (by omega) (by omega) hR hS dX1_high_20
        · have hf := it_f hf c14
          by_cases c11 : k8 = 8
          · have hf := it_t hf c11
            obtain ⟨⟨v10, X9⟩, hv10, hf⟩ := bd_e hf
            refine xrun_i (va_runU (As := [.int v5, .int v7]) (rest := []) E.1 (tX8_high l hv10) (cwX1_80_X8 E.ht (va_Decl.abs (E.2.1.2.2.1 ⟨"ChairRanks$Chair", "high", "(II)I"⟩ (by decide +kernel))) ⟨Nat.le_of_ble_eq_true rfl, Nat.le_of_ble_eq_true rfl⟩) (xPreV (ci := 8) E hR hS rfl (hk8.trans (congrArg some c11))) rfl rfl hl.1 rfl (lv_room (Nat.le_of_ble_eq_true rfl)) dX1_high_17 ⟨Nat.le_trans (by omega) (Nat.le_refl 0), Nat.le_trans (by omega) (Nat.le_refl 0)⟩) hS (fun H locs hR hS => ?_)
            obtain ⟨rfl, rfl⟩ := rt_e hf
            exact xret_i E (by omega) (by omega) hR hS dX1_high_20
          · have hf := it_f hf c11
            have hf : none = some (r, Xf) := hf
            cases hf
theorem tX1_high (l : Launch) {D : va_G} {cA : Nat → ClassId} {A : Nat → Prop} {Zs : XZ} {X Xf : AH} {x0 : Nat} {x1 : Int32} {r : Int32} (hf : fX1_high X x0 x1 = some (r, Xf)) : Met l yX1_high (ws_ yX1_high cX1_high 2 (some .int)) rmX1_high (xPc D cA A Zs X [.ref x0, .int x1]) (xQi D cA A Zs r Xf) 0 0 A := by
  refine Met.ofW (cc := cX1_high) (maxL := 2) (ret := (some .int)) (by decide) rfl ?_
  intro p e s m args below meth c s₁ B hml hv
  obtain ⟨rfl, hR, hK⟩ := hv
  have hts := atoms_spec (ws := (ws_ yX1_high cX1_high 2 (some .int))) B.pre
  rw [lg_entry_eq]
  exact wX1_high_0 (E := ⟨⟨B.exec, B.bytes, hml, findClass_of_methodNamed B.named, fun w h => hts w (List.mem_cons_of_mem _ h)⟩, hK, B.returns, B.notSynchronized⟩) hf _ _ _ 0 0 (Nat.le_of_ble_eq_true rfl) (Nat.le_of_ble_eq_true rfl) hR va_S.rf (lv_entry [.ref x0, .int x1] (n := 2) (Nat.le_of_ble_eq_true rfl))
end
abbrev rmX1_isHigher : Room := { frames := 6, cells := 0, slots := 0, locals := 118 }
theorem cwX1_84 {R : Room} {s : State} {args : Array Value} (ht : ∀ w ∈ lw_all, w.before args s = true) (hR : rmX1_high.frames + 1 ≤ R.frames ∧ 8 + (2 + 11) + rmX1_high.locals ≤ R.locals) : CallW R s args RX1 RX1 84 yX1_high cX1_high 2 (some .int) (ws_ yX1_high cX1_high 2 (some .int)) rmX1_high 0 0 1 :=
  cwV 1 ht (lw_V q768 q769 q770 q69 q771) rfl rfl rfl (by decide +kernel) hR
section
variable {p : Program} {l : Launch} {e : Env} {s : State} {m : MethodId} {args : Array Value} {below : List Frame} {meth : Method} {c : Code} {D : va_G} {cA : Nat → ClassId} {A : Nat → Prop} {Zs : XZ} {Xf : AH} {r : Int32} {rl : Int64} {ra : Nat} {tv : Unit ⊕ Nat} {ti : Int32 ⊕ Nat} {tr : Nat ⊕ Nat} {q2 : Option Nat}
def fX1_isHigher  (X : AH) (x0 : Nat) (x1 : Int32) (x2 : Int32) : Option (Int32 × AH) :=
  (ck X x0 1).bind fun _ =>
  (fX1_high X x0 x1).bind fun (v3, X2) =>
  (ck X2 x0 1).bind fun _ =>
  (fX1_high X2 x0 x2).bind fun (v6, X5) =>
  if v6 < v3 then (some (1, X5)) else ((ck X5 x0 1).bind fun _ =>
  (fX1_high X5 x0 x1).bind fun (v10, X9) =>
  (ck X9 x0 1).bind fun _ =>
  (fX1_high X9 x0 x2).bind fun (v13, X12) =>
  if v10 = v13 then (if x2 ≤ x1 then (some (0, X12)) else (some (1, X12))) else (some (0, X12)))
theorem wX1_isHigher_0 (E : xE p m c cX1_isHigher 3 s args RX1 D cA A Zs meth (some .boolean)) {X : AH} {x0 : Nat} {x1 : Int32} {x2 : Int32} (hf : fX1_isHigher X x0 x1 x2 = some (r, Xf)) : ∀ (H : Heap) (locs : List Loc) (ls : Array Slot) (cells slots : Nat), cells + 0 ≤ 0 → slots + 0 ≤ 0 → xR D cA A Zs X H → va_S A s.heap H locs → lv_has ls 3 [(0, .ref x0), (1, .int x1), (2, .int x2)] → W p l e rmX1_isHigher s m args below meth c H locs cells slots (MQ below (xQi D cA A Zs r Xf) args s 0 0 A) (F0 m 0 ls []) := by
  intro H locs ls cells slots hc hs hR hS hl
  refine lv_aload_n E.hx E.hb dX1_isHigher_0 rfl (lv_at hl 0 rfl) ?_
  refine lv_iload_n E.hx E.hb dX1_isHigher_1 rfl (lv_at hl 1 rfl) ?_
  obtain ⟨u1, hu1, hf⟩ := bd_e hf
  obtain ⟨⟨v3, X2⟩, hv3, hf⟩ := bd_e hf
  refine xrun_i (va_runV (As := [.int x1]) (rest := []) E.1 (tX1_high l hv3) (cwX1_84 E.ht ⟨Nat.le_of_ble_eq_true rfl, Nat.le_of_ble_eq_true rfl⟩) (xPreV (ci := 1) E hR hS rfl (ck_e hu1)) rfl rfl hl.1 rfl (lv_room (Nat.le_of_ble_eq_true rfl)) dX1_isHigher_2 ⟨Nat.le_trans (by omega) (Nat.le_refl 0), Nat.le_trans (by omega) (Nat.le_refl 0)⟩) hS (fun H locs hR hS => ?_)
  refine lv_aload_n E.hx E.hb dX1_isHigher_5 rfl (lv_at hl 0 rfl) ?_
  refine lv_iload_n E.hx E.hb dX1_isHigher_6 rfl (lv_at hl 2 rfl) ?_
  obtain ⟨u4, hu4, hf⟩ := bd_e hf
  obtain ⟨⟨v6, X5⟩, hv6, hf⟩ := bd_e hf
  refine xrun_i (va_runV (As := [.int x2]) (rest := [.int v3]) E.1 (tX1_high l hv6) (cwX1_84 E.ht ⟨Nat.le_of_ble_eq_true rfl, Nat.le_of_ble_eq_true rfl⟩) (xPreV (ci := 1) E hR hS rfl (ck_e hu4)) rfl rfl hl.1 rfl (lv_room (Nat.le_of_ble_eq_true rfl)) dX1_isHigher_7 ⟨Nat.le_trans (by omega) (Nat.le_refl 0), Nat.le_trans (by omega) (Nat.le_refl 0)⟩) hS (fun H locs hR hS => ?_)
  refine lv_icmp_gt (tgt := 31) E.hx E.hb dX1_isHigher_10 (by decide) (fun c7 => ?_) (fun c7 => ?_)
  · have hf := it_t hf c7
    refine lv_iconst (v := 1) E.hx E.hb dX1_isHigher_31 (by decide) ?_
    refine lv_goto (tgt := 36) E.hx E.hb dX1_isHigher_32 (by decide) ?_
    obtain ⟨rfl, rfl⟩ := rt_e hf
    exact xret_z E rfl (by omega) (by omega) hR hS dX1_isHigher_36
  · have hf := it_f hf c7
    refine lv_aload_n E.hx E.hb dX1_isHigher_13 rfl (lv_at hl 0 rfl) ?_
    refine lv_iload_n E.hx E.hb dX1_isHigher_14 rfl (lv_at hl 1 rfl) ?_
    obtain ⟨u8, hu8, hf⟩ := bd_e hf
    obtain ⟨⟨v10, X9⟩, hv10, hf⟩ := bd_e hf
    refine xrun_i (va_runV (As := [.int x1]) (rest := []) E.1 (tX1_high l hv10) (cwX1_84 E.ht ⟨Nat.le_of_ble_eq_true rfl, Nat.le_of_ble_eq_true rfl⟩) (xPreV (ci := 1) E hR hS rfl (ck_e hu8)) rfl rfl hl.1 rfl (lv_room (Nat.le_of_ble_eq_true rfl)) dX1_isHigher_15 ⟨Nat.le_trans (by omega) (Nat.le_refl 0), Nat.le_trans (by omega) (Nat.le_refl 0)⟩) hS (fun H locs hR hS => ?_)
    refine lv_aload_n E.hx E.hb dX1_isHigher_18 rfl (lv_at hl 0 rfl) ?_
    refine lv_iload_n E.hx E.hb dX1_isHigher_19 rfl (lv_at hl 2 rfl) ?_
    obtain ⟨u11, hu11, hf⟩ := bd_e hf
    obtain ⟨⟨v13, X12⟩, hv13, hf⟩ := bd_e hf
    refine xrun_i (va_runV (As := [.int x2]) (rest := [.int v10]) E.1 (tX1_high l hv13) (cwX1_84 E.ht ⟨Nat.le_of_ble_eq_true rfl, Nat.le_of_ble_eq_true rfl⟩) (xPreV (ci := 1) E hR hS rfl (ck_e hu11)) rfl rfl hl.1 rfl (lv_room (Nat.le_of_ble_eq_true rfl)) dX1_isHigher_20 ⟨Nat.le_trans (by omega) (Nat.le_refl 0), Nat.le_trans (by omega) (Nat.le_refl 0)⟩) hS (fun H locs hR hS => ?_)
    refine lv_icmp_ne (tgt := 35) E.hx E.hb dX1_isHigher_23 (by decide) (fun c14 => ?_) (fun c14 => ?_)
    · have hf := it_f hf c14
      refine lv_iconst (v := 0) E.hx E.hb dX1_isHigher_35 (by decide) ?_
      obtain ⟨rfl, rfl⟩ := rt_e hf
      exact xret_z E rfl (by omega) (by omega) hR hS dX1_isHigher_36
    · have hf := it_t hf c14
      refine lv_iload_n E.hx E.hb dX1_isHigher_26 rfl (lv_at hl 1 rfl) ?_
      refine lv_iload_n E.hx E.hb dX1_isHigher_27 rfl (lv_at hl 2 rfl) ?_
      refine lv_icmp_ge (tgt := 35) E.hx E.hb dX1_isHigher_28 (by decide) (fun c15 => ?_) (fun c15 => ?_)
      · have hf := it_t hf c15
        refine lv_iconst (v := 0) E.hx E.hb dX1_isHigher_35 (by decide) ?_
        obtain ⟨rfl, rfl⟩ := rt_e hf
        exact xret_z E rfl (by omega) (by omega) hR hS dX1_isHigher_36
      · have hf := it_f hf c15
        refine lv_iconst (v := 1) E.hx E.hb dX1_isHigher_31 (by decide) ?_
        refine lv_goto (tgt := 36) E.hx E.hb dX1_isHigher_32 (by decide) ?_
        obtain ⟨rfl, rfl⟩ := rt_e hf
        exact xret_z E rfl (by omega) (by omega) hR hS dX1_isHigher_36
theorem tX1_isHigher (l : Launch) {D : va_G} {cA : Nat → ClassId} {A : Nat → Prop} {Zs : XZ} {X Xf : AH} {x0 : Nat} {x1 : Int32} {x2 : Int32} {r : Int32} (hf : fX1_isHigher X x0 x1 x2 = some (r, Xf)) : Met l yX1_isHigher (ws_ yX1_isHigher cX1_isHigher 3 (some .boolean)) rmX1_isHigher (xPc D cA A Zs X [.ref x0, .int x1, .int x2]) (xQi D cA A Zs r Xf) 0 0 A := by
  refine Met.ofW (cc := cX1_isHigher) (maxL := 3) (ret := (some .boolean)) (by decide) rfl ?_
  intro p e s m args below meth c s₁ B hml hv
  obtain ⟨rfl, hR, hK⟩ := hv
  have hts := atoms_spec (ws := (ws_ yX1_isHigher cX1_isHigher 3 (some .boolean))) B.pre
  rw [lg_entry_eq]
  exact wX1_isHigher_0 (E := ⟨⟨B.exec, B.bytes, hml, findClass_of_methodNamed B.named, fun w h => hts w (List.mem_cons_of_mem _ h)⟩, hK, B.returns, B.notSynchronized⟩) hf _ _ _ 0 0 (Nat.le_of_ble_eq_true rfl) (Nat.le_of_ble_eq_true rfl) hR va_S.rf (lv_entry [.ref x0, .int x1, .int x2] (n := 3) (Nat.le_of_ble_eq_true rfl))
end
abbrev rmX1_rank : Room := { frames := 7, cells := 0, slots := 0, locals := 140 }
theorem cwX1_87 {R : Room} {s : State} {args : Array Value} (ht : ∀ w ∈ lw_all, w.before args s = true) (hR : rmX1_many.frames + 1 ≤ R.frames ∧ 8 + (1 + 11) + rmX1_many.locals ≤ R.locals) : CallW R s args RX1 RX1 87 yX1_many cX1_many 1 (some .int) (ws_ yX1_many cX1_many 1 (some .int)) rmX1_many 0 0 0 :=
  cwV 0 ht (lw_V q751 q632 q633 q69 q634) rfl rfl rfl (by decide +kernel) hR
theorem cwX1_90 {R : Room} {s : State} {args : Array Value} (ht : ∀ w ∈ lw_all, w.before args s = true) (hR : rmX1_isHigher.frames + 1 ≤ R.frames ∧ 8 + (3 + 11) + rmX1_isHigher.locals ≤ R.locals) : CallW R s args RX1 RX1 90 yX1_isHigher cX1_isHigher 3 (some .boolean) (ws_ yX1_isHigher cX1_isHigher 3 (some .boolean)) rmX1_isHigher 0 0 2 :=
  cwV 2 ht (lw_V q764 q765 q766 q69 q767) rfl rfl rfl (by decide +kernel) hR
section
variable {p : Program} {l : Launch} {e : Env} {s : State} {m : MethodId} {args : Array Value} {below : List Frame} {meth : Method} {c : Code} {D : va_G} {cA : Nat → ClassId} {A : Nat → Prop} {Zs : XZ} {Xf : AH} {r : Int32} {rl : Int64} {ra : Nat} {tv : Unit ⊕ Nat} {ti : Int32 ⊕ Nat} {tr : Nat ⊕ Nat} {q2 : Option Nat}
def fX1_rank_L4  : Nat → AH → Nat → Int32 → Int32 → Int32 → Option (Int32 × AH)
  | 0, _, _, _, _, _ => none
  | n + 1, X, x0, x1, x2, x3 =>
    (ck X x0 1).bind fun _ =>
    (fX1_many X x0).bind fun (v3, X2) =>
    if v3 ≤ x3 then (some (x2, X2)) else (if x3 = x1 then ((fX1_rank_L4 n) X2 x0 x1 (x2 + 0) (x3 + 1)) else ((ck X2 x0 1).bind fun _ =>
    (fX1_isHigher X2 x0 x3 x1).bind fun (v8, X7) =>
    if v8 = 0 then ((fX1_rank_L4 n) X7 x0 x1 (x2 + 0) (x3 + 1)) else ((fX1_rank_L4 n) X7 x0 x1 (x2 + 1) (x3 + 1))))
theorem wX1_rank_L4 (E : xE p m c cX1_rank 4 s args RX1 D cA A Zs meth (some .int)) : ∀ (n : Nat) (X : AH) (x0 : Nat) (x1 : Int32) (x2 : Int32) (x3 : Int32), fX1_rank_L4 n X x0 x1 x2 x3 = some (r, Xf) → ∀ (H : Heap) (locs : List Loc) (ls : Array Slot) (cells slots : Nat), cells + 0 ≤ 0 → slots + 0 ≤ 0 → xR D cA A Zs X H → va_S A s.heap H locs → lv_has ls 4 [(0, .ref x0), (1, .int x1), (2, .int x2), (3, .int x3)] → W p l e rmX1_rank s m args below meth c H locs cells slots (MQ below (xQi D cA A Zs r Xf) args s 0 0 A) (F0 m 4 ls []) := by
  intro n
  induction n with
  | zero =>
    intro X x0 x1 x2 x3 hf
    have hf : none = some (r, Xf) := hf
    cases hf
  | succ n ih =>
    intro X x0 x1 x2 x3 hf H locs ls cells slots hc hs hR hS hl
    refine lv_iload_n E.hx E.hb dX1_rank_4 rfl (lv_at hl 3 rfl) ?_
    refine lv_aload_n E.hx E.hb dX1_rank_5 rfl (lv_at hl 0 rfl) ?_
    obtain ⟨u1, hu1, hf⟩ := bd_e hf
    obtain ⟨⟨v3, X2⟩, hv3, hf⟩ := bd_e hf
    refine xrun_i (va_runV (As := []) (rest := [.int x3]) E.1 (tX1_many l hv3) (cwX1_87 E.ht ⟨Nat.le_of_ble_eq_true rfl, Nat.le_of_ble_eq_true rfl⟩) (xPreV (ci := 1) E hR hS rfl (ck_e hu1)) rfl rfl hl.1 rfl (lv_room (Nat.le_of_ble_eq_true rfl)) dX1_rank_6 ⟨Nat.le_trans (by omega) (Nat.le_refl 0), Nat.le_trans (by omega) (Nat.le_refl 0)⟩) hS (fun H locs hR hS => ?_)
    refine lv_icmp_ge (tgt := 40) E.hx E.hb dX1_rank_9 (by decide) (fun c4 => ?_) (fun c4 => ?_)
    · have hf := it_t hf c4
      refine lv_iload_n E.hx E.hb dX1_rank_40 rfl (lv_at hl 2 rfl) ?_
      obtain ⟨rfl, rfl⟩ := rt_e hf
      exact xret_i E (by omega) (by omega) hR hS dX1_rank_41
    · have hf := it_f hf c4
      refine lv_iload_n E.hx E.hb dX1_rank_12 rfl (lv_at hl 2 rfl) ?_
      refine lv_iload_n E.hx E.hb dX1_rank_13 rfl (lv_at hl 3 rfl) ?_
      refine lv_iload_n E.hx E.hb dX1_rank_14 rfl (lv_at hl 1 rfl) ?_
      refine lv_icmp_eq (tgt := 31) E.hx E.hb dX1_rank_15 (by decide) (fun c5 => ?_) (fun c5 => ?_)
      · have hf := it_t hf c5
        refine lv_iconst (v := 0) E.hx E.hb dX1_rank_31 (by decide) ?_
        refine lv_iadd E.hx E.hb dX1_rank_32 ?_
        refine lv_istore_n (lv' := [(2, .int (x2 + 0)), (0, .ref x0), (1, .int x1), (3, .int x3)]) E.hx E.hb dX1_rank_33 rfl hl (by decide) rfl (fun ls hl => ?_)
        refine lv_iinc (v := (x3 + 1)) (lv' := [(3, .int (x3 + 1)), (2, .int (x2 + 0)), (0, .ref x0), (1, .int x1)]) E.hx E.hb dX1_rank_34 hl (k := 3) rfl rfl (by decide) rfl (fun ls hl => ?_)
        refine lv_goto (tgt := 4) E.hx E.hb dX1_rank_37 (by decide) ?_
        exact ih X2 _ _ _ _ hf _ _ _ _ _ (by omega) (by omega) hR hS (lv_sub hl [2, 3, 1, 0] rfl)
      · have hf := it_f hf c5
        refine lv_aload_n E.hx E.hb dX1_rank_18 rfl (lv_at hl 0 rfl) ?_
        refine lv_iload_n E.hx E.hb dX1_rank_19 rfl (lv_at hl 3 rfl) ?_
        refine lv_iload_n E.hx E.hb dX1_rank_20 rfl (lv_at hl 1 rfl) ?_
        obtain ⟨u6, hu6, hf⟩ := bd_e hf
        obtain ⟨⟨v8, X7⟩, hv8, hf⟩ := bd_e hf
        refine xrun_i (va_runV (As := [.int x3, .int x1]) (rest := [.int x2]) E.1 (tX1_isHigher l hv8) (cwX1_90 E.ht ⟨Nat.le_of_ble_eq_true rfl, Nat.le_of_ble_eq_true rfl⟩) (xPreV (ci := 1) E hR hS rfl (ck_e hu6)) rfl rfl hl.1 rfl (lv_room (Nat.le_of_ble_eq_true rfl)) dX1_rank_21 ⟨Nat.le_trans (by omega) (Nat.le_refl 0), Nat.le_trans (by omega) (Nat.le_refl 0)⟩) hS (fun H locs hR hS => ?_)
        refine lv_if_eq (tgt := 31) E.hx E.hb dX1_rank_24 (by decide) (fun c9 => ?_) (fun c9 => ?_)
        · have hf := it_t hf c9
          refine lv_iconst (v := 0) E.hx E.hb dX1_rank_31 (by decide) ?_
          refine lv_iadd E.hx E.hb dX1_rank_32 ?_
          refine lv_istore_n (lv' := [(2, .int (x2 + 0)), (0, .ref x0), (1, .int x1), (3, .int x3)]) E.hx E.hb dX1_rank_33 rfl hl (by decide) rfl (fun ls hl => ?_)
          refine lv_iinc (v := (x3 + 1)) (lv' := [(3, .int (x3 + 1)), (2, .int (x2 + 0)), (0, .ref x0), (1, .int x1)]) E.hx E.hb dX1_rank_34 hl (k := 3) rfl rfl (by decide) rfl (fun ls hl => ?_)
          refine lv_goto (tgt := 4) E.hx E.hb dX1_rank_37 (by decide) ?_
          exact ih X7 _ _ _ _ hf _ _ _ _ _ (by omega) (by omega) hR hS (lv_sub hl [2, 3, 1, 0] rfl)
        · have hf := it_f hf c9
          refine lv_iconst (v := 1) E.hx E.hb dX1_rank_27 (by decide) ?_
          refine lv_goto (tgt := 32) E.hx E.hb dX1_rank_28 (by decide) ?_
          refine lv_iadd E.hx E.hb dX1_rank_32 ?_
          refine lv_istore_n (lv' := [(2, .int (x2 + 1)), (0, .ref x0), (1, .int x1), (3, .int x3)]) E.hx E.hb dX1_rank_33 rfl hl (by decide) rfl (fun ls hl => ?_)
          refine lv_iinc (v := (x3 + 1)) (lv' := [(3, .int (x3 + 1)), (2, .int (x2 + 1)), (0, .ref x0), (1, .int x1)]) E.hx E.hb dX1_rank_34 hl (k := 3) rfl rfl (by decide) rfl (fun ls hl => ?_)
          refine lv_goto (tgt := 4) E.hx E.hb dX1_rank_37 (by decide) ?_
          exact ih X7 _ _ _ _ hf _ _ _ _ _ (by omega) (by omega) hR hS (lv_sub hl [2, 3, 1, 0] rfl)
def fX1_rank  (X : AH) (x0 : Nat) (x1 : Int32) : Option (Int32 × AH) :=
  fX1_rank_L4 2000 X x0 x1 0 0
theorem wX1_rank_0 (E : xE p m c cX1_rank 4 s args RX1 D cA A Zs meth (some .int)) {X : AH} {x0 : Nat} {x1 : Int32} (hf : fX1_rank X x0 x1 = some (r, Xf)) : ∀ (H : Heap) (locs : List Loc) (ls : Array Slot) (cells slots : Nat), cells + 0 ≤ 0 → slots + 0 ≤ 0 → xR D cA A Zs X H → va_S A s.heap H locs → lv_has ls 4 [(0, .ref x0), (1, .int x1)] → W p l e rmX1_rank s m args below meth c H locs cells slots (MQ below (xQi D cA A Zs r Xf) args s 0 0 A) (F0 m 0 ls []) := by
  intro H locs ls cells slots hc hs hR hS hl
  refine lv_iconst (v := 0) E.hx E.hb dX1_rank_0 (by decide) ?_
  refine lv_istore_n (lv' := [(2, .int 0), (0, .ref x0), (1, .int x1)]) E.hx E.hb dX1_rank_1 rfl hl (by decide) rfl (fun ls hl => ?_)
  refine lv_iconst (v := 0) E.hx E.hb dX1_rank_2 (by decide) ?_
  refine lv_istore_n (lv' := [(3, .int 0), (2, .int 0), (0, .ref x0), (1, .int x1)]) E.hx E.hb dX1_rank_3 rfl hl (by decide) rfl (fun ls hl => ?_)
  exact wX1_rank_L4 E  2000 X _ _ _ _ hf _ _ _ _ _ (by omega) (by omega) hR hS (lv_sub hl [2, 3, 1, 0] rfl)
theorem tX1_rank (l : Launch) {D : va_G} {cA : Nat → ClassId} {A : Nat → Prop} {Zs : XZ} {X Xf : AH} {x0 : Nat} {x1 : Int32} {r : Int32} (hf : fX1_rank X x0 x1 = some (r, Xf)) : Met l yX1_rank (ws_ yX1_rank cX1_rank 4 (some .int)) rmX1_rank (xPc D cA A Zs X [.ref x0, .int x1]) (xQi D cA A Zs r Xf) 0 0 A := by
  refine Met.ofW (cc := cX1_rank) (maxL := 4) (ret := (some .int)) (by decide) rfl ?_
  intro p e s m args below meth c s₁ B hml hv
  obtain ⟨rfl, hR, hK⟩ := hv
  have hts := atoms_spec (ws := (ws_ yX1_rank cX1_rank 4 (some .int))) B.pre
  rw [lg_entry_eq]
  exact wX1_rank_0 (E := ⟨⟨B.exec, B.bytes, hml, findClass_of_methodNamed B.named, fun w h => hts w (List.mem_cons_of_mem _ h)⟩, hK, B.returns, B.notSynchronized⟩) hf _ _ _ 0 0 (Nat.le_of_ble_eq_true rfl) (Nat.le_of_ble_eq_true rfl) hR va_S.rf (lv_entry [.ref x0, .int x1] (n := 4) (Nat.le_of_ble_eq_true rfl))
end
abbrev rmX1_ranked : Room := { frames := 8, cells := 0, slots := 0, locals := 163 }
theorem cwX1_94 {R : Room} {s : State} {args : Array Value} (ht : ∀ w ∈ lw_all, w.before args s = true) (hR : rmX1_rank.frames + 1 ≤ R.frames ∧ 8 + (4 + 11) + rmX1_rank.locals ≤ R.locals) : CallW R s args RX1 RX1 94 yX1_rank cX1_rank 4 (some .int) (ws_ yX1_rank cX1_rank 4 (some .int)) rmX1_rank 0 0 1 :=
  cwV 1 ht (lw_V q760 q761 q762 q69 q763) rfl rfl rfl (by decide +kernel) hR
section
variable {p : Program} {l : Launch} {e : Env} {s : State} {m : MethodId} {args : Array Value} {below : List Frame} {meth : Method} {c : Code} {D : va_G} {cA : Nat → ClassId} {A : Nat → Prop} {Zs : XZ} {Xf : AH} {r : Int32} {rl : Int64} {ra : Nat} {tv : Unit ⊕ Nat} {ti : Int32 ⊕ Nat} {tr : Nat ⊕ Nat} {q2 : Option Nat}
def fX1_ranked_L2  : Nat → AH → Nat → Int32 → Int32 → Option (Int32 × AH)
  | 0, _, _, _, _ => none
  | n + 1, X, x0, x1, x2 =>
    (ck X x0 1).bind fun _ =>
    (fX1_many X x0).bind fun (v3, X2) =>
    if v3 ≤ x2 then (some ((-1000000), X2)) else ((ck X2 x0 1).bind fun _ =>
    (fX1_rank X2 x0 x2).bind fun (v7, X6) =>
    if v7 = x1 then (some (x2, X6)) else ((fX1_ranked_L2 n) X6 x0 x1 (x2 + 1)))
theorem wX1_ranked_L2 (E : xE p m c cX1_ranked 3 s args RX1 D cA A Zs meth (some .int)) : ∀ (n : Nat) (X : AH) (x0 : Nat) (x1 : Int32) (x2 : Int32), fX1_ranked_L2 n X x0 x1 x2 = some (r, Xf) → ∀ (H : Heap) (locs : List Loc) (ls : Array Slot) (cells slots : Nat), cells + 0 ≤ 0 → slots + 0 ≤ 0 → xR D cA A Zs X H → va_S A s.heap H locs → lv_has ls 3 [(0, .ref x0), (1, .int x1), (2, .int x2)] → W p l e rmX1_ranked s m args below meth c H locs cells slots (MQ below (xQi D cA A Zs r Xf) args s 0 0 A) (F0 m 2 ls []) := by
  intro n
  induction n with
  | zero =>
    intro X x0 x1 x2 hf
    have hf : none = some (r, Xf) := hf
    cases hf
  | succ n ih =>
    intro X x0 x1 x2 hf H locs ls cells slots hc hs hR hS hl
    refine lv_iload_n E.hx E.hb dX1_ranked_2 rfl (lv_at hl 2 rfl) ?_
    refine lv_aload_n E.hx E.hb dX1_ranked_3 rfl (lv_at hl 0 rfl) ?_
    obtain ⟨u1, hu1, hf⟩ := bd_e hf
    obtain ⟨⟨v3, X2⟩, hv3, hf⟩ := bd_e hf
    refine xrun_i (va_runV (As := []) (rest := [.int x2]) E.1 (tX1_many l hv3) (cwX1_87 E.ht ⟨Nat.le_of_ble_eq_true rfl, Nat.le_of_ble_eq_true rfl⟩) (xPreV (ci := 1) E hR hS rfl (ck_e hu1)) rfl rfl hl.1 rfl (lv_room (Nat.le_of_ble_eq_true rfl)) dX1_ranked_4 ⟨Nat.le_trans (by omega) (Nat.le_refl 0), Nat.le_trans (by omega) (Nat.le_refl 0)⟩) hS (fun H locs hR hS => ?_)
    refine lv_icmp_ge (tgt := 27) E.hx E.hb dX1_ranked_7 (by decide) (fun c4 => ?_) (fun c4 => ?_)
    · have hf := it_t hf c4
      refine lv_ldc (v := (-1000000)) E.hx E.hb E.ho (E.ht _ q144) dX1_ranked_27 ?_
      obtain ⟨rfl, rfl⟩ := rt_e hf
      exact xret_i E (by omega) (by omega) hR hS dX1_ranked_29
    · have hf := it_f hf c4
      refine lv_aload_n E.hx E.hb dX1_ranked_10 rfl (lv_at hl 0 rfl) ?_
      refine lv_iload_n E.hx E.hb dX1_ranked_11 rfl (lv_at hl 2 rfl) ?_
      obtain ⟨u5, hu5, hf⟩ := bd_e hf
      obtain ⟨⟨v7, X6⟩, hv7, hf⟩ := bd_e hf
      refine xrun_i (va_runV (As := [.int x2]) (rest := []) E.1 (tX1_rank l hv7) (cwX1_94 E.ht ⟨Nat.le_of_ble_eq_true rfl, Nat.le_of_ble_eq_true rfl⟩) (xPreV (ci := 1) E hR hS rfl (ck_e hu5)) rfl rfl hl.1 rfl (lv_room (Nat.le_of_ble_eq_true rfl)) dX1_ranked_12 ⟨Nat.le_trans (by omega) (Nat.le_refl 0), Nat.le_trans (by omega) (Nat.le_refl 0)⟩) hS (fun H locs hR hS => ?_)
      refine lv_iload_n E.hx E.hb dX1_ranked_15 rfl (lv_at hl 1 rfl) ?_
      refine lv_icmp_ne (tgt := 21) E.hx E.hb dX1_ranked_16 (by decide) (fun c8 => ?_) (fun c8 => ?_)
      · have hf := it_f hf c8
        refine lv_iinc (v := (x2 + 1)) (lv' := [(2, .int (x2 + 1)), (0, .ref x0), (1, .int x1)]) E.hx E.hb dX1_ranked_21 hl (k := 2) rfl rfl (by decide) rfl (fun ls hl => ?_)
        refine lv_goto (tgt := 2) E.hx E.hb dX1_ranked_24 (by decide) ?_
        exact ih X6 _ _ _ hf _ _ _ _ _ (by omega) (by omega) hR hS (lv_sub hl [1, 2, 0] rfl)
      · have hf := it_t hf c8
        refine lv_iload_n E.hx E.hb dX1_ranked_19 rfl (lv_at hl 2 rfl) ?_
        obtain ⟨rfl, rfl⟩ := rt_e hf
        exact xret_i E (by omega) (by omega) hR hS dX1_ranked_20
def fX1_ranked  (X : AH) (x0 : Nat) (x1 : Int32) : Option (Int32 × AH) :=
  fX1_ranked_L2 2000 X x0 x1 0
theorem wX1_ranked_0 (E : xE p m c cX1_ranked 3 s args RX1 D cA A Zs meth (some .int)) {X : AH} {x0 : Nat} {x1 : Int32} (hf : fX1_ranked X x0 x1 = some (r, Xf)) : ∀ (H : Heap) (locs : List Loc) (ls : Array Slot) (cells slots : Nat), cells + 0 ≤ 0 → slots + 0 ≤ 0 → xR D cA A Zs X H → va_S A s.heap H locs → lv_has ls 3 [(0, .ref x0), (1, .int x1)] → W p l e rmX1_ranked s m args below meth c H locs cells slots (MQ below (xQi D cA A Zs r Xf) args s 0 0 A) (F0 m 0 ls []) := by
  intro H locs ls cells slots hc hs hR hS hl
  refine lv_iconst (v := 0) E.hx E.hb dX1_ranked_0 (by decide) ?_
  refine lv_istore_n (lv' := [(2, .int 0), (0, .ref x0), (1, .int x1)]) E.hx E.hb dX1_ranked_1 rfl hl (by decide) rfl (fun ls hl => ?_)
  exact wX1_ranked_L2 E  2000 X _ _ _ hf _ _ _ _ _ (by omega) (by omega) hR hS (lv_sub hl [1, 2, 0] rfl)
theorem tX1_ranked (l : Launch) {D : va_G} {cA : Nat → ClassId} {A : Nat → Prop} {Zs : XZ} {X Xf : AH} {x0 : Nat} {x1 : Int32} {r : Int32} (hf : fX1_ranked X x0 x1 = some (r, Xf)) : Met l yX1_ranked (ws_ yX1_ranked cX1_ranked 3 (some .int)) rmX1_ranked (xPc D cA A Zs X [.ref x0, .int x1]) (xQi D cA A Zs r Xf) 0 0 A := by
  refine Met.ofW (cc := cX1_ranked) (maxL := 3) (ret := (some .int)) (by decide) rfl ?_
  intro p e s m args below meth c s₁ B hml hv
  obtain ⟨rfl, hR, hK⟩ := hv
  have hts := atoms_spec (ws := (ws_ yX1_ranked cX1_ranked 3 (some .int))) B.pre
  rw [lg_entry_eq]
  exact wX1_ranked_0 (E := ⟨⟨B.exec, B.bytes, hml, findClass_of_methodNamed B.named, fun w h => hts w (List.mem_cons_of_mem _ h)⟩, hK, B.returns, B.notSynchronized⟩) hf _ _ _ 0 0 (Nat.le_of_ble_eq_true rfl) (Nat.le_of_ble_eq_true rfl) hR va_S.rf (lv_entry [.ref x0, .int x1] (n := 3) (Nat.le_of_ble_eq_true rfl))
end
abbrev rmX1_grudged : Room := { frames := 9, cells := 0, slots := 0, locals := 185 }
theorem cwX1_97 {R : Room} {s : State} {args : Array Value} (ht : ∀ w ∈ lw_all, w.before args s = true) (hR : rmX1_ranked.frames + 1 ≤ R.frames ∧ 8 + (3 + 11) + rmX1_ranked.locals ≤ R.locals) : CallW R s args RX1 RX1 97 yX1_ranked cX1_ranked 3 (some .int) (ws_ yX1_ranked cX1_ranked 3 (some .int)) rmX1_ranked 0 0 1 :=
  cwV 1 ht (lw_V q815 q816 q817 q69 q818) rfl rfl rfl (by decide +kernel) hR
section
variable {p : Program} {l : Launch} {e : Env} {s : State} {m : MethodId} {args : Array Value} {below : List Frame} {meth : Method} {c : Code} {D : va_G} {cA : Nat → ClassId} {A : Nat → Prop} {Zs : XZ} {Xf : AH} {r : Int32} {rl : Int64} {ra : Nat} {tv : Unit ⊕ Nat} {ti : Int32 ⊕ Nat} {tr : Nat ⊕ Nat} {q2 : Option Nat}
def fX1_grudged  (X : AH) (x0 : Nat) (x1 : Int32) : Option (Int32 × AH) :=
  (ck X x0 1).bind fun _ =>
  (fX1_rank X x0 x1).bind fun (v3, X2) =>
  (gR X2 x0 1 6).bind fun v4 =>
  (gA X2 v4 0 x1).bind fun v5 =>
  if v5 = 1 then (if v3 = 0 then (some ((-1000000), X2)) else ((ck X2 x0 1).bind fun _ =>
  (fX1_ranked X2 x0 (v3 - 1)).bind fun (v10, X9) =>
  some (v10, X9))) else (if v5 = 2 then (if v3 = 0 then (some ((-1000000), X2)) else ((ck X2 x0 1).bind fun _ =>
  (fX1_ranked X2 x0 0).bind fun (v15, X14) =>
  some (v15, X14))) else (if v5 = 3 then ((ck X2 x0 1).bind fun _ =>
  (fX1_many X2 x0).bind fun (v19, X18) =>
  if v19 = 1 then (some ((-1000000), X18)) else ((ck X18 x0 1).bind fun _ =>
  (fX1_many X18 x0).bind fun (v23, X22) =>
  (rmd (x1 + 1) v23).bind fun v24 =>
  some (v24, X22))) else (some ((-1000000), X2))))
theorem wX1_grudged_0 (E : xE p m c cX1_grudged 3 s args RX1 D cA A Zs meth (some .int)) {X : AH} {x0 : Nat} {x1 : Int32} (hf : fX1_grudged X x0 x1 = some (r, Xf)) : ∀ (H : Heap) (locs : List Loc) (ls : Array Slot) (cells slots : Nat), cells + 0 ≤ 0 → slots + 0 ≤ 0 → xR D cA A Zs X H → va_S A s.heap H locs → lv_has ls 3 [(0, .ref x0), (1, .int x1)] → W p l e rmX1_grudged s m args below meth c H locs cells slots (MQ below (xQi D cA A Zs r Xf) args s 0 0 A) (F0 m 0 ls []) := by
  intro H locs ls cells slots hc hs hR hS hl
  refine lv_aload_n E.hx E.hb dX1_grudged_0 rfl (lv_at hl 0 rfl) ?_
  refine lv_iload_n E.hx E.hb dX1_grudged_1 rfl (lv_at hl 1 rfl) ?_
  obtain ⟨u1, hu1, hf⟩ := bd_e hf
  obtain ⟨⟨v3, X2⟩, hv3, hf⟩ := bd_e hf
  refine xrun_i (va_runV (As := [.int x1]) (rest := []) E.1 (tX1_rank l hv3) (cwX1_94 E.ht ⟨Nat.le_of_ble_eq_true rfl, Nat.le_of_ble_eq_true rfl⟩) (xPreV (ci := 1) E hR hS rfl (ck_e hu1)) rfl rfl hl.1 rfl (lv_room (Nat.le_of_ble_eq_true rfl)) dX1_grudged_2 ⟨Nat.le_trans (by omega) (Nat.le_refl 0), Nat.le_trans (by omega) (Nat.le_refl 0)⟩) hS (fun H locs hR hS => ?_)
  refine lv_istore_n (lv' := [(2, .int v3), (0, .ref x0), (1, .int x1)]) E.hx E.hb dX1_grudged_5 rfl hl (by decide) rfl (fun ls hl => ?_)
  refine lv_aload_n E.hx E.hb dX1_grudged_6 rfl (lv_at hl 1 rfl) ?_
  obtain ⟨v4, hv4, hf⟩ := bd_e hf
  refine xgX1_28 E hR hv4 dX1_grudged_7 ?_
  refine lv_iload_n E.hx E.hb dX1_grudged_10 rfl (lv_at hl 2 rfl) ?_
  obtain ⟨v5, hv5, hf⟩ := bd_e hf
  refine xild E hR hv5 dX1_grudged_11 ?_
  by_cases c6 : v5 = 1
  · have hf := it_t hf c6
    refine lv_tableIn (tgt := 40) (off := 28) E.hx E.hb dX1_grudged_12 (by rw [c6]; decide) (by rw [c6]; decide) (by rw [c6]; rfl) (by decide) ?_
    refine lv_iload_n E.hx E.hb dX1_grudged_40 rfl (lv_at hl 0 rfl) ?_
    refine lv_if_ne (tgt := 49) E.hx E.hb dX1_grudged_41 (by decide) (fun c7 => ?_) (fun c7 => ?_)
    · have hf := it_f hf c7
      refine lv_aload_n E.hx E.hb dX1_grudged_49 rfl (lv_at hl 1 rfl) ?_
      refine lv_iload_n E.hx E.hb dX1_grudged_50 rfl (lv_at hl 0 rfl) ?_
      refine lv_iconst (v := 1) E.hx E.hb dX1_grudged_51 (by decide) ?_
      refine lv_isub E.hx E.hb dX1_grudged_52 ?_
      obtain ⟨u8, hu8, hf⟩ := bd_e hf
      obtain ⟨⟨v10, X9⟩, hv10, hf⟩ := bd_e hf
      refine xrun_i (va_runV (As := [.int (v3 - 1)]) (rest := []) E.1 (tX1_ranked l hv10) (cwX1_97 E.ht ⟨Nat.le_of_ble_eq_true rfl, Nat.le_of_ble_eq_true rfl⟩) (xPreV (ci := 1) E hR hS rfl (ck_e hu8)) rfl rfl hl.1 rfl (lv_room (Nat.le_of_ble_eq_true rfl)) dX1_grudged_53 ⟨Nat.le_trans (by omega) (Nat.le_refl 0), Nat.le_trans (by omega) (Nat.le_refl 0)⟩) hS (fun H locs hR hS => ?_)
      obtain ⟨rfl, rfl⟩ := rt_e hf
      exact xret_i E (by omega) (by omega) hR hS dX1_grudged_56
    · have hf := it_t hf c7
      refine lv_ldc (v := (-1000000)) E.hx E.hb E.ho (E.ht _ q144) dX1_grudged_44 ?_
      refine lv_goto (tgt := 56) E.hx E.hb dX1_grudged_46 (by decide) ?_
      obtain ⟨rfl, rfl⟩ := rt_e hf
      exact xret_i E (by omega) (by omega) hR hS dX1_grudged_56
  · have hf := it_f hf c6
    by_cases c11 : v5 = 2
    · have hf := it_t hf c11
      refine lv_tableIn (tgt := 57) (off := 45) E.hx E.hb dX1_grudged_12 (by rw [c11]; decide) (by rw [c11]; decide) (by rw [c11]; rfl) (by decide) ?_
      refine lv_iload_n E.hx E.hb dX1_grudged_57 rfl (lv_at hl 0 rfl) ?_
      refine lv_if_ne (tgt := 66) E.hx E.hb dX1_grudged_58 (by decide) (fun c12 => ?_) (fun c12 => ?_)
      · have hf := it_f hf c12
        refine lv_aload_n E.hx E.hb dX1_grudged_66 rfl (lv_at hl 1 rfl) ?_
        refine lv_iconst (v := 0) E.hx E.hb dX1_grudged_67 (by decide) ?_
        obtain ⟨u13, hu13, hf⟩ := bd_e hf
        obtain ⟨⟨v15, X14⟩, hv15, hf⟩ := bd_e hf
        refine xrun_i (va_runV (As := [.int 0]) (rest := []) E.1 (tX1_ranked l hv15) (cwX1_97 E.ht ⟨Nat.le_of_ble_eq_true rfl, Nat.le_of_ble_eq_true rfl⟩) (xPreV (ci := 1) E hR hS rfl (ck_e hu13)) rfl rfl hl.1 rfl (lv_room (Nat.le_of_ble_eq_true rfl)) dX1_grudged_68 ⟨Nat.le_trans (by omega) (Nat.le_refl 0), Nat.le_trans (by omega) (Nat.le_refl 0)⟩) hS (fun H locs hR hS => ?_)
        obtain ⟨rfl, rfl⟩ := rt_e hf
        exact xret_i E (by omega) (by omega) hR hS dX1_grudged_71
      · have hf := it_t hf c12
        refine lv_ldc (v := (-1000000)) E.hx E.hb E.ho (E.ht _ q144) dX1_grudged_61 ?_
        refine lv_goto (tgt := 71) E.hx E.hb dX1_grudged_63 (by decide) ?_
        obtain ⟨rfl, rfl⟩ := rt_e hf
        exact xret_i E (by omega) (by omega) hR hS dX1_grudged_71
    · have hf := it_f hf c11
      by_cases c16 : v5 = 3
      · have hf := it_t hf c16
        refine lv_tableIn (tgt := 72) (off := 60) E.hx E.hb dX1_grudged_12 (by rw [c16]; decide) (by rw [c16]; decide) (by rw [c16]; rfl) (by decide) ?_
        refine lv_aload_n E.hx E.hb dX1_grudged_72 rfl (lv_at hl 1 rfl) ?_
        obtain ⟨u17, hu17, hf⟩ := bd_e hf
        obtain ⟨⟨v19, X18⟩, hv19, hf⟩ := bd_e hf
        refine xrun_i (va_runV (As := []) (rest := []) E.1 (tX1_many l hv19) (cwX1_87 E.ht ⟨Nat.le_of_ble_eq_true rfl, Nat.le_of_ble_eq_true rfl⟩) (xPreV (ci := 1) E hR hS rfl (ck_e hu17)) rfl rfl hl.1 rfl (lv_room (Nat.le_of_ble_eq_true rfl)) dX1_grudged_73 ⟨Nat.le_trans (by omega) (Nat.le_refl 0), Nat.le_trans (by omega) (Nat.le_refl 0)⟩) hS (fun H locs hR hS => ?_)
        refine lv_iconst (v := 1) E.hx E.hb dX1_grudged_76 (by decide) ?_
        refine lv_icmp_ne (tgt := 85) E.hx E.hb dX1_grudged_77 (by decide) (fun c20 => ?_) (fun c20 => ?_)
        · have hf := it_f hf c20
          refine lv_iload_n E.hx E.hb dX1_grudged_85 rfl (lv_at hl 2 rfl) ?_
          refine lv_iconst (v := 1) E.hx E.hb dX1_grudged_86 (by decide) ?_
          refine lv_iadd E.hx E.hb dX1_grudged_87 ?_
          refine lv_aload_n E.hx E.hb dX1_grudged_88 rfl (lv_at hl 1 rfl) ?_
          obtain ⟨u21, hu21, hf⟩ := bd_e hf
          obtain ⟨⟨v23, X22⟩, hv23, hf⟩ := bd_e hf
          refine xrun_i (va_runV (As := []) (rest := [.int (x1 + 1)]) E.1 (tX1_many l hv23) (cwX1_87 E.ht ⟨Nat.le_of_ble_eq_true rfl, Nat.le_of_ble_eq_true rfl⟩) (xPreV (ci := 1) E hR hS rfl (ck_e hu21)) rfl rfl hl.1 rfl (lv_room (Nat.le_of_ble_eq_true rfl)) dX1_grudged_89 ⟨Nat.le_trans (by omega) (Nat.le_refl 0), Nat.le_trans (by omega) (Nat.le_refl 0)⟩) hS (fun H locs hR hS => ?_)
          obtain ⟨v24, h25, hf⟩ := bd_e hf
          obtain ⟨h25, h25e⟩ := rmd_e h25
          refine lv_irem E.hx E.hb dX1_grudged_92 h25 ?_
          rw [h25e]
          obtain ⟨rfl, rfl⟩ := rt_e hf
          exact xret_i E (by omega) (by omega) hR hS dX1_grudged_93
        · have hf := it_t hf c20
          refine lv_ldc (v := (-1000000)) E.hx E.hb E.ho (E.ht _ q144) dX1_grudged_80 ?_
          refine lv_goto (tgt := 93) E.hx E.hb dX1_grudged_82 (by decide) ?_
          obtain ⟨rfl, rfl⟩ := rt_e hf
          exact xret_i E (by omega) (by omega) hR hS dX1_grudged_93
      · have hf := it_f hf c16
        have ec6 : ¬ v5.toInt = 1 := fun h => c6 (Int32.toInt_inj.mp h)
        have ec11 : ¬ v5.toInt = 2 := fun h => c11 (Int32.toInt_inj.mp h)
        have ec16 : ¬ v5.toInt = 3 := fun h => c16 (Int32.toInt_inj.mp h)
        refine lv_tableOut (tgt := 94) E.hx E.hb dX1_grudged_12 (by omega) (by decide) ?_
        refine lv_ldc (v := (-1000000)) E.hx E.hb E.ho (E.ht _ q144) dX1_grudged_94 ?_
        obtain ⟨rfl, rfl⟩ := rt_e hf
        exact xret_i E (by omega) (by omega) hR hS dX1_grudged_96
theorem tX1_grudged (l : Launch) {D : va_G} {cA : Nat → ClassId} {A : Nat → Prop} {Zs : XZ} {X Xf : AH} {x0 : Nat} {x1 : Int32} {r : Int32} (hf : fX1_grudged X x0 x1 = some (r, Xf)) : Met l yX1_grudged (ws_ yX1_grudged cX1_grudged 3 (some .int)) rmX1_grudged (xPc D cA A Zs X [.ref x0, .int x1]) (xQi D cA A Zs r Xf) 0 0 A := by
  refine Met.ofW (cc := cX1_grudged) (maxL := 3) (ret := (some .int)) (by decide) rfl ?_
  intro p e s m args below meth c s₁ B hml hv
  obtain ⟨rfl, hR, hK⟩ := hv
  have hts := atoms_spec (ws := (ws_ yX1_grudged cX1_grudged 3 (some .int))) B.pre
  rw [lg_entry_eq]
  exact wX1_grudged_0 (E := ⟨⟨B.exec, B.bytes, hml, findClass_of_methodNamed B.named, fun w h => hts w (List.mem_cons_of_mem _ h)⟩, hK, B.returns, B.notSynchronized⟩) hf _ _ _ 0 0 (Nat.le_of_ble_eq_true rfl) (Nat.le_of_ble_eq_true rfl) hR va_S.rf (lv_entry [.ref x0, .int x1] (n := 3) (Nat.le_of_ble_eq_true rfl))
end
abbrev rmX1_victim : Room := { frames := 10, cells := 0, slots := 0, locals := 207 }
theorem cwX1_100 {R : Room} {s : State} {args : Array Value} (ht : ∀ w ∈ lw_all, w.before args s = true) (hR : rmX1_grudged.frames + 1 ≤ R.frames ∧ 8 + (3 + 11) + rmX1_grudged.locals ≤ R.locals) : CallW R s args RX1 RX1 100 yX1_grudged cX1_grudged 3 (some .int) (ws_ yX1_grudged cX1_grudged 3 (some .int)) rmX1_grudged 0 0 1 :=
  cwV 1 ht (lw_V q756 q758 qs19 q69 q759) rfl rfl rfl (by decide +kernel) hR
section
variable {p : Program} {l : Launch} {e : Env} {s : State} {m : MethodId} {args : Array Value} {below : List Frame} {meth : Method} {c : Code} {D : va_G} {cA : Nat → ClassId} {A : Nat → Prop} {Zs : XZ} {Xf : AH} {r : Int32} {rl : Int64} {ra : Nat} {tv : Unit ⊕ Nat} {ti : Int32 ⊕ Nat} {tr : Nat ⊕ Nat} {q2 : Option Nat}
def fX1_victim  (X : AH) (x0 : Nat) (x1 : Int32) : Option (Int32 × AH) :=
  (gR X x0 1 5).bind fun v1 =>
  (gA X v1 0 x1).bind fun v2 =>
  if v2 = 0 then (some ((-1000000), X)) else ((ck X x0 1).bind fun _ =>
  (fX1_grudged X x0 x1).bind fun (v6, X5) =>
  some (v6, X5))
theorem wX1_victim_0 (E : xE p m c cX1_victim 2 s args RX1 D cA A Zs meth (some .int)) {X : AH} {x0 : Nat} {x1 : Int32} (hf : fX1_victim X x0 x1 = some (r, Xf)) : ∀ (H : Heap) (locs : List Loc) (ls : Array Slot) (cells slots : Nat), cells + 0 ≤ 0 → slots + 0 ≤ 0 → xR D cA A Zs X H → va_S A s.heap H locs → lv_has ls 2 [(0, .ref x0), (1, .int x1)] → W p l e rmX1_victim s m args below meth c H locs cells slots (MQ below (xQi D cA A Zs r Xf) args s 0 0 A) (F0 m 0 ls []) := by
  intro H locs ls cells slots hc hs hR hS hl
  refine lv_aload_n E.hx E.hb dX1_victim_0 rfl (lv_at hl 0 rfl) ?_
  obtain ⟨v1, hv1, hf⟩ := bd_e hf
  refine xgX1_25 E hR hv1 dX1_victim_1 ?_
  refine lv_iload_n E.hx E.hb dX1_victim_4 rfl (lv_at hl 1 rfl) ?_
  obtain ⟨v2, hv2, hf⟩ := bd_e hf
  refine xild E hR hv2 dX1_victim_5 ?_
  refine lv_if_ne (tgt := 14) E.hx E.hb dX1_victim_6 (by decide) (fun c3 => ?_) (fun c3 => ?_)
  · have hf := it_f hf c3
    refine lv_aload_n E.hx E.hb dX1_victim_14 rfl (lv_at hl 0 rfl) ?_
    refine lv_iload_n E.hx E.hb dX1_victim_15 rfl (lv_at hl 1 rfl) ?_
    obtain ⟨u4, hu4, hf⟩ := bd_e hf
    obtain ⟨⟨v6, X5⟩, hv6, hf⟩ := bd_e hf
    refine xrun_i (va_runV (As := [.int x1]) (rest := []) E.1 (tX1_grudged l hv6) (cwX1_100 E.ht ⟨Nat.le_of_ble_eq_true rfl, Nat.le_of_ble_eq_true rfl⟩) (xPreV (ci := 1) E hR hS rfl (ck_e hu4)) rfl rfl hl.1 rfl (lv_room (Nat.le_of_ble_eq_true rfl)) dX1_victim_16 ⟨Nat.le_trans (by omega) (Nat.le_refl 0), Nat.le_trans (by omega) (Nat.le_refl 0)⟩) hS (fun H locs hR hS => ?_)
    obtain ⟨rfl, rfl⟩ := rt_e hf
    exact xret_i E (by omega) (by omega) hR hS dX1_victim_19
  · have hf := it_t hf c3
    refine lv_ldc (v := (-1000000)) E.hx E.hb E.ho (E.ht _ q144) dX1_victim_9 ?_
    refine lv_goto (tgt := 19) E.hx E.hb dX1_victim_11 (by decide) ?_
    obtain ⟨rfl, rfl⟩ := rt_e hf
    exact xret_i E (by omega) (by omega) hR hS dX1_victim_19
theorem tX1_victim (l : Launch) {D : va_G} {cA : Nat → ClassId} {A : Nat → Prop} {Zs : XZ} {X Xf : AH} {x0 : Nat} {x1 : Int32} {r : Int32} (hf : fX1_victim X x0 x1 = some (r, Xf)) : Met l yX1_victim (ws_ yX1_victim cX1_victim 2 (some .int)) rmX1_victim (xPc D cA A Zs X [.ref x0, .int x1]) (xQi D cA A Zs r Xf) 0 0 A := by
  refine Met.ofW (cc := cX1_victim) (maxL := 2) (ret := (some .int)) (by decide) rfl ?_
  intro p e s m args below meth c s₁ B hml hv
  obtain ⟨rfl, hR, hK⟩ := hv
  have hts := atoms_spec (ws := (ws_ yX1_victim cX1_victim 2 (some .int))) B.pre
  rw [lg_entry_eq]
  exact wX1_victim_0 (E := ⟨⟨B.exec, B.bytes, hml, findClass_of_methodNamed B.named, fun w h => hts w (List.mem_cons_of_mem _ h)⟩, hK, B.returns, B.notSynchronized⟩) hf _ _ _ 0 0 (Nat.le_of_ble_eq_true rfl) (Nat.le_of_ble_eq_true rfl) hR va_S.rf (lv_entry [.ref x0, .int x1] (n := 2) (Nat.le_of_ble_eq_true rfl))
end
abbrev rmX1_isWatched : Room := { frames := 1, cells := 0, slots := 0, locals := 12 }
section
variable {p : Program} {l : Launch} {e : Env} {s : State} {m : MethodId} {args : Array Value} {below : List Frame} {meth : Method} {c : Code} {D : va_G} {cA : Nat → ClassId} {A : Nat → Prop} {Zs : XZ} {Xf : AH} {r : Int32} {rl : Int64} {ra : Nat} {tv : Unit ⊕ Nat} {ti : Int32 ⊕ Nat} {tr : Nat ⊕ Nat} {q2 : Option Nat}
def fX1_isWatched  (X : AH) (x0 : Nat) (x1 : Int32) : Option (Int32 × AH) :=
  (gI X x0 1 8).bind fun v1 =>
  if ((v1 >>> (x1 &&& 31)) &&& 1) = 1 then (some (1, X)) else (some (0, X))
theorem wX1_isWatched_0 (E : xE p m c cX1_isWatched 2 s args RX1 D cA A Zs meth (some .boolean)) {X : AH} {x0 : Nat} {x1 : Int32} (hf : fX1_isWatched X x0 x1 = some (r, Xf)) : ∀ (H : Heap) (locs : List Loc) (ls : Array Slot) (cells slots : Nat), cells + 0 ≤ 0 → slots + 0 ≤ 0 → xR D cA A Zs X H → va_S A s.heap H locs → lv_has ls 2 [(0, .ref x0), (1, .int x1)] → W p l e rmX1_isWatched s m args below meth c H locs cells slots (MQ below (xQi D cA A Zs r Xf) args s 0 0 A) (F0 m 0 ls []) := by
  intro H locs ls cells slots hc hs hR hS hl
  refine lv_aload_n E.hx E.hb dX1_isWatched_0 rfl (lv_at hl 0 rfl) ?_
  obtain ⟨v1, hv1, hf⟩ := bd_e hf
  refine xgX1_54 E hR hv1 dX1_isWatched_1 ?_
  refine lv_iload_n E.hx E.hb dX1_isWatched_4 rfl (lv_at hl 1 rfl) ?_
  refine lv_ishr E.hx E.hb dX1_isWatched_5 ?_
  refine lv_iconst (v := 1) E.hx E.hb dX1_isWatched_6 (by decide) ?_
  refine lv_iand E.hx E.hb dX1_isWatched_7 ?_
  refine lv_iconst (v := 1) E.hx E.hb dX1_isWatched_8 (by decide) ?_
  refine lv_icmp_ne (tgt := 16) E.hx E.hb dX1_isWatched_9 (by decide) (fun c2 => ?_) (fun c2 => ?_)
  · have hf := it_f hf c2
    refine lv_iconst (v := 0) E.hx E.hb dX1_isWatched_16 (by decide) ?_
    obtain ⟨rfl, rfl⟩ := rt_e hf
    exact xret_z E rfl (by omega) (by omega) hR hS dX1_isWatched_17
  · have hf := it_t hf c2
    refine lv_iconst (v := 1) E.hx E.hb dX1_isWatched_12 (by decide) ?_
    refine lv_goto (tgt := 17) E.hx E.hb dX1_isWatched_13 (by decide) ?_
    obtain ⟨rfl, rfl⟩ := rt_e hf
    exact xret_z E rfl (by omega) (by omega) hR hS dX1_isWatched_17
theorem tX1_isWatched (l : Launch) {D : va_G} {cA : Nat → ClassId} {A : Nat → Prop} {Zs : XZ} {X Xf : AH} {x0 : Nat} {x1 : Int32} {r : Int32} (hf : fX1_isWatched X x0 x1 = some (r, Xf)) : Met l yX1_isWatched (ws_ yX1_isWatched cX1_isWatched 2 (some .boolean)) rmX1_isWatched (xPc D cA A Zs X [.ref x0, .int x1]) (xQi D cA A Zs r Xf) 0 0 A := by
  refine Met.ofW (cc := cX1_isWatched) (maxL := 2) (ret := (some .boolean)) (by decide) rfl ?_
  intro p e s m args below meth c s₁ B hml hv
  obtain ⟨rfl, hR, hK⟩ := hv
  have hts := atoms_spec (ws := (ws_ yX1_isWatched cX1_isWatched 2 (some .boolean))) B.pre
  rw [lg_entry_eq]
  exact wX1_isWatched_0 (E := ⟨⟨B.exec, B.bytes, hml, findClass_of_methodNamed B.named, fun w h => hts w (List.mem_cons_of_mem _ h)⟩, hK, B.returns, B.notSynchronized⟩) hf _ _ _ 0 0 (Nat.le_of_ble_eq_true rfl) (Nat.le_of_ble_eq_true rfl) hR va_S.rf (lv_entry [.ref x0, .int x1] (n := 2) (Nat.le_of_ble_eq_true rfl))
end
abbrev rmX1_pass : Room := { frames := 11, cells := 0, slots := 0, locals := 228 }
theorem cwX1_103 {R : Room} {s : State} {args : Array Value} (ht : ∀ w ∈ lw_all, w.before args s = true) (hR : rmX1_victim.frames + 1 ≤ R.frames ∧ 8 + (2 + 11) + rmX1_victim.locals ≤ R.locals) : CallW R s args RX1 RX1 103 yX1_victim cX1_victim 2 (some .int) (ws_ yX1_victim cX1_victim 2 (some .int)) rmX1_victim 0 0 1 :=
  cwV 1 ht (lw_V q752 q753 q754 q69 q755) rfl rfl rfl (by decide +kernel) hR
theorem cwX1_106 {R : Room} {s : State} {args : Array Value} (ht : ∀ w ∈ lw_all, w.before args s = true) (hR : rmX1_isWatched.frames + 1 ≤ R.frames ∧ 8 + (2 + 11) + rmX1_isWatched.locals ≤ R.locals) : CallW R s args RX1 RX1 106 yX1_isWatched cX1_isWatched 2 (some .boolean) (ws_ yX1_isWatched cX1_isWatched 2 (some .boolean)) rmX1_isWatched 0 0 1 :=
  cwV 1 ht (lw_V q819 q820 q821 q69 q822) rfl rfl rfl (by decide +kernel) hR
theorem cwX1_110_X4 {R : Room} {s : State} {args : Array Value} (ht : ∀ w ∈ lw_all, w.before args s = true) (hR : rmX3_sawn.frames + 1 ≤ R.frames ∧ 8 + (2 + 11) + rmX3_sawn.locals ≤ R.locals) : va_CU R s args RX1 "ChairRanks$Plain" "ChairRanks$Chair" 110 ⟨"ChairRanks$Chair", "sawn", "(I)I"⟩ yX3_sawn cX3_sawn 2 (some .int) (ws_ yX3_sawn cX3_sawn 2 (some .int)) rmX3_sawn 0 0 1 :=
  xCU (ws := (ws_ yX3_sawn cX3_sawn 2 (some .int))) ht (lw_meth q834) rfl rfl rfl q823 q825 (va_Decl.of (ht _ q824) (ht _ q834)) q831 q824 q74 (by decide +kernel) hR
theorem cwX1_110_X5 {R : Room} {s : State} {args : Array Value} (ht : ∀ w ∈ lw_all, w.before args s = true) (hR : rmX3_sawn.frames + 1 ≤ R.frames ∧ 8 + (2 + 11) + rmX3_sawn.locals ≤ R.locals) : va_CU R s args RX1 "ChairRanks$Rocker" "ChairRanks$Chair" 110 ⟨"ChairRanks$Chair", "sawn", "(I)I"⟩ yX3_sawn cX3_sawn 2 (some .int) (ws_ yX3_sawn cX3_sawn 2 (some .int)) rmX3_sawn 0 0 1 :=
  xCU (ws := (ws_ yX3_sawn cX3_sawn 2 (some .int))) ht (lw_meth q834) rfl rfl rfl q823 q825 (va_Decl.of (ht _ q824) (ht _ q834)) q832 q824 q74 (by decide +kernel) hR
theorem cwX1_110_X6 {R : Room} {s : State} {args : Array Value} (ht : ∀ w ∈ lw_all, w.before args s = true) (hR : rmX3_sawn.frames + 1 ≤ R.frames ∧ 8 + (2 + 11) + rmX3_sawn.locals ≤ R.locals) : va_CU R s args RX1 "ChairRanks$Cushioned" "ChairRanks$Chair" 110 ⟨"ChairRanks$Chair", "sawn", "(I)I"⟩ yX3_sawn cX3_sawn 2 (some .int) (ws_ yX3_sawn cX3_sawn 2 (some .int)) rmX3_sawn 0 0 1 :=
  xCU (ws := (ws_ yX3_sawn cX3_sawn 2 (some .int))) ht (lw_meth q834) rfl rfl rfl q823 q825 (va_Decl.of (ht _ q824) (ht _ q834)) q826 q824 q74 (by decide +kernel) hR
theorem cwX1_110_X7 {R : Room} {s : State} {args : Array Value} (ht : ∀ w ∈ lw_all, w.before args s = true) (hR : rmX7_sawn.frames + 1 ≤ R.frames ∧ 8 + (2 + 11) + rmX7_sawn.locals ≤ R.locals) : va_CU R s args RX1 "ChairRanks$Oak" "ChairRanks$Chair" 110 ⟨"ChairRanks$Chair", "sawn", "(I)I"⟩ yX7_sawn cX7_sawn 2 (some .int) (ws_ yX7_sawn cX7_sawn 2 (some .int)) rmX7_sawn 0 0 1 :=
  xCU (ws := (ws_ yX7_sawn cX7_sawn 2 (some .int))) ht (lw_meth q829) rfl rfl rfl q823 q825 (va_Decl.of (ht _ q824) (ht _ q834)) q827 q828 q78 (by decide +kernel) hR
theorem cwX1_110_X8 {R : Room} {s : State} {args : Array Value} (ht : ∀ w ∈ lw_all, w.before args s = true) (hR : rmX7_sawn.frames + 1 ≤ R.frames ∧ 8 + (2 + 11) + rmX7_sawn.locals ≤ R.locals) : va_CU R s args RX1 "ChairRanks$Throne" "ChairRanks$Chair" 110 ⟨"ChairRanks$Chair", "sawn", "(I)I"⟩ yX7_sawn cX7_sawn 2 (some .int) (ws_ yX7_sawn cX7_sawn 2 (some .int)) rmX7_sawn 0 0 1 :=
  xCU (ws := (ws_ yX7_sawn cX7_sawn 2 (some .int))) ht (lw_meth q829) rfl rfl rfl q823 q825 (va_Decl.of (ht _ q824) (ht _ q834)) q833 q828 q78 (by decide +kernel) hR
section
variable {p : Program} {l : Launch} {e : Env} {s : State} {m : MethodId} {args : Array Value} {below : List Frame} {meth : Method} {c : Code} {D : va_G} {cA : Nat → ClassId} {A : Nat → Prop} {Zs : XZ} {Xf : AH} {r : Int32} {rl : Int64} {ra : Nat} {tv : Unit ⊕ Nat} {ti : Int32 ⊕ Nat} {tr : Nat ⊕ Nat} {q2 : Option Nat}
def fX1_pass_L100  : Nat → AH → Nat → Int32 → Option (Nat × AH)
  | 0, _, _, _ => none
  | n + 1, X, x0, x1 =>
    (ck X x0 1).bind fun _ =>
    (fX1_many X x0).bind fun (v3, X2) =>
    if v3 ≤ x1 then ((gI X2 x0 1 9).bind fun v5 =>
    (pF X2 x0 1 9 (.int (v5 + 1))).bind fun X6 =>
    some (x0, X6)) else ((gR X2 x0 1 10).bind fun v7 =>
    (gA X2 v7 0 x1).bind fun v8 =>
    if v8 = (-1000000) then ((fX1_pass_L100 n) X2 x0 (x1 + 1)) else ((gR X2 x0 1 10).bind fun v10 =>
    (gA X2 v10 0 x1).bind fun v11 =>
    (ck X2 x0 1).bind fun _ =>
    (fX1_isWatched X2 x0 v11).bind fun (v14, X13) =>
    if v14 = 0 then ((fX1_pass_L100 n) X13 x0 (x1 + 1)) else ((gR X13 x0 1 7).bind fun v16 =>
    (gA X13 v16 0 x1).bind fun v17 =>
    (pA X13 v16 0 x1 (v17 + 1)).bind fun X18 =>
    (gR X18 x0 1 5).bind fun v19 =>
    (gA X18 v19 0 x1).bind fun v20 =>
    (pA X18 v19 0 x1 (v20 - 1)).bind fun X21 =>
    (fX1_pass_L100 n) X21 x0 (x1 + 1))))
theorem wX1_pass_L100 (E : xE p m c cX1_pass 3 s args RX1 D cA A Zs meth (some (.object "ChairRanks$Ministry"))) : ∀ (n : Nat) (X : AH) (x0 : Nat) (x1 : Int32), fX1_pass_L100 n X x0 x1 = some (ra, Xf) → ∀ (H : Heap) (locs : List Loc) (ls : Array Slot) (cells slots : Nat), cells + 0 ≤ 0 → slots + 0 ≤ 0 → xR D cA A Zs X H → va_S A s.heap H locs → lv_has ls 3 [(0, .ref x0), (1, .int x1)] → W p l e rmX1_pass s m args below meth c H locs cells slots (MQ below (xQr D cA A Zs ra Xf) args s 0 0 A) (F0 m 100 ls []) := by
  intro n
  induction n with
  | zero =>
    intro X x0 x1 hf
    have hf : none = some (ra, Xf) := hf
    cases hf
  | succ n ih =>
    intro X x0 x1 hf H locs ls cells slots hc hs hR hS hl
    refine lv_iload_n E.hx E.hb dX1_pass_100 rfl (lv_at hl 1 rfl) ?_
    refine lv_aload_n E.hx E.hb dX1_pass_101 rfl (lv_at hl 0 rfl) ?_
    obtain ⟨u1, hu1, hf⟩ := bd_e hf
    obtain ⟨⟨v3, X2⟩, hv3, hf⟩ := bd_e hf
    refine xrun_i (va_runV (As := []) (rest := [.int x1]) E.1 (tX1_many l hv3) (cwX1_87 E.ht ⟨Nat.le_of_ble_eq_true rfl, Nat.le_of_ble_eq_true rfl⟩) (xPreV (ci := 1) E hR hS rfl (ck_e hu1)) rfl rfl hl.1 rfl (lv_room (Nat.le_of_ble_eq_true rfl)) dX1_pass_102 ⟨Nat.le_trans (by omega) (Nat.le_refl 0), Nat.le_trans (by omega) (Nat.le_refl 0)⟩) hS (fun H locs hR hS => ?_)
    refine lv_icmp_ge (tgt := 161) E.hx E.hb dX1_pass_105 (by decide) (fun c4 => ?_) (fun c4 => ?_)
    · have hf := it_t hf c4
      refine lv_aload_n E.hx E.hb dX1_pass_161 rfl (lv_at hl 0 rfl) ?_
      refine lv_dup E.hx E.hb dX1_pass_162 rfl ?_
      obtain ⟨v5, hv5, hf⟩ := bd_e hf
      refine xgX1_57 E hR hv5 dX1_pass_163 ?_
      refine lv_iconst (v := 1) E.hx E.hb dX1_pass_166 (by decide) ?_
      refine lv_iadd E.hx E.hb dX1_pass_167 ?_
      obtain ⟨X6, hX6, hf⟩ := bd_e hf
      refine xpX1_57 E hR hS hX6 dX1_pass_168 (fun H locs hR hS => ?_)
      refine lv_aload_n E.hx E.hb dX1_pass_171 rfl (lv_at hl 0 rfl) ?_
      obtain ⟨rfl, rfl⟩ := rt_e hf
      exact xret_r E (Or.inl ⟨_, rfl⟩) (by omega) (by omega) hR hS dX1_pass_172
    · have hf := it_f hf c4
      refine lv_aload_n E.hx E.hb dX1_pass_108 rfl (lv_at hl 0 rfl) ?_
      obtain ⟨v7, hv7, hf⟩ := bd_e hf
      refine xgX1_34 E hR hv7 dX1_pass_109 ?_
      refine lv_iload_n E.hx E.hb dX1_pass_112 rfl (lv_at hl 1 rfl) ?_
      obtain ⟨v8, hv8, hf⟩ := bd_e hf
      refine xild E hR hv8 dX1_pass_113 ?_
      refine lv_ldc (v := (-1000000)) E.hx E.hb E.ho (E.ht _ q144) dX1_pass_114 ?_
      refine lv_icmp_eq (tgt := 155) E.hx E.hb dX1_pass_116 (by decide) (fun c9 => ?_) (fun c9 => ?_)
      · have hf := it_t hf c9
        refine lv_iinc (v := (x1 + 1)) (lv' := [(1, .int (x1 + 1)), (0, .ref x0)]) E.hx E.hb dX1_pass_155 hl (k := 1) rfl rfl (by decide) rfl (fun ls hl => ?_)
        refine lv_goto (tgt := 100) E.hx E.hb dX1_pass_158 (by decide) ?_
        exact ih X2 _ _ hf _ _ _ _ _ (by omega) (by omega) hR hS (lv_sub hl [1, 0] rfl)
      · have hf := it_f hf c9
        refine lv_aload_n E.hx E.hb dX1_pass_119 rfl (lv_at hl 0 rfl) ?_
        refine lv_aload_n E.hx E.hb dX1_pass_120 rfl (lv_at hl 0 rfl) ?_
        obtain ⟨v10, hv10, hf⟩ := bd_e hf
        refine xgX1_34 E hR hv10 dX1_pass_121 ?_
        refine lv_iload_n E.hx E.hb dX1_pass_124 rfl (lv_at hl 1 rfl) ?_
        obtain ⟨v11, hv11, hf⟩ := bd_e hf
        refine xild E hR hv11 dX1_pass_125 ?_
        obtain ⟨u12, hu12, hf⟩ := bd_e hf
        obtain ⟨⟨v14, X13⟩, hv14, hf⟩ := bd_e hf
        refine xrun_i (va_runV (As := [.int v11]) (rest := []) E.1 (tX1_isWatched l hv14) (cwX1_106 E.ht ⟨Nat.le_of_ble_eq_true rfl, Nat.le_of_ble_eq_true rfl⟩) (xPreV (ci := 1) E hR hS rfl (ck_e hu12)) rfl rfl hl.1 rfl (lv_room (Nat.le_of_ble_eq_true rfl)) dX1_pass_126 ⟨Nat.le_trans (by omega) (Nat.le_refl 0), Nat.le_trans (by omega) (Nat.le_refl 0)⟩) hS (fun H locs hR hS => ?_)
        refine lv_if_ne (tgt := 135) E.hx E.hb dX1_pass_129 (by decide) (fun c15 => ?_) (fun c15 => ?_)
        · have hf := it_f hf c15
          refine lv_aload_n E.hx E.hb dX1_pass_135 rfl (lv_at hl 0 rfl) ?_
          obtain ⟨v16, hv16, hf⟩ := bd_e hf
          refine xgX1_31 E hR hv16 dX1_pass_136 ?_
          refine lv_iload_n E.hx E.hb dX1_pass_139 rfl (lv_at hl 1 rfl) ?_
          refine lv_dup2_11 E.hx E.hb dX1_pass_140 rfl rfl ?_
          obtain ⟨v17, hv17, hf⟩ := bd_e hf
          refine xild E hR hv17 dX1_pass_141 ?_
          refine lv_iconst (v := 1) E.hx E.hb dX1_pass_142 (by decide) ?_
          refine lv_iadd E.hx E.hb dX1_pass_143 ?_
          obtain ⟨X18, hX18, hf⟩ := bd_e hf
          refine xist E hR hS hX18 dX1_pass_144 (fun H locs hR hS => ?_)
          refine lv_aload_n E.hx E.hb dX1_pass_145 rfl (lv_at hl 0 rfl) ?_
          obtain ⟨v19, hv19, hf⟩ := bd_e hf
          refine xgX1_25 E hR hv19 dX1_pass_146 ?_
          refine lv_iload_n E.hx E.hb dX1_pass_149 rfl (lv_at hl 1 rfl) ?_
          refine lv_dup2_11 E.hx E.hb dX1_pass_150 rfl rfl ?_
          obtain ⟨v20, hv20, hf⟩ := bd_e hf
          refine xild E hR hv20 dX1_pass_151 ?_
          refine lv_iconst (v := 1) E.hx E.hb dX1_pass_152 (by decide) ?_
          refine lv_isub E.hx E.hb dX1_pass_153 ?_
          obtain ⟨X21, hX21, hf⟩ := bd_e hf
          refine xist E hR hS hX21 dX1_pass_154 (fun H locs hR hS => ?_)
          refine lv_iinc (v := (x1 + 1)) (lv' := [(1, .int (x1 + 1)), (0, .ref x0)]) E.hx E.hb dX1_pass_155 hl (k := 1) rfl rfl (by decide) rfl (fun ls hl => ?_)
          refine lv_goto (tgt := 100) E.hx E.hb dX1_pass_158 (by decide) ?_
          exact ih X21 _ _ hf _ _ _ _ _ (by omega) (by omega) hR hS (lv_sub hl [1, 0] rfl)
        · have hf := it_t hf c15
          refine lv_goto (tgt := 155) E.hx E.hb dX1_pass_132 (by decide) ?_
          refine lv_iinc (v := (x1 + 1)) (lv' := [(1, .int (x1 + 1)), (0, .ref x0)]) E.hx E.hb dX1_pass_155 hl (k := 1) rfl rfl (by decide) rfl (fun ls hl => ?_)
          refine lv_goto (tgt := 100) E.hx E.hb dX1_pass_158 (by decide) ?_
          exact ih X13 _ _ hf _ _ _ _ _ (by omega) (by omega) hR hS (lv_sub hl [1, 0] rfl)
def fX1_pass_L29  : Nat → AH → Nat → Int32 → Option (Nat × AH)
  | 0, _, _, _ => none
  | n + 1, X, x0, x1 =>
    (ck X x0 1).bind fun _ =>
    (fX1_many X x0).bind fun (v3, X2) =>
    if v3 ≤ x1 then (fX1_pass_L100 2000 X2 x0 0) else ((gR X2 x0 1 10).bind fun v5 =>
    (gA X2 v5 0 x1).bind fun v6 =>
    if v6 = (-1000000) then ((fX1_pass_L29 n) X2 x0 (x1 + 1)) else ((ck X2 x0 1).bind fun _ =>
    (fX1_isWatched X2 x0 v6).bind fun (v10, X9) =>
    if v10 = 0 then ((gR X9 x0 1 3).bind fun v12 =>
    (gR X9 x0 1 3).bind fun v13 =>
    (gA X9 v13 0 v6).bind fun v14 =>
    (ck X9 x0 1).bind fun _ =>
    (fX1_chair X9 x0 v6).bind fun (v17, X16) =>
    (gR X16 x0 1 5).bind fun v18 =>
    (gA X16 v18 0 x1).bind fun v19 =>
    (gC X16 v17).bind fun k20 =>
    if k20 = 4 then ((fX3_sawn X16 v17 v19).bind fun (v38, X37) =>
    (pA X37 v12 0 v6 (jmax 0 (v14 - v38))).bind fun X39 =>
    (fX1_pass_L29 n) X39 x0 (x1 + 1)) else (if k20 = 5 then ((fX3_sawn X16 v17 v19).bind fun (v34, X33) =>
    (pA X33 v12 0 v6 (jmax 0 (v14 - v34))).bind fun X35 =>
    (fX1_pass_L29 n) X35 x0 (x1 + 1)) else (if k20 = 6 then ((fX3_sawn X16 v17 v19).bind fun (v30, X29) =>
    (pA X29 v12 0 v6 (jmax 0 (v14 - v30))).bind fun X31 =>
    (fX1_pass_L29 n) X31 x0 (x1 + 1)) else (if k20 = 7 then ((fX7_sawn X16 v17 v19).bind fun (v26, X25) =>
    (pA X25 v12 0 v6 (jmax 0 (v14 - v26))).bind fun X27 =>
    (fX1_pass_L29 n) X27 x0 (x1 + 1)) else (if k20 = 8 then ((fX7_sawn X16 v17 v19).bind fun (v22, X21) =>
    (pA X21 v12 0 v6 (jmax 0 (v14 - v22))).bind fun X23 =>
    (fX1_pass_L29 n) X23 x0 (x1 + 1)) else none))))) else ((fX1_pass_L29 n) X9 x0 (x1 + 1))))
theorem wX1_pass_L29 (E : xE p m c cX1_pass 3 s args RX1 D cA A Zs meth (some (.object "ChairRanks$Ministry"))) : ∀ (n : Nat) (X : AH) (x0 : Nat) (x1 : Int32), fX1_pass_L29 n X x0 x1 = some (ra, Xf) → ∀ (H : Heap) (locs : List Loc) (ls : Array Slot) (cells slots : Nat), cells + 0 ≤ 0 → slots + 0 ≤ 0 → xR D cA A Zs X H → va_S A s.heap H locs → lv_has ls 3 [(0, .ref x0), (1, .int x1)] → W p l e rmX1_pass s m args below meth c H locs cells slots (MQ below (xQr D cA A Zs ra Xf) args s 0 0 A) (F0 m 29 ls []) := by
  intro n
  induction n with
  | zero =>
    intro X x0 x1 hf
    have hf : none = some (ra, Xf) := hf
    cases hf
  | succ n ih =>
    intro X x0 x1 hf H locs ls cells slots hc hs hR hS hl
    refine lv_iload_n E.hx E.hb dX1_pass_29 rfl (lv_at hl 1 rfl) ?_
    refine lv_aload_n E.hx E.hb dX1_pass_30 rfl (lv_at hl 0 rfl) ?_
    obtain ⟨u1, hu1, hf⟩ := bd_e hf
    obtain ⟨⟨v3, X2⟩, hv3, hf⟩ := bd_e hf
    refine xrun_i (va_runV (As := []) (rest := [.int x1]) E.1 (tX1_many l hv3) (cwX1_87 E.ht ⟨Nat.le_of_ble_eq_true rfl, Nat.le_of_ble_eq_true rfl⟩) (xPreV (ci := 1) E hR hS rfl (ck_e hu1)) rfl rfl hl.1 rfl (lv_room (Nat.le_of_ble_eq_true rfl)) dX1_pass_31 ⟨Nat.le_trans (by omega) (Nat.le_refl 0), Nat.le_trans (by omega) (Nat.le_refl 0)⟩) hS (fun H locs hR hS => ?_)
    refine lv_icmp_ge (tgt := 98) E.hx E.hb dX1_pass_34 (by decide) (fun c4 => ?_) (fun c4 => ?_)
    · have hf := it_t hf c4
      refine lv_iconst (v := 0) E.hx E.hb dX1_pass_98 (by decide) ?_
      refine lv_istore_n (lv' := [(1, .int 0), (0, .ref x0)]) E.hx E.hb dX1_pass_99 rfl hl (by decide) rfl (fun ls hl => ?_)
      exact wX1_pass_L100 E  2000 X2 _ _ hf _ _ _ _ _ (by omega) (by omega) hR hS (lv_sub hl [1, 0] rfl)
    · have hf := it_f hf c4
      refine lv_aload_n E.hx E.hb dX1_pass_37 rfl (lv_at hl 0 rfl) ?_
      obtain ⟨v5, hv5, hf⟩ := bd_e hf
      refine xgX1_34 E hR hv5 dX1_pass_38 ?_
      refine lv_iload_n E.hx E.hb dX1_pass_41 rfl (lv_at hl 1 rfl) ?_
      obtain ⟨v6, hv6, hf⟩ := bd_e hf
      refine xild E hR hv6 dX1_pass_42 ?_
      refine lv_istore_n (lv' := [(2, .int v6), (0, .ref x0), (1, .int x1)]) E.hx E.hb dX1_pass_43 rfl hl (by decide) rfl (fun ls hl => ?_)
      refine lv_iload_n E.hx E.hb dX1_pass_44 rfl (lv_at hl 0 rfl) ?_
      refine lv_ldc (v := (-1000000)) E.hx E.hb E.ho (E.ht _ q144) dX1_pass_45 ?_
      refine lv_icmp_eq (tgt := 92) E.hx E.hb dX1_pass_47 (by decide) (fun c7 => ?_) (fun c7 => ?_)
      · have hf := it_t hf c7
        refine lv_iinc (v := (x1 + 1)) (lv' := [(1, .int (x1 + 1)), (2, .int v6), (0, .ref x0)]) E.hx E.hb dX1_pass_92 hl (k := 2) rfl rfl (by decide) rfl (fun ls hl => ?_)
        refine lv_goto (tgt := 29) E.hx E.hb dX1_pass_95 (by decide) ?_
        exact ih X2 _ _ hf _ _ _ _ _ (by omega) (by omega) hR hS (lv_sub hl [2, 0] rfl)
      · have hf := it_f hf c7
        refine lv_aload_n E.hx E.hb dX1_pass_50 rfl (lv_at hl 1 rfl) ?_
        refine lv_iload_n E.hx E.hb dX1_pass_51 rfl (lv_at hl 0 rfl) ?_
        obtain ⟨u8, hu8, hf⟩ := bd_e hf
        obtain ⟨⟨v10, X9⟩, hv10, hf⟩ := bd_e hf
        refine xrun_i (va_runV (As := [.int v6]) (rest := []) E.1 (tX1_isWatched l hv10) (cwX1_106 E.ht ⟨Nat.le_of_ble_eq_true rfl, Nat.le_of_ble_eq_true rfl⟩) (xPreV (ci := 1) E hR hS rfl (ck_e hu8)) rfl rfl hl.1 rfl (lv_room (Nat.le_of_ble_eq_true rfl)) dX1_pass_52 ⟨Nat.le_trans (by omega) (Nat.le_refl 0), Nat.le_trans (by omega) (Nat.le_refl 0)⟩) hS (fun H locs hR hS => ?_)
        refine lv_if_eq (tgt := 61) E.hx E.hb dX1_pass_55 (by decide) (fun c11 => ?_) (fun c11 => ?_)
        · have hf := it_t hf c11
          refine lv_aload_n E.hx E.hb dX1_pass_61 rfl (lv_at hl 1 rfl) ?_
          obtain ⟨v12, hv12, hf⟩ := bd_e hf
          refine xgX1_18 E hR hv12 dX1_pass_62 ?_
          refine lv_iload_n E.hx E.hb dX1_pass_65 rfl (lv_at hl 0 rfl) ?_
          refine lv_iconst (v := 0) E.hx E.hb dX1_pass_66 (by decide) ?_
          refine lv_aload_n E.hx E.hb dX1_pass_67 rfl (lv_at hl 1 rfl) ?_
          obtain ⟨v13, hv13, hf⟩ := bd_e hf
          refine xgX1_18 E hR hv13 dX1_pass_68 ?_
          refine lv_iload_n E.hx E.hb dX1_pass_71 rfl (lv_at hl 0 rfl) ?_
          obtain ⟨v14, hv14, hf⟩ := bd_e hf
          refine xild E hR hv14 dX1_pass_72 ?_
          refine lv_aload_n E.hx E.hb dX1_pass_73 rfl (lv_at hl 1 rfl) ?_
          refine lv_iload_n E.hx E.hb dX1_pass_74 rfl (lv_at hl 0 rfl) ?_
          obtain ⟨u15, hu15, hf⟩ := bd_e hf
          obtain ⟨⟨v17, X16⟩, hv17, hf⟩ := bd_e hf
          refine xrun_r (va_runV (As := [.int v6]) (rest := [.int v14, .int 0, .int v6, .ref v12]) E.1 (tX1_chair l hv17) (cwX1_76 E.ht ⟨Nat.le_of_ble_eq_true rfl, Nat.le_of_ble_eq_true rfl⟩) (xPreV (ci := 1) E hR hS rfl (ck_e hu15)) rfl rfl hl.1 rfl (lv_room (Nat.le_of_ble_eq_true rfl)) dX1_pass_75 ⟨Nat.le_trans (by omega) (Nat.le_refl 0), Nat.le_trans (by omega) (Nat.le_refl 0)⟩) hS (fun H locs hR hS => ?_)
          refine lv_aload_n E.hx E.hb dX1_pass_78 rfl (lv_at hl 1 rfl) ?_
          obtain ⟨v18, hv18, hf⟩ := bd_e hf
          refine xgX1_25 E hR hv18 dX1_pass_79 ?_
          refine lv_iload_n E.hx E.hb dX1_pass_82 rfl (lv_at hl 2 rfl) ?_
          obtain ⟨v19, hv19, hf⟩ := bd_e hf
          refine xild E hR hv19 dX1_pass_83 ?_
          obtain ⟨k20, hk20, hf⟩ := bd_e hf
          by_cases c40 : k20 = 4
          · have hf := it_t hf c40
            obtain ⟨⟨v38, X37⟩, hv38, hf⟩ := bd_e hf
            refine xrun_i (va_runU (As := [.int v19]) (rest := [.int v14, .int 0, .int v6, .ref v12]) E.1 (tX3_sawn l hv38) (cwX1_110_X4 E.ht ⟨Nat.le_of_ble_eq_true rfl, Nat.le_of_ble_eq_true rfl⟩) (xPreV (ci := 4) E hR hS rfl (hk20.trans (congrArg some c40))) rfl rfl hl.1 rfl (lv_room (Nat.le_of_ble_eq_true rfl)) dX1_pass_84 ⟨Nat.le_trans (by omega) (Nat.le_refl 0), Nat.le_trans (by omega) (Nat.le_refl 0)⟩) hS (fun H locs hR hS => ?_)
            refine lv_isub E.hx E.hb dX1_pass_87 ?_
            refine xmmax E hl.1 q835 (Nat.le_of_ble_eq_true rfl) (Nat.le_of_ble_eq_true rfl) (Nat.le_trans (by omega) (Nat.le_refl 0)) (Nat.le_trans (by omega) (Nat.le_refl 0)) dX1_pass_88 ?_
            obtain ⟨X39, hX39, hf⟩ := bd_e hf
            refine xist E hR hS hX39 dX1_pass_91 (fun H locs hR hS => ?_)
            refine lv_iinc (v := (x1 + 1)) (lv' := [(1, .int (x1 + 1)), (2, .int v6), (0, .ref x0)]) E.hx E.hb dX1_pass_92 hl (k := 2) rfl rfl (by decide) rfl (fun ls hl => ?_)
            refine lv_goto (tgt := 29) E.hx E.hb dX1_pass_95 (by decide) ?_
            exact ih X39 _ _ hf _ _ _ _ _ (by omega) (by omega) hR hS (lv_sub hl [2, 0] rfl)
          · have hf := it_f hf c40
            by_cases c36 : k20 = 5
            · have hf := it_t hf c36
              obtain ⟨⟨v34, X33⟩, hv34, hf⟩ := bd_e hf
              refine xrun_i (va_runU (As := [.int v19]) (rest := [.int v14, .int 0, .int v6, .ref v12]) E.1 (tX3_sawn l hv34) (cwX1_110_X5 E.ht ⟨Nat.le_of_ble_eq_true rfl, Nat.le_of_ble_eq_true rfl⟩) (xPreV (ci := 5) E hR hS rfl (hk20.trans (congrArg some c36))) rfl rfl hl.1 rfl (lv_room (Nat.le_of_ble_eq_true rfl)) dX1_pass_84 ⟨Nat.le_trans (by omega) (Nat.le_refl 0), Nat.le_trans (by omega) (Nat.le_refl 0)⟩) hS (fun H locs hR hS => ?_)
              refine lv_isub E.hx E.hb dX1_pass_87 ?_
              refine xmmax E hl.1 q835 (Nat.le_of_ble_eq_true rfl) (Nat.le_of_ble_eq_true rfl) (Nat.le_trans (by omega) (Nat.le_refl 0)) (Nat.le_trans (by omega) (Nat.le_refl 0)) dX1_pass_88 ?_
              obtain ⟨X35, hX35, hf⟩ := bd_e hf
              refine xist E hR hS hX35 dX1_pass_91 (fun H locs hR hS => ?_)
              refine lv_iinc (v := (x1 + 1)) (lv' := [(1, .int (x1 + 1)), (2, .int v6), (0, .ref x0)]) E.hx E.hb dX1_pass_92 hl (k := 2) rfl rfl (by decide) rfl (fun ls hl => ?_)
              refine lv_goto (tgt := 29) E.hx E.hb dX1_pass_95 (by decide) ?_
              exact ih X35 _ _ hf _ _ _ _ _ (by omega) (by omega) hR hS (lv_sub hl [2, 0] rfl)
            · have hf := it_f hf c36
              by_cases c32 : k20 = 6
              · have hf := it_t hf c32
                obtain ⟨⟨v30, X29⟩, hv30, hf⟩ := bd_e hf
                refine xrun_i (va_runU (As := [.int v19]) (rest := [.int v14, .int 0, .int v6, .ref v12]) E.1 (tX3_sawn l hv30) (cwX1_110_X6 E.ht ⟨Nat.le_of_ble_eq_true rfl, Nat.le_of_ble_eq_true rfl⟩) (xPreV (ci := 6) E hR hS rfl (hk20.trans (congrArg some c32))) rfl rfl hl.1 rfl (lv_room (Nat.le_of_ble_eq_true rfl)) dX1_pass_84 ⟨Nat.le_trans (by omega) (Nat.le_refl 0), Nat.le_trans (by omega) (Nat.le_refl 0)⟩) hS (fun H locs hR hS => ?_)
                refine lv_isub E.hx E.hb dX1_pass_87 ?_
                refine xmmax E hl.1 q835 (Nat.le_of_ble_eq_true rfl) (Nat.le_of_ble_eq_true rfl) (Nat.le_trans (by omega) (Nat.le_refl 0)) (Nat.le_trans (by omega) (Nat.le_refl 0)) dX1_pass_88 ?_
                obtain ⟨X31, hX31, hf⟩ := bd_e hf
                refine xist E hR hS hX31 dX1_pass_91 (fun H locs hR hS => ?_)
                refine lv_iinc (v := (x1 + 1)) (lv' := [(1, .int (x1 + 1)), (2, .int v6), (0, .ref x0)]) E.hx E.hb dX1_pass_92 hl (k := 2) rfl rfl (by decide) rfl (fun ls hl => ?_)
                refine lv_goto (tgt := 29) E.hx E.hb dX1_pass_95 (by decide) ?_
                exact ih X31 _ _ hf _ _ _ _ _ (by omega) (by omega) hR hS (lv_sub hl [2, 0] rfl)
              · have hf := it_f hf c32
                by_cases c28 : k20 = 7
                · have hf := it_t hf c28
                  obtain ⟨⟨v26, X25⟩, hv26, hf⟩ := bd_e hf
                  refine xrun_i (va_runU (As := [.int v19]) (rest := [.int v14, .int 0, .int v6, .ref v12]) E.1 (tX7_sawn l hv26) (cwX1_110_X7 E.ht ⟨Nat.le_of_ble_eq_true rfl, Nat.le_of_ble_eq_true rfl⟩) (xPreV (ci := 7) E hR hS rfl (hk20.trans (congrArg some c28))) rfl rfl hl.1 rfl (lv_room (Nat.le_of_ble_eq_true rfl)) dX1_pass_84 ⟨Nat.le_trans (by omega) (Nat.le_refl 0), Nat.le_trans (by omega) (Nat.le_refl 0)⟩) hS (fun H locs hR hS => ?_)
                  refine lv_isub E.hx E.hb dX1_pass_87 ?_
                  refine xmmax E hl.1 q835 (Nat.le_of_ble_eq_true rfl) (Nat.le_of_ble_eq_true rfl) (Nat.le_trans (by omega) (Nat.le_refl 0)) (Nat.le_trans (by omega) (Nat.le_refl 0)) dX1_pass_88 ?_
                  obtain ⟨X27, hX27, hf⟩ := bd_e hf
                  refine xist E hR hS hX27 dX1_pass_91 (fun H locs hR hS => ?_)
                  refine lv_iinc (v := (x1 + 1)) (lv' := [(1, .int (x1 + 1)), (2, .int v6), (0, .ref x0)]) E.hx E.hb dX1_pass_92 hl (k := 2) rfl rfl (by decide) rfl (fun ls hl => ?_)
                  refine lv_goto (tgt := 29) E.hx E.hb dX1_pass_95 (by decide) ?_
                  exact ih X27 _ _ hf _ _ _ _ _ (by omega) (by omega) hR hS (lv_sub hl [2, 0] rfl)
                · have hf := it_f hf c28
                  by_cases c24 : k20 = 8
                  · have hf := it_t hf c24
                    obtain ⟨⟨v22, X21⟩, hv22, hf⟩ := bd_e hf
                    refine xrun_i (va_runU (As := [.int v19]) (rest := [.int v14, .int 0, .int v6, .ref v12]) E.1 (tX7_sawn l hv22) (cwX1_110_X8 E.ht ⟨Nat.le_of_ble_eq_true rfl, Nat.le_of_ble_eq_true rfl⟩) (xPreV (ci := 8) E hR hS rfl (hk20.trans (congrArg some c24))) rfl rfl hl.1 rfl (lv_room (Nat.le_of_ble_eq_true rfl)) dX1_pass_84 ⟨Nat.le_trans (by omega) (Nat.le_refl 0), Nat.le_trans (by omega) (Nat.le_refl 0)⟩) hS (fun H locs hR hS => ?_)
                    refine lv_isub E.hx E.hb dX1_pass_87 ?_
                    refine xmmax E hl.1 q835 (Nat.le_of_ble_eq_true rfl) (Nat.le_of_ble_eq_true rfl) (Nat.le_trans (by omega) (Nat.le_refl 0)) (Nat.le_trans (by omega) (Nat.le_refl 0)) dX1_pass_88 ?_
                    obtain ⟨X23, hX23, hf⟩ := bd_e hf
                    refine xist E hR hS hX23 dX1_pass_91 (fun H locs hR hS => ?_)
                    refine lv_iinc (v := (x1 + 1)) (lv' := [(1, .int (x1 + 1)), (2, .int v6), (0, .ref x0)]) E.hx E.hb dX1_pass_92 hl (k := 2) rfl rfl (by decide) rfl (fun ls hl => ?_)
                    refine lv_goto (tgt := 29) E.hx E.hb dX1_pass_95 (by decide) ?_
                    exact ih X23 _ _ hf _ _ _ _ _ (by omega) (by omega) hR hS (lv_sub hl [2, 0] rfl)
                  · have hf := it_f hf c24
                    have hf : none = some (ra, Xf) := hf
                    cases hf
        · have hf := it_f hf c11
          refine lv_goto (tgt := 92) E.hx E.hb dX1_pass_58 (by decide) ?_
          refine lv_iinc (v := (x1 + 1)) (lv' := [(1, .int (x1 + 1)), (2, .int v6), (0, .ref x0)]) E.hx E.hb dX1_pass_92 hl (k := 2) rfl rfl (by decide) rfl (fun ls hl => ?_)
          refine lv_goto (tgt := 29) E.hx E.hb dX1_pass_95 (by decide) ?_
          exact ih X9 _ _ hf _ _ _ _ _ (by omega) (by omega) hR hS (lv_sub hl [2, 0] rfl)
def fX1_pass_L2  : Nat → AH → Nat → Int32 → Option (Nat × AH)
  | 0, _, _, _ => none
  | n + 1, X, x0, x1 =>
    (ck X x0 1).bind fun _ =>
    (fX1_many X x0).bind fun (v3, X2) =>
    if v3 ≤ x1 then (fX1_pass_L29 2000 X2 x0 0) else ((gR X2 x0 1 10).bind fun v5 =>
    (ck X2 x0 1).bind fun _ =>
    (fX1_victim X2 x0 x1).bind fun (v8, X7) =>
    (pA X7 v5 0 x1 v8).bind fun X9 =>
    (fX1_pass_L2 n) X9 x0 (x1 + 1))
theorem wX1_pass_L2 (E : xE p m c cX1_pass 3 s args RX1 D cA A Zs meth (some (.object "ChairRanks$Ministry"))) : ∀ (n : Nat) (X : AH) (x0 : Nat) (x1 : Int32), fX1_pass_L2 n X x0 x1 = some (ra, Xf) → ∀ (H : Heap) (locs : List Loc) (ls : Array Slot) (cells slots : Nat), cells + 0 ≤ 0 → slots + 0 ≤ 0 → xR D cA A Zs X H → va_S A s.heap H locs → lv_has ls 3 [(0, .ref x0), (1, .int x1)] → W p l e rmX1_pass s m args below meth c H locs cells slots (MQ below (xQr D cA A Zs ra Xf) args s 0 0 A) (F0 m 2 ls []) := by
  intro n
  induction n with
  | zero =>
    intro X x0 x1 hf
    have hf : none = some (ra, Xf) := hf
    cases hf
  | succ n ih =>
    intro X x0 x1 hf H locs ls cells slots hc hs hR hS hl
    refine lv_iload_n E.hx E.hb dX1_pass_2 rfl (lv_at hl 1 rfl) ?_
    refine lv_aload_n E.hx E.hb dX1_pass_3 rfl (lv_at hl 0 rfl) ?_
    obtain ⟨u1, hu1, hf⟩ := bd_e hf
    obtain ⟨⟨v3, X2⟩, hv3, hf⟩ := bd_e hf
    refine xrun_i (va_runV (As := []) (rest := [.int x1]) E.1 (tX1_many l hv3) (cwX1_87 E.ht ⟨Nat.le_of_ble_eq_true rfl, Nat.le_of_ble_eq_true rfl⟩) (xPreV (ci := 1) E hR hS rfl (ck_e hu1)) rfl rfl hl.1 rfl (lv_room (Nat.le_of_ble_eq_true rfl)) dX1_pass_4 ⟨Nat.le_trans (by omega) (Nat.le_refl 0), Nat.le_trans (by omega) (Nat.le_refl 0)⟩) hS (fun H locs hR hS => ?_)
    refine lv_icmp_ge (tgt := 27) E.hx E.hb dX1_pass_7 (by decide) (fun c4 => ?_) (fun c4 => ?_)
    · have hf := it_t hf c4
      refine lv_iconst (v := 0) E.hx E.hb dX1_pass_27 (by decide) ?_
      refine lv_istore_n (lv' := [(1, .int 0), (0, .ref x0)]) E.hx E.hb dX1_pass_28 rfl hl (by decide) rfl (fun ls hl => ?_)
      exact wX1_pass_L29 E  2000 X2 _ _ hf _ _ _ _ _ (by omega) (by omega) hR hS (lv_sub hl [1, 0] rfl)
    · have hf := it_f hf c4
      refine lv_aload_n E.hx E.hb dX1_pass_10 rfl (lv_at hl 0 rfl) ?_
      obtain ⟨v5, hv5, hf⟩ := bd_e hf
      refine xgX1_34 E hR hv5 dX1_pass_11 ?_
      refine lv_iload_n E.hx E.hb dX1_pass_14 rfl (lv_at hl 1 rfl) ?_
      refine lv_aload_n E.hx E.hb dX1_pass_15 rfl (lv_at hl 0 rfl) ?_
      refine lv_iload_n E.hx E.hb dX1_pass_16 rfl (lv_at hl 1 rfl) ?_
      obtain ⟨u6, hu6, hf⟩ := bd_e hf
      obtain ⟨⟨v8, X7⟩, hv8, hf⟩ := bd_e hf
      refine xrun_i (va_runV (As := [.int x1]) (rest := [.int x1, .ref v5]) E.1 (tX1_victim l hv8) (cwX1_103 E.ht ⟨Nat.le_of_ble_eq_true rfl, Nat.le_of_ble_eq_true rfl⟩) (xPreV (ci := 1) E hR hS rfl (ck_e hu6)) rfl rfl hl.1 rfl (lv_room (Nat.le_of_ble_eq_true rfl)) dX1_pass_17 ⟨Nat.le_trans (by omega) (Nat.le_refl 0), Nat.le_trans (by omega) (Nat.le_refl 0)⟩) hS (fun H locs hR hS => ?_)
      obtain ⟨X9, hX9, hf⟩ := bd_e hf
      refine xist E hR hS hX9 dX1_pass_20 (fun H locs hR hS => ?_)
      refine lv_iinc (v := (x1 + 1)) (lv' := [(1, .int (x1 + 1)), (0, .ref x0)]) E.hx E.hb dX1_pass_21 hl (k := 1) rfl rfl (by decide) rfl (fun ls hl => ?_)
      refine lv_goto (tgt := 2) E.hx E.hb dX1_pass_24 (by decide) ?_
      exact ih X9 _ _ hf _ _ _ _ _ (by omega) (by omega) hR hS (lv_sub hl [1, 0] rfl)
def fX1_pass  (X : AH) (x0 : Nat) : Option (Nat × AH) :=
  fX1_pass_L2 2000 X x0 0
theorem wX1_pass_0 (E : xE p m c cX1_pass 3 s args RX1 D cA A Zs meth (some (.object "ChairRanks$Ministry"))) {X : AH} {x0 : Nat} (hf : fX1_pass X x0 = some (ra, Xf)) : ∀ (H : Heap) (locs : List Loc) (ls : Array Slot) (cells slots : Nat), cells + 0 ≤ 0 → slots + 0 ≤ 0 → xR D cA A Zs X H → va_S A s.heap H locs → lv_has ls 3 [(0, .ref x0)] → W p l e rmX1_pass s m args below meth c H locs cells slots (MQ below (xQr D cA A Zs ra Xf) args s 0 0 A) (F0 m 0 ls []) := by
  intro H locs ls cells slots hc hs hR hS hl
  refine lv_iconst (v := 0) E.hx E.hb dX1_pass_0 (by decide) ?_
  refine lv_istore_n (lv' := [(1, .int 0), (0, .ref x0)]) E.hx E.hb dX1_pass_1 rfl hl (by decide) rfl (fun ls hl => ?_)
  exact wX1_pass_L2 E  2000 X _ _ hf _ _ _ _ _ (by omega) (by omega) hR hS (lv_sub hl [1, 0] rfl)
theorem tX1_pass (l : Launch) {D : va_G} {cA : Nat → ClassId} {A : Nat → Prop} {Zs : XZ} {X Xf : AH} {x0 : Nat} {ra : Nat} (hf : fX1_pass X x0 = some (ra, Xf)) : Met l yX1_pass (ws_ yX1_pass cX1_pass 3 (some (.object "ChairRanks$Ministry"))) rmX1_pass (xPc D cA A Zs X [.ref x0]) (xQr D cA A Zs ra Xf) 0 0 A := by
  refine Met.ofW (cc := cX1_pass) (maxL := 3) (ret := (some (.object "ChairRanks$Ministry"))) (by decide) rfl ?_
  intro p e s m args below meth c s₁ B hml hv
  obtain ⟨rfl, hR, hK⟩ := hv
  have hts := atoms_spec (ws := (ws_ yX1_pass cX1_pass 3 (some (.object "ChairRanks$Ministry")))) B.pre
  rw [lg_entry_eq]
  exact wX1_pass_0 (E := ⟨⟨B.exec, B.bytes, hml, findClass_of_methodNamed B.named, fun w h => hts w (List.mem_cons_of_mem _ h)⟩, hK, B.returns, B.notSynchronized⟩) hf _ _ _ 0 0 (Nat.le_of_ble_eq_true rfl) (Nat.le_of_ble_eq_true rfl) hR va_S.rf (lv_entry [.ref x0] (n := 3) (Nat.le_of_ble_eq_true rfl))
end
abbrev rmX1_mend : Room := { frames := 1, cells := 0, slots := 0, locals := 64 }
section
variable {p : Program} {l : Launch} {e : Env} {s : State} {m : MethodId} {args : Array Value} {below : List Frame} {meth : Method} {c : Code} {D : va_G} {cA : Nat → ClassId} {A : Nat → Prop} {Zs : XZ} {Xf : AH} {r : Int32} {rl : Int64} {ra : Nat} {tv : Unit ⊕ Nat} {ti : Int32 ⊕ Nat} {tr : Nat ⊕ Nat} {q2 : Option Nat}
def fX1_mend  (X : AH) (x0 : Nat) (x1 : Int32) : Option (Int32 × AH) :=
  (gR X x0 1 3).bind fun v1 =>
  (gR X x0 1 3).bind fun v2 =>
  (gA X v2 0 x1).bind fun v3 =>
  (gI X x0 1 1).bind fun v4 =>
  (pA X v1 0 x1 (jmin 60 (v3 + v4))).bind fun X5 =>
  (gR X5 x0 1 3).bind fun v6 =>
  (gA X5 v6 0 x1).bind fun v7 =>
  some (v7, X5)
theorem wX1_mend_0 (E : xE p m c cX1_mend 2 s args RX1 D cA A Zs meth (some .int)) {X : AH} {x0 : Nat} {x1 : Int32} (hf : fX1_mend X x0 x1 = some (r, Xf)) : ∀ (H : Heap) (locs : List Loc) (ls : Array Slot) (cells slots : Nat), cells + 0 ≤ 0 → slots + 0 ≤ 0 → xR D cA A Zs X H → va_S A s.heap H locs → lv_has ls 2 [(0, .ref x0), (1, .int x1)] → W p l e rmX1_mend s m args below meth c H locs cells slots (MQ below (xQi D cA A Zs r Xf) args s 0 0 A) (F0 m 0 ls []) := by
  intro H locs ls cells slots hc hs hR hS hl
  refine lv_aload_n E.hx E.hb dX1_mend_0 rfl (lv_at hl 0 rfl) ?_
  obtain ⟨v1, hv1, hf⟩ := bd_e hf
  refine xgX1_18 E hR hv1 dX1_mend_1 ?_
  refine lv_iload_n E.hx E.hb dX1_mend_4 rfl (lv_at hl 1 rfl) ?_
  refine lv_bipush (v := 60) E.hx E.hb dX1_mend_5 (by decide) ?_
  refine lv_aload_n E.hx E.hb dX1_mend_7 rfl (lv_at hl 0 rfl) ?_
  obtain ⟨v2, hv2, hf⟩ := bd_e hf
  refine xgX1_18 E hR hv2 dX1_mend_8 ?_
  refine lv_iload_n E.hx E.hb dX1_mend_11 rfl (lv_at hl 1 rfl) ?_
  obtain ⟨v3, hv3, hf⟩ := bd_e hf
  refine xild E hR hv3 dX1_mend_12 ?_
  refine lv_aload_n E.hx E.hb dX1_mend_13 rfl (lv_at hl 0 rfl) ?_
  obtain ⟨v4, hv4, hf⟩ := bd_e hf
  refine xgX1_45 E hR hv4 dX1_mend_14 ?_
  refine lv_iadd E.hx E.hb dX1_mend_17 ?_
  refine xmmin E hl.1 q858 (Nat.le_of_ble_eq_true rfl) (Nat.le_of_ble_eq_true rfl) (Nat.le_trans (by omega) (Nat.le_refl 0)) (Nat.le_trans (by omega) (Nat.le_refl 0)) dX1_mend_18 ?_
  obtain ⟨X5, hX5, hf⟩ := bd_e hf
  refine xist E hR hS hX5 dX1_mend_21 (fun H locs hR hS => ?_)
  refine lv_aload_n E.hx E.hb dX1_mend_22 rfl (lv_at hl 0 rfl) ?_
  obtain ⟨v6, hv6, hf⟩ := bd_e hf
  refine xgX1_18 E hR hv6 dX1_mend_23 ?_
  refine lv_iload_n E.hx E.hb dX1_mend_26 rfl (lv_at hl 1 rfl) ?_
  obtain ⟨v7, hv7, hf⟩ := bd_e hf
  refine xild E hR hv7 dX1_mend_27 ?_
  obtain ⟨rfl, rfl⟩ := rt_e hf
  exact xret_i E (by omega) (by omega) hR hS dX1_mend_28
theorem tX1_mend (l : Launch) {D : va_G} {cA : Nat → ClassId} {A : Nat → Prop} {Zs : XZ} {X Xf : AH} {x0 : Nat} {x1 : Int32} {r : Int32} (hf : fX1_mend X x0 x1 = some (r, Xf)) : Met l yX1_mend (ws_ yX1_mend cX1_mend 2 (some .int)) rmX1_mend (xPc D cA A Zs X [.ref x0, .int x1]) (xQi D cA A Zs r Xf) 0 0 A := by
  refine Met.ofW (cc := cX1_mend) (maxL := 2) (ret := (some .int)) (by decide) rfl ?_
  intro p e s m args below meth c s₁ B hml hv
  obtain ⟨rfl, hR, hK⟩ := hv
  have hts := atoms_spec (ws := (ws_ yX1_mend cX1_mend 2 (some .int))) B.pre
  rw [lg_entry_eq]
  exact wX1_mend_0 (E := ⟨⟨B.exec, B.bytes, hml, findClass_of_methodNamed B.named, fun w h => hts w (List.mem_cons_of_mem _ h)⟩, hK, B.returns, B.notSynchronized⟩) hf _ _ _ 0 0 (Nat.le_of_ble_eq_true rfl) (Nat.le_of_ble_eq_true rfl) hR va_S.rf (lv_entry [.ref x0, .int x1] (n := 2) (Nat.le_of_ble_eq_true rfl))
end
abbrev rmX1_allLegs : Room := { frames := 3, cells := 0, slots := 0, locals := 52 }
section
variable {p : Program} {l : Launch} {e : Env} {s : State} {m : MethodId} {args : Array Value} {below : List Frame} {meth : Method} {c : Code} {D : va_G} {cA : Nat → ClassId} {A : Nat → Prop} {Zs : XZ} {Xf : AH} {r : Int32} {rl : Int64} {ra : Nat} {tv : Unit ⊕ Nat} {ti : Int32 ⊕ Nat} {tr : Nat ⊕ Nat} {q2 : Option Nat}
def fX1_allLegs_L4  : Nat → AH → Nat → Int32 → Int32 → Option (Int32 × AH)
  | 0, _, _, _, _ => none
  | n + 1, X, x0, x1, x2 =>
    (ck X x0 1).bind fun _ =>
    (fX1_many X x0).bind fun (v3, X2) =>
    if v3 ≤ x2 then (some (x1, X2)) else ((gR X2 x0 1 3).bind fun v5 =>
    (gA X2 v5 0 x2).bind fun v6 =>
    (fX1_allLegs_L4 n) X2 x0 (x1 + v6) (x2 + 1))
theorem wX1_allLegs_L4 (E : xE p m c cX1_allLegs 3 s args RX1 D cA A Zs meth (some .int)) : ∀ (n : Nat) (X : AH) (x0 : Nat) (x1 : Int32) (x2 : Int32), fX1_allLegs_L4 n X x0 x1 x2 = some (r, Xf) → ∀ (H : Heap) (locs : List Loc) (ls : Array Slot) (cells slots : Nat), cells + 0 ≤ 0 → slots + 0 ≤ 0 → xR D cA A Zs X H → va_S A s.heap H locs → lv_has ls 3 [(0, .ref x0), (1, .int x1), (2, .int x2)] → W p l e rmX1_allLegs s m args below meth c H locs cells slots (MQ below (xQi D cA A Zs r Xf) args s 0 0 A) (F0 m 4 ls []) := by
  intro n
  induction n with
  | zero =>
    intro X x0 x1 x2 hf
    have hf : none = some (r, Xf) := hf
    cases hf
  | succ n ih =>
    intro X x0 x1 x2 hf H locs ls cells slots hc hs hR hS hl
    refine lv_iload_n E.hx E.hb dX1_allLegs_4 rfl (lv_at hl 2 rfl) ?_
    refine lv_aload_n E.hx E.hb dX1_allLegs_5 rfl (lv_at hl 0 rfl) ?_
    obtain ⟨u1, hu1, hf⟩ := bd_e hf
    obtain ⟨⟨v3, X2⟩, hv3, hf⟩ := bd_e hf
    refine xrun_i (va_runV (As := []) (rest := [.int x2]) E.1 (tX1_many l hv3) (cwX1_87 E.ht ⟨Nat.le_of_ble_eq_true rfl, Nat.le_of_ble_eq_true rfl⟩) (xPreV (ci := 1) E hR hS rfl (ck_e hu1)) rfl rfl hl.1 rfl (lv_room (Nat.le_of_ble_eq_true rfl)) dX1_allLegs_6 ⟨Nat.le_trans (by omega) (Nat.le_refl 0), Nat.le_trans (by omega) (Nat.le_refl 0)⟩) hS (fun H locs hR hS => ?_)
    refine lv_icmp_ge (tgt := 27) E.hx E.hb dX1_allLegs_9 (by decide) (fun c4 => ?_) (fun c4 => ?_)
    · have hf := it_t hf c4
      refine lv_iload_n E.hx E.hb dX1_allLegs_27 rfl (lv_at hl 1 rfl) ?_
      obtain ⟨rfl, rfl⟩ := rt_e hf
      exact xret_i E (by omega) (by omega) hR hS dX1_allLegs_28
    · have hf := it_f hf c4
      refine lv_iload_n E.hx E.hb dX1_allLegs_12 rfl (lv_at hl 1 rfl) ?_
      refine lv_aload_n E.hx E.hb dX1_allLegs_13 rfl (lv_at hl 0 rfl) ?_
      obtain ⟨v5, hv5, hf⟩ := bd_e hf
      refine xgX1_18 E hR hv5 dX1_allLegs_14 ?_
      refine lv_iload_n E.hx E.hb dX1_allLegs_17 rfl (lv_at hl 2 rfl) ?_
      obtain ⟨v6, hv6, hf⟩ := bd_e hf
      refine xild E hR hv6 dX1_allLegs_18 ?_
      refine lv_iadd E.hx E.hb dX1_allLegs_19 ?_
      refine lv_istore_n (lv' := [(1, .int (x1 + v6)), (0, .ref x0), (2, .int x2)]) E.hx E.hb dX1_allLegs_20 rfl hl (by decide) rfl (fun ls hl => ?_)
      refine lv_iinc (v := (x2 + 1)) (lv' := [(2, .int (x2 + 1)), (1, .int (x1 + v6)), (0, .ref x0)]) E.hx E.hb dX1_allLegs_21 hl (k := 2) rfl rfl (by decide) rfl (fun ls hl => ?_)
      refine lv_goto (tgt := 4) E.hx E.hb dX1_allLegs_24 (by decide) ?_
      exact ih X2 _ _ _ hf _ _ _ _ _ (by omega) (by omega) hR hS (lv_sub hl [2, 1, 0] rfl)
def fX1_allLegs  (X : AH) (x0 : Nat) : Option (Int32 × AH) :=
  fX1_allLegs_L4 2000 X x0 0 0
theorem wX1_allLegs_0 (E : xE p m c cX1_allLegs 3 s args RX1 D cA A Zs meth (some .int)) {X : AH} {x0 : Nat} (hf : fX1_allLegs X x0 = some (r, Xf)) : ∀ (H : Heap) (locs : List Loc) (ls : Array Slot) (cells slots : Nat), cells + 0 ≤ 0 → slots + 0 ≤ 0 → xR D cA A Zs X H → va_S A s.heap H locs → lv_has ls 3 [(0, .ref x0)] → W p l e rmX1_allLegs s m args below meth c H locs cells slots (MQ below (xQi D cA A Zs r Xf) args s 0 0 A) (F0 m 0 ls []) := by
  intro H locs ls cells slots hc hs hR hS hl
  refine lv_iconst (v := 0) E.hx E.hb dX1_allLegs_0 (by decide) ?_
  refine lv_istore_n (lv' := [(1, .int 0), (0, .ref x0)]) E.hx E.hb dX1_allLegs_1 rfl hl (by decide) rfl (fun ls hl => ?_)
  refine lv_iconst (v := 0) E.hx E.hb dX1_allLegs_2 (by decide) ?_
  refine lv_istore_n (lv' := [(2, .int 0), (1, .int 0), (0, .ref x0)]) E.hx E.hb dX1_allLegs_3 rfl hl (by decide) rfl (fun ls hl => ?_)
  exact wX1_allLegs_L4 E  2000 X _ _ _ hf _ _ _ _ _ (by omega) (by omega) hR hS (lv_sub hl [2, 1, 0] rfl)
theorem tX1_allLegs (l : Launch) {D : va_G} {cA : Nat → ClassId} {A : Nat → Prop} {Zs : XZ} {X Xf : AH} {x0 : Nat} {r : Int32} (hf : fX1_allLegs X x0 = some (r, Xf)) : Met l yX1_allLegs (ws_ yX1_allLegs cX1_allLegs 3 (some .int)) rmX1_allLegs (xPc D cA A Zs X [.ref x0]) (xQi D cA A Zs r Xf) 0 0 A := by
  refine Met.ofW (cc := cX1_allLegs) (maxL := 3) (ret := (some .int)) (by decide) rfl ?_
  intro p e s m args below meth c s₁ B hml hv
  obtain ⟨rfl, hR, hK⟩ := hv
  have hts := atoms_spec (ws := (ws_ yX1_allLegs cX1_allLegs 3 (some .int))) B.pre
  rw [lg_entry_eq]
  exact wX1_allLegs_0 (E := ⟨⟨B.exec, B.bytes, hml, findClass_of_methodNamed B.named, fun w h => hts w (List.mem_cons_of_mem _ h)⟩, hK, B.returns, B.notSynchronized⟩) hf _ _ _ 0 0 (Nat.le_of_ble_eq_true rfl) (Nat.le_of_ble_eq_true rfl) hR va_S.rf (lv_entry [.ref x0] (n := 3) (Nat.le_of_ble_eq_true rfl))
end
abbrev rmX1_allHigh : Room := { frames := 6, cells := 0, slots := 0, locals := 118 }
section
variable {p : Program} {l : Launch} {e : Env} {s : State} {m : MethodId} {args : Array Value} {below : List Frame} {meth : Method} {c : Code} {D : va_G} {cA : Nat → ClassId} {A : Nat → Prop} {Zs : XZ} {Xf : AH} {r : Int32} {rl : Int64} {ra : Nat} {tv : Unit ⊕ Nat} {ti : Int32 ⊕ Nat} {tr : Nat ⊕ Nat} {q2 : Option Nat}
def fX1_allHigh_L4  : Nat → AH → Nat → Int32 → Int32 → Int32 → Option (Int32 × AH)
  | 0, _, _, _, _, _ => none
  | n + 1, X, x0, x1, x2, x3 =>
    (ck X x0 1).bind fun _ =>
    (fX1_many X x0).bind fun (v3, X2) =>
    if v3 ≤ x3 then (some (x2, X2)) else (if ((x1 >>> (x3 &&& 31)) &&& 1) = 1 then ((ck X2 x0 1).bind fun _ =>
    (fX1_high X2 x0 x3).bind fun (v8, X7) =>
    (fX1_allHigh_L4 n) X7 x0 x1 (x2 + v8) (x3 + 1)) else ((fX1_allHigh_L4 n) X2 x0 x1 (x2 + 0) (x3 + 1)))
theorem wX1_allHigh_L4 (E : xE p m c cX1_allHigh 4 s args RX1 D cA A Zs meth (some .int)) : ∀ (n : Nat) (X : AH) (x0 : Nat) (x1 : Int32) (x2 : Int32) (x3 : Int32), fX1_allHigh_L4 n X x0 x1 x2 x3 = some (r, Xf) → ∀ (H : Heap) (locs : List Loc) (ls : Array Slot) (cells slots : Nat), cells + 0 ≤ 0 → slots + 0 ≤ 0 → xR D cA A Zs X H → va_S A s.heap H locs → lv_has ls 4 [(0, .ref x0), (1, .int x1), (2, .int x2), (3, .int x3)] → W p l e rmX1_allHigh s m args below meth c H locs cells slots (MQ below (xQi D cA A Zs r Xf) args s 0 0 A) (F0 m 4 ls []) := by
  intro n
  induction n with
  | zero =>
    intro X x0 x1 x2 x3 hf
    have hf : none = some (r, Xf) := hf
    cases hf
  | succ n ih =>
    intro X x0 x1 x2 x3 hf H locs ls cells slots hc hs hR hS hl
    refine lv_iload_n E.hx E.hb dX1_allHigh_4 rfl (lv_at hl 3 rfl) ?_
    refine lv_aload_n E.hx E.hb dX1_allHigh_5 rfl (lv_at hl 0 rfl) ?_
    obtain ⟨u1, hu1, hf⟩ := bd_e hf
    obtain ⟨⟨v3, X2⟩, hv3, hf⟩ := bd_e hf
    refine xrun_i (va_runV (As := []) (rest := [.int x3]) E.1 (tX1_many l hv3) (cwX1_87 E.ht ⟨Nat.le_of_ble_eq_true rfl, Nat.le_of_ble_eq_true rfl⟩) (xPreV (ci := 1) E hR hS rfl (ck_e hu1)) rfl rfl hl.1 rfl (lv_room (Nat.le_of_ble_eq_true rfl)) dX1_allHigh_6 ⟨Nat.le_trans (by omega) (Nat.le_refl 0), Nat.le_trans (by omega) (Nat.le_refl 0)⟩) hS (fun H locs hR hS => ?_)
    refine lv_icmp_ge (tgt := 39) E.hx E.hb dX1_allHigh_9 (by decide) (fun c4 => ?_) (fun c4 => ?_)
    · have hf := it_t hf c4
      refine lv_iload_n E.hx E.hb dX1_allHigh_39 rfl (lv_at hl 2 rfl) ?_
      obtain ⟨rfl, rfl⟩ := rt_e hf
      exact xret_i E (by omega) (by omega) hR hS dX1_allHigh_40
    · have hf := it_f hf c4
      refine lv_iload_n E.hx E.hb dX1_allHigh_12 rfl (lv_at hl 2 rfl) ?_
      refine lv_iload_n E.hx E.hb dX1_allHigh_13 rfl (lv_at hl 1 rfl) ?_
      refine lv_iload_n E.hx E.hb dX1_allHigh_14 rfl (lv_at hl 3 rfl) ?_
      refine lv_ishr E.hx E.hb dX1_allHigh_15 ?_
      refine lv_iconst (v := 1) E.hx E.hb dX1_allHigh_16 (by decide) ?_
      refine lv_iand E.hx E.hb dX1_allHigh_17 ?_
      refine lv_iconst (v := 1) E.hx E.hb dX1_allHigh_18 (by decide) ?_
      refine lv_icmp_ne (tgt := 30) E.hx E.hb dX1_allHigh_19 (by decide) (fun c5 => ?_) (fun c5 => ?_)
      · have hf := it_f hf c5
        refine lv_iconst (v := 0) E.hx E.hb dX1_allHigh_30 (by decide) ?_
        refine lv_iadd E.hx E.hb dX1_allHigh_31 ?_
        refine lv_istore_n (lv' := [(2, .int (x2 + 0)), (0, .ref x0), (1, .int x1), (3, .int x3)]) E.hx E.hb dX1_allHigh_32 rfl hl (by decide) rfl (fun ls hl => ?_)
        refine lv_iinc (v := (x3 + 1)) (lv' := [(3, .int (x3 + 1)), (2, .int (x2 + 0)), (0, .ref x0), (1, .int x1)]) E.hx E.hb dX1_allHigh_33 hl (k := 3) rfl rfl (by decide) rfl (fun ls hl => ?_)
        refine lv_goto (tgt := 4) E.hx E.hb dX1_allHigh_36 (by decide) ?_
        exact ih X2 _ _ _ _ hf _ _ _ _ _ (by omega) (by omega) hR hS (lv_sub hl [2, 3, 1, 0] rfl)
      · have hf := it_t hf c5
        refine lv_aload_n E.hx E.hb dX1_allHigh_22 rfl (lv_at hl 0 rfl) ?_
        refine lv_iload_n E.hx E.hb dX1_allHigh_23 rfl (lv_at hl 3 rfl) ?_
        obtain ⟨u6, hu6, hf⟩ := bd_e hf
        obtain ⟨⟨v8, X7⟩, hv8, hf⟩ := bd_e hf
        refine xrun_i (va_runV (As := [.int x3]) (rest := [.int x2]) E.1 (tX1_high l hv8) (cwX1_84 E.ht ⟨Nat.le_of_ble_eq_true rfl, Nat.le_of_ble_eq_true rfl⟩) (xPreV (ci := 1) E hR hS rfl (ck_e hu6)) rfl rfl hl.1 rfl (lv_room (Nat.le_of_ble_eq_true rfl)) dX1_allHigh_24 ⟨Nat.le_trans (by omega) (Nat.le_refl 0), Nat.le_trans (by omega) (Nat.le_refl 0)⟩) hS (fun H locs hR hS => ?_)
        refine lv_goto (tgt := 31) E.hx E.hb dX1_allHigh_27 (by decide) ?_
        refine lv_iadd E.hx E.hb dX1_allHigh_31 ?_
        refine lv_istore_n (lv' := [(2, .int (x2 + v8)), (0, .ref x0), (1, .int x1), (3, .int x3)]) E.hx E.hb dX1_allHigh_32 rfl hl (by decide) rfl (fun ls hl => ?_)
        refine lv_iinc (v := (x3 + 1)) (lv' := [(3, .int (x3 + 1)), (2, .int (x2 + v8)), (0, .ref x0), (1, .int x1)]) E.hx E.hb dX1_allHigh_33 hl (k := 3) rfl rfl (by decide) rfl (fun ls hl => ?_)
        refine lv_goto (tgt := 4) E.hx E.hb dX1_allHigh_36 (by decide) ?_
        exact ih X7 _ _ _ _ hf _ _ _ _ _ (by omega) (by omega) hR hS (lv_sub hl [2, 3, 1, 0] rfl)
def fX1_allHigh  (X : AH) (x0 : Nat) (x1 : Int32) : Option (Int32 × AH) :=
  fX1_allHigh_L4 2000 X x0 x1 0 0
theorem wX1_allHigh_0 (E : xE p m c cX1_allHigh 4 s args RX1 D cA A Zs meth (some .int)) {X : AH} {x0 : Nat} {x1 : Int32} (hf : fX1_allHigh X x0 x1 = some (r, Xf)) : ∀ (H : Heap) (locs : List Loc) (ls : Array Slot) (cells slots : Nat), cells + 0 ≤ 0 → slots + 0 ≤ 0 → xR D cA A Zs X H → va_S A s.heap H locs → lv_has ls 4 [(0, .ref x0), (1, .int x1)] → W p l e rmX1_allHigh s m args below meth c H locs cells slots (MQ below (xQi D cA A Zs r Xf) args s 0 0 A) (F0 m 0 ls []) := by
  intro H locs ls cells slots hc hs hR hS hl
  refine lv_iconst (v := 0) E.hx E.hb dX1_allHigh_0 (by decide) ?_
  refine lv_istore_n (lv' := [(2, .int 0), (0, .ref x0), (1, .int x1)]) E.hx E.hb dX1_allHigh_1 rfl hl (by decide) rfl (fun ls hl => ?_)
  refine lv_iconst (v := 0) E.hx E.hb dX1_allHigh_2 (by decide) ?_
  refine lv_istore_n (lv' := [(3, .int 0), (2, .int 0), (0, .ref x0), (1, .int x1)]) E.hx E.hb dX1_allHigh_3 rfl hl (by decide) rfl (fun ls hl => ?_)
  exact wX1_allHigh_L4 E  2000 X _ _ _ _ hf _ _ _ _ _ (by omega) (by omega) hR hS (lv_sub hl [2, 3, 1, 0] rfl)
theorem tX1_allHigh (l : Launch) {D : va_G} {cA : Nat → ClassId} {A : Nat → Prop} {Zs : XZ} {X Xf : AH} {x0 : Nat} {x1 : Int32} {r : Int32} (hf : fX1_allHigh X x0 x1 = some (r, Xf)) : Met l yX1_allHigh (ws_ yX1_allHigh cX1_allHigh 4 (some .int)) rmX1_allHigh (xPc D cA A Zs X [.ref x0, .int x1]) (xQi D cA A Zs r Xf) 0 0 A := by
  refine Met.ofW (cc := cX1_allHigh) (maxL := 4) (ret := (some .int)) (by decide) rfl ?_
  intro p e s m args below meth c s₁ B hml hv
  obtain ⟨rfl, hR, hK⟩ := hv
  have hts := atoms_spec (ws := (ws_ yX1_allHigh cX1_allHigh 4 (some .int))) B.pre
  rw [lg_entry_eq]
  exact wX1_allHigh_0 (E := ⟨⟨B.exec, B.bytes, hml, findClass_of_methodNamed B.named, fun w h => hts w (List.mem_cons_of_mem _ h)⟩, hK, B.returns, B.notSynchronized⟩) hf _ _ _ 0 0 (Nat.le_of_ble_eq_true rfl) (Nat.le_of_ble_eq_true rfl) hR va_S.rf (lv_entry [.ref x0, .int x1] (n := 4) (Nat.le_of_ble_eq_true rfl))
end
abbrev rmX1_allCaught : Room := { frames := 3, cells := 0, slots := 0, locals := 52 }
section
variable {p : Program} {l : Launch} {e : Env} {s : State} {m : MethodId} {args : Array Value} {below : List Frame} {meth : Method} {c : Code} {D : va_G} {cA : Nat → ClassId} {A : Nat → Prop} {Zs : XZ} {Xf : AH} {r : Int32} {rl : Int64} {ra : Nat} {tv : Unit ⊕ Nat} {ti : Int32 ⊕ Nat} {tr : Nat ⊕ Nat} {q2 : Option Nat}
def fX1_allCaught_L4  : Nat → AH → Nat → Int32 → Int32 → Option (Int32 × AH)
  | 0, _, _, _, _ => none
  | n + 1, X, x0, x1, x2 =>
    (ck X x0 1).bind fun _ =>
    (fX1_many X x0).bind fun (v3, X2) =>
    if v3 ≤ x2 then (some (x1, X2)) else ((gR X2 x0 1 7).bind fun v5 =>
    (gA X2 v5 0 x2).bind fun v6 =>
    (fX1_allCaught_L4 n) X2 x0 (x1 + v6) (x2 + 1))
theorem wX1_allCaught_L4 (E : xE p m c cX1_allCaught 3 s args RX1 D cA A Zs meth (some .int)) : ∀ (n : Nat) (X : AH) (x0 : Nat) (x1 : Int32) (x2 : Int32), fX1_allCaught_L4 n X x0 x1 x2 = some (r, Xf) → ∀ (H : Heap) (locs : List Loc) (ls : Array Slot) (cells slots : Nat), cells + 0 ≤ 0 → slots + 0 ≤ 0 → xR D cA A Zs X H → va_S A s.heap H locs → lv_has ls 3 [(0, .ref x0), (1, .int x1), (2, .int x2)] → W p l e rmX1_allCaught s m args below meth c H locs cells slots (MQ below (xQi D cA A Zs r Xf) args s 0 0 A) (F0 m 4 ls []) := by
  intro n
  induction n with
  | zero =>
    intro X x0 x1 x2 hf
    have hf : none = some (r, Xf) := hf
    cases hf
  | succ n ih =>
    intro X x0 x1 x2 hf H locs ls cells slots hc hs hR hS hl
    refine lv_iload_n E.hx E.hb dX1_allCaught_4 rfl (lv_at hl 2 rfl) ?_
    refine lv_aload_n E.hx E.hb dX1_allCaught_5 rfl (lv_at hl 0 rfl) ?_
    obtain ⟨u1, hu1, hf⟩ := bd_e hf
    obtain ⟨⟨v3, X2⟩, hv3, hf⟩ := bd_e hf
    refine xrun_i (va_runV (As := []) (rest := [.int x2]) E.1 (tX1_many l hv3) (cwX1_87 E.ht ⟨Nat.le_of_ble_eq_true rfl, Nat.le_of_ble_eq_true rfl⟩) (xPreV (ci := 1) E hR hS rfl (ck_e hu1)) rfl rfl hl.1 rfl (lv_room (Nat.le_of_ble_eq_true rfl)) dX1_allCaught_6 ⟨Nat.le_trans (by omega) (Nat.le_refl 0), Nat.le_trans (by omega) (Nat.le_refl 0)⟩) hS (fun H locs hR hS => ?_)
    refine lv_icmp_ge (tgt := 27) E.hx E.hb dX1_allCaught_9 (by decide) (fun c4 => ?_) (fun c4 => ?_)
    · have hf := it_t hf c4
      refine lv_iload_n E.hx E.hb dX1_allCaught_27 rfl (lv_at hl 1 rfl) ?_
      obtain ⟨rfl, rfl⟩ := rt_e hf
      exact xret_i E (by omega) (by omega) hR hS dX1_allCaught_28
    · have hf := it_f hf c4
      refine lv_iload_n E.hx E.hb dX1_allCaught_12 rfl (lv_at hl 1 rfl) ?_
      refine lv_aload_n E.hx E.hb dX1_allCaught_13 rfl (lv_at hl 0 rfl) ?_
      obtain ⟨v5, hv5, hf⟩ := bd_e hf
      refine xgX1_31 E hR hv5 dX1_allCaught_14 ?_
      refine lv_iload_n E.hx E.hb dX1_allCaught_17 rfl (lv_at hl 2 rfl) ?_
      obtain ⟨v6, hv6, hf⟩ := bd_e hf
      refine xild E hR hv6 dX1_allCaught_18 ?_
      refine lv_iadd E.hx E.hb dX1_allCaught_19 ?_
      refine lv_istore_n (lv' := [(1, .int (x1 + v6)), (0, .ref x0), (2, .int x2)]) E.hx E.hb dX1_allCaught_20 rfl hl (by decide) rfl (fun ls hl => ?_)
      refine lv_iinc (v := (x2 + 1)) (lv' := [(2, .int (x2 + 1)), (1, .int (x1 + v6)), (0, .ref x0)]) E.hx E.hb dX1_allCaught_21 hl (k := 2) rfl rfl (by decide) rfl (fun ls hl => ?_)
      refine lv_goto (tgt := 4) E.hx E.hb dX1_allCaught_24 (by decide) ?_
      exact ih X2 _ _ _ hf _ _ _ _ _ (by omega) (by omega) hR hS (lv_sub hl [2, 1, 0] rfl)
def fX1_allCaught  (X : AH) (x0 : Nat) : Option (Int32 × AH) :=
  fX1_allCaught_L4 2000 X x0 0 0
theorem wX1_allCaught_0 (E : xE p m c cX1_allCaught 3 s args RX1 D cA A Zs meth (some .int)) {X : AH} {x0 : Nat} (hf : fX1_allCaught X x0 = some (r, Xf)) : ∀ (H : Heap) (locs : List Loc) (ls : Array Slot) (cells slots : Nat), cells + 0 ≤ 0 → slots + 0 ≤ 0 → xR D cA A Zs X H → va_S A s.heap H locs → lv_has ls 3 [(0, .ref x0)] → W p l e rmX1_allCaught s m args below meth c H locs cells slots (MQ below (xQi D cA A Zs r Xf) args s 0 0 A) (F0 m 0 ls []) := by
  intro H locs ls cells slots hc hs hR hS hl
  refine lv_iconst (v := 0) E.hx E.hb dX1_allCaught_0 (by decide) ?_
  refine lv_istore_n (lv' := [(1, .int 0), (0, .ref x0)]) E.hx E.hb dX1_allCaught_1 rfl hl (by decide) rfl (fun ls hl => ?_)
  refine lv_iconst (v := 0) E.hx E.hb dX1_allCaught_2 (by decide) ?_
  refine lv_istore_n (lv' := [(2, .int 0), (1, .int 0), (0, .ref x0)]) E.hx E.hb dX1_allCaught_3 rfl hl (by decide) rfl (fun ls hl => ?_)
  exact wX1_allCaught_L4 E  2000 X _ _ _ hf _ _ _ _ _ (by omega) (by omega) hR hS (lv_sub hl [2, 1, 0] rfl)
theorem tX1_allCaught (l : Launch) {D : va_G} {cA : Nat → ClassId} {A : Nat → Prop} {Zs : XZ} {X Xf : AH} {x0 : Nat} {r : Int32} (hf : fX1_allCaught X x0 = some (r, Xf)) : Met l yX1_allCaught (ws_ yX1_allCaught cX1_allCaught 3 (some .int)) rmX1_allCaught (xPc D cA A Zs X [.ref x0]) (xQi D cA A Zs r Xf) 0 0 A := by
  refine Met.ofW (cc := cX1_allCaught) (maxL := 3) (ret := (some .int)) (by decide) rfl ?_
  intro p e s m args below meth c s₁ B hml hv
  obtain ⟨rfl, hR, hK⟩ := hv
  have hts := atoms_spec (ws := (ws_ yX1_allCaught cX1_allCaught 3 (some .int))) B.pre
  rw [lg_entry_eq]
  exact wX1_allCaught_0 (E := ⟨⟨B.exec, B.bytes, hml, findClass_of_methodNamed B.named, fun w h => hts w (List.mem_cons_of_mem _ h)⟩, hK, B.returns, B.notSynchronized⟩) hf _ _ _ 0 0 (Nat.le_of_ble_eq_true rfl) (Nat.le_of_ble_eq_true rfl) hR va_S.rf (lv_entry [.ref x0] (n := 3) (Nat.le_of_ble_eq_true rfl))
end
abbrev rmX1_exchange : Room := { frames := 1, cells := 0, slots := 0, locals := 12 }
section
variable {p : Program} {l : Launch} {e : Env} {s : State} {m : MethodId} {args : Array Value} {below : List Frame} {meth : Method} {c : Code} {D : va_G} {cA : Nat → ClassId} {A : Nat → Prop} {Zs : XZ} {Xf : AH} {r : Int32} {rl : Int64} {ra : Nat} {tv : Unit ⊕ Nat} {ti : Int32 ⊕ Nat} {tr : Nat ⊕ Nat} {q2 : Option Nat}
def fX1_exchange  (X : AH) (x0 : Nat) (x1 : Int32) (x2 : Int32) : Option AH :=
  (gA X x0 0 x1).bind fun v1 =>
  (gA X x0 0 x2).bind fun v2 =>
  (pA X x0 0 x1 v2).bind fun X3 =>
  (pA X3 x0 0 x2 v1).bind fun X4 =>
  some X4
theorem wX1_exchange_0 (E : xE p m c cX1_exchange 4 s args RX1 D cA A Zs meth none) {X : AH} {x0 : Nat} {x1 : Int32} {x2 : Int32} (hf : fX1_exchange X x0 x1 x2 = some Xf) : ∀ (H : Heap) (locs : List Loc) (ls : Array Slot) (cells slots : Nat), cells + 0 ≤ 0 → slots + 0 ≤ 0 → xR D cA A Zs X H → va_S A s.heap H locs → lv_has ls 4 [(0, .ref x0), (1, .int x1), (2, .int x2)] → W p l e rmX1_exchange s m args below meth c H locs cells slots (MQ below (xQv D cA A Zs Xf) args s 0 0 A) (F0 m 0 ls []) := by
  intro H locs ls cells slots hc hs hR hS hl
  refine lv_aload_n E.hx E.hb dX1_exchange_0 rfl (lv_at hl 0 rfl) ?_
  refine lv_iload_n E.hx E.hb dX1_exchange_1 rfl (lv_at hl 1 rfl) ?_
  obtain ⟨v1, hv1, hf⟩ := bd_e hf
  refine xild E hR hv1 dX1_exchange_2 ?_
  refine lv_istore_n (lv' := [(3, .int v1), (0, .ref x0), (1, .int x1), (2, .int x2)]) E.hx E.hb dX1_exchange_3 rfl hl (by decide) rfl (fun ls hl => ?_)
  refine lv_aload_n E.hx E.hb dX1_exchange_4 rfl (lv_at hl 1 rfl) ?_
  refine lv_iload_n E.hx E.hb dX1_exchange_5 rfl (lv_at hl 2 rfl) ?_
  refine lv_aload_n E.hx E.hb dX1_exchange_6 rfl (lv_at hl 1 rfl) ?_
  refine lv_iload_n E.hx E.hb dX1_exchange_7 rfl (lv_at hl 3 rfl) ?_
  obtain ⟨v2, hv2, hf⟩ := bd_e hf
  refine xild E hR hv2 dX1_exchange_8 ?_
  obtain ⟨X3, hX3, hf⟩ := bd_e hf
  refine xist E hR hS hX3 dX1_exchange_9 (fun H locs hR hS => ?_)
  refine lv_aload_n E.hx E.hb dX1_exchange_10 rfl (lv_at hl 1 rfl) ?_
  refine lv_iload_n E.hx E.hb dX1_exchange_11 rfl (lv_at hl 3 rfl) ?_
  refine lv_iload_n E.hx E.hb dX1_exchange_12 rfl (lv_at hl 0 rfl) ?_
  obtain ⟨X4, hX4, hf⟩ := bd_e hf
  refine xist E hR hS hX4 dX1_exchange_13 (fun H locs hR hS => ?_)
  obtain rfl := Option.some.inj hf
  exact xret_v E (by omega) (by omega) hR hS dX1_exchange_14
theorem tX1_exchange (l : Launch) {D : va_G} {cA : Nat → ClassId} {A : Nat → Prop} {Zs : XZ} {X Xf : AH} {x0 : Nat} {x1 : Int32} {x2 : Int32}  (hf : fX1_exchange X x0 x1 x2 = some Xf) : Met l yX1_exchange (ws_ yX1_exchange cX1_exchange 4 none) rmX1_exchange (xPc D cA A Zs X [.ref x0, .int x1, .int x2]) (xQv D cA A Zs Xf) 0 0 A := by
  refine Met.ofW (cc := cX1_exchange) (maxL := 4) (ret := none) (by decide) rfl ?_
  intro p e s m args below meth c s₁ B hml hv
  obtain ⟨rfl, hR, hK⟩ := hv
  have hts := atoms_spec (ws := (ws_ yX1_exchange cX1_exchange 4 none)) B.pre
  rw [lg_entry_eq]
  exact wX1_exchange_0 (E := ⟨⟨B.exec, B.bytes, hml, findClass_of_methodNamed B.named, fun w h => hts w (List.mem_cons_of_mem _ h)⟩, hK, B.returns, B.notSynchronized⟩) hf _ _ _ 0 0 (Nat.le_of_ble_eq_true rfl) (Nat.le_of_ble_eq_true rfl) hR va_S.rf (lv_entry [.ref x0, .int x1, .int x2] (n := 4) (Nat.le_of_ble_eq_true rfl))
end
abbrev rmX1_change : Room := { frames := 2, cells := 0, slots := 0, locals := 35 }
theorem cwX1_121 {R : Room} {s : State} {args : Array Value} (ht : ∀ w ∈ lw_all, w.before args s = true) (hR : rmX1_exchange.frames + 1 ≤ R.frames ∧ 8 + (4 + 11) + rmX1_exchange.locals ≤ R.locals) : CallB R s args RX1 121 yX1_exchange cX1_exchange 4 none (ws_ yX1_exchange cX1_exchange 4 none) rmX1_exchange 0 0 3 ∧ (Cond.static yX1_exchange).before args s = true :=
  va_cwS 3 ht (lw_S q880 q881 q69 q882) rfl rfl rfl (by decide +kernel) hR
section
variable {p : Program} {l : Launch} {e : Env} {s : State} {m : MethodId} {args : Array Value} {below : List Frame} {meth : Method} {c : Code} {D : va_G} {cA : Nat → ClassId} {A : Nat → Prop} {Zs : XZ} {Xf : AH} {r : Int32} {rl : Int64} {ra : Nat} {tv : Unit ⊕ Nat} {ti : Int32 ⊕ Nat} {tr : Nat ⊕ Nat} {q2 : Option Nat}
def fX1_change  (X : AH) (x0 : Nat) (x1 : Int32) (x2 : Int32) : Option AH :=
  (gR X x0 1 5).bind fun v1 =>
  (fX1_exchange X v1 x1 x2).bind fun X2 =>
  (gR X2 x0 1 6).bind fun v4 =>
  (fX1_exchange X2 v4 x1 x2).bind fun X5 =>
  (gR X5 x0 1 7).bind fun v7 =>
  (fX1_exchange X5 v7 x1 x2).bind fun X8 =>
  some X8
theorem wX1_change_0 (E : xE p m c cX1_change 3 s args RX1 D cA A Zs meth none) {X : AH} {x0 : Nat} {x1 : Int32} {x2 : Int32} (hf : fX1_change X x0 x1 x2 = some Xf) : ∀ (H : Heap) (locs : List Loc) (ls : Array Slot) (cells slots : Nat), cells + 0 ≤ 0 → slots + 0 ≤ 0 → xR D cA A Zs X H → va_S A s.heap H locs → lv_has ls 3 [(0, .ref x0), (1, .int x1), (2, .int x2)] → W p l e rmX1_change s m args below meth c H locs cells slots (MQ below (xQv D cA A Zs Xf) args s 0 0 A) (F0 m 0 ls []) := by
  intro H locs ls cells slots hc hs hR hS hl
  refine lv_aload_n E.hx E.hb dX1_change_0 rfl (lv_at hl 0 rfl) ?_
  obtain ⟨v1, hv1, hf⟩ := bd_e hf
  refine xgX1_25 E hR hv1 dX1_change_1 ?_
  refine lv_iload_n E.hx E.hb dX1_change_4 rfl (lv_at hl 1 rfl) ?_
  refine lv_iload_n E.hx E.hb dX1_change_5 rfl (lv_at hl 2 rfl) ?_
  obtain ⟨X2, hX2, hf⟩ := bd_e hf
  refine xrun_v (va_runS (As := [.ref v1, .int x1, .int x2]) (rest := []) E.1 (tX1_exchange l hX2) (cwX1_121 E.ht ⟨Nat.le_of_ble_eq_true rfl, Nat.le_of_ble_eq_true rfl⟩) (xPreS E hR hS) rfl rfl hl.1 rfl (lv_room (Nat.le_of_ble_eq_true rfl)) dX1_change_6 ⟨Nat.le_trans (by omega) (Nat.le_refl 0), Nat.le_trans (by omega) (Nat.le_refl 0)⟩) hS (fun H locs hR hS => ?_)
  refine lv_aload_n E.hx E.hb dX1_change_9 rfl (lv_at hl 0 rfl) ?_
  obtain ⟨v4, hv4, hf⟩ := bd_e hf
  refine xgX1_28 E hR hv4 dX1_change_10 ?_
  refine lv_iload_n E.hx E.hb dX1_change_13 rfl (lv_at hl 1 rfl) ?_
  refine lv_iload_n E.hx E.hb dX1_change_14 rfl (lv_at hl 2 rfl) ?_
  obtain ⟨X5, hX5, hf⟩ := bd_e hf
  refine xrun_v (va_runS (As := [.ref v4, .int x1, .int x2]) (rest := []) E.1 (tX1_exchange l hX5) (cwX1_121 E.ht ⟨Nat.le_of_ble_eq_true rfl, Nat.le_of_ble_eq_true rfl⟩) (xPreS E hR hS) rfl rfl hl.1 rfl (lv_room (Nat.le_of_ble_eq_true rfl)) dX1_change_15 ⟨Nat.le_trans (by omega) (Nat.le_refl 0), Nat.le_trans (by omega) (Nat.le_refl 0)⟩) hS (fun H locs hR hS => ?_)
  refine lv_aload_n E.hx E.hb dX1_change_18 rfl (lv_at hl 0 rfl) ?_
  obtain ⟨v7, hv7, hf⟩ := bd_e hf
  refine xgX1_31 E hR hv7 dX1_change_19 ?_
  refine lv_iload_n E.hx E.hb dX1_change_22 rfl (lv_at hl 1 rfl) ?_
  refine lv_iload_n E.hx E.hb dX1_change_23 rfl (lv_at hl 2 rfl) ?_
  obtain ⟨X8, hX8, hf⟩ := bd_e hf
  refine xrun_v (va_runS (As := [.ref v7, .int x1, .int x2]) (rest := []) E.1 (tX1_exchange l hX8) (cwX1_121 E.ht ⟨Nat.le_of_ble_eq_true rfl, Nat.le_of_ble_eq_true rfl⟩) (xPreS E hR hS) rfl rfl hl.1 rfl (lv_room (Nat.le_of_ble_eq_true rfl)) dX1_change_24 ⟨Nat.le_trans (by omega) (Nat.le_refl 0), Nat.le_trans (by omega) (Nat.le_refl 0)⟩) hS (fun H locs hR hS => ?_)
  obtain rfl := Option.some.inj hf
  exact xret_v E (by omega) (by omega) hR hS dX1_change_27
theorem tX1_change (l : Launch) {D : va_G} {cA : Nat → ClassId} {A : Nat → Prop} {Zs : XZ} {X Xf : AH} {x0 : Nat} {x1 : Int32} {x2 : Int32}  (hf : fX1_change X x0 x1 x2 = some Xf) : Met l yX1_change (ws_ yX1_change cX1_change 3 none) rmX1_change (xPc D cA A Zs X [.ref x0, .int x1, .int x2]) (xQv D cA A Zs Xf) 0 0 A := by
  refine Met.ofW (cc := cX1_change) (maxL := 3) (ret := none) (by decide) rfl ?_
  intro p e s m args below meth c s₁ B hml hv
  obtain ⟨rfl, hR, hK⟩ := hv
  have hts := atoms_spec (ws := (ws_ yX1_change cX1_change 3 none)) B.pre
  rw [lg_entry_eq]
  exact wX1_change_0 (E := ⟨⟨B.exec, B.bytes, hml, findClass_of_methodNamed B.named, fun w h => hts w (List.mem_cons_of_mem _ h)⟩, hK, B.returns, B.notSynchronized⟩) hf _ _ _ 0 0 (Nat.le_of_ble_eq_true rfl) (Nat.le_of_ble_eq_true rfl) hR va_S.rf (lv_entry [.ref x0, .int x1, .int x2] (n := 3) (Nat.le_of_ble_eq_true rfl))
end
abbrev rmX1_become : Room := { frames := 1, cells := 0, slots := 0, locals := 64 }
section
variable {p : Program} {l : Launch} {e : Env} {s : State} {m : MethodId} {args : Array Value} {below : List Frame} {meth : Method} {c : Code} {D : va_G} {cA : Nat → ClassId} {A : Nat → Prop} {Zs : XZ} {Xf : AH} {r : Int32} {rl : Int64} {ra : Nat} {tv : Unit ⊕ Nat} {ti : Int32 ⊕ Nat} {tr : Nat ⊕ Nat} {q2 : Option Nat}
def fX1_become  (X : AH) (x0 : Nat) (x1 : Nat) : Option (Nat × AH) :=
  (gI X x1 1 0).bind fun v1 =>
  (pF X x0 1 0 (.int v1)).bind fun X2 =>
  (gI X2 x1 1 1).bind fun v3 =>
  (pF X2 x0 1 1 (.int v3)).bind fun X4 =>
  (gR X4 x1 1 2).bind fun v5 =>
  (pF X4 x0 1 2 (.ref v5)).bind fun X6 =>
  (gR X6 x1 1 3).bind fun v7 =>
  (gR X6 x0 1 3).bind fun v8 =>
  (cpA X6 v7 0 v8 0 6).bind fun X9 =>
  (gR X9 x1 1 4).bind fun v10 =>
  (gR X9 x0 1 4).bind fun v11 =>
  (cpA X9 v10 0 v11 0 6).bind fun X12 =>
  (gR X12 x1 1 5).bind fun v13 =>
  (gR X12 x0 1 5).bind fun v14 =>
  (cpA X12 v13 0 v14 0 6).bind fun X15 =>
  (gR X15 x1 1 6).bind fun v16 =>
  (gR X15 x0 1 6).bind fun v17 =>
  (cpA X15 v16 0 v17 0 6).bind fun X18 =>
  (gR X18 x1 1 7).bind fun v19 =>
  (gR X18 x0 1 7).bind fun v20 =>
  (cpA X18 v19 0 v20 0 6).bind fun X21 =>
  (gI X21 x1 1 8).bind fun v22 =>
  (pF X21 x0 1 8 (.int v22)).bind fun X23 =>
  (gI X23 x1 1 9).bind fun v24 =>
  (pF X23 x0 1 9 (.int v24)).bind fun X25 =>
  (pF X25 x0 1 11 (.int (-1000000))).bind fun X26 =>
  some (x0, X26)
theorem wX1_become_0 (E : xE p m c cX1_become 2 s args RX1 D cA A Zs meth (some (.object "ChairRanks$Ministry"))) {X : AH} {x0 : Nat} {x1 : Nat} (hf : fX1_become X x0 x1 = some (ra, Xf)) : ∀ (H : Heap) (locs : List Loc) (ls : Array Slot) (cells slots : Nat), cells + 0 ≤ 0 → slots + 0 ≤ 0 → xR D cA A Zs X H → va_S A s.heap H locs → lv_has ls 2 [(0, .ref x0), (1, .ref x1)] → W p l e rmX1_become s m args below meth c H locs cells slots (MQ below (xQr D cA A Zs ra Xf) args s 0 0 A) (F0 m 0 ls []) := by
  intro H locs ls cells slots hc hs hR hS hl
  refine lv_aload_n E.hx E.hb dX1_become_0 rfl (lv_at hl 0 rfl) ?_
  refine lv_aload_n E.hx E.hb dX1_become_1 rfl (lv_at hl 1 rfl) ?_
  obtain ⟨v1, hv1, hf⟩ := bd_e hf
  refine xgX1_42 E hR hv1 dX1_become_2 ?_
  obtain ⟨X2, hX2, hf⟩ := bd_e hf
  refine xpX1_42 E hR hS hX2 dX1_become_5 (fun H locs hR hS => ?_)
  refine lv_aload_n E.hx E.hb dX1_become_8 rfl (lv_at hl 0 rfl) ?_
  refine lv_aload_n E.hx E.hb dX1_become_9 rfl (lv_at hl 1 rfl) ?_
  obtain ⟨v3, hv3, hf⟩ := bd_e hf
  refine xgX1_45 E hR hv3 dX1_become_10 ?_
  obtain ⟨X4, hX4, hf⟩ := bd_e hf
  refine xpX1_45 E hR hS hX4 dX1_become_13 (fun H locs hR hS => ?_)
  refine lv_aload_n E.hx E.hb dX1_become_16 rfl (lv_at hl 0 rfl) ?_
  refine lv_aload_n E.hx E.hb dX1_become_17 rfl (lv_at hl 1 rfl) ?_
  obtain ⟨v5, hv5, hf⟩ := bd_e hf
  refine xgX1_12 E hR hv5 dX1_become_18 ?_
  obtain ⟨X6, hX6, hf⟩ := bd_e hf
  refine xpX1_12 E hR hS hX6 dX1_become_21 (fun H locs hR hS => ?_)
  refine lv_aload_n E.hx E.hb dX1_become_24 rfl (lv_at hl 1 rfl) ?_
  obtain ⟨v7, hv7, hf⟩ := bd_e hf
  refine xgX1_18 E hR hv7 dX1_become_25 ?_
  refine lv_iconst (v := 0) E.hx E.hb dX1_become_28 (by decide) ?_
  refine lv_aload_n E.hx E.hb dX1_become_29 rfl (lv_at hl 0 rfl) ?_
  obtain ⟨v8, hv8, hf⟩ := bd_e hf
  refine xgX1_18 E hR hv8 dX1_become_30 ?_
  refine lv_iconst (v := 0) E.hx E.hb dX1_become_33 (by decide) ?_
  refine lv_bipush (v := 6) E.hx E.hb dX1_become_34 (by decide) ?_
  obtain ⟨X9, hX9, hf⟩ := bd_e hf
  refine xcopy E hR hS hl.1 q723 q463 q462 q89 hX9 (Nat.le_of_ble_eq_true rfl) (Nat.le_of_ble_eq_true rfl) dX1_become_36 (fun H locs hR hS => ?_)
  refine lv_aload_n E.hx E.hb dX1_become_39 rfl (lv_at hl 1 rfl) ?_
  obtain ⟨v10, hv10, hf⟩ := bd_e hf
  refine xgX1_22 E hR hv10 dX1_become_40 ?_
  refine lv_iconst (v := 0) E.hx E.hb dX1_become_43 (by decide) ?_
  refine lv_aload_n E.hx E.hb dX1_become_44 rfl (lv_at hl 0 rfl) ?_
  obtain ⟨v11, hv11, hf⟩ := bd_e hf
  refine xgX1_22 E hR hv11 dX1_become_45 ?_
  refine lv_iconst (v := 0) E.hx E.hb dX1_become_48 (by decide) ?_
  refine lv_bipush (v := 6) E.hx E.hb dX1_become_49 (by decide) ?_
  obtain ⟨X12, hX12, hf⟩ := bd_e hf
  refine xcopy E hR hS hl.1 q723 q463 q462 q89 hX12 (Nat.le_of_ble_eq_true rfl) (Nat.le_of_ble_eq_true rfl) dX1_become_51 (fun H locs hR hS => ?_)
  refine lv_aload_n E.hx E.hb dX1_become_54 rfl (lv_at hl 1 rfl) ?_
  obtain ⟨v13, hv13, hf⟩ := bd_e hf
  refine xgX1_25 E hR hv13 dX1_become_55 ?_
  refine lv_iconst (v := 0) E.hx E.hb dX1_become_58 (by decide) ?_
  refine lv_aload_n E.hx E.hb dX1_become_59 rfl (lv_at hl 0 rfl) ?_
  obtain ⟨v14, hv14, hf⟩ := bd_e hf
  refine xgX1_25 E hR hv14 dX1_become_60 ?_
  refine lv_iconst (v := 0) E.hx E.hb dX1_become_63 (by decide) ?_
  refine lv_bipush (v := 6) E.hx E.hb dX1_become_64 (by decide) ?_
  obtain ⟨X15, hX15, hf⟩ := bd_e hf
  refine xcopy E hR hS hl.1 q723 q463 q462 q89 hX15 (Nat.le_of_ble_eq_true rfl) (Nat.le_of_ble_eq_true rfl) dX1_become_66 (fun H locs hR hS => ?_)
  refine lv_aload_n E.hx E.hb dX1_become_69 rfl (lv_at hl 1 rfl) ?_
  obtain ⟨v16, hv16, hf⟩ := bd_e hf
  refine xgX1_28 E hR hv16 dX1_become_70 ?_
  refine lv_iconst (v := 0) E.hx E.hb dX1_become_73 (by decide) ?_
  refine lv_aload_n E.hx E.hb dX1_become_74 rfl (lv_at hl 0 rfl) ?_
  obtain ⟨v17, hv17, hf⟩ := bd_e hf
  refine xgX1_28 E hR hv17 dX1_become_75 ?_
  refine lv_iconst (v := 0) E.hx E.hb dX1_become_78 (by decide) ?_
  refine lv_bipush (v := 6) E.hx E.hb dX1_become_79 (by decide) ?_
  obtain ⟨X18, hX18, hf⟩ := bd_e hf
  refine xcopy E hR hS hl.1 q723 q463 q462 q89 hX18 (Nat.le_of_ble_eq_true rfl) (Nat.le_of_ble_eq_true rfl) dX1_become_81 (fun H locs hR hS => ?_)
  refine lv_aload_n E.hx E.hb dX1_become_84 rfl (lv_at hl 1 rfl) ?_
  obtain ⟨v19, hv19, hf⟩ := bd_e hf
  refine xgX1_31 E hR hv19 dX1_become_85 ?_
  refine lv_iconst (v := 0) E.hx E.hb dX1_become_88 (by decide) ?_
  refine lv_aload_n E.hx E.hb dX1_become_89 rfl (lv_at hl 0 rfl) ?_
  obtain ⟨v20, hv20, hf⟩ := bd_e hf
  refine xgX1_31 E hR hv20 dX1_become_90 ?_
  refine lv_iconst (v := 0) E.hx E.hb dX1_become_93 (by decide) ?_
  refine lv_bipush (v := 6) E.hx E.hb dX1_become_94 (by decide) ?_
  obtain ⟨X21, hX21, hf⟩ := bd_e hf
  refine xcopy E hR hS hl.1 q723 q463 q462 q89 hX21 (Nat.le_of_ble_eq_true rfl) (Nat.le_of_ble_eq_true rfl) dX1_become_96 (fun H locs hR hS => ?_)
  refine lv_aload_n E.hx E.hb dX1_become_99 rfl (lv_at hl 0 rfl) ?_
  refine lv_aload_n E.hx E.hb dX1_become_100 rfl (lv_at hl 1 rfl) ?_
  obtain ⟨v22, hv22, hf⟩ := bd_e hf
  refine xgX1_54 E hR hv22 dX1_become_101 ?_
  obtain ⟨X23, hX23, hf⟩ := bd_e hf
  refine xpX1_54 E hR hS hX23 dX1_become_104 (fun H locs hR hS => ?_)
  refine lv_aload_n E.hx E.hb dX1_become_107 rfl (lv_at hl 0 rfl) ?_
  refine lv_aload_n E.hx E.hb dX1_become_108 rfl (lv_at hl 1 rfl) ?_
  obtain ⟨v24, hv24, hf⟩ := bd_e hf
  refine xgX1_57 E hR hv24 dX1_become_109 ?_
  obtain ⟨X25, hX25, hf⟩ := bd_e hf
  refine xpX1_57 E hR hS hX25 dX1_become_112 (fun H locs hR hS => ?_)
  refine lv_aload_n E.hx E.hb dX1_become_115 rfl (lv_at hl 0 rfl) ?_
  refine lv_ldc (v := (-1000000)) E.hx E.hb E.ho (E.ht _ q144) dX1_become_116 ?_
  obtain ⟨X26, hX26, hf⟩ := bd_e hf
  refine xpX1_38 E hR hS hX26 dX1_become_118 (fun H locs hR hS => ?_)
  refine lv_aload_n E.hx E.hb dX1_become_121 rfl (lv_at hl 0 rfl) ?_
  obtain ⟨rfl, rfl⟩ := rt_e hf
  exact xret_r E (Or.inl ⟨_, rfl⟩) (by omega) (by omega) hR hS dX1_become_122
theorem tX1_become (l : Launch) {D : va_G} {cA : Nat → ClassId} {A : Nat → Prop} {Zs : XZ} {X Xf : AH} {x0 : Nat} {x1 : Nat} {ra : Nat} (hf : fX1_become X x0 x1 = some (ra, Xf)) : Met l yX1_become (ws_ yX1_become cX1_become 2 (some (.object "ChairRanks$Ministry"))) rmX1_become (xPc D cA A Zs X [.ref x0, .ref x1]) (xQr D cA A Zs ra Xf) 0 0 A := by
  refine Met.ofW (cc := cX1_become) (maxL := 2) (ret := (some (.object "ChairRanks$Ministry"))) (by decide) rfl ?_
  intro p e s m args below meth c s₁ B hml hv
  obtain ⟨rfl, hR, hK⟩ := hv
  have hts := atoms_spec (ws := (ws_ yX1_become cX1_become 2 (some (.object "ChairRanks$Ministry")))) B.pre
  rw [lg_entry_eq]
  exact wX1_become_0 (E := ⟨⟨B.exec, B.bytes, hml, findClass_of_methodNamed B.named, fun w h => hts w (List.mem_cons_of_mem _ h)⟩, hK, B.returns, B.notSynchronized⟩) hf _ _ _ 0 0 (Nat.le_of_ble_eq_true rfl) (Nat.le_of_ble_eq_true rfl) hR va_S.rf (lv_entry [.ref x0, .ref x1] (n := 2) (Nat.le_of_ble_eq_true rfl))
end
