set_option maxRecDepth 100000
section
variable {p : Program} {l : Launch} {e : Env} {R : Room} {s : State} {m : MethodId} {args : Array Value} {below : List Frame} {meth : Method} {c : Code} {H : Heap} {locs : List Loc} {cells slots : Nat} {Q : State → Prop} {cc : ByteArray} {pc nL : Nat} {ls : Array Slot} {rest : List Value} {D : va_G} {cA : Nat → ClassId} {A : Nat → Prop} {Zs : XZ} {X X' : AH} {ret : Option FieldType} {a : Nat}
theorem dfX4 : ∀ j, j < 1 → defaultValue (tyX4 j) = vp_V [.int 0] j := fun j hj => by
  match j, hj with
  | 0, _ => rfl
  | j + 1, h => exact absurd h (by omega)
theorem dfX5 : ∀ j, j < 1 → defaultValue (tyX5 j) = vp_V [.int 0] j := fun j hj => by
  match j, hj with
  | 0, _ => rfl
  | j + 1, h => exact absurd h (by omega)
theorem dfX6 : ∀ j, j < 1 → defaultValue (tyX6 j) = vp_V [.int 0] j := fun j hj => by
  match j, hj with
  | 0, _ => rfl
  | j + 1, h => exact absurd h (by omega)
theorem dfX7 : ∀ j, j < 1 → defaultValue (tyX7 j) = vp_V [.int 0] j := fun j hj => by
  match j, hj with
  | 0, _ => rfl
  | j + 1, h => exact absurd h (by omega)
theorem dfX8 : ∀ j, j < 1 → defaultValue (tyX8 j) = vp_V [.int 0] j := fun j hj => by
  match j, hj with
  | 0, _ => rfl
  | j + 1, h => exact absurd h (by omega)
theorem xpX0_72 {x : Int32} (E : xE p m c cc nL s args RX0 D cA A Zs meth ret) (hR : xR D cA A Zs X H) (hS : va_S A s.heap H locs) (h : pF X a 0 10 (.int x) = some X') (hdg : decode cc pc = .ok (.putfield 72, 3)) (kk : ∀ (H : Heap) (locs : List Loc), xR D cA A Zs X' H → va_S A s.heap H locs → W p l e R s m args below meth c H locs cells slots Q (F0 m (pc + 3) ls rest)) : W p l e R s m args below meth c H locs cells slots Q (F0 m pc ls (.int x :: .ref a :: rest)) :=
  xput (ci := 0) (k := 10) E hR hS in_X0 tyX0 tyX0_ok nmX0 rfl (by decide) q279 (fun _ h => h) rfl (ty := .int) rfl rfl rfl h hdg kk
theorem xgX0_129 {v : Int32} (E : xE p m c cc nL s args RX0 D cA A Zs meth ret) (hR : xR D cA A Zs X H) (h : gI X a 0 2 = some v) (hdg : decode cc pc = .ok (.getfield 129, 3)) (kk : W p l e R s m args below meth c H locs cells slots Q (F0 m (pc + 3) ls (.int v :: rest))) : W p l e R s m args below meth c H locs cells slots Q (F0 m pc ls (.ref a :: rest)) :=
  xget (ci := 0) (k := 2) E hR in_X0 rfl (by decide) q271 (fun _ h => h) (gI_e h) hdg kk
theorem xgX0_32 {v : Nat} (E : xE p m c cc nL s args RX0 D cA A Zs meth ret) (hR : xR D cA A Zs X H) (h : gR X a 0 1 = some v) (hdg : decode cc pc = .ok (.getfield 32, 3)) (kk : W p l e R s m args below meth c H locs cells slots Q (F0 m (pc + 3) ls (.ref v :: rest))) : W p l e R s m args below meth c H locs cells slots Q (F0 m pc ls (.ref a :: rest)) :=
  xget (ci := 0) (k := 1) E hR in_X0 rfl (by decide) q270 (fun _ h => h) (gR_e h) hdg kk
theorem xpX0_129 {x : Int32} (E : xE p m c cc nL s args RX0 D cA A Zs meth ret) (hR : xR D cA A Zs X H) (hS : va_S A s.heap H locs) (h : pF X a 0 2 (.int x) = some X') (hdg : decode cc pc = .ok (.putfield 129, 3)) (kk : ∀ (H : Heap) (locs : List Loc), xR D cA A Zs X' H → va_S A s.heap H locs → W p l e R s m args below meth c H locs cells slots Q (F0 m (pc + 3) ls rest)) : W p l e R s m args below meth c H locs cells slots Q (F0 m pc ls (.int x :: .ref a :: rest)) :=
  xput (ci := 0) (k := 2) E hR hS in_X0 tyX0 tyX0_ok nmX0 rfl (by decide) q271 (fun _ h => h) rfl (ty := .int) rfl rfl rfl h hdg kk
theorem xgX0_146 {v : Int32} (E : xE p m c cc nL s args RX0 D cA A Zs meth ret) (hR : xR D cA A Zs X H) (h : gI X a 0 3 = some v) (hdg : decode cc pc = .ok (.getfield 146, 3)) (kk : W p l e R s m args below meth c H locs cells slots Q (F0 m (pc + 3) ls (.int v :: rest))) : W p l e R s m args below meth c H locs cells slots Q (F0 m pc ls (.ref a :: rest)) :=
  xget (ci := 0) (k := 3) E hR in_X0 rfl (by decide) q272 (fun _ h => h) (gI_e h) hdg kk
theorem dfX1 : ∀ j, j < 13 → defaultValue (tyX1 j) = vp_V [.int 0, .int 0, .null, .null, .null, .null, .null, .null, .int 0, .int 0, .null, .int 0, .null] j := fun j hj => by
  match j, hj with
  | 0, _ => rfl
  | 1, _ => rfl
  | 2, _ => rfl
  | 3, _ => rfl
  | 4, _ => rfl
  | 5, _ => rfl
  | 6, _ => rfl
  | 7, _ => rfl
  | 8, _ => rfl
  | 9, _ => rfl
  | 10, _ => rfl
  | 11, _ => rfl
  | 12, _ => rfl
  | j + 13, h => exact absurd h (by omega)
theorem xgX0_160 {v : Int32} (E : xE p m c cc nL s args RX0 D cA A Zs meth ret) (hR : xR D cA A Zs X H) (h : gI X a 0 7 = some v) (hdg : decode cc pc = .ok (.getfield 160, 3)) (kk : W p l e R s m args below meth c H locs cells slots Q (F0 m (pc + 3) ls (.int v :: rest))) : W p l e R s m args below meth c H locs cells slots Q (F0 m pc ls (.ref a :: rest)) :=
  xget (ci := 0) (k := 7) E hR in_X0 rfl (by decide) q276 (fun _ h => h) (gI_e h) hdg kk
theorem xgX0_39 {v : Nat} (E : xE p m c cc nL s args RX0 D cA A Zs meth ret) (hR : xR D cA A Zs X H) (h : gR X a 0 4 = some v) (hdg : decode cc pc = .ok (.getfield 39, 3)) (kk : W p l e R s m args below meth c H locs cells slots Q (F0 m (pc + 3) ls (.ref v :: rest))) : W p l e R s m args below meth c H locs cells slots Q (F0 m pc ls (.ref a :: rest)) :=
  xget (ci := 0) (k := 4) E hR in_X0 rfl (by decide) q273 (fun _ h => h) (gR_e h) hdg kk
theorem xgX0_46 {v : Nat} (E : xE p m c cc nL s args RX0 D cA A Zs meth ret) (hR : xR D cA A Zs X H) (h : gR X a 0 6 = some v) (hdg : decode cc pc = .ok (.getfield 46, 3)) (kk : W p l e R s m args below meth c H locs cells slots Q (F0 m (pc + 3) ls (.ref v :: rest))) : W p l e R s m args below meth c H locs cells slots Q (F0 m pc ls (.ref a :: rest)) :=
  xget (ci := 0) (k := 6) E hR in_X0 rfl (by decide) q275 (fun _ h => h) (gR_e h) hdg kk
theorem xpX0_160 {x : Int32} (E : xE p m c cc nL s args RX0 D cA A Zs meth ret) (hR : xR D cA A Zs X H) (hS : va_S A s.heap H locs) (h : pF X a 0 7 (.int x) = some X') (hdg : decode cc pc = .ok (.putfield 160, 3)) (kk : ∀ (H : Heap) (locs : List Loc), xR D cA A Zs X' H → va_S A s.heap H locs → W p l e R s m args below meth c H locs cells slots Q (F0 m (pc + 3) ls rest)) : W p l e R s m args below meth c H locs cells slots Q (F0 m pc ls (.int x :: .ref a :: rest)) :=
  xput (ci := 0) (k := 7) E hR hS in_X0 tyX0 tyX0_ok nmX0 rfl (by decide) q276 (fun _ h => h) rfl (ty := .int) rfl rfl rfl h hdg kk
theorem xgX0_168 {v : Int32} (E : xE p m c cc nL s args RX0 D cA A Zs meth ret) (hR : xR D cA A Zs X H) (h : gI X a 1 1 = some v) (hdg : decode cc pc = .ok (.getfield 168, 3)) (kk : W p l e R s m args below meth c H locs cells slots Q (F0 m (pc + 3) ls (.int v :: rest))) : W p l e R s m args below meth c H locs cells slots Q (F0 m pc ls (.ref a :: rest)) :=
  xget (ci := 1) (k := 1) E hR in_X1 rfl (by decide) q150 (fun _ h => h) (gI_e h) hdg kk
theorem xgX0_183 {v : Int32} (E : xE p m c cc nL s args RX0 D cA A Zs meth ret) (hR : xR D cA A Zs X H) (h : gI X a 1 9 = some v) (hdg : decode cc pc = .ok (.getfield 183, 3)) (kk : W p l e R s m args below meth c H locs cells slots Q (F0 m (pc + 3) ls (.int v :: rest))) : W p l e R s m args below meth c H locs cells slots Q (F0 m pc ls (.ref a :: rest)) :=
  xget (ci := 1) (k := 9) E hR in_X1 rfl (by decide) q172 (fun _ h => h) (gI_e h) hdg kk
theorem xgX0_201 {v : Nat} (E : xE p m c cc nL s args RX0 D cA A Zs meth ret) (hR : xR D cA A Zs X H) (h : gR X a 1 4 = some v) (hdg : decode cc pc = .ok (.getfield 201, 3)) (kk : W p l e R s m args below meth c H locs cells slots Q (F0 m (pc + 3) ls (.ref v :: rest))) : W p l e R s m args below meth c H locs cells slots Q (F0 m pc ls (.ref a :: rest)) :=
  xget (ci := 1) (k := 4) E hR in_X1 rfl (by decide) q160 (fun _ h => h) (gR_e h) hdg kk
theorem xgX0_208 {v : Nat} (E : xE p m c cc nL s args RX0 D cA A Zs meth ret) (hR : xR D cA A Zs X H) (h : gR X a 1 3 = some v) (hdg : decode cc pc = .ok (.getfield 208, 3)) (kk : W p l e R s m args below meth c H locs cells slots Q (F0 m (pc + 3) ls (.ref v :: rest))) : W p l e R s m args below meth c H locs cells slots Q (F0 m pc ls (.ref a :: rest)) :=
  xget (ci := 1) (k := 3) E hR in_X1 rfl (by decide) q157 (fun _ h => h) (gR_e h) hdg kk
theorem xgX0_217 {v : Int32} (E : xE p m c cc nL s args RX0 D cA A Zs meth ret) (hR : xR D cA A Zs X H) (h : gI X a 1 8 = some v) (hdg : decode cc pc = .ok (.getfield 217, 3)) (kk : W p l e R s m args below meth c H locs cells slots Q (F0 m (pc + 3) ls (.int v :: rest))) : W p l e R s m args below meth c H locs cells slots Q (F0 m pc ls (.ref a :: rest)) :=
  xget (ci := 1) (k := 8) E hR in_X1 rfl (by decide) q170 (fun _ h => h) (gI_e h) hdg kk
theorem xgX0_225 {v : Int32} (E : xE p m c cc nL s args RX0 D cA A Zs meth ret) (hR : xR D cA A Zs X H) (h : gI X a 1 0 = some v) (hdg : decode cc pc = .ok (.getfield 225, 3)) (kk : W p l e R s m args below meth c H locs cells slots Q (F0 m (pc + 3) ls (.int v :: rest))) : W p l e R s m args below meth c H locs cells slots Q (F0 m pc ls (.ref a :: rest)) :=
  xget (ci := 1) (k := 0) E hR in_X1 rfl (by decide) q147 (fun _ h => h) (gI_e h) hdg kk
theorem xpX0_217 {x : Int32} (E : xE p m c cc nL s args RX0 D cA A Zs meth ret) (hR : xR D cA A Zs X H) (hS : va_S A s.heap H locs) (h : pF X a 1 8 (.int x) = some X') (hdg : decode cc pc = .ok (.putfield 217, 3)) (kk : ∀ (H : Heap) (locs : List Loc), xR D cA A Zs X' H → va_S A s.heap H locs → W p l e R s m args below meth c H locs cells slots Q (F0 m (pc + 3) ls rest)) : W p l e R s m args below meth c H locs cells slots Q (F0 m pc ls (.int x :: .ref a :: rest)) :=
  xput (ci := 1) (k := 8) E hR hS in_X1 tyX1 tyX1_ok nmX1 rfl (by decide) q170 (fun _ h => h) rfl (ty := .int) rfl rfl rfl h hdg kk
theorem xgX0_236 {v : Nat} (E : xE p m c cc nL s args RX0 D cA A Zs meth ret) (hR : xR D cA A Zs X H) (h : gR X a 1 5 = some v) (hdg : decode cc pc = .ok (.getfield 236, 3)) (kk : W p l e R s m args below meth c H locs cells slots Q (F0 m (pc + 3) ls (.ref v :: rest))) : W p l e R s m args below meth c H locs cells slots Q (F0 m pc ls (.ref a :: rest)) :=
  xget (ci := 1) (k := 5) E hR in_X1 rfl (by decide) q163 (fun _ h => h) (gR_e h) hdg kk
theorem xgX0_245 {v : Nat} (E : xE p m c cc nL s args RX0 D cA A Zs meth ret) (hR : xR D cA A Zs X H) (h : gR X a 1 6 = some v) (hdg : decode cc pc = .ok (.getfield 245, 3)) (kk : W p l e R s m args below meth c H locs cells slots Q (F0 m (pc + 3) ls (.ref v :: rest))) : W p l e R s m args below meth c H locs cells slots Q (F0 m pc ls (.ref a :: rest)) :=
  xget (ci := 1) (k := 6) E hR in_X1 rfl (by decide) q166 (fun _ h => h) (gR_e h) hdg kk
theorem xgX0_248 {v : Nat} (E : xE p m c cc nL s args RX0 D cA A Zs meth ret) (hR : xR D cA A Zs X H) (h : gR X a 1 7 = some v) (hdg : decode cc pc = .ok (.getfield 248, 3)) (kk : W p l e R s m args below meth c H locs cells slots Q (F0 m (pc + 3) ls (.ref v :: rest))) : W p l e R s m args below meth c H locs cells slots Q (F0 m pc ls (.ref a :: rest)) :=
  xget (ci := 1) (k := 7) E hR in_X1 rfl (by decide) q168 (fun _ h => h) (gR_e h) hdg kk
theorem xgX0_43 {v : Nat} (E : xE p m c cc nL s args RX0 D cA A Zs meth ret) (hR : xR D cA A Zs X H) (h : gR X a 0 5 = some v) (hdg : decode cc pc = .ok (.getfield 43, 3)) (kk : W p l e R s m args below meth c H locs cells slots Q (F0 m (pc + 3) ls (.ref v :: rest))) : W p l e R s m args below meth c H locs cells slots Q (F0 m pc ls (.ref a :: rest)) :=
  xget (ci := 0) (k := 5) E hR in_X0 rfl (by decide) q274 (fun _ h => h) (gR_e h) hdg kk
end
abbrev rmJ16_bitCount : Room := { frames := 1, cells := 0, slots := 0, locals := 12 }
section
variable {p : Program} {l : Launch} {e : Env} {s : State} {m : MethodId} {args : Array Value} {below : List Frame} {meth : Method} {c : Code} {G : va_G} {cI cZ : ClassId} {o : Nat} {σf : MS} {r : Int32} {rl : Int64}
def fJ16_bitCount   (x0 : Int32) : Option Int32 :=
  some ((((((((x0 - (((x0.toUInt32 >>> ((1 : Int32).toUInt32 &&& Int32.toUInt32 31)).toInt32) &&& 1431655765)) &&& 858993459) + ((((x0 - (((x0.toUInt32 >>> ((1 : Int32).toUInt32 &&& Int32.toUInt32 31)).toInt32) &&& 1431655765)).toUInt32 >>> ((2 : Int32).toUInt32 &&& Int32.toUInt32 31)).toInt32) &&& 858993459)) + (((((x0 - (((x0.toUInt32 >>> ((1 : Int32).toUInt32 &&& Int32.toUInt32 31)).toInt32) &&& 1431655765)) &&& 858993459) + ((((x0 - (((x0.toUInt32 >>> ((1 : Int32).toUInt32 &&& Int32.toUInt32 31)).toInt32) &&& 1431655765)).toUInt32 >>> ((2 : Int32).toUInt32 &&& Int32.toUInt32 31)).toInt32) &&& 858993459)).toUInt32 >>> ((4 : Int32).toUInt32 &&& Int32.toUInt32 31)).toInt32)) &&& 252645135) + (((((((x0 - (((x0.toUInt32 >>> ((1 : Int32).toUInt32 &&& Int32.toUInt32 31)).toInt32) &&& 1431655765)) &&& 858993459) + ((((x0 - (((x0.toUInt32 >>> ((1 : Int32).toUInt32 &&& Int32.toUInt32 31)).toInt32) &&& 1431655765)).toUInt32 >>> ((2 : Int32).toUInt32 &&& Int32.toUInt32 31)).toInt32) &&& 858993459)) + (((((x0 - (((x0.toUInt32 >>> ((1 : Int32).toUInt32 &&& Int32.toUInt32 31)).toInt32) &&& 1431655765)) &&& 858993459) + ((((x0 - (((x0.toUInt32 >>> ((1 : Int32).toUInt32 &&& Int32.toUInt32 31)).toInt32) &&& 1431655765)).toUInt32 >>> ((2 : Int32).toUInt32 &&& Int32.toUInt32 31)).toInt32) &&& 858993459)).toUInt32 >>> ((4 : Int32).toUInt32 &&& Int32.toUInt32 31)).toInt32)) &&& 252645135).toUInt32 >>> ((8 : Int32).toUInt32 &&& Int32.toUInt32 31)).toInt32)) + ((((((((x0 - (((x0.toUInt32 >>> ((1 : Int32).toUInt32 &&& Int32.toUInt32 31)).toInt32) &&& 1431655765)) &&& 858993459) + ((((x0 - (((x0.toUInt32 >>> ((1 : Int32).toUInt32 &&& Int32.toUInt32 31)).toInt32) &&& 1431655765)).toUInt32 >>> ((2 : Int32).toUInt32 &&& Int32.toUInt32 31)).toInt32) &&& 858993459)) + (((((x0 - (((x0.toUInt32 >>> ((1 : Int32).toUInt32 &&& Int32.toUInt32 31)).toInt32) &&& 1431655765)) &&& 858993459) + ((((x0 - (((x0.toUInt32 >>> ((1 : Int32).toUInt32 &&& Int32.toUInt32 31)).toInt32) &&& 1431655765)).toUInt32 >>> ((2 : Int32).toUInt32 &&& Int32.toUInt32 31)).toInt32) &&& 858993459)).toUInt32 >>> ((4 : Int32).toUInt32 &&& Int32.toUInt32 31)).toInt32)) &&& 252645135) + (((((((x0 - (((x0.toUInt32 >>> ((1 : Int32).toUInt32 &&& Int32.toUInt32 31)).toInt32) &&& 1431655765)) &&& 858993459) + ((((x0 - (((x0.toUInt32 >>> ((1 : Int32).toUInt32 &&& Int32.toUInt32 31)).toInt32) &&& 1431655765)).toUInt32 >>> ((2 : Int32).toUInt32 &&& Int32.toUInt32 31)).toInt32) &&& 858993459)) + (((((x0 - (((x0.toUInt32 >>> ((1 : Int32).toUInt32 &&& Int32.toUInt32 31)).toInt32) &&& 1431655765)) &&& 858993459) + ((((x0 - (((x0.toUInt32 >>> ((1 : Int32).toUInt32 &&& Int32.toUInt32 31)).toInt32) &&& 1431655765)).toUInt32 >>> ((2 : Int32).toUInt32 &&& Int32.toUInt32 31)).toInt32) &&& 858993459)).toUInt32 >>> ((4 : Int32).toUInt32 &&& Int32.toUInt32 31)).toInt32)) &&& 252645135).toUInt32 >>> ((8 : Int32).toUInt32 &&& Int32.toUInt32 31)).toInt32)).toUInt32 >>> ((16 : Int32).toUInt32 &&& Int32.toUInt32 31)).toInt32)) &&& 63)
theorem wJ16_bitCount_0 (E : sE p m c cJ16_bitCount 1 s args RJ16 meth (some .int))  {x0 : Int32} (hf : fJ16_bitCount x0 = some r) : ∀ (ls : Array Slot), lv_has ls 1 [(0, .int x0)] → W p l e rmJ16_bitCount s m args below meth c s.heap [] 0 0 (MQ below (sQi r) args s 0 0 (fun _ => False)) (F0 m 0 ls []) := by
  intro ls hl
  refine lv_iload_n E.hx E.hb dJ16_bitCount_0 rfl (lv_at hl 0 rfl) ?_
  refine lv_iload_n E.hx E.hb dJ16_bitCount_1 rfl (lv_at hl 0 rfl) ?_
  refine lv_iconst (v := 1) E.hx E.hb dJ16_bitCount_2 (by decide) ?_
  refine lv_iushr E.hx E.hb dJ16_bitCount_3 rfl ?_
  refine lv_ldcw (v := 1431655765) E.hx E.hb E.ho (E.ht _ q869) dJ16_bitCount_4 ?_
  refine lv_iand E.hx E.hb dJ16_bitCount_7 ?_
  refine lv_isub E.hx E.hb dJ16_bitCount_8 ?_
  refine lv_istore_n (lv' := [(0, .int (x0 - (((x0.toUInt32 >>> ((1 : Int32).toUInt32 &&& Int32.toUInt32 31)).toInt32) &&& 1431655765)))]) E.hx E.hb dJ16_bitCount_9 rfl hl (by decide) rfl (fun ls hl => ?_)
  refine lv_iload_n E.hx E.hb dJ16_bitCount_10 rfl (lv_at hl 0 rfl) ?_
  refine lv_ldcw (v := 858993459) E.hx E.hb E.ho (E.ht _ q870) dJ16_bitCount_11 ?_
  refine lv_iand E.hx E.hb dJ16_bitCount_14 ?_
  refine lv_iload_n E.hx E.hb dJ16_bitCount_15 rfl (lv_at hl 0 rfl) ?_
  refine lv_iconst (v := 2) E.hx E.hb dJ16_bitCount_16 (by decide) ?_
  refine lv_iushr E.hx E.hb dJ16_bitCount_17 rfl ?_
  refine lv_ldcw (v := 858993459) E.hx E.hb E.ho (E.ht _ q870) dJ16_bitCount_18 ?_
  refine lv_iand E.hx E.hb dJ16_bitCount_21 ?_
  refine lv_iadd E.hx E.hb dJ16_bitCount_22 ?_
  refine lv_istore_n (lv' := [(0, .int (((x0 - (((x0.toUInt32 >>> ((1 : Int32).toUInt32 &&& Int32.toUInt32 31)).toInt32) &&& 1431655765)) &&& 858993459) + ((((x0 - (((x0.toUInt32 >>> ((1 : Int32).toUInt32 &&& Int32.toUInt32 31)).toInt32) &&& 1431655765)).toUInt32 >>> ((2 : Int32).toUInt32 &&& Int32.toUInt32 31)).toInt32) &&& 858993459)))]) E.hx E.hb dJ16_bitCount_23 rfl hl (by decide) rfl (fun ls hl => ?_)
  refine lv_iload_n E.hx E.hb dJ16_bitCount_24 rfl (lv_at hl 0 rfl) ?_
  refine lv_iload_n E.hx E.hb dJ16_bitCount_25 rfl (lv_at hl 0 rfl) ?_
  refine lv_iconst (v := 4) E.hx E.hb dJ16_bitCount_26 (by decide) ?_
  refine lv_iushr E.hx E.hb dJ16_bitCount_27 rfl ?_
  refine lv_iadd E.hx E.hb dJ16_bitCount_28 ?_
  refine lv_ldcw (v := 252645135) E.hx E.hb E.ho (E.ht _ q871) dJ16_bitCount_29 ?_
  refine lv_iand E.hx E.hb dJ16_bitCount_32 ?_
  refine lv_istore_n (lv' := [(0, .int (((((x0 - (((x0.toUInt32 >>> ((1 : Int32).toUInt32 &&& Int32.toUInt32 31)).toInt32) &&& 1431655765)) &&& 858993459) + ((((x0 - (((x0.toUInt32 >>> ((1 : Int32).toUInt32 &&& Int32.toUInt32 31)).toInt32) &&& 1431655765)).toUInt32 >>> ((2 : Int32).toUInt32 &&& Int32.toUInt32 31)).toInt32) &&& 858993459)) + (((((x0 - (((x0.toUInt32 >>> ((1 : Int32).toUInt32 &&& Int32.toUInt32 31)).toInt32) &&& 1431655765)) &&& 858993459) + ((((x0 - (((x0.toUInt32 >>> ((1 : Int32).toUInt32 &&& Int32.toUInt32 31)).toInt32) &&& 1431655765)).toUInt32 >>> ((2 : Int32).toUInt32 &&& Int32.toUInt32 31)).toInt32) &&& 858993459)).toUInt32 >>> ((4 : Int32).toUInt32 &&& Int32.toUInt32 31)).toInt32)) &&& 252645135))]) E.hx E.hb dJ16_bitCount_33 rfl hl (by decide) rfl (fun ls hl => ?_)
  refine lv_iload_n E.hx E.hb dJ16_bitCount_34 rfl (lv_at hl 0 rfl) ?_
  refine lv_iload_n E.hx E.hb dJ16_bitCount_35 rfl (lv_at hl 0 rfl) ?_
  refine lv_bipush (v := 8) E.hx E.hb dJ16_bitCount_36 (by decide) ?_
  refine lv_iushr E.hx E.hb dJ16_bitCount_38 rfl ?_
  refine lv_iadd E.hx E.hb dJ16_bitCount_39 ?_
  refine lv_istore_n (lv' := [(0, .int ((((((x0 - (((x0.toUInt32 >>> ((1 : Int32).toUInt32 &&& Int32.toUInt32 31)).toInt32) &&& 1431655765)) &&& 858993459) + ((((x0 - (((x0.toUInt32 >>> ((1 : Int32).toUInt32 &&& Int32.toUInt32 31)).toInt32) &&& 1431655765)).toUInt32 >>> ((2 : Int32).toUInt32 &&& Int32.toUInt32 31)).toInt32) &&& 858993459)) + (((((x0 - (((x0.toUInt32 >>> ((1 : Int32).toUInt32 &&& Int32.toUInt32 31)).toInt32) &&& 1431655765)) &&& 858993459) + ((((x0 - (((x0.toUInt32 >>> ((1 : Int32).toUInt32 &&& Int32.toUInt32 31)).toInt32) &&& 1431655765)).toUInt32 >>> ((2 : Int32).toUInt32 &&& Int32.toUInt32 31)).toInt32) &&& 858993459)).toUInt32 >>> ((4 : Int32).toUInt32 &&& Int32.toUInt32 31)).toInt32)) &&& 252645135) + (((((((x0 - (((x0.toUInt32 >>> ((1 : Int32).toUInt32 &&& Int32.toUInt32 31)).toInt32) &&& 1431655765)) &&& 858993459) + ((((x0 - (((x0.toUInt32 >>> ((1 : Int32).toUInt32 &&& Int32.toUInt32 31)).toInt32) &&& 1431655765)).toUInt32 >>> ((2 : Int32).toUInt32 &&& Int32.toUInt32 31)).toInt32) &&& 858993459)) + (((((x0 - (((x0.toUInt32 >>> ((1 : Int32).toUInt32 &&& Int32.toUInt32 31)).toInt32) &&& 1431655765)) &&& 858993459) + ((((x0 - (((x0.toUInt32 >>> ((1 : Int32).toUInt32 &&& Int32.toUInt32 31)).toInt32) &&& 1431655765)).toUInt32 >>> ((2 : Int32).toUInt32 &&& Int32.toUInt32 31)).toInt32) &&& 858993459)).toUInt32 >>> ((4 : Int32).toUInt32 &&& Int32.toUInt32 31)).toInt32)) &&& 252645135).toUInt32 >>> ((8 : Int32).toUInt32 &&& Int32.toUInt32 31)).toInt32)))]) E.hx E.hb dJ16_bitCount_40 rfl hl (by decide) rfl (fun ls hl => ?_)
  refine lv_iload_n E.hx E.hb dJ16_bitCount_41 rfl (lv_at hl 0 rfl) ?_
  refine lv_iload_n E.hx E.hb dJ16_bitCount_42 rfl (lv_at hl 0 rfl) ?_
  refine lv_bipush (v := 16) E.hx E.hb dJ16_bitCount_43 (by decide) ?_
  refine lv_iushr E.hx E.hb dJ16_bitCount_45 rfl ?_
  refine lv_iadd E.hx E.hb dJ16_bitCount_46 ?_
  refine lv_istore_n (lv' := [(0, .int (((((((x0 - (((x0.toUInt32 >>> ((1 : Int32).toUInt32 &&& Int32.toUInt32 31)).toInt32) &&& 1431655765)) &&& 858993459) + ((((x0 - (((x0.toUInt32 >>> ((1 : Int32).toUInt32 &&& Int32.toUInt32 31)).toInt32) &&& 1431655765)).toUInt32 >>> ((2 : Int32).toUInt32 &&& Int32.toUInt32 31)).toInt32) &&& 858993459)) + (((((x0 - (((x0.toUInt32 >>> ((1 : Int32).toUInt32 &&& Int32.toUInt32 31)).toInt32) &&& 1431655765)) &&& 858993459) + ((((x0 - (((x0.toUInt32 >>> ((1 : Int32).toUInt32 &&& Int32.toUInt32 31)).toInt32) &&& 1431655765)).toUInt32 >>> ((2 : Int32).toUInt32 &&& Int32.toUInt32 31)).toInt32) &&& 858993459)).toUInt32 >>> ((4 : Int32).toUInt32 &&& Int32.toUInt32 31)).toInt32)) &&& 252645135) + (((((((x0 - (((x0.toUInt32 >>> ((1 : Int32).toUInt32 &&& Int32.toUInt32 31)).toInt32) &&& 1431655765)) &&& 858993459) + ((((x0 - (((x0.toUInt32 >>> ((1 : Int32).toUInt32 &&& Int32.toUInt32 31)).toInt32) &&& 1431655765)).toUInt32 >>> ((2 : Int32).toUInt32 &&& Int32.toUInt32 31)).toInt32) &&& 858993459)) + (((((x0 - (((x0.toUInt32 >>> ((1 : Int32).toUInt32 &&& Int32.toUInt32 31)).toInt32) &&& 1431655765)) &&& 858993459) + ((((x0 - (((x0.toUInt32 >>> ((1 : Int32).toUInt32 &&& Int32.toUInt32 31)).toInt32) &&& 1431655765)).toUInt32 >>> ((2 : Int32).toUInt32 &&& Int32.toUInt32 31)).toInt32) &&& 858993459)).toUInt32 >>> ((4 : Int32).toUInt32 &&& Int32.toUInt32 31)).toInt32)) &&& 252645135).toUInt32 >>> ((8 : Int32).toUInt32 &&& Int32.toUInt32 31)).toInt32)) + ((((((((x0 - (((x0.toUInt32 >>> ((1 : Int32).toUInt32 &&& Int32.toUInt32 31)).toInt32) &&& 1431655765)) &&& 858993459) + ((((x0 - (((x0.toUInt32 >>> ((1 : Int32).toUInt32 &&& Int32.toUInt32 31)).toInt32) &&& 1431655765)).toUInt32 >>> ((2 : Int32).toUInt32 &&& Int32.toUInt32 31)).toInt32) &&& 858993459)) + (((((x0 - (((x0.toUInt32 >>> ((1 : Int32).toUInt32 &&& Int32.toUInt32 31)).toInt32) &&& 1431655765)) &&& 858993459) + ((((x0 - (((x0.toUInt32 >>> ((1 : Int32).toUInt32 &&& Int32.toUInt32 31)).toInt32) &&& 1431655765)).toUInt32 >>> ((2 : Int32).toUInt32 &&& Int32.toUInt32 31)).toInt32) &&& 858993459)).toUInt32 >>> ((4 : Int32).toUInt32 &&& Int32.toUInt32 31)).toInt32)) &&& 252645135) + (((((((x0 - (((x0.toUInt32 >>> ((1 : Int32).toUInt32 &&& Int32.toUInt32 31)).toInt32) &&& 1431655765)) &&& 858993459) + ((((x0 - (((x0.toUInt32 >>> ((1 : Int32).toUInt32 &&& Int32.toUInt32 31)).toInt32) &&& 1431655765)).toUInt32 >>> ((2 : Int32).toUInt32 &&& Int32.toUInt32 31)).toInt32) &&& 858993459)) + (((((x0 - (((x0.toUInt32 >>> ((1 : Int32).toUInt32 &&& Int32.toUInt32 31)).toInt32) &&& 1431655765)) &&& 858993459) + ((((x0 - (((x0.toUInt32 >>> ((1 : Int32).toUInt32 &&& Int32.toUInt32 31)).toInt32) &&& 1431655765)).toUInt32 >>> ((2 : Int32).toUInt32 &&& Int32.toUInt32 31)).toInt32) &&& 858993459)).toUInt32 >>> ((4 : Int32).toUInt32 &&& Int32.toUInt32 31)).toInt32)) &&& 252645135).toUInt32 >>> ((8 : Int32).toUInt32 &&& Int32.toUInt32 31)).toInt32)).toUInt32 >>> ((16 : Int32).toUInt32 &&& Int32.toUInt32 31)).toInt32)))]) E.hx E.hb dJ16_bitCount_47 rfl hl (by decide) rfl (fun ls hl => ?_)
  refine lv_iload_n E.hx E.hb dJ16_bitCount_48 rfl (lv_at hl 0 rfl) ?_
  refine lv_bipush (v := 63) E.hx E.hb dJ16_bitCount_49 (by decide) ?_
  refine lv_iand E.hx E.hb dJ16_bitCount_51 ?_
  obtain rfl := Option.some.inj hf
  exact sret_i E dJ16_bitCount_52
theorem tJ16_bitCount (l : Launch) {x0 : Int32} {r : Int32} (hf : fJ16_bitCount x0 = some r) : Met l yJ16_bitCount (ws_ yJ16_bitCount cJ16_bitCount 1 (some .int)) rmJ16_bitCount (sPc [.int x0]) (sQi r) 0 0 (fun _ => False) := by
  refine Met.ofW (cc := cJ16_bitCount) (maxL := 1) (ret := (some .int)) (by decide) rfl ?_
  intro p e s m args below meth c s₁ B hml hv
  obtain ⟨rfl, -⟩ := hv
  have hts := atoms_spec (ws := (ws_ yJ16_bitCount cJ16_bitCount 1 (some .int))) B.pre
  rw [lg_entry_eq]
  exact wJ16_bitCount_0 (E := ⟨⟨B.exec, B.bytes, hml, findClass_of_methodNamed B.named, fun w h => hts w (List.mem_cons_of_mem _ h)⟩, B.returns, B.notSynchronized⟩) hf _ (lv_entry [.int x0] (n := 1) (Nat.le_of_ble_eq_true rfl))
end
abbrev rmX0_isIn : Room := { frames := 1, cells := 0, slots := 0, locals := 12 }
section
variable {p : Program} {l : Launch} {e : Env} {s : State} {m : MethodId} {args : Array Value} {below : List Frame} {meth : Method} {c : Code} {G : va_G} {cI cZ : ClassId} {o : Nat} {σf : MS} {r : Int32} {rl : Int64}
def fX0_isIn   (x0 : Int64) (x2 : Int64) (x4 : Int64) : Option Int32 :=
  if (lg_cmp x0 x2) < 0 then (some 0) else (if 0 < (lg_cmp x0 x4) then (some 0) else (some 1))
theorem wX0_isIn_0 (E : sE p m c cX0_isIn 6 s args RX0 meth (some .boolean))  {x0 : Int64} {x2 : Int64} {x4 : Int64} (hf : fX0_isIn x0 x2 x4 = some r) : ∀ (ls : Array Slot), lv_has ls 6 [(0, .long x0), (2, .long x2), (4, .long x4)] → W p l e rmX0_isIn s m args below meth c s.heap [] 0 0 (MQ below (sQi r) args s 0 0 (fun _ => False)) (F0 m 0 ls []) := by
  intro ls hl
  refine lv_lload_n E.hx E.hb dX0_isIn_0 rfl (lv_at hl 0 rfl) ?_
  refine lv_lload_n E.hx E.hb dX0_isIn_1 rfl (lv_at hl 1 rfl) ?_
  refine W.lcmp E.hx E.hb dX0_isIn_2 ?_
  refine lv_if_lt (tgt := 17) E.hx E.hb dX0_isIn_3 (by decide) (fun c1 => ?_) (fun c1 => ?_)
  · have hf := it_t hf c1
    refine lv_iconst (v := 0) E.hx E.hb dX0_isIn_17 (by decide) ?_
    cases hf
    exact sret_z E rfl dX0_isIn_18
  · have hf := it_f hf c1
    refine lv_lload_n E.hx E.hb dX0_isIn_6 rfl (lv_at hl 0 rfl) ?_
    refine lv_lload E.hx E.hb dX0_isIn_7 (lv_at hl 2 rfl) ?_
    refine W.lcmp E.hx E.hb dX0_isIn_9 ?_
    refine lv_if_gt (tgt := 17) E.hx E.hb dX0_isIn_10 (by decide) (fun c2 => ?_) (fun c2 => ?_)
    · have hf := it_t hf c2
      refine lv_iconst (v := 0) E.hx E.hb dX0_isIn_17 (by decide) ?_
      cases hf
      exact sret_z E rfl dX0_isIn_18
    · have hf := it_f hf c2
      refine lv_iconst (v := 1) E.hx E.hb dX0_isIn_13 (by decide) ?_
      refine lv_goto (tgt := 18) E.hx E.hb dX0_isIn_14 (by decide) ?_
      cases hf
      exact sret_z E rfl dX0_isIn_18
theorem tX0_isIn (l : Launch) {x0 : Int64} {x2 : Int64} {x4 : Int64} {r : Int32} (hf : fX0_isIn x0 x2 x4 = some r) : Met l yX0_isIn (ws_ yX0_isIn cX0_isIn 6 (some .boolean)) rmX0_isIn (sPc [.long x0, .long x2, .long x4]) (sQi r) 0 0 (fun _ => False) := by
  refine Met.ofW (cc := cX0_isIn) (maxL := 6) (ret := (some .boolean)) (by decide) rfl ?_
  intro p e s m args below meth c s₁ B hml hv
  obtain ⟨rfl, -⟩ := hv
  have hts := atoms_spec (ws := (ws_ yX0_isIn cX0_isIn 6 (some .boolean))) B.pre
  rw [lg_entry_eq]
  exact wX0_isIn_0 (E := ⟨⟨B.exec, B.bytes, hml, findClass_of_methodNamed B.named, fun w h => hts w (List.mem_cons_of_mem _ h)⟩, B.returns, B.notSynchronized⟩) hf _ (lv_entry [.long x0, .long x2, .long x4] (n := 6) (Nat.le_of_ble_eq_true rfl))
end
abbrev rmX0_has : Room := { frames := 1, cells := 0, slots := 0, locals := 12 }
section
variable {p : Program} {l : Launch} {e : Env} {s : State} {m : MethodId} {args : Array Value} {below : List Frame} {meth : Method} {c : Code} {G : va_G} {cI cZ : ClassId} {o : Nat} {σf : MS} {r : Int32} {rl : Int64}
def fX0_has   (x0 : Int32) (x1 : Int32) : Option Int32 :=
  if ((x0 >>> (x1 &&& 31)) &&& 1) = 1 then (some 1) else (some 0)
theorem wX0_has_0 (E : sE p m c cX0_has 2 s args RX0 meth (some .boolean))  {x0 : Int32} {x1 : Int32} (hf : fX0_has x0 x1 = some r) : ∀ (ls : Array Slot), lv_has ls 2 [(0, .int x0), (1, .int x1)] → W p l e rmX0_has s m args below meth c s.heap [] 0 0 (MQ below (sQi r) args s 0 0 (fun _ => False)) (F0 m 0 ls []) := by
  intro ls hl
  refine lv_iload_n E.hx E.hb dX0_has_0 rfl (lv_at hl 0 rfl) ?_
  refine lv_iload_n E.hx E.hb dX0_has_1 rfl (lv_at hl 1 rfl) ?_
  refine lv_ishr E.hx E.hb dX0_has_2 ?_
  refine lv_iconst (v := 1) E.hx E.hb dX0_has_3 (by decide) ?_
  refine lv_iand E.hx E.hb dX0_has_4 ?_
  refine lv_iconst (v := 1) E.hx E.hb dX0_has_5 (by decide) ?_
  refine lv_icmp_ne (tgt := 13) E.hx E.hb dX0_has_6 (by decide) (fun c1 => ?_) (fun c1 => ?_)
  · have hf := it_f hf c1
    refine lv_iconst (v := 0) E.hx E.hb dX0_has_13 (by decide) ?_
    cases hf
    exact sret_z E rfl dX0_has_14
  · have hf := it_t hf c1
    refine lv_iconst (v := 1) E.hx E.hb dX0_has_9 (by decide) ?_
    refine lv_goto (tgt := 14) E.hx E.hb dX0_has_10 (by decide) ?_
    cases hf
    exact sret_z E rfl dX0_has_14
theorem tX0_has (l : Launch) {x0 : Int32} {x1 : Int32} {r : Int32} (hf : fX0_has x0 x1 = some r) : Met l yX0_has (ws_ yX0_has cX0_has 2 (some .boolean)) rmX0_has (sPc [.int x0, .int x1]) (sQi r) 0 0 (fun _ => False) := by
  refine Met.ofW (cc := cX0_has) (maxL := 2) (ret := (some .boolean)) (by decide) rfl ?_
  intro p e s m args below meth c s₁ B hml hv
  obtain ⟨rfl, -⟩ := hv
  have hts := atoms_spec (ws := (ws_ yX0_has cX0_has 2 (some .boolean))) B.pre
  rw [lg_entry_eq]
  exact wX0_has_0 (E := ⟨⟨B.exec, B.bytes, hml, findClass_of_methodNamed B.named, fun w h => hts w (List.mem_cons_of_mem _ h)⟩, B.returns, B.notSynchronized⟩) hf _ (lv_entry [.int x0, .int x1] (n := 2) (Nat.le_of_ble_eq_true rfl))
end
abbrev rmX0_isRow : Room := { frames := 2, cells := 0, slots := 0, locals := 37 }
theorem cwX0_79 {R : Room} {s : State} {args : Array Value} (ht : ∀ w ∈ lw_all, w.before args s = true) (hR : rmX0_isIn.frames + 1 ≤ R.frames ∧ 8 + (6 + 11) + rmX0_isIn.locals ≤ R.locals) : CallB R s args RX0 79 yX0_isIn cX0_isIn 6 (some .boolean) (ws_ yX0_isIn cX0_isIn 6 (some .boolean)) rmX0_isIn 0 0 3 ∧ (Cond.static yX0_isIn).before args s = true :=
  va_cwS 3 ht (lw_S q315 q316 q68 q317) rfl rfl rfl (by decide +kernel) hR
section
variable {p : Program} {l : Launch} {e : Env} {s : State} {m : MethodId} {args : Array Value} {below : List Frame} {meth : Method} {c : Code} {G : va_G} {cI cZ : ClassId} {o : Nat} {σf : MS} {r : Int32} {rl : Int64}
def fX0_isRow   (x0 : Int32) : Option Int32 :=
  (fX0_isIn (x0.toInt64) 0 7).bind fun v1 =>
  bz v1
theorem wX0_isRow_0 (E : sE p m c cX0_isRow 1 s args RX0 meth (some .boolean))  {x0 : Int32} (hf : fX0_isRow x0 = some r) : ∀ (ls : Array Slot), lv_has ls 1 [(0, .int x0)] → W p l e rmX0_isRow s m args below meth c s.heap [] 0 0 (MQ below (sQi r) args s 0 0 (fun _ => False)) (F0 m 0 ls []) := by
  intro ls hl
  refine lv_iload_n E.hx E.hb dX0_isRow_0 rfl (lv_at hl 0 rfl) ?_
  refine lv_i2l E.hx E.hb dX0_isRow_1 rfl ?_
  refine lv_lconst (v := 0) E.hx E.hb dX0_isRow_2 (by decide) ?_
  refine lv_ldc2 (v := 7) E.hx E.hb E.ho (E.ht _ q314) dX0_isRow_3 ?_
  obtain ⟨v1, hv1, hf⟩ := bd_e hf
  refine scall_i (rest := []) E.1 (tX0_isIn l hv1) (cwX0_79 E.ht ⟨Nat.le_of_ble_eq_true rfl, Nat.le_of_ble_eq_true rfl⟩) rfl hl.1 rfl (Nat.le_of_ble_eq_true rfl) dX0_isRow_6 ⟨Nat.le_refl 0, Nat.le_refl 0⟩ ?_
  obtain ⟨hz, rfl⟩ := bz_e hf
  exact sret_z E hz dX0_isRow_9
theorem tX0_isRow (l : Launch) {x0 : Int32} {r : Int32} (hf : fX0_isRow x0 = some r) : Met l yX0_isRow (ws_ yX0_isRow cX0_isRow 1 (some .boolean)) rmX0_isRow (sPc [.int x0]) (sQi r) 0 0 (fun _ => False) := by
  refine Met.ofW (cc := cX0_isRow) (maxL := 1) (ret := (some .boolean)) (by decide) rfl ?_
  intro p e s m args below meth c s₁ B hml hv
  obtain ⟨rfl, -⟩ := hv
  have hts := atoms_spec (ws := (ws_ yX0_isRow cX0_isRow 1 (some .boolean))) B.pre
  rw [lg_entry_eq]
  exact wX0_isRow_0 (E := ⟨⟨B.exec, B.bytes, hml, findClass_of_methodNamed B.named, fun w h => hts w (List.mem_cons_of_mem _ h)⟩, B.returns, B.notSynchronized⟩) hf _ (lv_entry [.int x0] (n := 1) (Nat.le_of_ble_eq_true rfl))
end
abbrev rmX0_isHalf : Room := { frames := 2, cells := 0, slots := 0, locals := 37 }
section
variable {p : Program} {l : Launch} {e : Env} {s : State} {m : MethodId} {args : Array Value} {below : List Frame} {meth : Method} {c : Code} {G : va_G} {cI cZ : ClassId} {o : Nat} {σf : MS} {r : Int32} {rl : Int64}
def fX0_isHalf   (x0 : Int32) : Option Int32 :=
  (fX0_isIn (x0.toInt64) 0 1).bind fun v1 =>
  bz v1
theorem wX0_isHalf_0 (E : sE p m c cX0_isHalf 1 s args RX0 meth (some .boolean))  {x0 : Int32} (hf : fX0_isHalf x0 = some r) : ∀ (ls : Array Slot), lv_has ls 1 [(0, .int x0)] → W p l e rmX0_isHalf s m args below meth c s.heap [] 0 0 (MQ below (sQi r) args s 0 0 (fun _ => False)) (F0 m 0 ls []) := by
  intro ls hl
  refine lv_iload_n E.hx E.hb dX0_isHalf_0 rfl (lv_at hl 0 rfl) ?_
  refine lv_i2l E.hx E.hb dX0_isHalf_1 rfl ?_
  refine lv_lconst (v := 0) E.hx E.hb dX0_isHalf_2 (by decide) ?_
  refine lv_lconst (v := 1) E.hx E.hb dX0_isHalf_3 (by decide) ?_
  obtain ⟨v1, hv1, hf⟩ := bd_e hf
  refine scall_i (rest := []) E.1 (tX0_isIn l hv1) (cwX0_79 E.ht ⟨Nat.le_of_ble_eq_true rfl, Nat.le_of_ble_eq_true rfl⟩) rfl hl.1 rfl (Nat.le_of_ble_eq_true rfl) dX0_isHalf_4 ⟨Nat.le_refl 0, Nat.le_refl 0⟩ ?_
  obtain ⟨hz, rfl⟩ := bz_e hf
  exact sret_z E hz dX0_isHalf_7
theorem tX0_isHalf (l : Launch) {x0 : Int32} {r : Int32} (hf : fX0_isHalf x0 = some r) : Met l yX0_isHalf (ws_ yX0_isHalf cX0_isHalf 1 (some .boolean)) rmX0_isHalf (sPc [.int x0]) (sQi r) 0 0 (fun _ => False) := by
  refine Met.ofW (cc := cX0_isHalf) (maxL := 1) (ret := (some .boolean)) (by decide) rfl ?_
  intro p e s m args below meth c s₁ B hml hv
  obtain ⟨rfl, -⟩ := hv
  have hts := atoms_spec (ws := (ws_ yX0_isHalf cX0_isHalf 1 (some .boolean))) B.pre
  rw [lg_entry_eq]
  exact wX0_isHalf_0 (E := ⟨⟨B.exec, B.bytes, hml, findClass_of_methodNamed B.named, fun w h => hts w (List.mem_cons_of_mem _ h)⟩, B.returns, B.notSynchronized⟩) hf _ (lv_entry [.int x0] (n := 1) (Nat.le_of_ble_eq_true rfl))
end
abbrev rmX0_isRank : Room := { frames := 2, cells := 0, slots := 0, locals := 37 }
section
variable {p : Program} {l : Launch} {e : Env} {s : State} {m : MethodId} {args : Array Value} {below : List Frame} {meth : Method} {c : Code} {G : va_G} {cI cZ : ClassId} {o : Nat} {σf : MS} {r : Int32} {rl : Int64}
def fX0_isRank   (x0 : Int32) : Option Int32 :=
  (fX0_isIn (x0.toInt64) 0 5).bind fun v1 =>
  bz v1
theorem wX0_isRank_0 (E : sE p m c cX0_isRank 1 s args RX0 meth (some .boolean))  {x0 : Int32} (hf : fX0_isRank x0 = some r) : ∀ (ls : Array Slot), lv_has ls 1 [(0, .int x0)] → W p l e rmX0_isRank s m args below meth c s.heap [] 0 0 (MQ below (sQi r) args s 0 0 (fun _ => False)) (F0 m 0 ls []) := by
  intro ls hl
  refine lv_iload_n E.hx E.hb dX0_isRank_0 rfl (lv_at hl 0 rfl) ?_
  refine lv_i2l E.hx E.hb dX0_isRank_1 rfl ?_
  refine lv_lconst (v := 0) E.hx E.hb dX0_isRank_2 (by decide) ?_
  refine lv_ldc2 (v := 5) E.hx E.hb E.ho (E.ht _ q931) dX0_isRank_3 ?_
  obtain ⟨v1, hv1, hf⟩ := bd_e hf
  refine scall_i (rest := []) E.1 (tX0_isIn l hv1) (cwX0_79 E.ht ⟨Nat.le_of_ble_eq_true rfl, Nat.le_of_ble_eq_true rfl⟩) rfl hl.1 rfl (Nat.le_of_ble_eq_true rfl) dX0_isRank_6 ⟨Nat.le_refl 0, Nat.le_refl 0⟩ ?_
  obtain ⟨hz, rfl⟩ := bz_e hf
  exact sret_z E hz dX0_isRank_9
theorem tX0_isRank (l : Launch) {x0 : Int32} {r : Int32} (hf : fX0_isRank x0 = some r) : Met l yX0_isRank (ws_ yX0_isRank cX0_isRank 1 (some .boolean)) rmX0_isRank (sPc [.int x0]) (sQi r) 0 0 (fun _ => False) := by
  refine Met.ofW (cc := cX0_isRank) (maxL := 1) (ret := (some .boolean)) (by decide) rfl ?_
  intro p e s m args below meth c s₁ B hml hv
  obtain ⟨rfl, -⟩ := hv
  have hts := atoms_spec (ws := (ws_ yX0_isRank cX0_isRank 1 (some .boolean))) B.pre
  rw [lg_entry_eq]
  exact wX0_isRank_0 (E := ⟨⟨B.exec, B.bytes, hml, findClass_of_methodNamed B.named, fun w h => hts w (List.mem_cons_of_mem _ h)⟩, B.returns, B.notSynchronized⟩) hf _ (lv_entry [.int x0] (n := 1) (Nat.le_of_ble_eq_true rfl))
end
abbrev rmX0_isFar : Room := { frames := 2, cells := 0, slots := 0, locals := 37 }
section
variable {p : Program} {l : Launch} {e : Env} {s : State} {m : MethodId} {args : Array Value} {below : List Frame} {meth : Method} {c : Code} {G : va_G} {cI cZ : ClassId} {o : Nat} {σf : MS} {r : Int32} {rl : Int64}
def fX0_isFar   (x0 : Int32) : Option Int32 :=
  (fX0_isIn (x0.toInt64) 0 60).bind fun v1 =>
  bz v1
theorem wX0_isFar_0 (E : sE p m c cX0_isFar 1 s args RX0 meth (some .boolean))  {x0 : Int32} (hf : fX0_isFar x0 = some r) : ∀ (ls : Array Slot), lv_has ls 1 [(0, .int x0)] → W p l e rmX0_isFar s m args below meth c s.heap [] 0 0 (MQ below (sQi r) args s 0 0 (fun _ => False)) (F0 m 0 ls []) := by
  intro ls hl
  refine lv_iload_n E.hx E.hb dX0_isFar_0 rfl (lv_at hl 0 rfl) ?_
  refine lv_i2l E.hx E.hb dX0_isFar_1 rfl ?_
  refine lv_lconst (v := 0) E.hx E.hb dX0_isFar_2 (by decide) ?_
  refine lv_ldc2 (v := 60) E.hx E.hb E.ho (E.ht _ q906) dX0_isFar_3 ?_
  obtain ⟨v1, hv1, hf⟩ := bd_e hf
  refine scall_i (rest := []) E.1 (tX0_isIn l hv1) (cwX0_79 E.ht ⟨Nat.le_of_ble_eq_true rfl, Nat.le_of_ble_eq_true rfl⟩) rfl hl.1 rfl (Nat.le_of_ble_eq_true rfl) dX0_isFar_6 ⟨Nat.le_refl 0, Nat.le_refl 0⟩ ?_
  obtain ⟨hz, rfl⟩ := bz_e hf
  exact sret_z E hz dX0_isFar_9
theorem tX0_isFar (l : Launch) {x0 : Int32} {r : Int32} (hf : fX0_isFar x0 = some r) : Met l yX0_isFar (ws_ yX0_isFar cX0_isFar 1 (some .boolean)) rmX0_isFar (sPc [.int x0]) (sQi r) 0 0 (fun _ => False) := by
  refine Met.ofW (cc := cX0_isFar) (maxL := 1) (ret := (some .boolean)) (by decide) rfl ?_
  intro p e s m args below meth c s₁ B hml hv
  obtain ⟨rfl, -⟩ := hv
  have hts := atoms_spec (ws := (ws_ yX0_isFar cX0_isFar 1 (some .boolean))) B.pre
  rw [lg_entry_eq]
  exact wX0_isFar_0 (E := ⟨⟨B.exec, B.bytes, hml, findClass_of_methodNamed B.named, fun w h => hts w (List.mem_cons_of_mem _ h)⟩, B.returns, B.notSynchronized⟩) hf _ (lv_entry [.int x0] (n := 1) (Nat.le_of_ble_eq_true rfl))
end
abbrev rmX0_isNear : Room := { frames := 2, cells := 0, slots := 0, locals := 37 }
section
variable {p : Program} {l : Launch} {e : Env} {s : State} {m : MethodId} {args : Array Value} {below : List Frame} {meth : Method} {c : Code} {G : va_G} {cI cZ : ClassId} {o : Nat} {σf : MS} {r : Int32} {rl : Int64}
def fX0_isNear   (x0 : Int32) : Option Int32 :=
  (fX0_isIn (x0.toInt64) 0 30).bind fun v1 =>
  bz v1
theorem wX0_isNear_0 (E : sE p m c cX0_isNear 1 s args RX0 meth (some .boolean))  {x0 : Int32} (hf : fX0_isNear x0 = some r) : ∀ (ls : Array Slot), lv_has ls 1 [(0, .int x0)] → W p l e rmX0_isNear s m args below meth c s.heap [] 0 0 (MQ below (sQi r) args s 0 0 (fun _ => False)) (F0 m 0 ls []) := by
  intro ls hl
  refine lv_iload_n E.hx E.hb dX0_isNear_0 rfl (lv_at hl 0 rfl) ?_
  refine lv_i2l E.hx E.hb dX0_isNear_1 rfl ?_
  refine lv_lconst (v := 0) E.hx E.hb dX0_isNear_2 (by decide) ?_
  refine lv_ldc2 (v := 30) E.hx E.hb E.ho (E.ht _ q947) dX0_isNear_3 ?_
  obtain ⟨v1, hv1, hf⟩ := bd_e hf
  refine scall_i (rest := []) E.1 (tX0_isIn l hv1) (cwX0_79 E.ht ⟨Nat.le_of_ble_eq_true rfl, Nat.le_of_ble_eq_true rfl⟩) rfl hl.1 rfl (Nat.le_of_ble_eq_true rfl) dX0_isNear_6 ⟨Nat.le_refl 0, Nat.le_refl 0⟩ ?_
  obtain ⟨hz, rfl⟩ := bz_e hf
  exact sret_z E hz dX0_isNear_9
theorem tX0_isNear (l : Launch) {x0 : Int32} {r : Int32} (hf : fX0_isNear x0 = some r) : Met l yX0_isNear (ws_ yX0_isNear cX0_isNear 1 (some .boolean)) rmX0_isNear (sPc [.int x0]) (sQi r) 0 0 (fun _ => False) := by
  refine Met.ofW (cc := cX0_isNear) (maxL := 1) (ret := (some .boolean)) (by decide) rfl ?_
  intro p e s m args below meth c s₁ B hml hv
  obtain ⟨rfl, -⟩ := hv
  have hts := atoms_spec (ws := (ws_ yX0_isNear cX0_isNear 1 (some .boolean))) B.pre
  rw [lg_entry_eq]
  exact wX0_isNear_0 (E := ⟨⟨B.exec, B.bytes, hml, findClass_of_methodNamed B.named, fun w h => hts w (List.mem_cons_of_mem _ h)⟩, B.returns, B.notSynchronized⟩) hf _ (lv_entry [.int x0] (n := 1) (Nat.le_of_ble_eq_true rfl))
end
abbrev rmX0_isTold : Room := { frames := 2, cells := 0, slots := 0, locals := 37 }
section
variable {p : Program} {l : Launch} {e : Env} {s : State} {m : MethodId} {args : Array Value} {below : List Frame} {meth : Method} {c : Code} {G : va_G} {cI cZ : ClassId} {o : Nat} {σf : MS} {r : Int32} {rl : Int64}
def fX0_isTold   (x0 : Int32) : Option Int32 :=
  (fX0_isIn (x0.toInt64) 1 12).bind fun v1 =>
  bz v1
theorem wX0_isTold_0 (E : sE p m c cX0_isTold 1 s args RX0 meth (some .boolean))  {x0 : Int32} (hf : fX0_isTold x0 = some r) : ∀ (ls : Array Slot), lv_has ls 1 [(0, .int x0)] → W p l e rmX0_isTold s m args below meth c s.heap [] 0 0 (MQ below (sQi r) args s 0 0 (fun _ => False)) (F0 m 0 ls []) := by
  intro ls hl
  refine lv_iload_n E.hx E.hb dX0_isTold_0 rfl (lv_at hl 0 rfl) ?_
  refine lv_i2l E.hx E.hb dX0_isTold_1 rfl ?_
  refine lv_lconst (v := 1) E.hx E.hb dX0_isTold_2 (by decide) ?_
  refine lv_ldc2 (v := 12) E.hx E.hb E.ho (E.ht _ q1033) dX0_isTold_3 ?_
  obtain ⟨v1, hv1, hf⟩ := bd_e hf
  refine scall_i (rest := []) E.1 (tX0_isIn l hv1) (cwX0_79 E.ht ⟨Nat.le_of_ble_eq_true rfl, Nat.le_of_ble_eq_true rfl⟩) rfl hl.1 rfl (Nat.le_of_ble_eq_true rfl) dX0_isTold_6 ⟨Nat.le_refl 0, Nat.le_refl 0⟩ ?_
  obtain ⟨hz, rfl⟩ := bz_e hf
  exact sret_z E hz dX0_isTold_9
theorem tX0_isTold (l : Launch) {x0 : Int32} {r : Int32} (hf : fX0_isTold x0 = some r) : Met l yX0_isTold (ws_ yX0_isTold cX0_isTold 1 (some .boolean)) rmX0_isTold (sPc [.int x0]) (sQi r) 0 0 (fun _ => False) := by
  refine Met.ofW (cc := cX0_isTold) (maxL := 1) (ret := (some .boolean)) (by decide) rfl ?_
  intro p e s m args below meth c s₁ B hml hv
  obtain ⟨rfl, -⟩ := hv
  have hts := atoms_spec (ws := (ws_ yX0_isTold cX0_isTold 1 (some .boolean))) B.pre
  rw [lg_entry_eq]
  exact wX0_isTold_0 (E := ⟨⟨B.exec, B.bytes, hml, findClass_of_methodNamed B.named, fun w h => hts w (List.mem_cons_of_mem _ h)⟩, B.returns, B.notSynchronized⟩) hf _ (lv_entry [.int x0] (n := 1) (Nat.le_of_ble_eq_true rfl))
end
abbrev rmX0_told : Room := { frames := 2, cells := 0, slots := 0, locals := 32 }
theorem cwX0_220 {R : Room} {s : State} {args : Array Value} (ht : ∀ w ∈ lw_all, w.before args s = true) (hR : rmJ16_bitCount.frames + 1 ≤ R.frames ∧ 8 + (1 + 11) + rmJ16_bitCount.locals ≤ R.locals) : CallB R s args RX0 220 yJ16_bitCount cJ16_bitCount 1 (some .int) (ws_ yJ16_bitCount cJ16_bitCount 1 (some .int)) rmJ16_bitCount 0 0 1 ∧ (Cond.static yJ16_bitCount).before args s = true :=
  va_cwS 1 ht (lw_S q866 q867 q99 q868) rfl rfl rfl (by decide +kernel) hR
section
variable {p : Program} {l : Launch} {e : Env} {s : State} {m : MethodId} {args : Array Value} {below : List Frame} {meth : Method} {c : Code} {G : va_G} {cI cZ : ClassId} {o : Nat} {σf : MS} {r : Int32} {rl : Int64}
def fX0_told   (x0 : Int32) (x1 : Int32) : Option Int32 :=
  if x0 = (-1000000) then (some x0) else (if x1 = 1 then (some x0) else ((fJ16_bitCount x0).bind fun v3 =>
  some v3))
theorem wX0_told_0 (E : sE p m c cX0_told 2 s args RX0 meth (some .int))  {x0 : Int32} {x1 : Int32} (hf : fX0_told x0 x1 = some r) : ∀ (ls : Array Slot), lv_has ls 2 [(0, .int x0), (1, .int x1)] → W p l e rmX0_told s m args below meth c s.heap [] 0 0 (MQ below (sQi r) args s 0 0 (fun _ => False)) (F0 m 0 ls []) := by
  intro ls hl
  refine lv_iload_n E.hx E.hb dX0_told_0 rfl (lv_at hl 0 rfl) ?_
  refine lv_ldcw (v := (-1000000)) E.hx E.hb E.ho (E.ht _ q923) dX0_told_1 ?_
  refine lv_icmp_eq (tgt := 12) E.hx E.hb dX0_told_4 (by decide) (fun c1 => ?_) (fun c1 => ?_)
  · have hf := it_t hf c1
    refine lv_iload_n E.hx E.hb dX0_told_12 rfl (lv_at hl 0 rfl) ?_
    refine lv_goto (tgt := 20) E.hx E.hb dX0_told_13 (by decide) ?_
    obtain rfl := Option.some.inj hf
    exact sret_i E dX0_told_20
  · have hf := it_f hf c1
    refine lv_iload_n E.hx E.hb dX0_told_7 rfl (lv_at hl 1 rfl) ?_
    refine lv_iconst (v := 1) E.hx E.hb dX0_told_8 (by decide) ?_
    refine lv_icmp_ne (tgt := 16) E.hx E.hb dX0_told_9 (by decide) (fun c2 => ?_) (fun c2 => ?_)
    · have hf := it_f hf c2
      refine lv_iload_n E.hx E.hb dX0_told_16 rfl (lv_at hl 0 rfl) ?_
      obtain ⟨v3, hv3, hf⟩ := bd_e hf
      refine scall_i (rest := []) E.1 (tJ16_bitCount l hv3) (cwX0_220 E.ht ⟨Nat.le_of_ble_eq_true rfl, Nat.le_of_ble_eq_true rfl⟩) rfl hl.1 rfl (Nat.le_of_ble_eq_true rfl) dX0_told_17 ⟨Nat.le_refl 0, Nat.le_refl 0⟩ ?_
      obtain rfl := Option.some.inj hf
      exact sret_i E dX0_told_20
    · have hf := it_t hf c2
      refine lv_iload_n E.hx E.hb dX0_told_12 rfl (lv_at hl 0 rfl) ?_
      refine lv_goto (tgt := 20) E.hx E.hb dX0_told_13 (by decide) ?_
      obtain rfl := Option.some.inj hf
      exact sret_i E dX0_told_20
theorem tX0_told (l : Launch) {x0 : Int32} {x1 : Int32} {r : Int32} (hf : fX0_told x0 x1 = some r) : Met l yX0_told (ws_ yX0_told cX0_told 2 (some .int)) rmX0_told (sPc [.int x0, .int x1]) (sQi r) 0 0 (fun _ => False) := by
  refine Met.ofW (cc := cX0_told) (maxL := 2) (ret := (some .int)) (by decide) rfl ?_
  intro p e s m args below meth c s₁ B hml hv
  obtain ⟨rfl, -⟩ := hv
  have hts := atoms_spec (ws := (ws_ yX0_told cX0_told 2 (some .int))) B.pre
  rw [lg_entry_eq]
  exact wX0_told_0 (E := ⟨⟨B.exec, B.bytes, hml, findClass_of_methodNamed B.named, fun w h => hts w (List.mem_cons_of_mem _ h)⟩, B.returns, B.notSynchronized⟩) hf _ (lv_entry [.int x0, .int x1] (n := 2) (Nat.le_of_ble_eq_true rfl))
end
abbrev rmX0_common : Room := { frames := 1, cells := 0, slots := 0, locals := 12 }
section
variable {p : Program} {l : Launch} {e : Env} {s : State} {m : MethodId} {args : Array Value} {below : List Frame} {meth : Method} {c : Code} {G : va_G} {cI cZ : ClassId} {o : Nat} {σf : MS} {r : Int32} {rl : Int64}
def fX0_common_L6  : Nat → Int64 → Int64 → Option Int64
  | 0, _, _ => none
  | n + 1, x4, x6 =>
    if (lg_cmp x6 0) = 0 then (some x4) else ((rml x4 x6).bind fun v2 =>
    (fX0_common_L6 n) x6 v2)
theorem wX0_common_L6 (E : sE p m c cX0_common 10 s args RX0 meth (some .long)) : ∀ (n : Nat)  (x4 : Int64) (x6 : Int64), fX0_common_L6 n x4 x6 = some rl → ∀ (ls : Array Slot), lv_has ls 10 [(4, .long x4), (6, .long x6)] → W p l e rmX0_common s m args below meth c s.heap [] 0 0 (MQ below (sQl rl) args s 0 0 (fun _ => False)) (F0 m 6 ls []) := by
  intro n
  induction n with
  | zero =>
    intro x4 x6 hf
    have hf : none = some rl := hf
    cases hf
  | succ n ih =>
    intro x4 x6 hf ls hl
    refine lv_lload E.hx E.hb dX0_common_6 (lv_at hl 1 rfl) ?_
    refine lv_lconst (v := 0) E.hx E.hb dX0_common_8 (by decide) ?_
    refine W.lcmp E.hx E.hb dX0_common_9 ?_
    refine lv_if_eq (tgt := 31) E.hx E.hb dX0_common_10 (by decide) (fun c1 => ?_) (fun c1 => ?_)
    · have hf := it_t hf c1
      refine lv_lload E.hx E.hb dX0_common_31 (lv_at hl 0 rfl) ?_
      obtain rfl := Option.some.inj hf
      exact sret_l E dX0_common_33
    · have hf := it_f hf c1
      refine lv_lload E.hx E.hb dX0_common_13 (lv_at hl 0 rfl) ?_
      refine lv_lload E.hx E.hb dX0_common_15 (lv_at hl 1 rfl) ?_
      obtain ⟨v2, h3, hf⟩ := bd_e hf
      obtain ⟨h3, h3e⟩ := rml_e h3
      refine lv_lrem E.hx E.hb dX0_common_17 h3 ?_
      rw [h3e]
      refine lv_lstore (lv' := [(8, .long v2), (4, .long x4), (6, .long x6)]) E.hx E.hb dX0_common_18 hl (by decide) rfl (fun ls hl => ?_)
      refine lv_lload E.hx E.hb dX0_common_20 (lv_at hl 2 rfl) ?_
      refine lv_lstore (lv' := [(4, .long x6), (8, .long v2), (6, .long x6)]) E.hx E.hb dX0_common_22 hl (by decide) rfl (fun ls hl => ?_)
      refine lv_lload E.hx E.hb dX0_common_24 (lv_at hl 1 rfl) ?_
      refine lv_lstore (lv' := [(6, .long v2), (4, .long x6), (8, .long v2)]) E.hx E.hb dX0_common_26 hl (by decide) rfl (fun ls hl => ?_)
      refine lv_goto (tgt := 6) E.hx E.hb dX0_common_28 (by decide) ?_
      exact ih _ _ hf _ (lv_sub hl [1, 0] rfl)
def fX0_common   (x0 : Int64) (x2 : Int64) : Option Int64 :=
  fX0_common_L6 2000 x0 x2
theorem wX0_common_0 (E : sE p m c cX0_common 10 s args RX0 meth (some .long))  {x0 : Int64} {x2 : Int64} (hf : fX0_common x0 x2 = some rl) : ∀ (ls : Array Slot), lv_has ls 10 [(0, .long x0), (2, .long x2)] → W p l e rmX0_common s m args below meth c s.heap [] 0 0 (MQ below (sQl rl) args s 0 0 (fun _ => False)) (F0 m 0 ls []) := by
  intro ls hl
  refine lv_lload_n E.hx E.hb dX0_common_0 rfl (lv_at hl 0 rfl) ?_
  refine lv_lstore (lv' := [(4, .long x0), (0, .long x0), (2, .long x2)]) E.hx E.hb dX0_common_1 hl (by decide) rfl (fun ls hl => ?_)
  refine lv_lload_n E.hx E.hb dX0_common_3 rfl (lv_at hl 2 rfl) ?_
  refine lv_lstore (lv' := [(6, .long x2), (4, .long x0), (0, .long x0), (2, .long x2)]) E.hx E.hb dX0_common_4 hl (by decide) rfl (fun ls hl => ?_)
  exact wX0_common_L6 E  2000 _ _ hf _ (lv_sub hl [1, 0] rfl)
theorem tX0_common (l : Launch) {x0 : Int64} {x2 : Int64} {rl : Int64} (hf : fX0_common x0 x2 = some rl) : Met l yX0_common (ws_ yX0_common cX0_common 10 (some .long)) rmX0_common (sPc [.long x0, .long x2]) (sQl rl) 0 0 (fun _ => False) := by
  refine Met.ofW (cc := cX0_common) (maxL := 10) (ret := (some .long)) (by decide) rfl ?_
  intro p e s m args below meth c s₁ B hml hv
  obtain ⟨rfl, -⟩ := hv
  have hts := atoms_spec (ws := (ws_ yX0_common cX0_common 10 (some .long))) B.pre
  rw [lg_entry_eq]
  exact wX0_common_0 (E := ⟨⟨B.exec, B.bytes, hml, findClass_of_methodNamed B.named, fun w h => hts w (List.mem_cons_of_mem _ h)⟩, B.returns, B.notSynchronized⟩) hf _ (lv_entry [.long x0, .long x2] (n := 10) (Nat.le_of_ble_eq_true rfl))
end
abbrev rmX0_chairBy : Room := { frames := 4, cells := 1, slots := 1, locals := 75 }
theorem cwX0_12 {R : Room} {s : State} {args : Array Value} (ht : ∀ w ∈ lw_all, w.before args s = true) (hR : rmX6_init.frames + 1 ≤ R.frames ∧ 8 + (2 + 11) + rmX6_init.locals ≤ R.locals) : CallB R s args RX0 12 yX6_init cX6_init 2 none (ws_ yX6_init cX6_init 2 none) rmX6_init 0 0 1 ∧ yX6_init.name = "<init>" ∧ (Cond.instanceMethod yX6_init).before args s = true :=
  cwI 1 ht (lw_meth q249) rfl rfl rfl (ht _ q77) (ht _ q247) (ht _ q248) rfl (by decide +kernel) hR
theorem cwX0_15 {R : Room} {s : State} {args : Array Value} (ht : ∀ w ∈ lw_all, w.before args s = true) (hR : rmX7_init.frames + 1 ≤ R.frames ∧ 8 + (2 + 11) + rmX7_init.locals ≤ R.locals) : CallB R s args RX0 15 yX7_init cX7_init 2 none (ws_ yX7_init cX7_init 2 none) rmX7_init 0 0 1 ∧ yX7_init.name = "<init>" ∧ (Cond.instanceMethod yX7_init).before args s = true :=
  cwI 1 ht (lw_meth q257) rfl rfl rfl (ht _ q78) (ht _ q255) (ht _ q256) rfl (by decide +kernel) hR
theorem cwX0_18 {R : Room} {s : State} {args : Array Value} (ht : ∀ w ∈ lw_all, w.before args s = true) (hR : rmX8_init.frames + 1 ≤ R.frames ∧ 8 + (2 + 11) + rmX8_init.locals ≤ R.locals) : CallB R s args RX0 18 yX8_init cX8_init 2 none (ws_ yX8_init cX8_init 2 none) rmX8_init 0 0 1 ∧ yX8_init.name = "<init>" ∧ (Cond.instanceMethod yX8_init).before args s = true :=
  cwI 1 ht (lw_meth q265) rfl rfl rfl (ht _ q79) (ht _ q263) (ht _ q264) rfl (by decide +kernel) hR
theorem cwX0_3 {R : Room} {s : State} {args : Array Value} (ht : ∀ w ∈ lw_all, w.before args s = true) (hR : rmX4_init.frames + 1 ≤ R.frames ∧ 8 + (2 + 11) + rmX4_init.locals ≤ R.locals) : CallB R s args RX0 3 yX4_init cX4_init 2 none (ws_ yX4_init cX4_init 2 none) rmX4_init 0 0 1 ∧ yX4_init.name = "<init>" ∧ (Cond.instanceMethod yX4_init).before args s = true :=
  cwI 1 ht (lw_meth q228) rfl rfl rfl (ht _ q75) (ht _ q226) (ht _ q227) rfl (by decide +kernel) hR
theorem cwX0_9 {R : Room} {s : State} {args : Array Value} (ht : ∀ w ∈ lw_all, w.before args s = true) (hR : rmX5_init.frames + 1 ≤ R.frames ∧ 8 + (2 + 11) + rmX5_init.locals ≤ R.locals) : CallB R s args RX0 9 yX5_init cX5_init 2 none (ws_ yX5_init cX5_init 2 none) rmX5_init 0 0 1 ∧ yX5_init.name = "<init>" ∧ (Cond.instanceMethod yX5_init).before args s = true :=
  cwI 1 ht (lw_meth q241) rfl rfl rfl (ht _ q76) (ht _ q239) (ht _ q240) rfl (by decide +kernel) hR
section
variable {p : Program} {l : Launch} {e : Env} {s : State} {m : MethodId} {args : Array Value} {below : List Frame} {meth : Method} {c : Code} {D : va_G} {cA : Nat → ClassId} {A : Nat → Prop} {Zs : XZ} {Xf : AH} {r : Int32} {rl : Int64} {ra : Nat} {tv : Unit ⊕ Nat} {ti : Int32 ⊕ Nat} {tr : Nat ⊕ Nat} {q2 : Option Nat}
def fX0_chairBy  (X : AH) (x0 : Int32) (x1 : Int32) : Option (Nat × AH) :=
  if x0 = 0 then ((some (xnw X (.inl (4, [.int 0])))).bind fun X2 =>
  (fX4_init X2 X.1 x1).bind fun X3 =>
  some (X.1, X3)) else (if x0 = 1 then ((some (xnw X (.inl (5, [.int 0])))).bind fun X6 =>
  (fX5_init X6 X.1 x1).bind fun X7 =>
  some (X.1, X7)) else (if x0 = 2 then ((some (xnw X (.inl (6, [.int 0])))).bind fun X10 =>
  (fX6_init X10 X.1 x1).bind fun X11 =>
  some (X.1, X11)) else (if x0 = 3 then ((some (xnw X (.inl (7, [.int 0])))).bind fun X14 =>
  (fX7_init X14 X.1 x1).bind fun X15 =>
  some (X.1, X15)) else ((some (xnw X (.inl (8, [.int 0])))).bind fun X17 =>
  (fX8_init X17 X.1 x1).bind fun X18 =>
  some (X.1, X18)))))
theorem wX0_chairBy_0 (E : xE p m c cX0_chairBy 2 s args RX0 D cA A Zs meth (some (.object "ChairRanks$Chair"))) {X : AH} {x0 : Int32} {x1 : Int32} (hf : fX0_chairBy X x0 x1 = some (ra, Xf)) : ∀ (H : Heap) (locs : List Loc) (ls : Array Slot) (cells slots : Nat), cells + 1 ≤ 1 → slots + 1 ≤ 1 → xR D cA A Zs X H → va_S A s.heap H locs → lv_has ls 2 [(0, .int x0), (1, .int x1)] → W p l e rmX0_chairBy s m args below meth c H locs cells slots (MQ below (xQr D cA A Zs ra Xf) args s 1 1 A) (F0 m 0 ls []) := by
  intro H locs ls cells slots hc hs hR hS hl
  refine lv_iload_n E.hx E.hb dX0_chairBy_0 rfl (lv_at hl 0 rfl) ?_
  by_cases c1 : x0 = 0
  · have hf := it_t hf c1
    refine lv_tableIn (tgt := 32) (off := 31) E.hx E.hb dX0_chairBy_1 (by rw [c1]; decide) (by rw [c1]; decide) (by rw [c1]; rfl) (by decide) ?_
    obtain ⟨X2, hX2, hf⟩ := bd_e hf
    refine xnew (ci := 4) E hR hS in_X4 tyX4 tyX4_ok q224 q225 q75 rfl dfX4 (Nat.le_trans (by omega) (Nat.le_refl 1)) (Nat.le_trans (by omega) (Nat.le_refl 1)) dX0_chairBy_32 (fun H hR hS => ?_)
    rw [Option.some.inj hX2] at hR
    refine lv_dup E.hx E.hb dX0_chairBy_35 rfl ?_
    refine lv_iload_n E.hx E.hb dX0_chairBy_36 rfl (lv_at hl 1 rfl) ?_
    obtain ⟨X3, hX3, hf⟩ := bd_e hf
    refine xrun_v (va_runI (As := [.int x1]) (rest := [.ref X.1]) E.1 (tX4_init l hX3) (cwX0_3 E.ht ⟨Nat.le_of_ble_eq_true rfl, Nat.le_of_ble_eq_true rfl⟩) (xPreS E hR hS) rfl rfl hl.1 rfl (lv_room (Nat.le_of_ble_eq_true rfl)) dX0_chairBy_37 ⟨Nat.le_trans (by omega) (Nat.le_refl 1), Nat.le_trans (by omega) (Nat.le_refl 1)⟩) hS (fun H locs hR hS => ?_)
    obtain ⟨rfl, rfl⟩ := rt_e hf
    exact xret_r E (Or.inl ⟨_, rfl⟩) (by omega) (by omega) hR hS dX0_chairBy_40
  · have hf := it_f hf c1
    by_cases c5 : x0 = 1
    · have hf := it_t hf c5
      refine lv_tableIn (tgt := 41) (off := 40) E.hx E.hb dX0_chairBy_1 (by rw [c5]; decide) (by rw [c5]; decide) (by rw [c5]; rfl) (by decide) ?_
      obtain ⟨X6, hX6, hf⟩ := bd_e hf
      refine xnew (ci := 5) E hR hS in_X5 tyX5 tyX5_ok q237 q238 q76 rfl dfX5 (Nat.le_trans (by omega) (Nat.le_refl 1)) (Nat.le_trans (by omega) (Nat.le_refl 1)) dX0_chairBy_41 (fun H hR hS => ?_)
      rw [Option.some.inj hX6] at hR
      refine lv_dup E.hx E.hb dX0_chairBy_44 rfl ?_
      refine lv_iload_n E.hx E.hb dX0_chairBy_45 rfl (lv_at hl 1 rfl) ?_
      obtain ⟨X7, hX7, hf⟩ := bd_e hf
      refine xrun_v (va_runI (As := [.int x1]) (rest := [.ref X.1]) E.1 (tX5_init l hX7) (cwX0_9 E.ht ⟨Nat.le_of_ble_eq_true rfl, Nat.le_of_ble_eq_true rfl⟩) (xPreS E hR hS) rfl rfl hl.1 rfl (lv_room (Nat.le_of_ble_eq_true rfl)) dX0_chairBy_46 ⟨Nat.le_trans (by omega) (Nat.le_refl 1), Nat.le_trans (by omega) (Nat.le_refl 1)⟩) hS (fun H locs hR hS => ?_)
      obtain ⟨rfl, rfl⟩ := rt_e hf
      exact xret_r E (Or.inl ⟨_, rfl⟩) (by omega) (by omega) hR hS dX0_chairBy_49
    · have hf := it_f hf c5
      by_cases c9 : x0 = 2
      · have hf := it_t hf c9
        refine lv_tableIn (tgt := 50) (off := 49) E.hx E.hb dX0_chairBy_1 (by rw [c9]; decide) (by rw [c9]; decide) (by rw [c9]; rfl) (by decide) ?_
        obtain ⟨X10, hX10, hf⟩ := bd_e hf
        refine xnew (ci := 6) E hR hS in_X6 tyX6 tyX6_ok q245 q246 q77 rfl dfX6 (Nat.le_trans (by omega) (Nat.le_refl 1)) (Nat.le_trans (by omega) (Nat.le_refl 1)) dX0_chairBy_50 (fun H hR hS => ?_)
        rw [Option.some.inj hX10] at hR
        refine lv_dup E.hx E.hb dX0_chairBy_53 rfl ?_
        refine lv_iload_n E.hx E.hb dX0_chairBy_54 rfl (lv_at hl 1 rfl) ?_
        obtain ⟨X11, hX11, hf⟩ := bd_e hf
        refine xrun_v (va_runI (As := [.int x1]) (rest := [.ref X.1]) E.1 (tX6_init l hX11) (cwX0_12 E.ht ⟨Nat.le_of_ble_eq_true rfl, Nat.le_of_ble_eq_true rfl⟩) (xPreS E hR hS) rfl rfl hl.1 rfl (lv_room (Nat.le_of_ble_eq_true rfl)) dX0_chairBy_55 ⟨Nat.le_trans (by omega) (Nat.le_refl 1), Nat.le_trans (by omega) (Nat.le_refl 1)⟩) hS (fun H locs hR hS => ?_)
        obtain ⟨rfl, rfl⟩ := rt_e hf
        exact xret_r E (Or.inl ⟨_, rfl⟩) (by omega) (by omega) hR hS dX0_chairBy_58
      · have hf := it_f hf c9
        by_cases c13 : x0 = 3
        · have hf := it_t hf c13
          refine lv_tableIn (tgt := 59) (off := 58) E.hx E.hb dX0_chairBy_1 (by rw [c13]; decide) (by rw [c13]; decide) (by rw [c13]; rfl) (by decide) ?_
          obtain ⟨X14, hX14, hf⟩ := bd_e hf
          refine xnew (ci := 7) E hR hS in_X7 tyX7 tyX7_ok q253 q254 q78 rfl dfX7 (Nat.le_trans (by omega) (Nat.le_refl 1)) (Nat.le_trans (by omega) (Nat.le_refl 1)) dX0_chairBy_59 (fun H hR hS => ?_)
          rw [Option.some.inj hX14] at hR
          refine lv_dup E.hx E.hb dX0_chairBy_62 rfl ?_
          refine lv_iload_n E.hx E.hb dX0_chairBy_63 rfl (lv_at hl 1 rfl) ?_
          obtain ⟨X15, hX15, hf⟩ := bd_e hf
          refine xrun_v (va_runI (As := [.int x1]) (rest := [.ref X.1]) E.1 (tX7_init l hX15) (cwX0_15 E.ht ⟨Nat.le_of_ble_eq_true rfl, Nat.le_of_ble_eq_true rfl⟩) (xPreS E hR hS) rfl rfl hl.1 rfl (lv_room (Nat.le_of_ble_eq_true rfl)) dX0_chairBy_64 ⟨Nat.le_trans (by omega) (Nat.le_refl 1), Nat.le_trans (by omega) (Nat.le_refl 1)⟩) hS (fun H locs hR hS => ?_)
          obtain ⟨rfl, rfl⟩ := rt_e hf
          exact xret_r E (Or.inl ⟨_, rfl⟩) (by omega) (by omega) hR hS dX0_chairBy_67
        · have hf := it_f hf c13
          have ec1 : ¬ x0.toInt = 0 := fun h => c1 (Int32.toInt_inj.mp h)
          have ec5 : ¬ x0.toInt = 1 := fun h => c5 (Int32.toInt_inj.mp h)
          have ec9 : ¬ x0.toInt = 2 := fun h => c9 (Int32.toInt_inj.mp h)
          have ec13 : ¬ x0.toInt = 3 := fun h => c13 (Int32.toInt_inj.mp h)
          refine lv_tableOut (tgt := 68) E.hx E.hb dX0_chairBy_1 (by omega) (by decide) ?_
          obtain ⟨X17, hX17, hf⟩ := bd_e hf
          refine xnew (ci := 8) E hR hS in_X8 tyX8 tyX8_ok q261 q262 q79 rfl dfX8 (Nat.le_trans (by omega) (Nat.le_refl 1)) (Nat.le_trans (by omega) (Nat.le_refl 1)) dX0_chairBy_68 (fun H hR hS => ?_)
          rw [Option.some.inj hX17] at hR
          refine lv_dup E.hx E.hb dX0_chairBy_71 rfl ?_
          refine lv_iload_n E.hx E.hb dX0_chairBy_72 rfl (lv_at hl 1 rfl) ?_
          obtain ⟨X18, hX18, hf⟩ := bd_e hf
          refine xrun_v (va_runI (As := [.int x1]) (rest := [.ref X.1]) E.1 (tX8_init l hX18) (cwX0_18 E.ht ⟨Nat.le_of_ble_eq_true rfl, Nat.le_of_ble_eq_true rfl⟩) (xPreS E hR hS) rfl rfl hl.1 rfl (lv_room (Nat.le_of_ble_eq_true rfl)) dX0_chairBy_73 ⟨Nat.le_trans (by omega) (Nat.le_refl 1), Nat.le_trans (by omega) (Nat.le_refl 1)⟩) hS (fun H locs hR hS => ?_)
          obtain ⟨rfl, rfl⟩ := rt_e hf
          exact xret_r E (Or.inl ⟨_, rfl⟩) (by omega) (by omega) hR hS dX0_chairBy_76
theorem tX0_chairBy (l : Launch) {D : va_G} {cA : Nat → ClassId} {A : Nat → Prop} {Zs : XZ} {X Xf : AH} {x0 : Int32} {x1 : Int32} {ra : Nat} (hf : fX0_chairBy X x0 x1 = some (ra, Xf)) : Met l yX0_chairBy (ws_ yX0_chairBy cX0_chairBy 2 (some (.object "ChairRanks$Chair"))) rmX0_chairBy (xPc D cA A Zs X [.int x0, .int x1]) (xQr D cA A Zs ra Xf) 1 1 A := by
  refine Met.ofW (cc := cX0_chairBy) (maxL := 2) (ret := (some (.object "ChairRanks$Chair"))) (by decide) rfl ?_
  intro p e s m args below meth c s₁ B hml hv
  obtain ⟨rfl, hR, hK⟩ := hv
  have hts := atoms_spec (ws := (ws_ yX0_chairBy cX0_chairBy 2 (some (.object "ChairRanks$Chair")))) B.pre
  rw [lg_entry_eq]
  exact wX0_chairBy_0 (E := ⟨⟨B.exec, B.bytes, hml, findClass_of_methodNamed B.named, fun w h => hts w (List.mem_cons_of_mem _ h)⟩, hK, B.returns, B.notSynchronized⟩) hf _ _ _ 0 0 (Nat.le_of_ble_eq_true rfl) (Nat.le_of_ble_eq_true rfl) hR va_S.rf (lv_entry [.int x0, .int x1] (n := 2) (Nat.le_of_ble_eq_true rfl))
end
abbrev rmX0_well : Room := { frames := 1, cells := 0, slots := 0, locals := 12 }
section
variable {p : Program} {l : Launch} {e : Env} {s : State} {m : MethodId} {args : Array Value} {below : List Frame} {meth : Method} {c : Code} {D : va_G} {cA : Nat → ClassId} {A : Nat → Prop} {Zs : XZ} {Xf : AH} {r : Int32} {rl : Int64} {ra : Nat} {tv : Unit ⊕ Nat} {ti : Int32 ⊕ Nat} {tr : Nat ⊕ Nat} {q2 : Option Nat}
def fX0_well  (X : AH) (x0 : Nat) (x1 : Int32) : Option (Int32 × AH) :=
  (pF X x0 0 10 (.int 0)).bind fun X1 =>
  some (x1, X1)
theorem wX0_well_0 (E : xE p m c cX0_well 2 s args RX0 D cA A Zs meth (some .int)) {X : AH} {x0 : Nat} {x1 : Int32} (hf : fX0_well X x0 x1 = some (r, Xf)) : ∀ (H : Heap) (locs : List Loc) (ls : Array Slot) (cells slots : Nat), cells + 0 ≤ 0 → slots + 0 ≤ 0 → xR D cA A Zs X H → va_S A s.heap H locs → lv_has ls 2 [(0, .ref x0), (1, .int x1)] → W p l e rmX0_well s m args below meth c H locs cells slots (MQ below (xQi D cA A Zs r Xf) args s 0 0 A) (F0 m 0 ls []) := by
  intro H locs ls cells slots hc hs hR hS hl
  refine lv_aload_n E.hx E.hb dX0_well_0 rfl (lv_at hl 0 rfl) ?_
  refine lv_iconst (v := 0) E.hx E.hb dX0_well_1 (by decide) ?_
  obtain ⟨X1, hX1, hf⟩ := bd_e hf
  refine xpX0_72 E hR hS hX1 dX0_well_2 (fun H locs hR hS => ?_)
  refine lv_iload_n E.hx E.hb dX0_well_5 rfl (lv_at hl 1 rfl) ?_
  obtain ⟨rfl, rfl⟩ := rt_e hf
  exact xret_i E (by omega) (by omega) hR hS dX0_well_6
theorem tX0_well (l : Launch) {D : va_G} {cA : Nat → ClassId} {A : Nat → Prop} {Zs : XZ} {X Xf : AH} {x0 : Nat} {x1 : Int32} {r : Int32} (hf : fX0_well X x0 x1 = some (r, Xf)) : Met l yX0_well (ws_ yX0_well cX0_well 2 (some .int)) rmX0_well (xPc D cA A Zs X [.ref x0, .int x1]) (xQi D cA A Zs r Xf) 0 0 A := by
  refine Met.ofW (cc := cX0_well) (maxL := 2) (ret := (some .int)) (by decide) rfl ?_
  intro p e s m args below meth c s₁ B hml hv
  obtain ⟨rfl, hR, hK⟩ := hv
  have hts := atoms_spec (ws := (ws_ yX0_well cX0_well 2 (some .int))) B.pre
  rw [lg_entry_eq]
  exact wX0_well_0 (E := ⟨⟨B.exec, B.bytes, hml, findClass_of_methodNamed B.named, fun w h => hts w (List.mem_cons_of_mem _ h)⟩, hK, B.returns, B.notSynchronized⟩) hf _ _ _ 0 0 (Nat.le_of_ble_eq_true rfl) (Nat.le_of_ble_eq_true rfl) hR va_S.rf (lv_entry [.ref x0, .int x1] (n := 2) (Nat.le_of_ble_eq_true rfl))
end
abbrev rmX0_feed : Room := { frames := 2, cells := 0, slots := 0, locals := 37 }
section
variable {p : Program} {l : Launch} {e : Env} {s : State} {m : MethodId} {args : Array Value} {below : List Frame} {meth : Method} {c : Code} {D : va_G} {cA : Nat → ClassId} {A : Nat → Prop} {Zs : XZ} {Xf : AH} {r : Int32} {rl : Int64} {ra : Nat} {tv : Unit ⊕ Nat} {ti : Int32 ⊕ Nat} {tr : Nat ⊕ Nat} {q2 : Option Nat}
def fX0_feed  (X : AH) (x0 : Nat) (x1 : Int32) : Option (Int32 × AH) :=
  (fX0_isIn (x1.toInt64) 0 255).bind fun v1 =>
  if v1 = 0 then (some ((-1000001), X)) else ((gI X x0 0 2).bind fun v3 =>
  if v3 = 120 then (some ((-1000003), X)) else ((gR X x0 0 1).bind fun v5 =>
  (gI X x0 0 2).bind fun v6 =>
  (pF X x0 0 2 (.int (v6 + 1))).bind fun X7 =>
  (pA X7 v5 1 v6 (vp_nar .byte (x1.toInt8.toInt32))).bind fun X8 =>
  (gI X8 x0 0 2).bind fun v9 =>
  some (v9, X8)))
theorem wX0_feed_0 (E : xE p m c cX0_feed 2 s args RX0 D cA A Zs meth (some .int)) {X : AH} {x0 : Nat} {x1 : Int32} (hf : fX0_feed X x0 x1 = some (r, Xf)) : ∀ (H : Heap) (locs : List Loc) (ls : Array Slot) (cells slots : Nat), cells + 0 ≤ 0 → slots + 0 ≤ 0 → xR D cA A Zs X H → va_S A s.heap H locs → lv_has ls 2 [(0, .ref x0), (1, .int x1)] → W p l e rmX0_feed s m args below meth c H locs cells slots (MQ below (xQi D cA A Zs r Xf) args s 0 0 A) (F0 m 0 ls []) := by
  intro H locs ls cells slots hc hs hR hS hl
  refine lv_iload_n E.hx E.hb dX0_feed_0 rfl (lv_at hl 1 rfl) ?_
  refine lv_i2l E.hx E.hb dX0_feed_1 rfl ?_
  refine lv_lconst (v := 0) E.hx E.hb dX0_feed_2 (by decide) ?_
  refine lv_ldc2 (v := 255) E.hx E.hb E.ho (E.ht _ q472) dX0_feed_3 ?_
  obtain ⟨v1, hv1, hf⟩ := bd_e hf
  refine scall_i (rest := []) E.1 (tX0_isIn l hv1) (cwX0_79 E.ht ⟨Nat.le_of_ble_eq_true rfl, Nat.le_of_ble_eq_true rfl⟩) rfl hl.1 rfl (Nat.le_of_ble_eq_true rfl) dX0_feed_6 ⟨Nat.le_trans (by omega) (Nat.le_refl 0), Nat.le_trans (by omega) (Nat.le_refl 0)⟩ ?_
  refine lv_if_ne (tgt := 15) E.hx E.hb dX0_feed_9 (by decide) (fun c2 => ?_) (fun c2 => ?_)
  · have hf := it_f hf c2
    refine lv_aload_n E.hx E.hb dX0_feed_15 rfl (lv_at hl 0 rfl) ?_
    obtain ⟨v3, hv3, hf⟩ := bd_e hf
    refine xgX0_129 E hR hv3 dX0_feed_16 ?_
    refine lv_bipush (v := 120) E.hx E.hb dX0_feed_19 (by decide) ?_
    refine lv_icmp_ne (tgt := 27) E.hx E.hb dX0_feed_21 (by decide) (fun c4 => ?_) (fun c4 => ?_)
    · have hf := it_f hf c4
      refine lv_aload_n E.hx E.hb dX0_feed_27 rfl (lv_at hl 0 rfl) ?_
      obtain ⟨v5, hv5, hf⟩ := bd_e hf
      refine xgX0_32 E hR hv5 dX0_feed_28 ?_
      refine lv_aload_n E.hx E.hb dX0_feed_31 rfl (lv_at hl 0 rfl) ?_
      refine lv_dup E.hx E.hb dX0_feed_32 rfl ?_
      obtain ⟨v6, hv6, hf⟩ := bd_e hf
      refine xgX0_129 E hR hv6 dX0_feed_33 ?_
      refine lv_dup_x1 E.hx E.hb dX0_feed_36 rfl rfl ?_
      refine lv_iconst (v := 1) E.hx E.hb dX0_feed_37 (by decide) ?_
      refine lv_iadd E.hx E.hb dX0_feed_38 ?_
      obtain ⟨X7, hX7, hf⟩ := bd_e hf
      refine xpX0_129 E hR hS hX7 dX0_feed_39 (fun H locs hR hS => ?_)
      refine lv_iload_n E.hx E.hb dX0_feed_42 rfl (lv_at hl 1 rfl) ?_
      refine lv_i2b E.hx E.hb dX0_feed_43 rfl ?_
      obtain ⟨X8, hX8, hf⟩ := bd_e hf
      refine xbst E hR hS hX8 dX0_feed_44 (fun H locs hR hS => ?_)
      refine lv_aload_n E.hx E.hb dX0_feed_45 rfl (lv_at hl 0 rfl) ?_
      obtain ⟨v9, hv9, hf⟩ := bd_e hf
      refine xgX0_129 E hR hv9 dX0_feed_46 ?_
      obtain ⟨rfl, rfl⟩ := rt_e hf
      exact xret_i E (by omega) (by omega) hR hS dX0_feed_49
    · have hf := it_t hf c4
      refine lv_ldc (v := (-1000003)) E.hx E.hb E.ho (E.ht _ q473) dX0_feed_24 ?_
      obtain ⟨rfl, rfl⟩ := rt_e hf
      exact xret_i E (by omega) (by omega) hR hS dX0_feed_26
  · have hf := it_t hf c2
    refine lv_ldc (v := (-1000001)) E.hx E.hb E.ho (E.ht _ q319) dX0_feed_12 ?_
    obtain ⟨rfl, rfl⟩ := rt_e hf
    exact xret_i E (by omega) (by omega) hR hS dX0_feed_14
theorem tX0_feed (l : Launch) {D : va_G} {cA : Nat → ClassId} {A : Nat → Prop} {Zs : XZ} {X Xf : AH} {x0 : Nat} {x1 : Int32} {r : Int32} (hf : fX0_feed X x0 x1 = some (r, Xf)) : Met l yX0_feed (ws_ yX0_feed cX0_feed 2 (some .int)) rmX0_feed (xPc D cA A Zs X [.ref x0, .int x1]) (xQi D cA A Zs r Xf) 0 0 A := by
  refine Met.ofW (cc := cX0_feed) (maxL := 2) (ret := (some .int)) (by decide) rfl ?_
  intro p e s m args below meth c s₁ B hml hv
  obtain ⟨rfl, hR, hK⟩ := hv
  have hts := atoms_spec (ws := (ws_ yX0_feed cX0_feed 2 (some .int))) B.pre
  rw [lg_entry_eq]
  exact wX0_feed_0 (E := ⟨⟨B.exec, B.bytes, hml, findClass_of_methodNamed B.named, fun w h => hts w (List.mem_cons_of_mem _ h)⟩, hK, B.returns, B.notSynchronized⟩) hf _ _ _ 0 0 (Nat.le_of_ble_eq_true rfl) (Nat.le_of_ble_eq_true rfl) hR va_S.rf (lv_entry [.ref x0, .int x1] (n := 2) (Nat.le_of_ble_eq_true rfl))
end
abbrev rmX0_fault : Room := { frames := 1, cells := 0, slots := 0, locals := 12 }
section
variable {p : Program} {l : Launch} {e : Env} {s : State} {m : MethodId} {args : Array Value} {below : List Frame} {meth : Method} {c : Code} {D : va_G} {cA : Nat → ClassId} {A : Nat → Prop} {Zs : XZ} {Xf : AH} {r : Int32} {rl : Int64} {ra : Nat} {tv : Unit ⊕ Nat} {ti : Int32 ⊕ Nat} {tr : Nat ⊕ Nat} {q2 : Option Nat}
def fX0_fault  (X : AH) (x0 : Nat) : Option (Int32 × AH) :=
  (gI X x0 0 3).bind fun v1 =>
  some (v1, X)
theorem wX0_fault_0 (E : xE p m c cX0_fault 1 s args RX0 D cA A Zs meth (some .int)) {X : AH} {x0 : Nat} (hf : fX0_fault X x0 = some (r, Xf)) : ∀ (H : Heap) (locs : List Loc) (ls : Array Slot) (cells slots : Nat), cells + 0 ≤ 0 → slots + 0 ≤ 0 → xR D cA A Zs X H → va_S A s.heap H locs → lv_has ls 1 [(0, .ref x0)] → W p l e rmX0_fault s m args below meth c H locs cells slots (MQ below (xQi D cA A Zs r Xf) args s 0 0 A) (F0 m 0 ls []) := by
  intro H locs ls cells slots hc hs hR hS hl
  refine lv_aload_n E.hx E.hb dX0_fault_0 rfl (lv_at hl 0 rfl) ?_
  obtain ⟨v1, hv1, hf⟩ := bd_e hf
  refine xgX0_146 E hR hv1 dX0_fault_1 ?_
  obtain ⟨rfl, rfl⟩ := rt_e hf
  exact xret_i E (by omega) (by omega) hR hS dX0_fault_4
theorem tX0_fault (l : Launch) {D : va_G} {cA : Nat → ClassId} {A : Nat → Prop} {Zs : XZ} {X Xf : AH} {x0 : Nat} {r : Int32} (hf : fX0_fault X x0 = some (r, Xf)) : Met l yX0_fault (ws_ yX0_fault cX0_fault 1 (some .int)) rmX0_fault (xPc D cA A Zs X [.ref x0]) (xQi D cA A Zs r Xf) 0 0 A := by
  refine Met.ofW (cc := cX0_fault) (maxL := 1) (ret := (some .int)) (by decide) rfl ?_
  intro p e s m args below meth c s₁ B hml hv
  obtain ⟨rfl, hR, hK⟩ := hv
  have hts := atoms_spec (ws := (ws_ yX0_fault cX0_fault 1 (some .int))) B.pre
  rw [lg_entry_eq]
  exact wX0_fault_0 (E := ⟨⟨B.exec, B.bytes, hml, findClass_of_methodNamed B.named, fun w h => hts w (List.mem_cons_of_mem _ h)⟩, hK, B.returns, B.notSynchronized⟩) hf _ _ _ 0 0 (Nat.le_of_ble_eq_true rfl) (Nat.le_of_ble_eq_true rfl) hR va_S.rf (lv_entry [.ref x0] (n := 1) (Nat.le_of_ble_eq_true rfl))
end
abbrev rmX0_keep : Room := { frames := 5, cells := 8, slots := 52, locals := 92 }
theorem cwX0_156 {R : Room} {s : State} {args : Array Value} (ht : ∀ w ∈ lw_all, w.before args s = true) (hR : rmX1_become.frames + 1 ≤ R.frames ∧ 8 + (2 + 11) + rmX1_become.locals ≤ R.locals) : CallW R s args RX0 RX1 156 yX1_become cX1_become 2 (some (.object "ChairRanks$Ministry")) (ws_ yX1_become cX1_become 2 (some (.object "ChairRanks$Ministry"))) rmX1_become 0 0 1 :=
  cwV 1 ht (lw_V q719 q720 q721 q69 q722) rfl rfl rfl (by decide +kernel) hR
theorem cwX0_38 {R : Room} {s : State} {args : Array Value} (ht : ∀ w ∈ lw_all, w.before args s = true) (hl : va_Nw (.methodLinkNest RX0 38 yX1_init "ChairRanks") s) (hR : rmX1_init.frames + 1 ≤ R.frames ∧ 8 + (1 + 11) + rmX1_init.locals ≤ R.locals) : va_CN R s args RX0 38 yX1_init "ChairRanks" cX1_init 1 none (ws_ yX1_init cX1_init 1 none) rmX1_init 7 39 0 ∧ yX1_init.name = "<init>" ∧ (Cond.instanceMethod yX1_init).before args s = true :=
  ⟨va_cnB 0 ht (lw_meth q115) rfl rfl rfl hl (ht _ q69) (by decide +kernel) hR, rfl, ht _ q114⟩
section
variable {p : Program} {l : Launch} {e : Env} {s : State} {m : MethodId} {args : Array Value} {below : List Frame} {meth : Method} {c : Code} {D : va_G} {cA : Nat → ClassId} {A : Nat → Prop} {Zs : XZ} {Xf : AH} {r : Int32} {rl : Int64} {ra : Nat} {tv : Unit ⊕ Nat} {ti : Int32 ⊕ Nat} {tr : Nat ⊕ Nat} {q2 : Option Nat}
def fX0_keep_b90  (X : AH) (x0 : Nat) : Option AH :=
  (gR X x0 0 6).bind fun v1 =>
  (gI X x0 0 7).bind fun v2 =>
  (gQn X v1 3 v2).bind fun v3 =>
  (gR X x0 0 4).bind fun v4 =>
  (ck X v3 1).bind fun _ =>
  (fX1_become X v3 v4).bind fun (v7, X6) =>
  (gI X6 x0 0 7).bind fun v8 =>
  (pF X6 x0 0 7 (.int (v8 + 1))).bind fun X9 =>
  some X9
theorem wX0_keep_b90 (E : xE p m c cX0_keep 3 s args RX0 D cA A Zs meth none) {X : AH} {x0 : Nat} (hf : fX0_keep_b90 X x0 = some Xf) : ∀ (H : Heap) (locs : List Loc) (ls : Array Slot) (cells slots : Nat), cells + 0 ≤ 8 → slots + 0 ≤ 52 → xR D cA A Zs X H → va_S A s.heap H locs → lv_has ls 3 [(0, .ref x0)] → W p l e rmX0_keep s m args below meth c H locs cells slots (MQ below (xQv D cA A Zs Xf) args s 8 52 A) (F0 m 90 ls []) := by
  intro H locs ls cells slots hc hs hR hS hl
  refine lv_aload_n E.hx E.hb dX0_keep_90 rfl (lv_at hl 0 rfl) ?_
  obtain ⟨v1, hv1, hf⟩ := bd_e hf
  refine xgX0_46 E hR hv1 dX0_keep_91 ?_
  refine lv_aload_n E.hx E.hb dX0_keep_94 rfl (lv_at hl 0 rfl) ?_
  obtain ⟨v2, hv2, hf⟩ := bd_e hf
  refine xgX0_160 E hR hv2 dX0_keep_95 ?_
  obtain ⟨v3, hv3, hf⟩ := bd_e hf
  refine xaldn (kd := 3) E hR rfl hv3 dX0_keep_98 ?_
  refine lv_aload_n E.hx E.hb dX0_keep_99 rfl (lv_at hl 0 rfl) ?_
  obtain ⟨v4, hv4, hf⟩ := bd_e hf
  refine xgX0_39 E hR hv4 dX0_keep_100 ?_
  obtain ⟨u5, hu5, hf⟩ := bd_e hf
  obtain ⟨⟨v7, X6⟩, hv7, hf⟩ := bd_e hf
  refine xrun_r (va_runV (As := [.ref v4]) (rest := []) E.1 (tX1_become l hv7) (cwX0_156 E.ht ⟨Nat.le_of_ble_eq_true rfl, Nat.le_of_ble_eq_true rfl⟩) (xPreV (ci := 1) E hR hS rfl (ck_e hu5)) rfl rfl hl.1 rfl (lv_room (Nat.le_of_ble_eq_true rfl)) dX0_keep_103 ⟨Nat.le_trans (by omega) (Nat.le_refl 8), Nat.le_trans (by omega) (Nat.le_refl 52)⟩) hS (fun H locs hR hS => ?_)
  refine lv_pop E.hx E.hb dX0_keep_106 rfl ?_
  refine lv_aload_n E.hx E.hb dX0_keep_107 rfl (lv_at hl 0 rfl) ?_
  refine lv_dup E.hx E.hb dX0_keep_108 rfl ?_
  obtain ⟨v8, hv8, hf⟩ := bd_e hf
  refine xgX0_160 E hR hv8 dX0_keep_109 ?_
  refine lv_iconst (v := 1) E.hx E.hb dX0_keep_112 (by decide) ?_
  refine lv_iadd E.hx E.hb dX0_keep_113 ?_
  obtain ⟨X9, hX9, hf⟩ := bd_e hf
  refine xpX0_160 E hR hS hX9 dX0_keep_114 (fun H locs hR hS => ?_)
  obtain rfl := Option.some.inj hf
  exact xret_v E (by omega) (by omega) hR hS dX0_keep_117
def fX0_keep_b62  (X : AH) (x0 : Nat) : Option AH :=
  (gR X x0 0 6).bind fun v1 =>
  (gI X x0 0 7).bind fun v2 =>
  (gQ X v1 3 v2).bind fun v3 => match v3 with
    | none => ((gR X x0 0 6).bind fun v4 =>
  (gI X x0 0 7).bind fun v5 =>
  (some (xnw X (.inl (1, [.int 0, .int 0, .null, .null, .null, .null, .null, .null, .int 0, .int 0, .null, .int 0, .null])))).bind fun X6 =>
  (fX1_init X6 X.1).bind fun X7 =>
  (ck X7 X.1 1).bind fun _ =>
  (pQ X7 v4 3 v5 (some X.1)).bind fun X9 =>
  fX0_keep_b90 X9 x0)
    | some _ => (fX0_keep_b90 X x0)
theorem wX0_keep_b62 (E : xE p m c cX0_keep 3 s args RX0 D cA A Zs meth none) {X : AH} {x0 : Nat} (hf : fX0_keep_b62 X x0 = some Xf) : ∀ (H : Heap) (locs : List Loc) (ls : Array Slot) (cells slots : Nat), cells + 8 ≤ 8 → slots + 52 ≤ 52 → xR D cA A Zs X H → va_S A s.heap H locs → lv_has ls 3 [(0, .ref x0)] → W p l e rmX0_keep s m args below meth c H locs cells slots (MQ below (xQv D cA A Zs Xf) args s 8 52 A) (F0 m 62 ls []) := by
  intro H locs ls cells slots hc hs hR hS hl
  refine lv_aload_n E.hx E.hb dX0_keep_62 rfl (lv_at hl 0 rfl) ?_
  obtain ⟨v1, hv1, hf⟩ := bd_e hf
  refine xgX0_46 E hR hv1 dX0_keep_63 ?_
  refine lv_aload_n E.hx E.hb dX0_keep_66 rfl (lv_at hl 0 rfl) ?_
  obtain ⟨v2, hv2, hf⟩ := bd_e hf
  refine xgX0_160 E hR hv2 dX0_keep_67 ?_
  obtain ⟨v3, hv3, hf⟩ := bd_e hf
  refine xald (kd := 3) E hR rfl hv3 dX0_keep_70 ?_
  cases v3 with
  | none =>
    refine lv_ifnonnullN E.hx E.hb dX0_keep_71 ?_
    refine lv_aload_n E.hx E.hb dX0_keep_74 rfl (lv_at hl 0 rfl) ?_
    obtain ⟨v4, hv4, hf⟩ := bd_e hf
    refine xgX0_46 E hR hv4 dX0_keep_75 ?_
    refine lv_aload_n E.hx E.hb dX0_keep_78 rfl (lv_at hl 0 rfl) ?_
    obtain ⟨v5, hv5, hf⟩ := bd_e hf
    refine xgX0_160 E hR hv5 dX0_keep_79 ?_
    obtain ⟨X6, hX6, hf⟩ := bd_e hf
    refine xnew (ci := 1) E hR hS in_X1 tyX1 tyX1_ok q111 q112 q69 rfl dfX1 (Nat.le_trans (by omega) (Nat.le_refl 8)) (Nat.le_trans (by omega) (Nat.le_refl 52)) dX0_keep_82 (fun H hR hS => ?_)
    rw [Option.some.inj hX6] at hR
    refine lv_dup E.hx E.hb dX0_keep_85 rfl ?_
    obtain ⟨X7, hX7, hf⟩ := bd_e hf
    refine xrun_v (va_runIN (As := []) (rest := [.ref X.1, .int v5, .ref v4]) E.1 (tX1_init l hX7) (cwX0_38 E.ht (E.2.1.2.2.2.1 ("ChairRanks", 38, ⟨"ChairRanks$Ministry", "<init>", "()V"⟩, "ChairRanks") (by decide +kernel)) ⟨Nat.le_of_ble_eq_true rfl, Nat.le_of_ble_eq_true rfl⟩) (xPreS E hR hS) rfl rfl hl.1 rfl (lv_room (Nat.le_of_ble_eq_true rfl)) dX0_keep_86 ⟨Nat.le_trans (by omega) (Nat.le_refl 8), Nat.le_trans (by omega) (Nat.le_refl 52)⟩) hS (fun H locs hR hS => ?_)
    obtain ⟨u10, hu10, hf⟩ := bd_e hf
    obtain ⟨X9, hX9, hf⟩ := bd_e hf
    refine xast (kd := 3) (ci := 1) E hR hS rfl rfl (Or.inr rfl) (ck_e hu10) hX9 dX0_keep_89 (fun H locs hR hS => ?_)
    exact wX0_keep_b90 E  hf _ _ _ _ _ (by omega) (by omega) hR hS (lv_sub hl [0] rfl)
  | some v3b =>
    refine lv_ifnonnull (tgt := 90) E.hx E.hb dX0_keep_71 (by decide) ?_
    exact wX0_keep_b90 E  hf _ _ _ _ _ (by omega) (by omega) hR hS (lv_sub hl [0] rfl)
def fX0_keep_L18  : Nat → AH → Nat → Nat → Int32 → Option AH
  | 0, _, _, _, _ => none
  | n + 1, X, x0, x1, x2 =>
    if 24 ≤ x2 then ((gR X x0 0 6).bind fun v2 =>
    (ck X x1 1).bind fun _ =>
    (pQ X v2 3 23 (some x1)).bind fun X3 =>
    (gI X3 x0 0 7).bind fun v5 =>
    (pF X3 x0 0 7 (.int (v5 - 1))).bind fun X6 =>
    fX0_keep_b62 X6 x0) else ((gR X x0 0 6).bind fun v7 =>
    (gR X x0 0 6).bind fun v8 =>
    (gQn X v8 3 x2).bind fun v9 =>
    (ck X v9 1).bind fun _ =>
    (pQ X v7 3 (x2 - 1) (some v9)).bind fun X10 =>
    (fX0_keep_L18 n) X10 x0 x1 (x2 + 1))
theorem wX0_keep_L18 (E : xE p m c cX0_keep 3 s args RX0 D cA A Zs meth none) : ∀ (n : Nat) (X : AH) (x0 : Nat) (x1 : Nat) (x2 : Int32), fX0_keep_L18 n X x0 x1 x2 = some Xf → ∀ (H : Heap) (locs : List Loc) (ls : Array Slot) (cells slots : Nat), cells + 8 ≤ 8 → slots + 52 ≤ 52 → xR D cA A Zs X H → va_S A s.heap H locs → lv_has ls 3 [(0, .ref x0), (1, .ref x1), (2, .int x2)] → W p l e rmX0_keep s m args below meth c H locs cells slots (MQ below (xQv D cA A Zs Xf) args s 8 52 A) (F0 m 18 ls []) := by
  intro n
  induction n with
  | zero =>
    intro X x0 x1 x2 hf
    have hf : none = some Xf := hf
    cases hf
  | succ n ih =>
    intro X x0 x1 x2 hf H locs ls cells slots hc hs hR hS hl
    refine lv_iload_n E.hx E.hb dX0_keep_18 rfl (lv_at hl 2 rfl) ?_
    refine lv_bipush (v := 24) E.hx E.hb dX0_keep_19 (by decide) ?_
    refine lv_icmp_ge (tgt := 44) E.hx E.hb dX0_keep_21 (by decide) (fun c1 => ?_) (fun c1 => ?_)
    · have hf := it_t hf c1
      refine lv_aload_n E.hx E.hb dX0_keep_44 rfl (lv_at hl 0 rfl) ?_
      obtain ⟨v2, hv2, hf⟩ := bd_e hf
      refine xgX0_46 E hR hv2 dX0_keep_45 ?_
      refine lv_bipush (v := 23) E.hx E.hb dX0_keep_48 (by decide) ?_
      refine lv_aload_n E.hx E.hb dX0_keep_50 rfl (lv_at hl 1 rfl) ?_
      obtain ⟨u4, hu4, hf⟩ := bd_e hf
      obtain ⟨X3, hX3, hf⟩ := bd_e hf
      refine xast (kd := 3) (ci := 1) E hR hS rfl rfl (Or.inr rfl) (ck_e hu4) hX3 dX0_keep_51 (fun H locs hR hS => ?_)
      refine lv_aload_n E.hx E.hb dX0_keep_52 rfl (lv_at hl 0 rfl) ?_
      refine lv_dup E.hx E.hb dX0_keep_53 rfl ?_
      obtain ⟨v5, hv5, hf⟩ := bd_e hf
      refine xgX0_160 E hR hv5 dX0_keep_54 ?_
      refine lv_iconst (v := 1) E.hx E.hb dX0_keep_57 (by decide) ?_
      refine lv_isub E.hx E.hb dX0_keep_58 ?_
      obtain ⟨X6, hX6, hf⟩ := bd_e hf
      refine xpX0_160 E hR hS hX6 dX0_keep_59 (fun H locs hR hS => ?_)
      exact wX0_keep_b62 E  hf _ _ _ _ _ (by omega) (by omega) hR hS (lv_sub hl [0] rfl)
    · have hf := it_f hf c1
      refine lv_aload_n E.hx E.hb dX0_keep_24 rfl (lv_at hl 0 rfl) ?_
      obtain ⟨v7, hv7, hf⟩ := bd_e hf
      refine xgX0_46 E hR hv7 dX0_keep_25 ?_
      refine lv_iload_n E.hx E.hb dX0_keep_28 rfl (lv_at hl 2 rfl) ?_
      refine lv_iconst (v := 1) E.hx E.hb dX0_keep_29 (by decide) ?_
      refine lv_isub E.hx E.hb dX0_keep_30 ?_
      refine lv_aload_n E.hx E.hb dX0_keep_31 rfl (lv_at hl 0 rfl) ?_
      obtain ⟨v8, hv8, hf⟩ := bd_e hf
      refine xgX0_46 E hR hv8 dX0_keep_32 ?_
      refine lv_iload_n E.hx E.hb dX0_keep_35 rfl (lv_at hl 2 rfl) ?_
      obtain ⟨v9, hv9, hf⟩ := bd_e hf
      refine xaldn (kd := 3) E hR rfl hv9 dX0_keep_36 ?_
      obtain ⟨u11, hu11, hf⟩ := bd_e hf
      obtain ⟨X10, hX10, hf⟩ := bd_e hf
      refine xast (kd := 3) (ci := 1) E hR hS rfl rfl (Or.inr rfl) (ck_e hu11) hX10 dX0_keep_37 (fun H locs hR hS => ?_)
      refine lv_iinc (v := (x2 + 1)) (lv' := [(2, .int (x2 + 1)), (0, .ref x0), (1, .ref x1)]) E.hx E.hb dX0_keep_38 hl (k := 2) rfl rfl (by decide) rfl (fun ls hl => ?_)
      refine lv_goto (tgt := 18) E.hx E.hb dX0_keep_41 (by decide) ?_
      exact ih X10 _ _ _ hf _ _ _ _ _ (by omega) (by omega) hR hS (lv_sub hl [1, 2, 0] rfl)
def fX0_keep  (X : AH) (x0 : Nat) : Option AH :=
  (gI X x0 0 7).bind fun v1 =>
  if v1 = 24 then ((gR X x0 0 6).bind fun v3 =>
  (gQn X v3 3 0).bind fun v4 =>
  fX0_keep_L18 2000 X x0 v4 1) else (fX0_keep_b62 X x0)
theorem wX0_keep_0 (E : xE p m c cX0_keep 3 s args RX0 D cA A Zs meth none) {X : AH} {x0 : Nat} (hf : fX0_keep X x0 = some Xf) : ∀ (H : Heap) (locs : List Loc) (ls : Array Slot) (cells slots : Nat), cells + 8 ≤ 8 → slots + 52 ≤ 52 → xR D cA A Zs X H → va_S A s.heap H locs → lv_has ls 3 [(0, .ref x0)] → W p l e rmX0_keep s m args below meth c H locs cells slots (MQ below (xQv D cA A Zs Xf) args s 8 52 A) (F0 m 0 ls []) := by
  intro H locs ls cells slots hc hs hR hS hl
  refine lv_aload_n E.hx E.hb dX0_keep_0 rfl (lv_at hl 0 rfl) ?_
  obtain ⟨v1, hv1, hf⟩ := bd_e hf
  refine xgX0_160 E hR hv1 dX0_keep_1 ?_
  refine lv_bipush (v := 24) E.hx E.hb dX0_keep_4 (by decide) ?_
  refine lv_icmp_ne (tgt := 62) E.hx E.hb dX0_keep_6 (by decide) (fun c2 => ?_) (fun c2 => ?_)
  · have hf := it_f hf c2
    exact wX0_keep_b62 E  hf _ _ _ _ _ (by omega) (by omega) hR hS (lv_sub hl [0] rfl)
  · have hf := it_t hf c2
    refine lv_aload_n E.hx E.hb dX0_keep_9 rfl (lv_at hl 0 rfl) ?_
    obtain ⟨v3, hv3, hf⟩ := bd_e hf
    refine xgX0_46 E hR hv3 dX0_keep_10 ?_
    refine lv_iconst (v := 0) E.hx E.hb dX0_keep_13 (by decide) ?_
    obtain ⟨v4, hv4, hf⟩ := bd_e hf
    refine xaldn (kd := 3) E hR rfl hv4 dX0_keep_14 ?_
    refine lv_astore_n (lv' := [(1, .ref v4), (0, .ref x0)]) E.hx E.hb dX0_keep_15 rfl hl (by decide) rfl (fun ls hl => ?_)
    refine lv_iconst (v := 1) E.hx E.hb dX0_keep_16 (by decide) ?_
    refine lv_istore_n (lv' := [(2, .int 1), (1, .ref v4), (0, .ref x0)]) E.hx E.hb dX0_keep_17 rfl hl (by decide) rfl (fun ls hl => ?_)
    exact wX0_keep_L18 E  2000 X _ _ _ hf _ _ _ _ _ (by omega) (by omega) hR hS (lv_sub hl [2, 1, 0] rfl)
theorem tX0_keep (l : Launch) {D : va_G} {cA : Nat → ClassId} {A : Nat → Prop} {Zs : XZ} {X Xf : AH} {x0 : Nat}  (hf : fX0_keep X x0 = some Xf) : Met l yX0_keep (ws_ yX0_keep cX0_keep 3 none) rmX0_keep (xPc D cA A Zs X [.ref x0]) (xQv D cA A Zs Xf) 8 52 A := by
  refine Met.ofW (cc := cX0_keep) (maxL := 3) (ret := none) (by decide) rfl ?_
  intro p e s m args below meth c s₁ B hml hv
  obtain ⟨rfl, hR, hK⟩ := hv
  have hts := atoms_spec (ws := (ws_ yX0_keep cX0_keep 3 none)) B.pre
  rw [lg_entry_eq]
  exact wX0_keep_0 (E := ⟨⟨B.exec, B.bytes, hml, findClass_of_methodNamed B.named, fun w h => hts w (List.mem_cons_of_mem _ h)⟩, hK, B.returns, B.notSynchronized⟩) hf _ _ _ 0 0 (Nat.le_of_ble_eq_true rfl) (Nat.le_of_ble_eq_true rfl) hR va_S.rf (lv_entry [.ref x0] (n := 3) (Nat.le_of_ble_eq_true rfl))
end
abbrev rmX0_undo : Room := { frames := 2, cells := 0, slots := 0, locals := 85 }
section
variable {p : Program} {l : Launch} {e : Env} {s : State} {m : MethodId} {args : Array Value} {below : List Frame} {meth : Method} {c : Code} {D : va_G} {cA : Nat → ClassId} {A : Nat → Prop} {Zs : XZ} {Xf : AH} {r : Int32} {rl : Int64} {ra : Nat} {tv : Unit ⊕ Nat} {ti : Int32 ⊕ Nat} {tr : Nat ⊕ Nat} {q2 : Option Nat}
def fX0_undo  (X : AH) (x0 : Nat) : Option (Int32 × AH) :=
  (gI X x0 0 7).bind fun v1 =>
  if v1 = 0 then (some ((-1000002), X)) else ((gI X x0 0 7).bind fun v3 =>
  (pF X x0 0 7 (.int (v3 - 1))).bind fun X4 =>
  (gR X4 x0 0 4).bind fun v5 =>
  (gR X4 x0 0 6).bind fun v6 =>
  (gI X4 x0 0 7).bind fun v7 =>
  (gQn X4 v6 3 v7).bind fun v8 =>
  (ck X4 v5 1).bind fun _ =>
  (fX1_become X4 v5 v8).bind fun (v11, X10) =>
  (gI X10 x0 0 7).bind fun v12 =>
  some (v12, X10))
theorem wX0_undo_0 (E : xE p m c cX0_undo 1 s args RX0 D cA A Zs meth (some .int)) {X : AH} {x0 : Nat} (hf : fX0_undo X x0 = some (r, Xf)) : ∀ (H : Heap) (locs : List Loc) (ls : Array Slot) (cells slots : Nat), cells + 0 ≤ 0 → slots + 0 ≤ 0 → xR D cA A Zs X H → va_S A s.heap H locs → lv_has ls 1 [(0, .ref x0)] → W p l e rmX0_undo s m args below meth c H locs cells slots (MQ below (xQi D cA A Zs r Xf) args s 0 0 A) (F0 m 0 ls []) := by
  intro H locs ls cells slots hc hs hR hS hl
  refine lv_aload_n E.hx E.hb dX0_undo_0 rfl (lv_at hl 0 rfl) ?_
  obtain ⟨v1, hv1, hf⟩ := bd_e hf
  refine xgX0_160 E hR hv1 dX0_undo_1 ?_
  refine lv_if_ne (tgt := 10) E.hx E.hb dX0_undo_4 (by decide) (fun c2 => ?_) (fun c2 => ?_)
  · have hf := it_f hf c2
    refine lv_aload_n E.hx E.hb dX0_undo_10 rfl (lv_at hl 0 rfl) ?_
    refine lv_dup E.hx E.hb dX0_undo_11 rfl ?_
    obtain ⟨v3, hv3, hf⟩ := bd_e hf
    refine xgX0_160 E hR hv3 dX0_undo_12 ?_
    refine lv_iconst (v := 1) E.hx E.hb dX0_undo_15 (by decide) ?_
    refine lv_isub E.hx E.hb dX0_undo_16 ?_
    obtain ⟨X4, hX4, hf⟩ := bd_e hf
    refine xpX0_160 E hR hS hX4 dX0_undo_17 (fun H locs hR hS => ?_)
    refine lv_aload_n E.hx E.hb dX0_undo_20 rfl (lv_at hl 0 rfl) ?_
    obtain ⟨v5, hv5, hf⟩ := bd_e hf
    refine xgX0_39 E hR hv5 dX0_undo_21 ?_
    refine lv_aload_n E.hx E.hb dX0_undo_24 rfl (lv_at hl 0 rfl) ?_
    obtain ⟨v6, hv6, hf⟩ := bd_e hf
    refine xgX0_46 E hR hv6 dX0_undo_25 ?_
    refine lv_aload_n E.hx E.hb dX0_undo_28 rfl (lv_at hl 0 rfl) ?_
    obtain ⟨v7, hv7, hf⟩ := bd_e hf
    refine xgX0_160 E hR hv7 dX0_undo_29 ?_
    obtain ⟨v8, hv8, hf⟩ := bd_e hf
    refine xaldn (kd := 3) E hR rfl hv8 dX0_undo_32 ?_
    obtain ⟨u9, hu9, hf⟩ := bd_e hf
    obtain ⟨⟨v11, X10⟩, hv11, hf⟩ := bd_e hf
    refine xrun_r (va_runV (As := [.ref v8]) (rest := []) E.1 (tX1_become l hv11) (cwX0_156 E.ht ⟨Nat.le_of_ble_eq_true rfl, Nat.le_of_ble_eq_true rfl⟩) (xPreV (ci := 1) E hR hS rfl (ck_e hu9)) rfl rfl hl.1 rfl (lv_room (Nat.le_of_ble_eq_true rfl)) dX0_undo_33 ⟨Nat.le_trans (by omega) (Nat.le_refl 0), Nat.le_trans (by omega) (Nat.le_refl 0)⟩) hS (fun H locs hR hS => ?_)
    refine lv_pop E.hx E.hb dX0_undo_36 rfl ?_
    refine lv_aload_n E.hx E.hb dX0_undo_37 rfl (lv_at hl 0 rfl) ?_
    obtain ⟨v12, hv12, hf⟩ := bd_e hf
    refine xgX0_160 E hR hv12 dX0_undo_38 ?_
    obtain ⟨rfl, rfl⟩ := rt_e hf
    exact xret_i E (by omega) (by omega) hR hS dX0_undo_41
  · have hf := it_t hf c2
    refine lv_ldc (v := (-1000002)) E.hx E.hb E.ho (E.ht _ q733) dX0_undo_7 ?_
    obtain ⟨rfl, rfl⟩ := rt_e hf
    exact xret_i E (by omega) (by omega) hR hS dX0_undo_9
theorem tX0_undo (l : Launch) {D : va_G} {cA : Nat → ClassId} {A : Nat → Prop} {Zs : XZ} {X Xf : AH} {x0 : Nat} {r : Int32} (hf : fX0_undo X x0 = some (r, Xf)) : Met l yX0_undo (ws_ yX0_undo cX0_undo 1 (some .int)) rmX0_undo (xPc D cA A Zs X [.ref x0]) (xQi D cA A Zs r Xf) 0 0 A := by
  refine Met.ofW (cc := cX0_undo) (maxL := 1) (ret := (some .int)) (by decide) rfl ?_
  intro p e s m args below meth c s₁ B hml hv
  obtain ⟨rfl, hR, hK⟩ := hv
  have hts := atoms_spec (ws := (ws_ yX0_undo cX0_undo 1 (some .int))) B.pre
  rw [lg_entry_eq]
  exact wX0_undo_0 (E := ⟨⟨B.exec, B.bytes, hml, findClass_of_methodNamed B.named, fun w h => hts w (List.mem_cons_of_mem _ h)⟩, hK, B.returns, B.notSynchronized⟩) hf _ _ _ 0 0 (Nat.le_of_ble_eq_true rfl) (Nat.le_of_ble_eq_true rfl) hR va_S.rf (lv_entry [.ref x0] (n := 1) (Nat.le_of_ble_eq_true rfl))
end
abbrev rmX0_isMinistry : Room := { frames := 1, cells := 0, slots := 0, locals := 12 }
section
variable {p : Program} {l : Launch} {e : Env} {s : State} {m : MethodId} {args : Array Value} {below : List Frame} {meth : Method} {c : Code} {D : va_G} {cA : Nat → ClassId} {A : Nat → Prop} {Zs : XZ} {Xf : AH} {r : Int32} {rl : Int64} {ra : Nat} {tv : Unit ⊕ Nat} {ti : Int32 ⊕ Nat} {tr : Nat ⊕ Nat} {q2 : Option Nat}
def fX0_isMinistry  (X : AH) (x0 : Nat) : Option (Int32 × AH) :=
  (gR X x0 0 4).bind fun v1 =>
  (gI X v1 1 1).bind fun v2 =>
  if v2 ≤ 0 then (some (0, X)) else (some (1, X))
theorem wX0_isMinistry_0 (E : xE p m c cX0_isMinistry 1 s args RX0 D cA A Zs meth (some .boolean)) {X : AH} {x0 : Nat} (hf : fX0_isMinistry X x0 = some (r, Xf)) : ∀ (H : Heap) (locs : List Loc) (ls : Array Slot) (cells slots : Nat), cells + 0 ≤ 0 → slots + 0 ≤ 0 → xR D cA A Zs X H → va_S A s.heap H locs → lv_has ls 1 [(0, .ref x0)] → W p l e rmX0_isMinistry s m args below meth c H locs cells slots (MQ below (xQi D cA A Zs r Xf) args s 0 0 A) (F0 m 0 ls []) := by
  intro H locs ls cells slots hc hs hR hS hl
  refine lv_aload_n E.hx E.hb dX0_isMinistry_0 rfl (lv_at hl 0 rfl) ?_
  obtain ⟨v1, hv1, hf⟩ := bd_e hf
  refine xgX0_39 E hR hv1 dX0_isMinistry_1 ?_
  obtain ⟨v2, hv2, hf⟩ := bd_e hf
  refine xgX0_168 E hR hv2 dX0_isMinistry_4 ?_
  refine lv_if_le (tgt := 14) E.hx E.hb dX0_isMinistry_7 (by decide) (fun c3 => ?_) (fun c3 => ?_)
  · have hf := it_t hf c3
    refine lv_iconst (v := 0) E.hx E.hb dX0_isMinistry_14 (by decide) ?_
    obtain ⟨rfl, rfl⟩ := rt_e hf
    exact xret_z E rfl (by omega) (by omega) hR hS dX0_isMinistry_15
  · have hf := it_f hf c3
    refine lv_iconst (v := 1) E.hx E.hb dX0_isMinistry_10 (by decide) ?_
    refine lv_goto (tgt := 15) E.hx E.hb dX0_isMinistry_11 (by decide) ?_
    obtain ⟨rfl, rfl⟩ := rt_e hf
    exact xret_z E rfl (by omega) (by omega) hR hS dX0_isMinistry_15
theorem tX0_isMinistry (l : Launch) {D : va_G} {cA : Nat → ClassId} {A : Nat → Prop} {Zs : XZ} {X Xf : AH} {x0 : Nat} {r : Int32} (hf : fX0_isMinistry X x0 = some (r, Xf)) : Met l yX0_isMinistry (ws_ yX0_isMinistry cX0_isMinistry 1 (some .boolean)) rmX0_isMinistry (xPc D cA A Zs X [.ref x0]) (xQi D cA A Zs r Xf) 0 0 A := by
  refine Met.ofW (cc := cX0_isMinistry) (maxL := 1) (ret := (some .boolean)) (by decide) rfl ?_
  intro p e s m args below meth c s₁ B hml hv
  obtain ⟨rfl, hR, hK⟩ := hv
  have hts := atoms_spec (ws := (ws_ yX0_isMinistry cX0_isMinistry 1 (some .boolean))) B.pre
  rw [lg_entry_eq]
  exact wX0_isMinistry_0 (E := ⟨⟨B.exec, B.bytes, hml, findClass_of_methodNamed B.named, fun w h => hts w (List.mem_cons_of_mem _ h)⟩, hK, B.returns, B.notSynchronized⟩) hf _ _ _ 0 0 (Nat.le_of_ble_eq_true rfl) (Nat.le_of_ble_eq_true rfl) hR va_S.rf (lv_entry [.ref x0] (n := 1) (Nat.le_of_ble_eq_true rfl))
end
abbrev rmX0_isChair : Room := { frames := 3, cells := 0, slots := 0, locals := 52 }
theorem cwX0_163 {R : Room} {s : State} {args : Array Value} (ht : ∀ w ∈ lw_all, w.before args s = true) (hR : rmX1_many.frames + 1 ≤ R.frames ∧ 8 + (1 + 11) + rmX1_many.locals ≤ R.locals) : CallW R s args RX0 RX1 163 yX1_many cX1_many 1 (some .int) (ws_ yX1_many cX1_many 1 (some .int)) rmX1_many 0 0 0 :=
  cwV 0 ht (lw_V q724 q632 q633 q69 q634) rfl rfl rfl (by decide +kernel) hR
section
variable {p : Program} {l : Launch} {e : Env} {s : State} {m : MethodId} {args : Array Value} {below : List Frame} {meth : Method} {c : Code} {D : va_G} {cA : Nat → ClassId} {A : Nat → Prop} {Zs : XZ} {Xf : AH} {r : Int32} {rl : Int64} {ra : Nat} {tv : Unit ⊕ Nat} {ti : Int32 ⊕ Nat} {tr : Nat ⊕ Nat} {q2 : Option Nat}
def fX0_isChair  (X : AH) (x0 : Nat) (x1 : Int32) : Option (Int32 × AH) :=
  (gR X x0 0 4).bind fun v1 =>
  (ck X v1 1).bind fun _ =>
  (fX1_many X v1).bind fun (v4, X3) =>
  (fX0_isIn (x1.toInt64) 0 ((v4 - 1).toInt64)).bind fun v5 =>
  (bz v5).bind fun v6 =>
  some (v6, X3)
theorem wX0_isChair_0 (E : xE p m c cX0_isChair 2 s args RX0 D cA A Zs meth (some .boolean)) {X : AH} {x0 : Nat} {x1 : Int32} (hf : fX0_isChair X x0 x1 = some (r, Xf)) : ∀ (H : Heap) (locs : List Loc) (ls : Array Slot) (cells slots : Nat), cells + 0 ≤ 0 → slots + 0 ≤ 0 → xR D cA A Zs X H → va_S A s.heap H locs → lv_has ls 2 [(0, .ref x0), (1, .int x1)] → W p l e rmX0_isChair s m args below meth c H locs cells slots (MQ below (xQi D cA A Zs r Xf) args s 0 0 A) (F0 m 0 ls []) := by
  intro H locs ls cells slots hc hs hR hS hl
  refine lv_iload_n E.hx E.hb dX0_isChair_0 rfl (lv_at hl 1 rfl) ?_
  refine lv_i2l E.hx E.hb dX0_isChair_1 rfl ?_
  refine lv_lconst (v := 0) E.hx E.hb dX0_isChair_2 (by decide) ?_
  refine lv_aload_n E.hx E.hb dX0_isChair_3 rfl (lv_at hl 0 rfl) ?_
  obtain ⟨v1, hv1, hf⟩ := bd_e hf
  refine xgX0_39 E hR hv1 dX0_isChair_4 ?_
  obtain ⟨u2, hu2, hf⟩ := bd_e hf
  obtain ⟨⟨v4, X3⟩, hv4, hf⟩ := bd_e hf
  refine xrun_i (va_runV (As := []) (rest := [.long 0, .long (x1.toInt64)]) E.1 (tX1_many l hv4) (cwX0_163 E.ht ⟨Nat.le_of_ble_eq_true rfl, Nat.le_of_ble_eq_true rfl⟩) (xPreV (ci := 1) E hR hS rfl (ck_e hu2)) rfl rfl hl.1 rfl (lv_room (Nat.le_of_ble_eq_true rfl)) dX0_isChair_7 ⟨Nat.le_trans (by omega) (Nat.le_refl 0), Nat.le_trans (by omega) (Nat.le_refl 0)⟩) hS (fun H locs hR hS => ?_)
  refine lv_iconst (v := 1) E.hx E.hb dX0_isChair_10 (by decide) ?_
  refine lv_isub E.hx E.hb dX0_isChair_11 ?_
  refine lv_i2l E.hx E.hb dX0_isChair_12 rfl ?_
  obtain ⟨v5, hv5, hf⟩ := bd_e hf
  refine scall_i (rest := []) E.1 (tX0_isIn l hv5) (cwX0_79 E.ht ⟨Nat.le_of_ble_eq_true rfl, Nat.le_of_ble_eq_true rfl⟩) rfl hl.1 rfl (Nat.le_of_ble_eq_true rfl) dX0_isChair_13 ⟨Nat.le_trans (by omega) (Nat.le_refl 0), Nat.le_trans (by omega) (Nat.le_refl 0)⟩ ?_
  obtain ⟨v6, hv6, hf⟩ := bd_e hf
  obtain ⟨hz, rfl⟩ := bz_e hv6
  obtain ⟨rfl, rfl⟩ := rt_e hf
  exact xret_z E hz (by omega) (by omega) hR hS dX0_isChair_16
theorem tX0_isChair (l : Launch) {D : va_G} {cA : Nat → ClassId} {A : Nat → Prop} {Zs : XZ} {X Xf : AH} {x0 : Nat} {x1 : Int32} {r : Int32} (hf : fX0_isChair X x0 x1 = some (r, Xf)) : Met l yX0_isChair (ws_ yX0_isChair cX0_isChair 2 (some .boolean)) rmX0_isChair (xPc D cA A Zs X [.ref x0, .int x1]) (xQi D cA A Zs r Xf) 0 0 A := by
  refine Met.ofW (cc := cX0_isChair) (maxL := 2) (ret := (some .boolean)) (by decide) rfl ?_
  intro p e s m args below meth c s₁ B hml hv
  obtain ⟨rfl, hR, hK⟩ := hv
  have hts := atoms_spec (ws := (ws_ yX0_isChair cX0_isChair 2 (some .boolean))) B.pre
  rw [lg_entry_eq]
  exact wX0_isChair_0 (E := ⟨⟨B.exec, B.bytes, hml, findClass_of_methodNamed B.named, fun w h => hts w (List.mem_cons_of_mem _ h)⟩, hK, B.returns, B.notSynchronized⟩) hf _ _ _ 0 0 (Nat.le_of_ble_eq_true rfl) (Nat.le_of_ble_eq_true rfl) hR va_S.rf (lv_entry [.ref x0, .int x1] (n := 2) (Nat.le_of_ble_eq_true rfl))
end
abbrev rmX0_nights : Room := { frames := 12, cells := 200, slots := 1300, locals := 250 }
theorem cwX0_177 {R : Room} {s : State} {args : Array Value} (ht : ∀ w ∈ lw_all, w.before args s = true) (hR : rmX0_isMinistry.frames + 1 ≤ R.frames ∧ 8 + (1 + 11) + rmX0_isMinistry.locals ≤ R.locals) : CallW R s args RX0 RX0 177 yX0_isMinistry cX0_isMinistry 1 (some .boolean) (ws_ yX0_isMinistry cX0_isMinistry 1 (some .boolean)) rmX0_isMinistry 0 0 0 :=
  cwV 0 ht (lw_V q738 q740 qs17 q68 q741) rfl rfl rfl (by decide +kernel) hR
theorem cwX0_186 {R : Room} {s : State} {args : Array Value} (ht : ∀ w ∈ lw_all, w.before args s = true) (hR : rmX0_keep.frames + 1 ≤ R.frames ∧ 8 + (3 + 11) + rmX0_keep.locals ≤ R.locals) : CallW R s args RX0 RX0 186 yX0_keep cX0_keep 3 none (ws_ yX0_keep cX0_keep 3 none) rmX0_keep 8 52 0 :=
  cwV 0 ht (lw_V q743 q745 qs18 q68 q746) rfl rfl rfl (by decide +kernel) hR
theorem cwX0_189 {R : Room} {s : State} {args : Array Value} (ht : ∀ w ∈ lw_all, w.before args s = true) (hR : rmX1_pass.frames + 1 ≤ R.frames ∧ 8 + (3 + 11) + rmX1_pass.locals ≤ R.locals) : CallW R s args RX0 RX1 189 yX1_pass cX1_pass 3 (some (.object "ChairRanks$Ministry")) (ws_ yX1_pass cX1_pass 3 (some (.object "ChairRanks$Ministry"))) rmX1_pass 0 0 0 :=
  cwV 0 ht (lw_V q747 q748 q749 q69 q750) rfl rfl rfl (by decide +kernel) hR
theorem cwX0_193 {R : Room} {s : State} {args : Array Value} (ht : ∀ w ∈ lw_all, w.before args s = true) (hR : rmX1_ranked.frames + 1 ≤ R.frames ∧ 8 + (3 + 11) + rmX1_ranked.locals ≤ R.locals) : CallW R s args RX0 RX1 193 yX1_ranked cX1_ranked 3 (some .int) (ws_ yX1_ranked cX1_ranked 3 (some .int)) rmX1_ranked 0 0 1 :=
  cwV 1 ht (lw_V q836 q816 q817 q69 q818) rfl rfl rfl (by decide +kernel) hR
section
variable {p : Program} {l : Launch} {e : Env} {s : State} {m : MethodId} {args : Array Value} {below : List Frame} {meth : Method} {c : Code} {D : va_G} {cA : Nat → ClassId} {A : Nat → Prop} {Zs : XZ} {Xf : AH} {r : Int32} {rl : Int64} {ra : Nat} {tv : Unit ⊕ Nat} {ti : Int32 ⊕ Nat} {tr : Nat ⊕ Nat} {q2 : Option Nat}
def fX0_nights_L45  : Nat → AH → Nat → Int32 → Int32 → Option (Int32 × AH)
  | 0, _, _, _, _ => none
  | n + 1, X, x0, x1, x2 =>
    if x1 ≤ x2 then ((gR X x0 0 4).bind fun v2 =>
    (ck X v2 1).bind fun _ =>
    (fX1_ranked X v2 0).bind fun (v5, X4) =>
    some (v5, X4)) else ((ck X x0 0).bind fun _ =>
    (fX0_keep X x0).bind fun X7 =>
    (gR X7 x0 0 4).bind fun v9 =>
    (ck X7 v9 1).bind fun _ =>
    (fX1_pass X7 v9).bind fun (v12, X11) =>
    (fX0_nights_L45 n) X11 x0 x1 (x2 + 1))
theorem wX0_nights_L45 (E : xE p m c cX0_nights 3 s args RX0 D cA A Zs meth (some .int)) : ∀ (n : Nat) (X : AH) (x0 : Nat) (x1 : Int32) (x2 : Int32), fX0_nights_L45 n X x0 x1 x2 = some (r, Xf) → ∀ (H : Heap) (locs : List Loc) (ls : Array Slot) (cells slots : Nat), cells + (n * 8 + 0) ≤ 200 → slots + (n * 52 + 0) ≤ 1300 → xR D cA A Zs X H → va_S A s.heap H locs → lv_has ls 3 [(0, .ref x0), (1, .int x1), (2, .int x2)] → W p l e rmX0_nights s m args below meth c H locs cells slots (MQ below (xQi D cA A Zs r Xf) args s 200 1300 A) (F0 m 45 ls []) := by
  intro n
  induction n with
  | zero =>
    intro X x0 x1 x2 hf
    have hf : none = some (r, Xf) := hf
    cases hf
  | succ n ih =>
    intro X x0 x1 x2 hf H locs ls cells slots hc hs hR hS hl
    refine lv_iload_n E.hx E.hb dX0_nights_45 rfl (lv_at hl 2 rfl) ?_
    refine lv_iload_n E.hx E.hb dX0_nights_46 rfl (lv_at hl 1 rfl) ?_
    refine lv_icmp_ge (tgt := 68) E.hx E.hb dX0_nights_47 (by decide) (fun c1 => ?_) (fun c1 => ?_)
    · have hf := it_t hf c1
      refine lv_aload_n E.hx E.hb dX0_nights_68 rfl (lv_at hl 0 rfl) ?_
      obtain ⟨v2, hv2, hf⟩ := bd_e hf
      refine xgX0_39 E hR hv2 dX0_nights_69 ?_
      refine lv_iconst (v := 0) E.hx E.hb dX0_nights_72 (by decide) ?_
      obtain ⟨u3, hu3, hf⟩ := bd_e hf
      obtain ⟨⟨v5, X4⟩, hv5, hf⟩ := bd_e hf
      refine xrun_i (va_runV (As := [.int 0]) (rest := []) E.1 (tX1_ranked l hv5) (cwX0_193 E.ht ⟨Nat.le_of_ble_eq_true rfl, Nat.le_of_ble_eq_true rfl⟩) (xPreV (ci := 1) E hR hS rfl (ck_e hu3)) rfl rfl hl.1 rfl (lv_room (Nat.le_of_ble_eq_true rfl)) dX0_nights_73 ⟨Nat.le_trans (by omega) (Nat.le_refl 200), Nat.le_trans (by omega) (Nat.le_refl 1300)⟩) hS (fun H locs hR hS => ?_)
      obtain ⟨rfl, rfl⟩ := rt_e hf
      exact xret_i E (by omega) (by omega) hR hS dX0_nights_76
    · have hf := it_f hf c1
      refine lv_aload_n E.hx E.hb dX0_nights_50 rfl (lv_at hl 0 rfl) ?_
      obtain ⟨u6, hu6, hf⟩ := bd_e hf
      obtain ⟨X7, hX7, hf⟩ := bd_e hf
      refine xrun_v (va_runV (As := []) (rest := []) E.1 (tX0_keep l hX7) (cwX0_186 E.ht ⟨Nat.le_of_ble_eq_true rfl, Nat.le_of_ble_eq_true rfl⟩) (xPreV (ci := 0) E hR hS rfl (ck_e hu6)) rfl rfl hl.1 rfl (lv_room (Nat.le_of_ble_eq_true rfl)) dX0_nights_51 ⟨Nat.le_trans (by omega) (Nat.le_refl 200), Nat.le_trans (by omega) (Nat.le_refl 1300)⟩) hS (fun H locs hR hS => ?_)
      refine lv_aload_n E.hx E.hb dX0_nights_54 rfl (lv_at hl 0 rfl) ?_
      obtain ⟨v9, hv9, hf⟩ := bd_e hf
      refine xgX0_39 E hR hv9 dX0_nights_55 ?_
      obtain ⟨u10, hu10, hf⟩ := bd_e hf
      obtain ⟨⟨v12, X11⟩, hv12, hf⟩ := bd_e hf
      refine xrun_r (va_runV (As := []) (rest := []) E.1 (tX1_pass l hv12) (cwX0_189 E.ht ⟨Nat.le_of_ble_eq_true rfl, Nat.le_of_ble_eq_true rfl⟩) (xPreV (ci := 1) E hR hS rfl (ck_e hu10)) rfl rfl hl.1 rfl (lv_room (Nat.le_of_ble_eq_true rfl)) dX0_nights_58 ⟨Nat.le_trans (by omega) (Nat.le_refl 200), Nat.le_trans (by omega) (Nat.le_refl 1300)⟩) hS (fun H locs hR hS => ?_)
      refine lv_pop E.hx E.hb dX0_nights_61 rfl ?_
      refine lv_iinc (v := (x2 + 1)) (lv' := [(2, .int (x2 + 1)), (0, .ref x0), (1, .int x1)]) E.hx E.hb dX0_nights_62 hl (k := 2) rfl rfl (by decide) rfl (fun ls hl => ?_)
      refine lv_goto (tgt := 45) E.hx E.hb dX0_nights_65 (by decide) ?_
      exact ih X11 _ _ _ hf _ _ _ _ _ (by omega) (by omega) hR hS (lv_sub hl [1, 2, 0] rfl)
def fX0_nights  (X : AH) (x0 : Nat) (x1 : Int32) : Option (Int32 × AH) :=
  (ck X x0 0).bind fun _ =>
  (fX0_isMinistry X x0).bind fun (v3, X2) =>
  if v3 = 0 then (some ((-1000002), X2)) else ((fX0_isIn (x1.toInt64) 1 24).bind fun v5 =>
  if v5 = 0 then (some ((-1000001), X2)) else ((gR X2 x0 0 4).bind fun v7 =>
  (gI X2 v7 1 9).bind fun v8 =>
  if (v8 + x1) ≤ 999 then (fX0_nights_L45 25 X2 x0 x1 0) else (some ((-1000003), X2))))
theorem wX0_nights_0 (E : xE p m c cX0_nights 3 s args RX0 D cA A Zs meth (some .int)) {X : AH} {x0 : Nat} {x1 : Int32} (hf : fX0_nights X x0 x1 = some (r, Xf)) : ∀ (H : Heap) (locs : List Loc) (ls : Array Slot) (cells slots : Nat), cells + 200 ≤ 200 → slots + 1300 ≤ 1300 → xR D cA A Zs X H → va_S A s.heap H locs → lv_has ls 3 [(0, .ref x0), (1, .int x1)] → W p l e rmX0_nights s m args below meth c H locs cells slots (MQ below (xQi D cA A Zs r Xf) args s 200 1300 A) (F0 m 0 ls []) := by
  intro H locs ls cells slots hc hs hR hS hl
  refine lv_aload_n E.hx E.hb dX0_nights_0 rfl (lv_at hl 0 rfl) ?_
  obtain ⟨u1, hu1, hf⟩ := bd_e hf
  obtain ⟨⟨v3, X2⟩, hv3, hf⟩ := bd_e hf
  refine xrun_i (va_runV (As := []) (rest := []) E.1 (tX0_isMinistry l hv3) (cwX0_177 E.ht ⟨Nat.le_of_ble_eq_true rfl, Nat.le_of_ble_eq_true rfl⟩) (xPreV (ci := 0) E hR hS rfl (ck_e hu1)) rfl rfl hl.1 rfl (lv_room (Nat.le_of_ble_eq_true rfl)) dX0_nights_1 ⟨Nat.le_trans (by omega) (Nat.le_refl 200), Nat.le_trans (by omega) (Nat.le_refl 1300)⟩) hS (fun H locs hR hS => ?_)
  refine lv_if_ne (tgt := 10) E.hx E.hb dX0_nights_4 (by decide) (fun c4 => ?_) (fun c4 => ?_)
  · have hf := it_f hf c4
    refine lv_iload_n E.hx E.hb dX0_nights_10 rfl (lv_at hl 1 rfl) ?_
    refine lv_i2l E.hx E.hb dX0_nights_11 rfl ?_
    refine lv_lconst (v := 1) E.hx E.hb dX0_nights_12 (by decide) ?_
    refine lv_ldc2 (v := 24) E.hx E.hb E.ho (E.ht _ q742) dX0_nights_13 ?_
    obtain ⟨v5, hv5, hf⟩ := bd_e hf
    refine scall_i (rest := []) E.1 (tX0_isIn l hv5) (cwX0_79 E.ht ⟨Nat.le_of_ble_eq_true rfl, Nat.le_of_ble_eq_true rfl⟩) rfl hl.1 rfl (Nat.le_of_ble_eq_true rfl) dX0_nights_16 ⟨Nat.le_trans (by omega) (Nat.le_refl 200), Nat.le_trans (by omega) (Nat.le_refl 1300)⟩ ?_
    refine lv_if_ne (tgt := 25) E.hx E.hb dX0_nights_19 (by decide) (fun c6 => ?_) (fun c6 => ?_)
    · have hf := it_f hf c6
      refine lv_aload_n E.hx E.hb dX0_nights_25 rfl (lv_at hl 0 rfl) ?_
      obtain ⟨v7, hv7, hf⟩ := bd_e hf
      refine xgX0_39 E hR hv7 dX0_nights_26 ?_
      obtain ⟨v8, hv8, hf⟩ := bd_e hf
      refine xgX0_183 E hR hv8 dX0_nights_29 ?_
      refine lv_iload_n E.hx E.hb dX0_nights_32 rfl (lv_at hl 1 rfl) ?_
      refine lv_iadd E.hx E.hb dX0_nights_33 ?_
      refine lv_sipush (v := 999) E.hx E.hb dX0_nights_34 (by decide) ?_
      refine lv_icmp_le (tgt := 43) E.hx E.hb dX0_nights_37 (by decide) (fun c9 => ?_) (fun c9 => ?_)
      · have hf := it_t hf c9
        refine lv_iconst (v := 0) E.hx E.hb dX0_nights_43 (by decide) ?_
        refine lv_istore_n (lv' := [(2, .int 0), (0, .ref x0), (1, .int x1)]) E.hx E.hb dX0_nights_44 rfl hl (by decide) rfl (fun ls hl => ?_)
        exact wX0_nights_L45 E  25 X2 _ _ _ hf _ _ _ _ _ (by omega) (by omega) hR hS (lv_sub hl [1, 2, 0] rfl)
      · have hf := it_f hf c9
        refine lv_ldc (v := (-1000003)) E.hx E.hb E.ho (E.ht _ q473) dX0_nights_40 ?_
        obtain ⟨rfl, rfl⟩ := rt_e hf
        exact xret_i E (by omega) (by omega) hR hS dX0_nights_42
    · have hf := it_t hf c6
      refine lv_ldc (v := (-1000001)) E.hx E.hb E.ho (E.ht _ q319) dX0_nights_22 ?_
      obtain ⟨rfl, rfl⟩ := rt_e hf
      exact xret_i E (by omega) (by omega) hR hS dX0_nights_24
  · have hf := it_t hf c4
    refine lv_ldc (v := (-1000002)) E.hx E.hb E.ho (E.ht _ q733) dX0_nights_7 ?_
    obtain ⟨rfl, rfl⟩ := rt_e hf
    exact xret_i E (by omega) (by omega) hR hS dX0_nights_9
theorem tX0_nights (l : Launch) {D : va_G} {cA : Nat → ClassId} {A : Nat → Prop} {Zs : XZ} {X Xf : AH} {x0 : Nat} {x1 : Int32} {r : Int32} (hf : fX0_nights X x0 x1 = some (r, Xf)) : Met l yX0_nights (ws_ yX0_nights cX0_nights 3 (some .int)) rmX0_nights (xPc D cA A Zs X [.ref x0, .int x1]) (xQi D cA A Zs r Xf) 200 1300 A := by
  refine Met.ofW (cc := cX0_nights) (maxL := 3) (ret := (some .int)) (by decide) rfl ?_
  intro p e s m args below meth c s₁ B hml hv
  obtain ⟨rfl, hR, hK⟩ := hv
  have hts := atoms_spec (ws := (ws_ yX0_nights cX0_nights 3 (some .int))) B.pre
  rw [lg_entry_eq]
  exact wX0_nights_0 (E := ⟨⟨B.exec, B.bytes, hml, findClass_of_methodNamed B.named, fun w h => hts w (List.mem_cons_of_mem _ h)⟩, hK, B.returns, B.notSynchronized⟩) hf _ _ _ 0 0 (Nat.le_of_ble_eq_true rfl) (Nat.le_of_ble_eq_true rfl) hR va_S.rf (lv_entry [.ref x0, .int x1] (n := 3) (Nat.le_of_ble_eq_true rfl))
end
abbrev rmX0_puts : Room := { frames := 6, cells := 8, slots := 52, locals := 114 }
section
variable {p : Program} {l : Launch} {e : Env} {s : State} {m : MethodId} {args : Array Value} {below : List Frame} {meth : Method} {c : Code} {D : va_G} {cA : Nat → ClassId} {A : Nat → Prop} {Zs : XZ} {Xf : AH} {r : Int32} {rl : Int64} {ra : Nat} {tv : Unit ⊕ Nat} {ti : Int32 ⊕ Nat} {tr : Nat ⊕ Nat} {q2 : Option Nat}
def fX0_puts  (X : AH) (x0 : Nat) (x1 : Nat) (x2 : Int32) (x3 : Int32) : Option (Int32 × AH) :=
  (ck X x0 0).bind fun _ =>
  (fX0_keep X x0).bind fun X2 =>
  (gA X2 x1 0 x2).bind fun v4 =>
  (pA X2 x1 0 x2 x3).bind fun X5 =>
  some (v4, X5)
theorem wX0_puts_0 (E : xE p m c cX0_puts 5 s args RX0 D cA A Zs meth (some .int)) {X : AH} {x0 : Nat} {x1 : Nat} {x2 : Int32} {x3 : Int32} (hf : fX0_puts X x0 x1 x2 x3 = some (r, Xf)) : ∀ (H : Heap) (locs : List Loc) (ls : Array Slot) (cells slots : Nat), cells + 8 ≤ 8 → slots + 52 ≤ 52 → xR D cA A Zs X H → va_S A s.heap H locs → lv_has ls 5 [(0, .ref x0), (1, .ref x1), (2, .int x2), (3, .int x3)] → W p l e rmX0_puts s m args below meth c H locs cells slots (MQ below (xQi D cA A Zs r Xf) args s 8 52 A) (F0 m 0 ls []) := by
  intro H locs ls cells slots hc hs hR hS hl
  refine lv_aload_n E.hx E.hb dX0_puts_0 rfl (lv_at hl 0 rfl) ?_
  obtain ⟨u1, hu1, hf⟩ := bd_e hf
  obtain ⟨X2, hX2, hf⟩ := bd_e hf
  refine xrun_v (va_runV (As := []) (rest := []) E.1 (tX0_keep l hX2) (cwX0_186 E.ht ⟨Nat.le_of_ble_eq_true rfl, Nat.le_of_ble_eq_true rfl⟩) (xPreV (ci := 0) E hR hS rfl (ck_e hu1)) rfl rfl hl.1 rfl (lv_room (Nat.le_of_ble_eq_true rfl)) dX0_puts_1 ⟨Nat.le_trans (by omega) (Nat.le_refl 8), Nat.le_trans (by omega) (Nat.le_refl 52)⟩) hS (fun H locs hR hS => ?_)
  refine lv_aload_n E.hx E.hb dX0_puts_4 rfl (lv_at hl 1 rfl) ?_
  refine lv_iload_n E.hx E.hb dX0_puts_5 rfl (lv_at hl 2 rfl) ?_
  obtain ⟨v4, hv4, hf⟩ := bd_e hf
  refine xild E hR hv4 dX0_puts_6 ?_
  refine lv_istore (lv' := [(4, .int v4), (0, .ref x0), (1, .ref x1), (2, .int x2), (3, .int x3)]) E.hx E.hb dX0_puts_7 hl (by decide) rfl (fun ls hl => ?_)
  refine lv_aload_n E.hx E.hb dX0_puts_9 rfl (lv_at hl 2 rfl) ?_
  refine lv_iload_n E.hx E.hb dX0_puts_10 rfl (lv_at hl 3 rfl) ?_
  refine lv_iload_n E.hx E.hb dX0_puts_11 rfl (lv_at hl 4 rfl) ?_
  obtain ⟨X5, hX5, hf⟩ := bd_e hf
  refine xist E hR hS hX5 dX0_puts_12 (fun H locs hR hS => ?_)
  refine lv_iload E.hx E.hb dX0_puts_13 (lv_at hl 0 rfl) ?_
  obtain ⟨rfl, rfl⟩ := rt_e hf
  exact xret_i E (by omega) (by omega) hR hS dX0_puts_15
theorem tX0_puts (l : Launch) {D : va_G} {cA : Nat → ClassId} {A : Nat → Prop} {Zs : XZ} {X Xf : AH} {x0 : Nat} {x1 : Nat} {x2 : Int32} {x3 : Int32} {r : Int32} (hf : fX0_puts X x0 x1 x2 x3 = some (r, Xf)) : Met l yX0_puts (ws_ yX0_puts cX0_puts 5 (some .int)) rmX0_puts (xPc D cA A Zs X [.ref x0, .ref x1, .int x2, .int x3]) (xQi D cA A Zs r Xf) 8 52 A := by
  refine Met.ofW (cc := cX0_puts) (maxL := 5) (ret := (some .int)) (by decide) rfl ?_
  intro p e s m args below meth c s₁ B hml hv
  obtain ⟨rfl, hR, hK⟩ := hv
  have hts := atoms_spec (ws := (ws_ yX0_puts cX0_puts 5 (some .int))) B.pre
  rw [lg_entry_eq]
  exact wX0_puts_0 (E := ⟨⟨B.exec, B.bytes, hml, findClass_of_methodNamed B.named, fun w h => hts w (List.mem_cons_of_mem _ h)⟩, hK, B.returns, B.notSynchronized⟩) hf _ _ _ 0 0 (Nat.le_of_ble_eq_true rfl) (Nat.le_of_ble_eq_true rfl) hR va_S.rf (lv_entry [.ref x0, .ref x1, .int x2, .int x3] (n := 5) (Nat.le_of_ble_eq_true rfl))
end
abbrev rmX0_cushions : Room := { frames := 7, cells := 8, slots := 52, locals := 138 }
theorem cwX0_196 {R : Room} {s : State} {args : Array Value} (ht : ∀ w ∈ lw_all, w.before args s = true) (hR : rmX0_isChair.frames + 1 ≤ R.frames ∧ 8 + (2 + 11) + rmX0_isChair.locals ≤ R.locals) : CallW R s args RX0 RX0 196 yX0_isChair cX0_isChair 2 (some .boolean) (ws_ yX0_isChair cX0_isChair 2 (some .boolean)) rmX0_isChair 0 0 1 :=
  cwV 1 ht (lw_V q841 q843 qs20 q68 q844) rfl rfl rfl (by decide +kernel) hR
theorem cwX0_204 {R : Room} {s : State} {args : Array Value} (ht : ∀ w ∈ lw_all, w.before args s = true) (hR : rmX0_puts.frames + 1 ≤ R.frames ∧ 8 + (5 + 11) + rmX0_puts.locals ≤ R.locals) : CallW R s args RX0 RX0 204 yX0_puts cX0_puts 5 (some .int) (ws_ yX0_puts cX0_puts 5 (some .int)) rmX0_puts 8 52 3 :=
  cwV 3 ht (lw_V q846 q848 qs21 q68 q849) rfl rfl rfl (by decide +kernel) hR
section
variable {p : Program} {l : Launch} {e : Env} {s : State} {m : MethodId} {args : Array Value} {below : List Frame} {meth : Method} {c : Code} {D : va_G} {cA : Nat → ClassId} {A : Nat → Prop} {Zs : XZ} {Xf : AH} {r : Int32} {rl : Int64} {ra : Nat} {tv : Unit ⊕ Nat} {ti : Int32 ⊕ Nat} {tr : Nat ⊕ Nat} {q2 : Option Nat}
def fX0_cushions  (X : AH) (x0 : Nat) (x1 : Int32) (x2 : Int32) : Option (Int32 × AH) :=
  (ck X x0 0).bind fun _ =>
  (fX0_isChair X x0 x1).bind fun (v3, X2) =>
  if v3 = 0 then (some ((-1000001), X2)) else ((fX0_isIn (x2.toInt64) 0 20).bind fun v5 =>
  if v5 = 0 then (some ((-1000001), X2)) else ((gR X2 x0 0 4).bind fun v7 =>
  (gR X2 v7 1 4).bind fun v8 =>
  (ck X2 x0 0).bind fun _ =>
  (fX0_puts X2 x0 v8 x1 x2).bind fun (v11, X10) =>
  some (v11, X10)))
theorem wX0_cushions_0 (E : xE p m c cX0_cushions 3 s args RX0 D cA A Zs meth (some .int)) {X : AH} {x0 : Nat} {x1 : Int32} {x2 : Int32} (hf : fX0_cushions X x0 x1 x2 = some (r, Xf)) : ∀ (H : Heap) (locs : List Loc) (ls : Array Slot) (cells slots : Nat), cells + 8 ≤ 8 → slots + 52 ≤ 52 → xR D cA A Zs X H → va_S A s.heap H locs → lv_has ls 3 [(0, .ref x0), (1, .int x1), (2, .int x2)] → W p l e rmX0_cushions s m args below meth c H locs cells slots (MQ below (xQi D cA A Zs r Xf) args s 8 52 A) (F0 m 0 ls []) := by
  intro H locs ls cells slots hc hs hR hS hl
  refine lv_aload_n E.hx E.hb dX0_cushions_0 rfl (lv_at hl 0 rfl) ?_
  refine lv_iload_n E.hx E.hb dX0_cushions_1 rfl (lv_at hl 1 rfl) ?_
  obtain ⟨u1, hu1, hf⟩ := bd_e hf
  obtain ⟨⟨v3, X2⟩, hv3, hf⟩ := bd_e hf
  refine xrun_i (va_runV (As := [.int x1]) (rest := []) E.1 (tX0_isChair l hv3) (cwX0_196 E.ht ⟨Nat.le_of_ble_eq_true rfl, Nat.le_of_ble_eq_true rfl⟩) (xPreV (ci := 0) E hR hS rfl (ck_e hu1)) rfl rfl hl.1 rfl (lv_room (Nat.le_of_ble_eq_true rfl)) dX0_cushions_2 ⟨Nat.le_trans (by omega) (Nat.le_refl 8), Nat.le_trans (by omega) (Nat.le_refl 52)⟩) hS (fun H locs hR hS => ?_)
  refine lv_if_eq (tgt := 36) E.hx E.hb dX0_cushions_5 (by decide) (fun c4 => ?_) (fun c4 => ?_)
  · have hf := it_t hf c4
    refine lv_ldc (v := (-1000001)) E.hx E.hb E.ho (E.ht _ q319) dX0_cushions_36 ?_
    obtain ⟨rfl, rfl⟩ := rt_e hf
    exact xret_i E (by omega) (by omega) hR hS dX0_cushions_38
  · have hf := it_f hf c4
    refine lv_iload_n E.hx E.hb dX0_cushions_8 rfl (lv_at hl 2 rfl) ?_
    refine lv_i2l E.hx E.hb dX0_cushions_9 rfl ?_
    refine lv_lconst (v := 0) E.hx E.hb dX0_cushions_10 (by decide) ?_
    refine lv_ldc2 (v := 20) E.hx E.hb E.ho (E.ht _ q845) dX0_cushions_11 ?_
    obtain ⟨v5, hv5, hf⟩ := bd_e hf
    refine scall_i (rest := []) E.1 (tX0_isIn l hv5) (cwX0_79 E.ht ⟨Nat.le_of_ble_eq_true rfl, Nat.le_of_ble_eq_true rfl⟩) rfl hl.1 rfl (Nat.le_of_ble_eq_true rfl) dX0_cushions_14 ⟨Nat.le_trans (by omega) (Nat.le_refl 8), Nat.le_trans (by omega) (Nat.le_refl 52)⟩ ?_
    refine lv_if_eq (tgt := 36) E.hx E.hb dX0_cushions_17 (by decide) (fun c6 => ?_) (fun c6 => ?_)
    · have hf := it_t hf c6
      refine lv_ldc (v := (-1000001)) E.hx E.hb E.ho (E.ht _ q319) dX0_cushions_36 ?_
      obtain ⟨rfl, rfl⟩ := rt_e hf
      exact xret_i E (by omega) (by omega) hR hS dX0_cushions_38
    · have hf := it_f hf c6
      refine lv_aload_n E.hx E.hb dX0_cushions_20 rfl (lv_at hl 0 rfl) ?_
      refine lv_aload_n E.hx E.hb dX0_cushions_21 rfl (lv_at hl 0 rfl) ?_
      obtain ⟨v7, hv7, hf⟩ := bd_e hf
      refine xgX0_39 E hR hv7 dX0_cushions_22 ?_
      obtain ⟨v8, hv8, hf⟩ := bd_e hf
      refine xgX0_201 E hR hv8 dX0_cushions_25 ?_
      refine lv_iload_n E.hx E.hb dX0_cushions_28 rfl (lv_at hl 1 rfl) ?_
      refine lv_iload_n E.hx E.hb dX0_cushions_29 rfl (lv_at hl 2 rfl) ?_
      obtain ⟨u9, hu9, hf⟩ := bd_e hf
      obtain ⟨⟨v11, X10⟩, hv11, hf⟩ := bd_e hf
      refine xrun_i (va_runV (As := [.ref v8, .int x1, .int x2]) (rest := []) E.1 (tX0_puts l hv11) (cwX0_204 E.ht ⟨Nat.le_of_ble_eq_true rfl, Nat.le_of_ble_eq_true rfl⟩) (xPreV (ci := 0) E hR hS rfl (ck_e hu9)) rfl rfl hl.1 rfl (lv_room (Nat.le_of_ble_eq_true rfl)) dX0_cushions_30 ⟨Nat.le_trans (by omega) (Nat.le_refl 8), Nat.le_trans (by omega) (Nat.le_refl 52)⟩) hS (fun H locs hR hS => ?_)
      refine lv_goto (tgt := 38) E.hx E.hb dX0_cushions_33 (by decide) ?_
      obtain ⟨rfl, rfl⟩ := rt_e hf
      exact xret_i E (by omega) (by omega) hR hS dX0_cushions_38
theorem tX0_cushions (l : Launch) {D : va_G} {cA : Nat → ClassId} {A : Nat → Prop} {Zs : XZ} {X Xf : AH} {x0 : Nat} {x1 : Int32} {x2 : Int32} {r : Int32} (hf : fX0_cushions X x0 x1 x2 = some (r, Xf)) : Met l yX0_cushions (ws_ yX0_cushions cX0_cushions 3 (some .int)) rmX0_cushions (xPc D cA A Zs X [.ref x0, .int x1, .int x2]) (xQi D cA A Zs r Xf) 8 52 A := by
  refine Met.ofW (cc := cX0_cushions) (maxL := 3) (ret := (some .int)) (by decide) rfl ?_
  intro p e s m args below meth c s₁ B hml hv
  obtain ⟨rfl, hR, hK⟩ := hv
  have hts := atoms_spec (ws := (ws_ yX0_cushions cX0_cushions 3 (some .int))) B.pre
  rw [lg_entry_eq]
  exact wX0_cushions_0 (E := ⟨⟨B.exec, B.bytes, hml, findClass_of_methodNamed B.named, fun w h => hts w (List.mem_cons_of_mem _ h)⟩, hK, B.returns, B.notSynchronized⟩) hf _ _ _ 0 0 (Nat.le_of_ble_eq_true rfl) (Nat.le_of_ble_eq_true rfl) hR va_S.rf (lv_entry [.ref x0, .int x1, .int x2] (n := 3) (Nat.le_of_ble_eq_true rfl))
end
abbrev rmX0_mend : Room := { frames := 6, cells := 8, slots := 52, locals := 114 }
theorem cwX0_211 {R : Room} {s : State} {args : Array Value} (ht : ∀ w ∈ lw_all, w.before args s = true) (hR : rmX1_mend.frames + 1 ≤ R.frames ∧ 8 + (2 + 11) + rmX1_mend.locals ≤ R.locals) : CallW R s args RX0 RX1 211 yX1_mend cX1_mend 2 (some .int) (ws_ yX1_mend cX1_mend 2 (some .int)) rmX1_mend 0 0 1 :=
  cwV 1 ht (lw_V q854 q855 q856 q69 q857) rfl rfl rfl (by decide +kernel) hR
section
variable {p : Program} {l : Launch} {e : Env} {s : State} {m : MethodId} {args : Array Value} {below : List Frame} {meth : Method} {c : Code} {D : va_G} {cA : Nat → ClassId} {A : Nat → Prop} {Zs : XZ} {Xf : AH} {r : Int32} {rl : Int64} {ra : Nat} {tv : Unit ⊕ Nat} {ti : Int32 ⊕ Nat} {tr : Nat ⊕ Nat} {q2 : Option Nat}
def fX0_mend  (X : AH) (x0 : Nat) (x1 : Int32) : Option (Int32 × AH) :=
  (ck X x0 0).bind fun _ =>
  (fX0_isChair X x0 x1).bind fun (v3, X2) =>
  if v3 = 0 then (some ((-1000001), X2)) else ((gR X2 x0 0 4).bind fun v5 =>
  (gR X2 v5 1 3).bind fun v6 =>
  (gA X2 v6 0 x1).bind fun v7 =>
  if v7 = 60 then (some ((-1000003), X2)) else ((ck X2 x0 0).bind fun _ =>
  (fX0_keep X2 x0).bind fun X10 =>
  (gR X10 x0 0 4).bind fun v12 =>
  (ck X10 v12 1).bind fun _ =>
  (fX1_mend X10 v12 x1).bind fun (v15, X14) =>
  some (v15, X14)))
theorem wX0_mend_0 (E : xE p m c cX0_mend 2 s args RX0 D cA A Zs meth (some .int)) {X : AH} {x0 : Nat} {x1 : Int32} (hf : fX0_mend X x0 x1 = some (r, Xf)) : ∀ (H : Heap) (locs : List Loc) (ls : Array Slot) (cells slots : Nat), cells + 8 ≤ 8 → slots + 52 ≤ 52 → xR D cA A Zs X H → va_S A s.heap H locs → lv_has ls 2 [(0, .ref x0), (1, .int x1)] → W p l e rmX0_mend s m args below meth c H locs cells slots (MQ below (xQi D cA A Zs r Xf) args s 8 52 A) (F0 m 0 ls []) := by
  intro H locs ls cells slots hc hs hR hS hl
  refine lv_aload_n E.hx E.hb dX0_mend_0 rfl (lv_at hl 0 rfl) ?_
  refine lv_iload_n E.hx E.hb dX0_mend_1 rfl (lv_at hl 1 rfl) ?_
  obtain ⟨u1, hu1, hf⟩ := bd_e hf
  obtain ⟨⟨v3, X2⟩, hv3, hf⟩ := bd_e hf
  refine xrun_i (va_runV (As := [.int x1]) (rest := []) E.1 (tX0_isChair l hv3) (cwX0_196 E.ht ⟨Nat.le_of_ble_eq_true rfl, Nat.le_of_ble_eq_true rfl⟩) (xPreV (ci := 0) E hR hS rfl (ck_e hu1)) rfl rfl hl.1 rfl (lv_room (Nat.le_of_ble_eq_true rfl)) dX0_mend_2 ⟨Nat.le_trans (by omega) (Nat.le_refl 8), Nat.le_trans (by omega) (Nat.le_refl 52)⟩) hS (fun H locs hR hS => ?_)
  refine lv_if_ne (tgt := 11) E.hx E.hb dX0_mend_5 (by decide) (fun c4 => ?_) (fun c4 => ?_)
  · have hf := it_f hf c4
    refine lv_aload_n E.hx E.hb dX0_mend_11 rfl (lv_at hl 0 rfl) ?_
    obtain ⟨v5, hv5, hf⟩ := bd_e hf
    refine xgX0_39 E hR hv5 dX0_mend_12 ?_
    obtain ⟨v6, hv6, hf⟩ := bd_e hf
    refine xgX0_208 E hR hv6 dX0_mend_15 ?_
    refine lv_iload_n E.hx E.hb dX0_mend_18 rfl (lv_at hl 1 rfl) ?_
    obtain ⟨v7, hv7, hf⟩ := bd_e hf
    refine xild E hR hv7 dX0_mend_19 ?_
    refine lv_bipush (v := 60) E.hx E.hb dX0_mend_20 (by decide) ?_
    refine lv_icmp_ne (tgt := 28) E.hx E.hb dX0_mend_22 (by decide) (fun c8 => ?_) (fun c8 => ?_)
    · have hf := it_f hf c8
      refine lv_aload_n E.hx E.hb dX0_mend_28 rfl (lv_at hl 0 rfl) ?_
      obtain ⟨u9, hu9, hf⟩ := bd_e hf
      obtain ⟨X10, hX10, hf⟩ := bd_e hf
      refine xrun_v (va_runV (As := []) (rest := []) E.1 (tX0_keep l hX10) (cwX0_186 E.ht ⟨Nat.le_of_ble_eq_true rfl, Nat.le_of_ble_eq_true rfl⟩) (xPreV (ci := 0) E hR hS rfl (ck_e hu9)) rfl rfl hl.1 rfl (lv_room (Nat.le_of_ble_eq_true rfl)) dX0_mend_29 ⟨Nat.le_trans (by omega) (Nat.le_refl 8), Nat.le_trans (by omega) (Nat.le_refl 52)⟩) hS (fun H locs hR hS => ?_)
      refine lv_aload_n E.hx E.hb dX0_mend_32 rfl (lv_at hl 0 rfl) ?_
      obtain ⟨v12, hv12, hf⟩ := bd_e hf
      refine xgX0_39 E hR hv12 dX0_mend_33 ?_
      refine lv_iload_n E.hx E.hb dX0_mend_36 rfl (lv_at hl 1 rfl) ?_
      obtain ⟨u13, hu13, hf⟩ := bd_e hf
      obtain ⟨⟨v15, X14⟩, hv15, hf⟩ := bd_e hf
      refine xrun_i (va_runV (As := [.int x1]) (rest := []) E.1 (tX1_mend l hv15) (cwX0_211 E.ht ⟨Nat.le_of_ble_eq_true rfl, Nat.le_of_ble_eq_true rfl⟩) (xPreV (ci := 1) E hR hS rfl (ck_e hu13)) rfl rfl hl.1 rfl (lv_room (Nat.le_of_ble_eq_true rfl)) dX0_mend_37 ⟨Nat.le_trans (by omega) (Nat.le_refl 8), Nat.le_trans (by omega) (Nat.le_refl 52)⟩) hS (fun H locs hR hS => ?_)
      obtain ⟨rfl, rfl⟩ := rt_e hf
      exact xret_i E (by omega) (by omega) hR hS dX0_mend_40
    · have hf := it_t hf c8
      refine lv_ldc (v := (-1000003)) E.hx E.hb E.ho (E.ht _ q473) dX0_mend_25 ?_
      obtain ⟨rfl, rfl⟩ := rt_e hf
      exact xret_i E (by omega) (by omega) hR hS dX0_mend_27
  · have hf := it_t hf c4
    refine lv_ldc (v := (-1000001)) E.hx E.hb E.ho (E.ht _ q319) dX0_mend_8 ?_
    obtain ⟨rfl, rfl⟩ := rt_e hf
    exact xret_i E (by omega) (by omega) hR hS dX0_mend_10
theorem tX0_mend (l : Launch) {D : va_G} {cA : Nat → ClassId} {A : Nat → Prop} {Zs : XZ} {X Xf : AH} {x0 : Nat} {x1 : Int32} {r : Int32} (hf : fX0_mend X x0 x1 = some (r, Xf)) : Met l yX0_mend (ws_ yX0_mend cX0_mend 2 (some .int)) rmX0_mend (xPc D cA A Zs X [.ref x0, .int x1]) (xQi D cA A Zs r Xf) 8 52 A := by
  refine Met.ofW (cc := cX0_mend) (maxL := 2) (ret := (some .int)) (by decide) rfl ?_
  intro p e s m args below meth c s₁ B hml hv
  obtain ⟨rfl, hR, hK⟩ := hv
  have hts := atoms_spec (ws := (ws_ yX0_mend cX0_mend 2 (some .int))) B.pre
  rw [lg_entry_eq]
  exact wX0_mend_0 (E := ⟨⟨B.exec, B.bytes, hml, findClass_of_methodNamed B.named, fun w h => hts w (List.mem_cons_of_mem _ h)⟩, hK, B.returns, B.notSynchronized⟩) hf _ _ _ 0 0 (Nat.le_of_ble_eq_true rfl) (Nat.le_of_ble_eq_true rfl) hR va_S.rf (lv_entry [.ref x0, .int x1] (n := 2) (Nat.le_of_ble_eq_true rfl))
end
abbrev rmX0_watch : Room := { frames := 6, cells := 8, slots := 52, locals := 114 }
theorem cwX0_214 {R : Room} {s : State} {args : Array Value} (ht : ∀ w ∈ lw_all, w.before args s = true) (hR : rmX0_isHalf.frames + 1 ≤ R.frames ∧ 8 + (1 + 11) + rmX0_isHalf.locals ≤ R.locals) : CallB R s args RX0 214 yX0_isHalf cX0_isHalf 1 (some .boolean) (ws_ yX0_isHalf cX0_isHalf 1 (some .boolean)) rmX0_isHalf 0 0 1 ∧ (Cond.static yX0_isHalf).before args s = true :=
  va_cwS 1 ht (lw_S q863 q864 q68 q865) rfl rfl rfl (by decide +kernel) hR
section
variable {p : Program} {l : Launch} {e : Env} {s : State} {m : MethodId} {args : Array Value} {below : List Frame} {meth : Method} {c : Code} {D : va_G} {cA : Nat → ClassId} {A : Nat → Prop} {Zs : XZ} {Xf : AH} {r : Int32} {rl : Int64} {ra : Nat} {tv : Unit ⊕ Nat} {ti : Int32 ⊕ Nat} {tr : Nat ⊕ Nat} {q2 : Option Nat}
def fX0_watch_b64  (X : AH) (x0 : Nat) (x1 : Int32) : Option (Int32 × AH) :=
  (ck X x0 0).bind fun _ =>
  (fX0_keep X x0).bind fun X2 =>
  (gR X2 x0 0 4).bind fun v4 =>
  (gI X2 v4 1 8).bind fun v5 =>
  (pF X2 v4 1 8 (.int (v5 ^^^ (1 <<< (x1 &&& 31))))).bind fun X6 =>
  (gR X6 x0 0 4).bind fun v7 =>
  (gI X6 v7 1 8).bind fun v8 =>
  some (v8, X6)
theorem wX0_watch_b64 (E : xE p m c cX0_watch 3 s args RX0 D cA A Zs meth (some .int)) {X : AH} {x0 : Nat} {x1 : Int32} (hf : fX0_watch_b64 X x0 x1 = some (r, Xf)) : ∀ (H : Heap) (locs : List Loc) (ls : Array Slot) (cells slots : Nat), cells + 8 ≤ 8 → slots + 52 ≤ 52 → xR D cA A Zs X H → va_S A s.heap H locs → lv_has ls 3 [(0, .ref x0), (1, .int x1)] → W p l e rmX0_watch s m args below meth c H locs cells slots (MQ below (xQi D cA A Zs r Xf) args s 8 52 A) (F0 m 64 ls []) := by
  intro H locs ls cells slots hc hs hR hS hl
  refine lv_aload_n E.hx E.hb dX0_watch_64 rfl (lv_at hl 0 rfl) ?_
  obtain ⟨u1, hu1, hf⟩ := bd_e hf
  obtain ⟨X2, hX2, hf⟩ := bd_e hf
  refine xrun_v (va_runV (As := []) (rest := []) E.1 (tX0_keep l hX2) (cwX0_186 E.ht ⟨Nat.le_of_ble_eq_true rfl, Nat.le_of_ble_eq_true rfl⟩) (xPreV (ci := 0) E hR hS rfl (ck_e hu1)) rfl rfl hl.1 rfl (lv_room (Nat.le_of_ble_eq_true rfl)) dX0_watch_65 ⟨Nat.le_trans (by omega) (Nat.le_refl 8), Nat.le_trans (by omega) (Nat.le_refl 52)⟩) hS (fun H locs hR hS => ?_)
  refine lv_aload_n E.hx E.hb dX0_watch_68 rfl (lv_at hl 0 rfl) ?_
  obtain ⟨v4, hv4, hf⟩ := bd_e hf
  refine xgX0_39 E hR hv4 dX0_watch_69 ?_
  refine lv_dup E.hx E.hb dX0_watch_72 rfl ?_
  obtain ⟨v5, hv5, hf⟩ := bd_e hf
  refine xgX0_217 E hR hv5 dX0_watch_73 ?_
  refine lv_iconst (v := 1) E.hx E.hb dX0_watch_76 (by decide) ?_
  refine lv_iload_n E.hx E.hb dX0_watch_77 rfl (lv_at hl 1 rfl) ?_
  refine lv_ishl E.hx E.hb dX0_watch_78 ?_
  refine lv_ixor E.hx E.hb dX0_watch_79 ?_
  obtain ⟨X6, hX6, hf⟩ := bd_e hf
  refine xpX0_217 E hR hS hX6 dX0_watch_80 (fun H locs hR hS => ?_)
  refine lv_aload_n E.hx E.hb dX0_watch_83 rfl (lv_at hl 0 rfl) ?_
  obtain ⟨v7, hv7, hf⟩ := bd_e hf
  refine xgX0_39 E hR hv7 dX0_watch_84 ?_
  obtain ⟨v8, hv8, hf⟩ := bd_e hf
  refine xgX0_217 E hR hv8 dX0_watch_87 ?_
  obtain ⟨rfl, rfl⟩ := rt_e hf
  exact xret_i E (by omega) (by omega) hR hS dX0_watch_90
def fX0_watch  (X : AH) (x0 : Nat) (x1 : Int32) (x2 : Int32) : Option (Int32 × AH) :=
  (ck X x0 0).bind fun _ =>
  (fX0_isChair X x0 x1).bind fun (v3, X2) =>
  if v3 = 0 then (some ((-1000001), X2)) else ((fX0_isHalf x2).bind fun v5 =>
  if v5 = 0 then (some ((-1000001), X2)) else ((gR X2 x0 0 4).bind fun v7 =>
  (gI X2 v7 1 8).bind fun v8 =>
  if ((v8 >>> (x1 &&& 31)) &&& 1) = x2 then (some ((-1000002), X2)) else (if x2 = 1 then ((gR X2 x0 0 4).bind fun v11 =>
  (gI X2 v11 1 8).bind fun v12 =>
  (fJ16_bitCount v12).bind fun v13 =>
  (gR X2 x0 0 4).bind fun v14 =>
  (gI X2 v14 1 0).bind fun v15 =>
  if v13 < v15 then (fX0_watch_b64 X2 x0 x1) else (some ((-1000003), X2))) else (fX0_watch_b64 X2 x0 x1))))
theorem wX0_watch_0 (E : xE p m c cX0_watch 3 s args RX0 D cA A Zs meth (some .int)) {X : AH} {x0 : Nat} {x1 : Int32} {x2 : Int32} (hf : fX0_watch X x0 x1 x2 = some (r, Xf)) : ∀ (H : Heap) (locs : List Loc) (ls : Array Slot) (cells slots : Nat), cells + 8 ≤ 8 → slots + 52 ≤ 52 → xR D cA A Zs X H → va_S A s.heap H locs → lv_has ls 3 [(0, .ref x0), (1, .int x1), (2, .int x2)] → W p l e rmX0_watch s m args below meth c H locs cells slots (MQ below (xQi D cA A Zs r Xf) args s 8 52 A) (F0 m 0 ls []) := by
  intro H locs ls cells slots hc hs hR hS hl
  refine lv_aload_n E.hx E.hb dX0_watch_0 rfl (lv_at hl 0 rfl) ?_
  refine lv_iload_n E.hx E.hb dX0_watch_1 rfl (lv_at hl 1 rfl) ?_
  obtain ⟨u1, hu1, hf⟩ := bd_e hf
  obtain ⟨⟨v3, X2⟩, hv3, hf⟩ := bd_e hf
  refine xrun_i (va_runV (As := [.int x1]) (rest := []) E.1 (tX0_isChair l hv3) (cwX0_196 E.ht ⟨Nat.le_of_ble_eq_true rfl, Nat.le_of_ble_eq_true rfl⟩) (xPreV (ci := 0) E hR hS rfl (ck_e hu1)) rfl rfl hl.1 rfl (lv_room (Nat.le_of_ble_eq_true rfl)) dX0_watch_2 ⟨Nat.le_trans (by omega) (Nat.le_refl 8), Nat.le_trans (by omega) (Nat.le_refl 52)⟩) hS (fun H locs hR hS => ?_)
  refine lv_if_eq (tgt := 15) E.hx E.hb dX0_watch_5 (by decide) (fun c4 => ?_) (fun c4 => ?_)
  · have hf := it_t hf c4
    refine lv_ldc (v := (-1000001)) E.hx E.hb E.ho (E.ht _ q319) dX0_watch_15 ?_
    obtain ⟨rfl, rfl⟩ := rt_e hf
    exact xret_i E (by omega) (by omega) hR hS dX0_watch_17
  · have hf := it_f hf c4
    refine lv_iload_n E.hx E.hb dX0_watch_8 rfl (lv_at hl 2 rfl) ?_
    obtain ⟨v5, hv5, hf⟩ := bd_e hf
    refine scall_i (rest := []) E.1 (tX0_isHalf l hv5) (cwX0_214 E.ht ⟨Nat.le_of_ble_eq_true rfl, Nat.le_of_ble_eq_true rfl⟩) rfl hl.1 rfl (Nat.le_of_ble_eq_true rfl) dX0_watch_9 ⟨Nat.le_trans (by omega) (Nat.le_refl 8), Nat.le_trans (by omega) (Nat.le_refl 52)⟩ ?_
    refine lv_if_ne (tgt := 18) E.hx E.hb dX0_watch_12 (by decide) (fun c6 => ?_) (fun c6 => ?_)
    · have hf := it_f hf c6
      refine lv_aload_n E.hx E.hb dX0_watch_18 rfl (lv_at hl 0 rfl) ?_
      obtain ⟨v7, hv7, hf⟩ := bd_e hf
      refine xgX0_39 E hR hv7 dX0_watch_19 ?_
      obtain ⟨v8, hv8, hf⟩ := bd_e hf
      refine xgX0_217 E hR hv8 dX0_watch_22 ?_
      refine lv_iload_n E.hx E.hb dX0_watch_25 rfl (lv_at hl 1 rfl) ?_
      refine lv_ishr E.hx E.hb dX0_watch_26 ?_
      refine lv_iconst (v := 1) E.hx E.hb dX0_watch_27 (by decide) ?_
      refine lv_iand E.hx E.hb dX0_watch_28 ?_
      refine lv_iload_n E.hx E.hb dX0_watch_29 rfl (lv_at hl 2 rfl) ?_
      refine lv_icmp_ne (tgt := 36) E.hx E.hb dX0_watch_30 (by decide) (fun c9 => ?_) (fun c9 => ?_)
      · have hf := it_f hf c9
        refine lv_iload_n E.hx E.hb dX0_watch_36 rfl (lv_at hl 2 rfl) ?_
        refine lv_iconst (v := 1) E.hx E.hb dX0_watch_37 (by decide) ?_
        refine lv_icmp_ne (tgt := 64) E.hx E.hb dX0_watch_38 (by decide) (fun c10 => ?_) (fun c10 => ?_)
        · have hf := it_f hf c10
          exact wX0_watch_b64 E  hf _ _ _ _ _ (by omega) (by omega) hR hS (lv_sub hl [0, 1] rfl)
        · have hf := it_t hf c10
          refine lv_aload_n E.hx E.hb dX0_watch_41 rfl (lv_at hl 0 rfl) ?_
          obtain ⟨v11, hv11, hf⟩ := bd_e hf
          refine xgX0_39 E hR hv11 dX0_watch_42 ?_
          obtain ⟨v12, hv12, hf⟩ := bd_e hf
          refine xgX0_217 E hR hv12 dX0_watch_45 ?_
          obtain ⟨v13, hv13, hf⟩ := bd_e hf
          refine scall_i (rest := []) E.1 (tJ16_bitCount l hv13) (cwX0_220 E.ht ⟨Nat.le_of_ble_eq_true rfl, Nat.le_of_ble_eq_true rfl⟩) rfl hl.1 rfl (Nat.le_of_ble_eq_true rfl) dX0_watch_48 ⟨Nat.le_trans (by omega) (Nat.le_refl 8), Nat.le_trans (by omega) (Nat.le_refl 52)⟩ ?_
          refine lv_aload_n E.hx E.hb dX0_watch_51 rfl (lv_at hl 0 rfl) ?_
          obtain ⟨v14, hv14, hf⟩ := bd_e hf
          refine xgX0_39 E hR hv14 dX0_watch_52 ?_
          obtain ⟨v15, hv15, hf⟩ := bd_e hf
          refine xgX0_225 E hR hv15 dX0_watch_55 ?_
          refine lv_icmp_lt (tgt := 64) E.hx E.hb dX0_watch_58 (by decide) (fun c16 => ?_) (fun c16 => ?_)
          · have hf := it_t hf c16
            exact wX0_watch_b64 E  hf _ _ _ _ _ (by omega) (by omega) hR hS (lv_sub hl [0, 1] rfl)
          · have hf := it_f hf c16
            refine lv_ldc (v := (-1000003)) E.hx E.hb E.ho (E.ht _ q473) dX0_watch_61 ?_
            obtain ⟨rfl, rfl⟩ := rt_e hf
            exact xret_i E (by omega) (by omega) hR hS dX0_watch_63
      · have hf := it_t hf c9
        refine lv_ldc (v := (-1000002)) E.hx E.hb E.ho (E.ht _ q733) dX0_watch_33 ?_
        obtain ⟨rfl, rfl⟩ := rt_e hf
        exact xret_i E (by omega) (by omega) hR hS dX0_watch_35
    · have hf := it_t hf c6
      refine lv_ldc (v := (-1000001)) E.hx E.hb E.ho (E.ht _ q319) dX0_watch_15 ?_
      obtain ⟨rfl, rfl⟩ := rt_e hf
      exact xret_i E (by omega) (by omega) hR hS dX0_watch_17
theorem tX0_watch (l : Launch) {D : va_G} {cA : Nat → ClassId} {A : Nat → Prop} {Zs : XZ} {X Xf : AH} {x0 : Nat} {x1 : Int32} {x2 : Int32} {r : Int32} (hf : fX0_watch X x0 x1 x2 = some (r, Xf)) : Met l yX0_watch (ws_ yX0_watch cX0_watch 3 (some .int)) rmX0_watch (xPc D cA A Zs X [.ref x0, .int x1, .int x2]) (xQi D cA A Zs r Xf) 8 52 A := by
  refine Met.ofW (cc := cX0_watch) (maxL := 3) (ret := (some .int)) (by decide) rfl ?_
  intro p e s m args below meth c s₁ B hml hv
  obtain ⟨rfl, hR, hK⟩ := hv
  have hts := atoms_spec (ws := (ws_ yX0_watch cX0_watch 3 (some .int))) B.pre
  rw [lg_entry_eq]
  exact wX0_watch_0 (E := ⟨⟨B.exec, B.bytes, hml, findClass_of_methodNamed B.named, fun w h => hts w (List.mem_cons_of_mem _ h)⟩, hK, B.returns, B.notSynchronized⟩) hf _ _ _ 0 0 (Nat.le_of_ble_eq_true rfl) (Nat.le_of_ble_eq_true rfl) hR va_S.rf (lv_entry [.ref x0, .int x1, .int x2] (n := 3) (Nat.le_of_ble_eq_true rfl))
end
abbrev rmX0_change : Room := { frames := 11, cells := 8, slots := 52, locals := 228 }
theorem cwX0_228 {R : Room} {s : State} {args : Array Value} (ht : ∀ w ∈ lw_all, w.before args s = true) (hR : rmX1_change.frames + 1 ≤ R.frames ∧ 8 + (3 + 11) + rmX1_change.locals ≤ R.locals) : CallW R s args RX0 RX1 228 yX1_change cX1_change 3 none (ws_ yX1_change cX1_change 3 none) rmX1_change 0 0 2 :=
  cwV 2 ht (lw_V q876 q877 q878 q69 q879) rfl rfl rfl (by decide +kernel) hR
theorem cwX0_231 {R : Room} {s : State} {args : Array Value} (ht : ∀ w ∈ lw_all, w.before args s = true) (hR : rmX1_victim.frames + 1 ≤ R.frames ∧ 8 + (2 + 11) + rmX1_victim.locals ≤ R.locals) : CallW R s args RX0 RX1 231 yX1_victim cX1_victim 2 (some .int) (ws_ yX1_victim cX1_victim 2 (some .int)) rmX1_victim 0 0 1 :=
  cwV 1 ht (lw_V q883 q753 q754 q69 q755) rfl rfl rfl (by decide +kernel) hR
section
variable {p : Program} {l : Launch} {e : Env} {s : State} {m : MethodId} {args : Array Value} {below : List Frame} {meth : Method} {c : Code} {D : va_G} {cA : Nat → ClassId} {A : Nat → Prop} {Zs : XZ} {Xf : AH} {r : Int32} {rl : Int64} {ra : Nat} {tv : Unit ⊕ Nat} {ti : Int32 ⊕ Nat} {tr : Nat ⊕ Nat} {q2 : Option Nat}
def fX0_change  (X : AH) (x0 : Nat) (x1 : Int32) (x2 : Int32) : Option (Int32 × AH) :=
  (ck X x0 0).bind fun _ =>
  (fX0_isChair X x0 x1).bind fun (v3, X2) =>
  if v3 = 0 then (some ((-1000001), X2)) else ((ck X2 x0 0).bind fun _ =>
  (fX0_isChair X2 x0 x2).bind fun (v7, X6) =>
  if v7 = 0 then (some ((-1000001), X6)) else (if x1 = x2 then (some ((-1000001), X6)) else ((ck X6 x0 0).bind fun _ =>
  (fX0_keep X6 x0).bind fun X11 =>
  (gR X11 x0 0 4).bind fun v13 =>
  (ck X11 v13 1).bind fun _ =>
  (fX1_change X11 v13 x1 x2).bind fun X15 =>
  (gR X15 x0 0 4).bind fun v17 =>
  (ck X15 v17 1).bind fun _ =>
  (fX1_victim X15 v17 x1).bind fun (v20, X19) =>
  some (v20, X19))))
theorem wX0_change_0 (E : xE p m c cX0_change 3 s args RX0 D cA A Zs meth (some .int)) {X : AH} {x0 : Nat} {x1 : Int32} {x2 : Int32} (hf : fX0_change X x0 x1 x2 = some (r, Xf)) : ∀ (H : Heap) (locs : List Loc) (ls : Array Slot) (cells slots : Nat), cells + 8 ≤ 8 → slots + 52 ≤ 52 → xR D cA A Zs X H → va_S A s.heap H locs → lv_has ls 3 [(0, .ref x0), (1, .int x1), (2, .int x2)] → W p l e rmX0_change s m args below meth c H locs cells slots (MQ below (xQi D cA A Zs r Xf) args s 8 52 A) (F0 m 0 ls []) := by
  intro H locs ls cells slots hc hs hR hS hl
  refine lv_aload_n E.hx E.hb dX0_change_0 rfl (lv_at hl 0 rfl) ?_
  refine lv_iload_n E.hx E.hb dX0_change_1 rfl (lv_at hl 1 rfl) ?_
  obtain ⟨u1, hu1, hf⟩ := bd_e hf
  obtain ⟨⟨v3, X2⟩, hv3, hf⟩ := bd_e hf
  refine xrun_i (va_runV (As := [.int x1]) (rest := []) E.1 (tX0_isChair l hv3) (cwX0_196 E.ht ⟨Nat.le_of_ble_eq_true rfl, Nat.le_of_ble_eq_true rfl⟩) (xPreV (ci := 0) E hR hS rfl (ck_e hu1)) rfl rfl hl.1 rfl (lv_room (Nat.le_of_ble_eq_true rfl)) dX0_change_2 ⟨Nat.le_trans (by omega) (Nat.le_refl 8), Nat.le_trans (by omega) (Nat.le_refl 52)⟩) hS (fun H locs hR hS => ?_)
  refine lv_if_eq (tgt := 21) E.hx E.hb dX0_change_5 (by decide) (fun c4 => ?_) (fun c4 => ?_)
  · have hf := it_t hf c4
    refine lv_ldc (v := (-1000001)) E.hx E.hb E.ho (E.ht _ q319) dX0_change_21 ?_
    obtain ⟨rfl, rfl⟩ := rt_e hf
    exact xret_i E (by omega) (by omega) hR hS dX0_change_23
  · have hf := it_f hf c4
    refine lv_aload_n E.hx E.hb dX0_change_8 rfl (lv_at hl 0 rfl) ?_
    refine lv_iload_n E.hx E.hb dX0_change_9 rfl (lv_at hl 2 rfl) ?_
    obtain ⟨u5, hu5, hf⟩ := bd_e hf
    obtain ⟨⟨v7, X6⟩, hv7, hf⟩ := bd_e hf
    refine xrun_i (va_runV (As := [.int x2]) (rest := []) E.1 (tX0_isChair l hv7) (cwX0_196 E.ht ⟨Nat.le_of_ble_eq_true rfl, Nat.le_of_ble_eq_true rfl⟩) (xPreV (ci := 0) E hR hS rfl (ck_e hu5)) rfl rfl hl.1 rfl (lv_room (Nat.le_of_ble_eq_true rfl)) dX0_change_10 ⟨Nat.le_trans (by omega) (Nat.le_refl 8), Nat.le_trans (by omega) (Nat.le_refl 52)⟩) hS (fun H locs hR hS => ?_)
    refine lv_if_eq (tgt := 21) E.hx E.hb dX0_change_13 (by decide) (fun c8 => ?_) (fun c8 => ?_)
    · have hf := it_t hf c8
      refine lv_ldc (v := (-1000001)) E.hx E.hb E.ho (E.ht _ q319) dX0_change_21 ?_
      obtain ⟨rfl, rfl⟩ := rt_e hf
      exact xret_i E (by omega) (by omega) hR hS dX0_change_23
    · have hf := it_f hf c8
      refine lv_iload_n E.hx E.hb dX0_change_16 rfl (lv_at hl 1 rfl) ?_
      refine lv_iload_n E.hx E.hb dX0_change_17 rfl (lv_at hl 2 rfl) ?_
      refine lv_icmp_ne (tgt := 24) E.hx E.hb dX0_change_18 (by decide) (fun c9 => ?_) (fun c9 => ?_)
      · have hf := it_f hf c9
        refine lv_aload_n E.hx E.hb dX0_change_24 rfl (lv_at hl 0 rfl) ?_
        obtain ⟨u10, hu10, hf⟩ := bd_e hf
        obtain ⟨X11, hX11, hf⟩ := bd_e hf
        refine xrun_v (va_runV (As := []) (rest := []) E.1 (tX0_keep l hX11) (cwX0_186 E.ht ⟨Nat.le_of_ble_eq_true rfl, Nat.le_of_ble_eq_true rfl⟩) (xPreV (ci := 0) E hR hS rfl (ck_e hu10)) rfl rfl hl.1 rfl (lv_room (Nat.le_of_ble_eq_true rfl)) dX0_change_25 ⟨Nat.le_trans (by omega) (Nat.le_refl 8), Nat.le_trans (by omega) (Nat.le_refl 52)⟩) hS (fun H locs hR hS => ?_)
        refine lv_aload_n E.hx E.hb dX0_change_28 rfl (lv_at hl 0 rfl) ?_
        obtain ⟨v13, hv13, hf⟩ := bd_e hf
        refine xgX0_39 E hR hv13 dX0_change_29 ?_
        refine lv_iload_n E.hx E.hb dX0_change_32 rfl (lv_at hl 1 rfl) ?_
        refine lv_iload_n E.hx E.hb dX0_change_33 rfl (lv_at hl 2 rfl) ?_
        obtain ⟨u14, hu14, hf⟩ := bd_e hf
        obtain ⟨X15, hX15, hf⟩ := bd_e hf
        refine xrun_v (va_runV (As := [.int x1, .int x2]) (rest := []) E.1 (tX1_change l hX15) (cwX0_228 E.ht ⟨Nat.le_of_ble_eq_true rfl, Nat.le_of_ble_eq_true rfl⟩) (xPreV (ci := 1) E hR hS rfl (ck_e hu14)) rfl rfl hl.1 rfl (lv_room (Nat.le_of_ble_eq_true rfl)) dX0_change_34 ⟨Nat.le_trans (by omega) (Nat.le_refl 8), Nat.le_trans (by omega) (Nat.le_refl 52)⟩) hS (fun H locs hR hS => ?_)
        refine lv_aload_n E.hx E.hb dX0_change_37 rfl (lv_at hl 0 rfl) ?_
        obtain ⟨v17, hv17, hf⟩ := bd_e hf
        refine xgX0_39 E hR hv17 dX0_change_38 ?_
        refine lv_iload_n E.hx E.hb dX0_change_41 rfl (lv_at hl 1 rfl) ?_
        obtain ⟨u18, hu18, hf⟩ := bd_e hf
        obtain ⟨⟨v20, X19⟩, hv20, hf⟩ := bd_e hf
        refine xrun_i (va_runV (As := [.int x1]) (rest := []) E.1 (tX1_victim l hv20) (cwX0_231 E.ht ⟨Nat.le_of_ble_eq_true rfl, Nat.le_of_ble_eq_true rfl⟩) (xPreV (ci := 1) E hR hS rfl (ck_e hu18)) rfl rfl hl.1 rfl (lv_room (Nat.le_of_ble_eq_true rfl)) dX0_change_42 ⟨Nat.le_trans (by omega) (Nat.le_refl 8), Nat.le_trans (by omega) (Nat.le_refl 52)⟩) hS (fun H locs hR hS => ?_)
        obtain ⟨rfl, rfl⟩ := rt_e hf
        exact xret_i E (by omega) (by omega) hR hS dX0_change_45
      · have hf := it_t hf c9
        refine lv_ldc (v := (-1000001)) E.hx E.hb E.ho (E.ht _ q319) dX0_change_21 ?_
        obtain ⟨rfl, rfl⟩ := rt_e hf
        exact xret_i E (by omega) (by omega) hR hS dX0_change_23
theorem tX0_change (l : Launch) {D : va_G} {cA : Nat → ClassId} {A : Nat → Prop} {Zs : XZ} {X Xf : AH} {x0 : Nat} {x1 : Int32} {x2 : Int32} {r : Int32} (hf : fX0_change X x0 x1 x2 = some (r, Xf)) : Met l yX0_change (ws_ yX0_change cX0_change 3 (some .int)) rmX0_change (xPc D cA A Zs X [.ref x0, .int x1, .int x2]) (xQi D cA A Zs r Xf) 8 52 A := by
  refine Met.ofW (cc := cX0_change) (maxL := 3) (ret := (some .int)) (by decide) rfl ?_
  intro p e s m args below meth c s₁ B hml hv
  obtain ⟨rfl, hR, hK⟩ := hv
  have hts := atoms_spec (ws := (ws_ yX0_change cX0_change 3 (some .int))) B.pre
  rw [lg_entry_eq]
  exact wX0_change_0 (E := ⟨⟨B.exec, B.bytes, hml, findClass_of_methodNamed B.named, fun w h => hts w (List.mem_cons_of_mem _ h)⟩, hK, B.returns, B.notSynchronized⟩) hf _ _ _ 0 0 (Nat.le_of_ble_eq_true rfl) (Nat.le_of_ble_eq_true rfl) hR va_S.rf (lv_entry [.ref x0, .int x1, .int x2] (n := 3) (Nat.le_of_ble_eq_true rfl))
end
abbrev rmX0_saw : Room := { frames := 7, cells := 8, slots := 52, locals := 138 }
section
variable {p : Program} {l : Launch} {e : Env} {s : State} {m : MethodId} {args : Array Value} {below : List Frame} {meth : Method} {c : Code} {D : va_G} {cA : Nat → ClassId} {A : Nat → Prop} {Zs : XZ} {Xf : AH} {r : Int32} {rl : Int64} {ra : Nat} {tv : Unit ⊕ Nat} {ti : Int32 ⊕ Nat} {tr : Nat ⊕ Nat} {q2 : Option Nat}
def fX0_saw  (X : AH) (x0 : Nat) (x1 : Int32) (x2 : Int32) : Option (Int32 × AH) :=
  (ck X x0 0).bind fun _ =>
  (fX0_isChair X x0 x1).bind fun (v3, X2) =>
  if v3 = 0 then (some ((-1000001), X2)) else ((fX0_isIn (x2.toInt64) 0 9).bind fun v5 =>
  if v5 = 0 then (some ((-1000001), X2)) else ((gR X2 x0 0 4).bind fun v7 =>
  (gR X2 v7 1 5).bind fun v8 =>
  (ck X2 x0 0).bind fun _ =>
  (fX0_puts X2 x0 v8 x1 x2).bind fun (v11, X10) =>
  some (v11, X10)))
theorem wX0_saw_0 (E : xE p m c cX0_saw 3 s args RX0 D cA A Zs meth (some .int)) {X : AH} {x0 : Nat} {x1 : Int32} {x2 : Int32} (hf : fX0_saw X x0 x1 x2 = some (r, Xf)) : ∀ (H : Heap) (locs : List Loc) (ls : Array Slot) (cells slots : Nat), cells + 8 ≤ 8 → slots + 52 ≤ 52 → xR D cA A Zs X H → va_S A s.heap H locs → lv_has ls 3 [(0, .ref x0), (1, .int x1), (2, .int x2)] → W p l e rmX0_saw s m args below meth c H locs cells slots (MQ below (xQi D cA A Zs r Xf) args s 8 52 A) (F0 m 0 ls []) := by
  intro H locs ls cells slots hc hs hR hS hl
  refine lv_aload_n E.hx E.hb dX0_saw_0 rfl (lv_at hl 0 rfl) ?_
  refine lv_iload_n E.hx E.hb dX0_saw_1 rfl (lv_at hl 1 rfl) ?_
  obtain ⟨u1, hu1, hf⟩ := bd_e hf
  obtain ⟨⟨v3, X2⟩, hv3, hf⟩ := bd_e hf
  refine xrun_i (va_runV (As := [.int x1]) (rest := []) E.1 (tX0_isChair l hv3) (cwX0_196 E.ht ⟨Nat.le_of_ble_eq_true rfl, Nat.le_of_ble_eq_true rfl⟩) (xPreV (ci := 0) E hR hS rfl (ck_e hu1)) rfl rfl hl.1 rfl (lv_room (Nat.le_of_ble_eq_true rfl)) dX0_saw_2 ⟨Nat.le_trans (by omega) (Nat.le_refl 8), Nat.le_trans (by omega) (Nat.le_refl 52)⟩) hS (fun H locs hR hS => ?_)
  refine lv_if_eq (tgt := 36) E.hx E.hb dX0_saw_5 (by decide) (fun c4 => ?_) (fun c4 => ?_)
  · have hf := it_t hf c4
    refine lv_ldc (v := (-1000001)) E.hx E.hb E.ho (E.ht _ q319) dX0_saw_36 ?_
    obtain ⟨rfl, rfl⟩ := rt_e hf
    exact xret_i E (by omega) (by omega) hR hS dX0_saw_38
  · have hf := it_f hf c4
    refine lv_iload_n E.hx E.hb dX0_saw_8 rfl (lv_at hl 2 rfl) ?_
    refine lv_i2l E.hx E.hb dX0_saw_9 rfl ?_
    refine lv_lconst (v := 0) E.hx E.hb dX0_saw_10 (by decide) ?_
    refine lv_ldc2 (v := 9) E.hx E.hb E.ho (E.ht _ q888) dX0_saw_11 ?_
    obtain ⟨v5, hv5, hf⟩ := bd_e hf
    refine scall_i (rest := []) E.1 (tX0_isIn l hv5) (cwX0_79 E.ht ⟨Nat.le_of_ble_eq_true rfl, Nat.le_of_ble_eq_true rfl⟩) rfl hl.1 rfl (Nat.le_of_ble_eq_true rfl) dX0_saw_14 ⟨Nat.le_trans (by omega) (Nat.le_refl 8), Nat.le_trans (by omega) (Nat.le_refl 52)⟩ ?_
    refine lv_if_eq (tgt := 36) E.hx E.hb dX0_saw_17 (by decide) (fun c6 => ?_) (fun c6 => ?_)
    · have hf := it_t hf c6
      refine lv_ldc (v := (-1000001)) E.hx E.hb E.ho (E.ht _ q319) dX0_saw_36 ?_
      obtain ⟨rfl, rfl⟩ := rt_e hf
      exact xret_i E (by omega) (by omega) hR hS dX0_saw_38
    · have hf := it_f hf c6
      refine lv_aload_n E.hx E.hb dX0_saw_20 rfl (lv_at hl 0 rfl) ?_
      refine lv_aload_n E.hx E.hb dX0_saw_21 rfl (lv_at hl 0 rfl) ?_
      obtain ⟨v7, hv7, hf⟩ := bd_e hf
      refine xgX0_39 E hR hv7 dX0_saw_22 ?_
      obtain ⟨v8, hv8, hf⟩ := bd_e hf
      refine xgX0_236 E hR hv8 dX0_saw_25 ?_
      refine lv_iload_n E.hx E.hb dX0_saw_28 rfl (lv_at hl 1 rfl) ?_
      refine lv_iload_n E.hx E.hb dX0_saw_29 rfl (lv_at hl 2 rfl) ?_
      obtain ⟨u9, hu9, hf⟩ := bd_e hf
      obtain ⟨⟨v11, X10⟩, hv11, hf⟩ := bd_e hf
      refine xrun_i (va_runV (As := [.ref v8, .int x1, .int x2]) (rest := []) E.1 (tX0_puts l hv11) (cwX0_204 E.ht ⟨Nat.le_of_ble_eq_true rfl, Nat.le_of_ble_eq_true rfl⟩) (xPreV (ci := 0) E hR hS rfl (ck_e hu9)) rfl rfl hl.1 rfl (lv_room (Nat.le_of_ble_eq_true rfl)) dX0_saw_30 ⟨Nat.le_trans (by omega) (Nat.le_refl 8), Nat.le_trans (by omega) (Nat.le_refl 52)⟩) hS (fun H locs hR hS => ?_)
      refine lv_goto (tgt := 38) E.hx E.hb dX0_saw_33 (by decide) ?_
      obtain ⟨rfl, rfl⟩ := rt_e hf
      exact xret_i E (by omega) (by omega) hR hS dX0_saw_38
theorem tX0_saw (l : Launch) {D : va_G} {cA : Nat → ClassId} {A : Nat → Prop} {Zs : XZ} {X Xf : AH} {x0 : Nat} {x1 : Int32} {x2 : Int32} {r : Int32} (hf : fX0_saw X x0 x1 x2 = some (r, Xf)) : Met l yX0_saw (ws_ yX0_saw cX0_saw 3 (some .int)) rmX0_saw (xPc D cA A Zs X [.ref x0, .int x1, .int x2]) (xQi D cA A Zs r Xf) 8 52 A := by
  refine Met.ofW (cc := cX0_saw) (maxL := 3) (ret := (some .int)) (by decide) rfl ?_
  intro p e s m args below meth c s₁ B hml hv
  obtain ⟨rfl, hR, hK⟩ := hv
  have hts := atoms_spec (ws := (ws_ yX0_saw cX0_saw 3 (some .int))) B.pre
  rw [lg_entry_eq]
  exact wX0_saw_0 (E := ⟨⟨B.exec, B.bytes, hml, findClass_of_methodNamed B.named, fun w h => hts w (List.mem_cons_of_mem _ h)⟩, hK, B.returns, B.notSynchronized⟩) hf _ _ _ 0 0 (Nat.le_of_ble_eq_true rfl) (Nat.le_of_ble_eq_true rfl) hR va_S.rf (lv_entry [.ref x0, .int x1, .int x2] (n := 3) (Nat.le_of_ble_eq_true rfl))
end
abbrev rmX0_chair : Room := { frames := 11, cells := 0, slots := 0, locals := 228 }
theorem cwX0_239 {R : Room} {s : State} {args : Array Value} (ht : ∀ w ∈ lw_all, w.before args s = true) (hR : rmX1_high.frames + 1 ≤ R.frames ∧ 8 + (2 + 11) + rmX1_high.locals ≤ R.locals) : CallW R s args RX0 RX1 239 yX1_high cX1_high 2 (some .int) (ws_ yX1_high cX1_high 2 (some .int)) rmX1_high 0 0 1 :=
  cwV 1 ht (lw_V q893 q769 q770 q69 q771) rfl rfl rfl (by decide +kernel) hR
theorem cwX0_242 {R : Room} {s : State} {args : Array Value} (ht : ∀ w ∈ lw_all, w.before args s = true) (hR : rmX1_rank.frames + 1 ≤ R.frames ∧ 8 + (4 + 11) + rmX1_rank.locals ≤ R.locals) : CallW R s args RX0 RX1 242 yX1_rank cX1_rank 4 (some .int) (ws_ yX1_rank cX1_rank 4 (some .int)) rmX1_rank 0 0 1 :=
  cwV 1 ht (lw_V q894 q761 q762 q69 q763) rfl rfl rfl (by decide +kernel) hR
section
variable {p : Program} {l : Launch} {e : Env} {s : State} {m : MethodId} {args : Array Value} {below : List Frame} {meth : Method} {c : Code} {D : va_G} {cA : Nat → ClassId} {A : Nat → Prop} {Zs : XZ} {Xf : AH} {r : Int32} {rl : Int64} {ra : Nat} {tv : Unit ⊕ Nat} {ti : Int32 ⊕ Nat} {tr : Nat ⊕ Nat} {q2 : Option Nat}
def fX0_chair  (X : AH) (x0 : Nat) (x1 : Int32) (x2 : Int32) : Option (Int32 × AH) :=
  (ck X x0 0).bind fun _ =>
  (fX0_isChair X x0 x1).bind fun (v3, X2) =>
  if v3 = 0 then (some ((-1000001), X2)) else (if x2 = 0 then ((gR X2 x0 0 4).bind fun v6 =>
  (gR X2 v6 1 3).bind fun v7 =>
  (gA X2 v7 0 x1).bind fun v8 =>
  some (v8, X2)) else (if x2 = 1 then ((gR X2 x0 0 4).bind fun v10 =>
  (gR X2 v10 1 4).bind fun v11 =>
  (gA X2 v11 0 x1).bind fun v12 =>
  some (v12, X2)) else (if x2 = 2 then ((gR X2 x0 0 4).bind fun v14 =>
  (ck X2 v14 1).bind fun _ =>
  (fX1_high X2 v14 x1).bind fun (v17, X16) =>
  some (v17, X16)) else (if x2 = 3 then ((gR X2 x0 0 4).bind fun v19 =>
  (ck X2 v19 1).bind fun _ =>
  (fX1_rank X2 v19 x1).bind fun (v22, X21) =>
  some (v22, X21)) else (if x2 = 4 then ((gR X2 x0 0 4).bind fun v24 =>
  (gI X2 v24 1 8).bind fun v25 =>
  some (((v25 >>> (x1 &&& 31)) &&& 1), X2)) else (if x2 = 5 then ((gR X2 x0 0 4).bind fun v27 =>
  (gR X2 v27 1 5).bind fun v28 =>
  (gA X2 v28 0 x1).bind fun v29 =>
  some (v29, X2)) else (if x2 = 6 then ((gR X2 x0 0 4).bind fun v31 =>
  (gR X2 v31 1 6).bind fun v32 =>
  (gA X2 v32 0 x1).bind fun v33 =>
  some (v33, X2)) else (if x2 = 7 then ((gR X2 x0 0 4).bind fun v35 =>
  (ck X2 v35 1).bind fun _ =>
  (fX1_victim X2 v35 x1).bind fun (v38, X37) =>
  some (v38, X37)) else (if x2 = 8 then ((gR X2 x0 0 4).bind fun v40 =>
  (gR X2 v40 1 7).bind fun v41 =>
  (gA X2 v41 0 x1).bind fun v42 =>
  some (v42, X2)) else (some ((-1000001), X2)))))))))))
theorem wX0_chair_0 (E : xE p m c cX0_chair 3 s args RX0 D cA A Zs meth (some .int)) {X : AH} {x0 : Nat} {x1 : Int32} {x2 : Int32} (hf : fX0_chair X x0 x1 x2 = some (r, Xf)) : ∀ (H : Heap) (locs : List Loc) (ls : Array Slot) (cells slots : Nat), cells + 0 ≤ 0 → slots + 0 ≤ 0 → xR D cA A Zs X H → va_S A s.heap H locs → lv_has ls 3 [(0, .ref x0), (1, .int x1), (2, .int x2)] → W p l e rmX0_chair s m args below meth c H locs cells slots (MQ below (xQi D cA A Zs r Xf) args s 0 0 A) (F0 m 0 ls []) := by
  intro H locs ls cells slots hc hs hR hS hl
  refine lv_aload_n E.hx E.hb dX0_chair_0 rfl (lv_at hl 0 rfl) ?_
  refine lv_iload_n E.hx E.hb dX0_chair_1 rfl (lv_at hl 1 rfl) ?_
  obtain ⟨u1, hu1, hf⟩ := bd_e hf
  obtain ⟨⟨v3, X2⟩, hv3, hf⟩ := bd_e hf
  refine xrun_i (va_runV (As := [.int x1]) (rest := []) E.1 (tX0_isChair l hv3) (cwX0_196 E.ht ⟨Nat.le_of_ble_eq_true rfl, Nat.le_of_ble_eq_true rfl⟩) (xPreV (ci := 0) E hR hS rfl (ck_e hu1)) rfl rfl hl.1 rfl (lv_room (Nat.le_of_ble_eq_true rfl)) dX0_chair_2 ⟨Nat.le_trans (by omega) (Nat.le_refl 0), Nat.le_trans (by omega) (Nat.le_refl 0)⟩) hS (fun H locs hR hS => ?_)
  refine lv_if_ne (tgt := 11) E.hx E.hb dX0_chair_5 (by decide) (fun c4 => ?_) (fun c4 => ?_)
  · have hf := it_f hf c4
    refine lv_iload_n E.hx E.hb dX0_chair_11 rfl (lv_at hl 2 rfl) ?_
    by_cases c5 : x2 = 0
    · have hf := it_t hf c5
      refine lv_tableIn (tgt := 64) (off := 52) E.hx E.hb dX0_chair_12 (by rw [c5]; decide) (by rw [c5]; decide) (by rw [c5]; rfl) (by decide) ?_
      refine lv_aload_n E.hx E.hb dX0_chair_64 rfl (lv_at hl 0 rfl) ?_
      obtain ⟨v6, hv6, hf⟩ := bd_e hf
      refine xgX0_39 E hR hv6 dX0_chair_65 ?_
      obtain ⟨v7, hv7, hf⟩ := bd_e hf
      refine xgX0_208 E hR hv7 dX0_chair_68 ?_
      refine lv_iload_n E.hx E.hb dX0_chair_71 rfl (lv_at hl 1 rfl) ?_
      obtain ⟨v8, hv8, hf⟩ := bd_e hf
      refine xild E hR hv8 dX0_chair_72 ?_
      obtain ⟨rfl, rfl⟩ := rt_e hf
      exact xret_i E (by omega) (by omega) hR hS dX0_chair_73
    · have hf := it_f hf c5
      by_cases c9 : x2 = 1
      · have hf := it_t hf c9
        refine lv_tableIn (tgt := 74) (off := 62) E.hx E.hb dX0_chair_12 (by rw [c9]; decide) (by rw [c9]; decide) (by rw [c9]; rfl) (by decide) ?_
        refine lv_aload_n E.hx E.hb dX0_chair_74 rfl (lv_at hl 0 rfl) ?_
        obtain ⟨v10, hv10, hf⟩ := bd_e hf
        refine xgX0_39 E hR hv10 dX0_chair_75 ?_
        obtain ⟨v11, hv11, hf⟩ := bd_e hf
        refine xgX0_201 E hR hv11 dX0_chair_78 ?_
        refine lv_iload_n E.hx E.hb dX0_chair_81 rfl (lv_at hl 1 rfl) ?_
        obtain ⟨v12, hv12, hf⟩ := bd_e hf
        refine xild E hR hv12 dX0_chair_82 ?_
        obtain ⟨rfl, rfl⟩ := rt_e hf
        exact xret_i E (by omega) (by omega) hR hS dX0_chair_83
      · have hf := it_f hf c9
        by_cases c13 : x2 = 2
        · have hf := it_t hf c13
          refine lv_tableIn (tgt := 84) (off := 72) E.hx E.hb dX0_chair_12 (by rw [c13]; decide) (by rw [c13]; decide) (by rw [c13]; rfl) (by decide) ?_
          refine lv_aload_n E.hx E.hb dX0_chair_84 rfl (lv_at hl 0 rfl) ?_
          obtain ⟨v14, hv14, hf⟩ := bd_e hf
          refine xgX0_39 E hR hv14 dX0_chair_85 ?_
          refine lv_iload_n E.hx E.hb dX0_chair_88 rfl (lv_at hl 1 rfl) ?_
          obtain ⟨u15, hu15, hf⟩ := bd_e hf
          obtain ⟨⟨v17, X16⟩, hv17, hf⟩ := bd_e hf
          refine xrun_i (va_runV (As := [.int x1]) (rest := []) E.1 (tX1_high l hv17) (cwX0_239 E.ht ⟨Nat.le_of_ble_eq_true rfl, Nat.le_of_ble_eq_true rfl⟩) (xPreV (ci := 1) E hR hS rfl (ck_e hu15)) rfl rfl hl.1 rfl (lv_room (Nat.le_of_ble_eq_true rfl)) dX0_chair_89 ⟨Nat.le_trans (by omega) (Nat.le_refl 0), Nat.le_trans (by omega) (Nat.le_refl 0)⟩) hS (fun H locs hR hS => ?_)
          obtain ⟨rfl, rfl⟩ := rt_e hf
          exact xret_i E (by omega) (by omega) hR hS dX0_chair_92
        · have hf := it_f hf c13
          by_cases c18 : x2 = 3
          · have hf := it_t hf c18
            refine lv_tableIn (tgt := 93) (off := 81) E.hx E.hb dX0_chair_12 (by rw [c18]; decide) (by rw [c18]; decide) (by rw [c18]; rfl) (by decide) ?_
            refine lv_aload_n E.hx E.hb dX0_chair_93 rfl (lv_at hl 0 rfl) ?_
            obtain ⟨v19, hv19, hf⟩ := bd_e hf
            refine xgX0_39 E hR hv19 dX0_chair_94 ?_
            refine lv_iload_n E.hx E.hb dX0_chair_97 rfl (lv_at hl 1 rfl) ?_
            obtain ⟨u20, hu20, hf⟩ := bd_e hf
            obtain ⟨⟨v22, X21⟩, hv22, hf⟩ := bd_e hf
            refine xrun_i (va_runV (As := [.int x1]) (rest := []) E.1 (tX1_rank l hv22) (cwX0_242 E.ht ⟨Nat.le_of_ble_eq_true rfl, Nat.le_of_ble_eq_true rfl⟩) (xPreV (ci := 1) E hR hS rfl (ck_e hu20)) rfl rfl hl.1 rfl (lv_room (Nat.le_of_ble_eq_true rfl)) dX0_chair_98 ⟨Nat.le_trans (by omega) (Nat.le_refl 0), Nat.le_trans (by omega) (Nat.le_refl 0)⟩) hS (fun H locs hR hS => ?_)
            obtain ⟨rfl, rfl⟩ := rt_e hf
            exact xret_i E (by omega) (by omega) hR hS dX0_chair_101
          · have hf := it_f hf c18
            by_cases c23 : x2 = 4
            · have hf := it_t hf c23
              refine lv_tableIn (tgt := 102) (off := 90) E.hx E.hb dX0_chair_12 (by rw [c23]; decide) (by rw [c23]; decide) (by rw [c23]; rfl) (by decide) ?_
              refine lv_aload_n E.hx E.hb dX0_chair_102 rfl (lv_at hl 0 rfl) ?_
              obtain ⟨v24, hv24, hf⟩ := bd_e hf
              refine xgX0_39 E hR hv24 dX0_chair_103 ?_
              obtain ⟨v25, hv25, hf⟩ := bd_e hf
              refine xgX0_217 E hR hv25 dX0_chair_106 ?_
              refine lv_iload_n E.hx E.hb dX0_chair_109 rfl (lv_at hl 1 rfl) ?_
              refine lv_ishr E.hx E.hb dX0_chair_110 ?_
              refine lv_iconst (v := 1) E.hx E.hb dX0_chair_111 (by decide) ?_
              refine lv_iand E.hx E.hb dX0_chair_112 ?_
              obtain ⟨rfl, rfl⟩ := rt_e hf
              exact xret_i E (by omega) (by omega) hR hS dX0_chair_113
            · have hf := it_f hf c23
              by_cases c26 : x2 = 5
              · have hf := it_t hf c26
                refine lv_tableIn (tgt := 114) (off := 102) E.hx E.hb dX0_chair_12 (by rw [c26]; decide) (by rw [c26]; decide) (by rw [c26]; rfl) (by decide) ?_
                refine lv_aload_n E.hx E.hb dX0_chair_114 rfl (lv_at hl 0 rfl) ?_
                obtain ⟨v27, hv27, hf⟩ := bd_e hf
                refine xgX0_39 E hR hv27 dX0_chair_115 ?_
                obtain ⟨v28, hv28, hf⟩ := bd_e hf
                refine xgX0_236 E hR hv28 dX0_chair_118 ?_
                refine lv_iload_n E.hx E.hb dX0_chair_121 rfl (lv_at hl 1 rfl) ?_
                obtain ⟨v29, hv29, hf⟩ := bd_e hf
                refine xild E hR hv29 dX0_chair_122 ?_
                obtain ⟨rfl, rfl⟩ := rt_e hf
                exact xret_i E (by omega) (by omega) hR hS dX0_chair_123
              · have hf := it_f hf c26
                by_cases c30 : x2 = 6
                · have hf := it_t hf c30
                  refine lv_tableIn (tgt := 124) (off := 112) E.hx E.hb dX0_chair_12 (by rw [c30]; decide) (by rw [c30]; decide) (by rw [c30]; rfl) (by decide) ?_
                  refine lv_aload_n E.hx E.hb dX0_chair_124 rfl (lv_at hl 0 rfl) ?_
                  obtain ⟨v31, hv31, hf⟩ := bd_e hf
                  refine xgX0_39 E hR hv31 dX0_chair_125 ?_
                  obtain ⟨v32, hv32, hf⟩ := bd_e hf
                  refine xgX0_245 E hR hv32 dX0_chair_128 ?_
                  refine lv_iload_n E.hx E.hb dX0_chair_131 rfl (lv_at hl 1 rfl) ?_
                  obtain ⟨v33, hv33, hf⟩ := bd_e hf
                  refine xild E hR hv33 dX0_chair_132 ?_
                  obtain ⟨rfl, rfl⟩ := rt_e hf
                  exact xret_i E (by omega) (by omega) hR hS dX0_chair_133
                · have hf := it_f hf c30
                  by_cases c34 : x2 = 7
                  · have hf := it_t hf c34
                    refine lv_tableIn (tgt := 134) (off := 122) E.hx E.hb dX0_chair_12 (by rw [c34]; decide) (by rw [c34]; decide) (by rw [c34]; rfl) (by decide) ?_
                    refine lv_aload_n E.hx E.hb dX0_chair_134 rfl (lv_at hl 0 rfl) ?_
                    obtain ⟨v35, hv35, hf⟩ := bd_e hf
                    refine xgX0_39 E hR hv35 dX0_chair_135 ?_
                    refine lv_iload_n E.hx E.hb dX0_chair_138 rfl (lv_at hl 1 rfl) ?_
                    obtain ⟨u36, hu36, hf⟩ := bd_e hf
                    obtain ⟨⟨v38, X37⟩, hv38, hf⟩ := bd_e hf
                    refine xrun_i (va_runV (As := [.int x1]) (rest := []) E.1 (tX1_victim l hv38) (cwX0_231 E.ht ⟨Nat.le_of_ble_eq_true rfl, Nat.le_of_ble_eq_true rfl⟩) (xPreV (ci := 1) E hR hS rfl (ck_e hu36)) rfl rfl hl.1 rfl (lv_room (Nat.le_of_ble_eq_true rfl)) dX0_chair_139 ⟨Nat.le_trans (by omega) (Nat.le_refl 0), Nat.le_trans (by omega) (Nat.le_refl 0)⟩) hS (fun H locs hR hS => ?_)
                    obtain ⟨rfl, rfl⟩ := rt_e hf
                    exact xret_i E (by omega) (by omega) hR hS dX0_chair_142
                  · have hf := it_f hf c34
                    by_cases c39 : x2 = 8
                    · have hf := it_t hf c39
                      refine lv_tableIn (tgt := 143) (off := 131) E.hx E.hb dX0_chair_12 (by rw [c39]; decide) (by rw [c39]; decide) (by rw [c39]; rfl) (by decide) ?_
                      refine lv_aload_n E.hx E.hb dX0_chair_143 rfl (lv_at hl 0 rfl) ?_
                      obtain ⟨v40, hv40, hf⟩ := bd_e hf
                      refine xgX0_39 E hR hv40 dX0_chair_144 ?_
                      obtain ⟨v41, hv41, hf⟩ := bd_e hf
                      refine xgX0_248 E hR hv41 dX0_chair_147 ?_
                      refine lv_iload_n E.hx E.hb dX0_chair_150 rfl (lv_at hl 1 rfl) ?_
                      obtain ⟨v42, hv42, hf⟩ := bd_e hf
                      refine xild E hR hv42 dX0_chair_151 ?_
                      obtain ⟨rfl, rfl⟩ := rt_e hf
                      exact xret_i E (by omega) (by omega) hR hS dX0_chair_152
                    · have hf := it_f hf c39
                      have ec5 : ¬ x2.toInt = 0 := fun h => c5 (Int32.toInt_inj.mp h)
                      have ec9 : ¬ x2.toInt = 1 := fun h => c9 (Int32.toInt_inj.mp h)
                      have ec13 : ¬ x2.toInt = 2 := fun h => c13 (Int32.toInt_inj.mp h)
                      have ec18 : ¬ x2.toInt = 3 := fun h => c18 (Int32.toInt_inj.mp h)
                      have ec23 : ¬ x2.toInt = 4 := fun h => c23 (Int32.toInt_inj.mp h)
                      have ec26 : ¬ x2.toInt = 5 := fun h => c26 (Int32.toInt_inj.mp h)
                      have ec30 : ¬ x2.toInt = 6 := fun h => c30 (Int32.toInt_inj.mp h)
                      have ec34 : ¬ x2.toInt = 7 := fun h => c34 (Int32.toInt_inj.mp h)
                      have ec39 : ¬ x2.toInt = 8 := fun h => c39 (Int32.toInt_inj.mp h)
                      refine lv_tableOut (tgt := 153) E.hx E.hb dX0_chair_12 (by omega) (by decide) ?_
                      refine lv_ldc (v := (-1000001)) E.hx E.hb E.ho (E.ht _ q319) dX0_chair_153 ?_
                      obtain ⟨rfl, rfl⟩ := rt_e hf
                      exact xret_i E (by omega) (by omega) hR hS dX0_chair_155
  · have hf := it_t hf c4
    refine lv_ldc (v := (-1000001)) E.hx E.hb E.ho (E.ht _ q319) dX0_chair_8 ?_
    obtain ⟨rfl, rfl⟩ := rt_e hf
    exact xret_i E (by omega) (by omega) hR hS dX0_chair_10
theorem tX0_chair (l : Launch) {D : va_G} {cA : Nat → ClassId} {A : Nat → Prop} {Zs : XZ} {X Xf : AH} {x0 : Nat} {x1 : Int32} {x2 : Int32} {r : Int32} (hf : fX0_chair X x0 x1 x2 = some (r, Xf)) : Met l yX0_chair (ws_ yX0_chair cX0_chair 3 (some .int)) rmX0_chair (xPc D cA A Zs X [.ref x0, .int x1, .int x2]) (xQi D cA A Zs r Xf) 0 0 A := by
  refine Met.ofW (cc := cX0_chair) (maxL := 3) (ret := (some .int)) (by decide) rfl ?_
  intro p e s m args below meth c s₁ B hml hv
  obtain ⟨rfl, hR, hK⟩ := hv
  have hts := atoms_spec (ws := (ws_ yX0_chair cX0_chair 3 (some .int))) B.pre
  rw [lg_entry_eq]
  exact wX0_chair_0 (E := ⟨⟨B.exec, B.bytes, hml, findClass_of_methodNamed B.named, fun w h => hts w (List.mem_cons_of_mem _ h)⟩, hK, B.returns, B.notSynchronized⟩) hf _ _ _ 0 0 (Nat.le_of_ble_eq_true rfl) (Nat.le_of_ble_eq_true rfl) hR va_S.rf (lv_entry [.ref x0, .int x1, .int x2] (n := 3) (Nat.le_of_ble_eq_true rfl))
end
abbrev rmX0_ranked : Room := { frames := 9, cells := 0, slots := 0, locals := 185 }
section
variable {p : Program} {l : Launch} {e : Env} {s : State} {m : MethodId} {args : Array Value} {below : List Frame} {meth : Method} {c : Code} {D : va_G} {cA : Nat → ClassId} {A : Nat → Prop} {Zs : XZ} {Xf : AH} {r : Int32} {rl : Int64} {ra : Nat} {tv : Unit ⊕ Nat} {ti : Int32 ⊕ Nat} {tr : Nat ⊕ Nat} {q2 : Option Nat}
def fX0_ranked  (X : AH) (x0 : Nat) (x1 : Int32) : Option (Int32 × AH) :=
  (ck X x0 0).bind fun _ =>
  (fX0_isChair X x0 x1).bind fun (v3, X2) =>
  if v3 = 0 then (some ((-1000001), X2)) else ((gR X2 x0 0 4).bind fun v5 =>
  (ck X2 v5 1).bind fun _ =>
  (fX1_ranked X2 v5 x1).bind fun (v8, X7) =>
  some (v8, X7))
theorem wX0_ranked_0 (E : xE p m c cX0_ranked 2 s args RX0 D cA A Zs meth (some .int)) {X : AH} {x0 : Nat} {x1 : Int32} (hf : fX0_ranked X x0 x1 = some (r, Xf)) : ∀ (H : Heap) (locs : List Loc) (ls : Array Slot) (cells slots : Nat), cells + 0 ≤ 0 → slots + 0 ≤ 0 → xR D cA A Zs X H → va_S A s.heap H locs → lv_has ls 2 [(0, .ref x0), (1, .int x1)] → W p l e rmX0_ranked s m args below meth c H locs cells slots (MQ below (xQi D cA A Zs r Xf) args s 0 0 A) (F0 m 0 ls []) := by
  intro H locs ls cells slots hc hs hR hS hl
  refine lv_aload_n E.hx E.hb dX0_ranked_0 rfl (lv_at hl 0 rfl) ?_
  refine lv_iload_n E.hx E.hb dX0_ranked_1 rfl (lv_at hl 1 rfl) ?_
  obtain ⟨u1, hu1, hf⟩ := bd_e hf
  obtain ⟨⟨v3, X2⟩, hv3, hf⟩ := bd_e hf
  refine xrun_i (va_runV (As := [.int x1]) (rest := []) E.1 (tX0_isChair l hv3) (cwX0_196 E.ht ⟨Nat.le_of_ble_eq_true rfl, Nat.le_of_ble_eq_true rfl⟩) (xPreV (ci := 0) E hR hS rfl (ck_e hu1)) rfl rfl hl.1 rfl (lv_room (Nat.le_of_ble_eq_true rfl)) dX0_ranked_2 ⟨Nat.le_trans (by omega) (Nat.le_refl 0), Nat.le_trans (by omega) (Nat.le_refl 0)⟩) hS (fun H locs hR hS => ?_)
  refine lv_if_eq (tgt := 19) E.hx E.hb dX0_ranked_5 (by decide) (fun c4 => ?_) (fun c4 => ?_)
  · have hf := it_t hf c4
    refine lv_ldc (v := (-1000001)) E.hx E.hb E.ho (E.ht _ q319) dX0_ranked_19 ?_
    obtain ⟨rfl, rfl⟩ := rt_e hf
    exact xret_i E (by omega) (by omega) hR hS dX0_ranked_21
  · have hf := it_f hf c4
    refine lv_aload_n E.hx E.hb dX0_ranked_8 rfl (lv_at hl 0 rfl) ?_
    obtain ⟨v5, hv5, hf⟩ := bd_e hf
    refine xgX0_39 E hR hv5 dX0_ranked_9 ?_
    refine lv_iload_n E.hx E.hb dX0_ranked_12 rfl (lv_at hl 1 rfl) ?_
    obtain ⟨u6, hu6, hf⟩ := bd_e hf
    obtain ⟨⟨v8, X7⟩, hv8, hf⟩ := bd_e hf
    refine xrun_i (va_runV (As := [.int x1]) (rest := []) E.1 (tX1_ranked l hv8) (cwX0_193 E.ht ⟨Nat.le_of_ble_eq_true rfl, Nat.le_of_ble_eq_true rfl⟩) (xPreV (ci := 1) E hR hS rfl (ck_e hu6)) rfl rfl hl.1 rfl (lv_room (Nat.le_of_ble_eq_true rfl)) dX0_ranked_13 ⟨Nat.le_trans (by omega) (Nat.le_refl 0), Nat.le_trans (by omega) (Nat.le_refl 0)⟩) hS (fun H locs hR hS => ?_)
    refine lv_goto (tgt := 21) E.hx E.hb dX0_ranked_16 (by decide) ?_
    obtain ⟨rfl, rfl⟩ := rt_e hf
    exact xret_i E (by omega) (by omega) hR hS dX0_ranked_21
theorem tX0_ranked (l : Launch) {D : va_G} {cA : Nat → ClassId} {A : Nat → Prop} {Zs : XZ} {X Xf : AH} {x0 : Nat} {x1 : Int32} {r : Int32} (hf : fX0_ranked X x0 x1 = some (r, Xf)) : Met l yX0_ranked (ws_ yX0_ranked cX0_ranked 2 (some .int)) rmX0_ranked (xPc D cA A Zs X [.ref x0, .int x1]) (xQi D cA A Zs r Xf) 0 0 A := by
  refine Met.ofW (cc := cX0_ranked) (maxL := 2) (ret := (some .int)) (by decide) rfl ?_
  intro p e s m args below meth c s₁ B hml hv
  obtain ⟨rfl, hR, hK⟩ := hv
  have hts := atoms_spec (ws := (ws_ yX0_ranked cX0_ranked 2 (some .int))) B.pre
  rw [lg_entry_eq]
  exact wX0_ranked_0 (E := ⟨⟨B.exec, B.bytes, hml, findClass_of_methodNamed B.named, fun w h => hts w (List.mem_cons_of_mem _ h)⟩, hK, B.returns, B.notSynchronized⟩) hf _ _ _ 0 0 (Nat.le_of_ble_eq_true rfl) (Nat.le_of_ble_eq_true rfl) hR va_S.rf (lv_entry [.ref x0, .int x1] (n := 2) (Nat.le_of_ble_eq_true rfl))
end
abbrev rmX0_tried : Room := { frames := 2, cells := 0, slots := 0, locals := 85 }
section
variable {p : Program} {l : Launch} {e : Env} {s : State} {m : MethodId} {args : Array Value} {below : List Frame} {meth : Method} {c : Code} {D : va_G} {cA : Nat → ClassId} {A : Nat → Prop} {Zs : XZ} {Xf : AH} {r : Int32} {rl : Int64} {ra : Nat} {tv : Unit ⊕ Nat} {ti : Int32 ⊕ Nat} {tr : Nat ⊕ Nat} {q2 : Option Nat}
def fX0_tried  (X : AH) (x0 : Nat) : Option (Nat × AH) :=
  (gR X x0 0 5).bind fun v1 =>
  (gR X x0 0 4).bind fun v2 =>
  (ck X v1 1).bind fun _ =>
  (fX1_become X v1 v2).bind fun (v5, X4) =>
  some (v5, X4)
theorem wX0_tried_0 (E : xE p m c cX0_tried 1 s args RX0 D cA A Zs meth (some (.object "ChairRanks$Ministry"))) {X : AH} {x0 : Nat} (hf : fX0_tried X x0 = some (ra, Xf)) : ∀ (H : Heap) (locs : List Loc) (ls : Array Slot) (cells slots : Nat), cells + 0 ≤ 0 → slots + 0 ≤ 0 → xR D cA A Zs X H → va_S A s.heap H locs → lv_has ls 1 [(0, .ref x0)] → W p l e rmX0_tried s m args below meth c H locs cells slots (MQ below (xQr D cA A Zs ra Xf) args s 0 0 A) (F0 m 0 ls []) := by
  intro H locs ls cells slots hc hs hR hS hl
  refine lv_aload_n E.hx E.hb dX0_tried_0 rfl (lv_at hl 0 rfl) ?_
  obtain ⟨v1, hv1, hf⟩ := bd_e hf
  refine xgX0_43 E hR hv1 dX0_tried_1 ?_
  refine lv_aload_n E.hx E.hb dX0_tried_4 rfl (lv_at hl 0 rfl) ?_
  obtain ⟨v2, hv2, hf⟩ := bd_e hf
  refine xgX0_39 E hR hv2 dX0_tried_5 ?_
  obtain ⟨u3, hu3, hf⟩ := bd_e hf
  obtain ⟨⟨v5, X4⟩, hv5, hf⟩ := bd_e hf
  refine xrun_r (va_runV (As := [.ref v2]) (rest := []) E.1 (tX1_become l hv5) (cwX0_156 E.ht ⟨Nat.le_of_ble_eq_true rfl, Nat.le_of_ble_eq_true rfl⟩) (xPreV (ci := 1) E hR hS rfl (ck_e hu3)) rfl rfl hl.1 rfl (lv_room (Nat.le_of_ble_eq_true rfl)) dX0_tried_8 ⟨Nat.le_trans (by omega) (Nat.le_refl 0), Nat.le_trans (by omega) (Nat.le_refl 0)⟩) hS (fun H locs hR hS => ?_)
  obtain ⟨rfl, rfl⟩ := rt_e hf
  exact xret_r E (Or.inl ⟨_, rfl⟩) (by omega) (by omega) hR hS dX0_tried_11
theorem tX0_tried (l : Launch) {D : va_G} {cA : Nat → ClassId} {A : Nat → Prop} {Zs : XZ} {X Xf : AH} {x0 : Nat} {ra : Nat} (hf : fX0_tried X x0 = some (ra, Xf)) : Met l yX0_tried (ws_ yX0_tried cX0_tried 1 (some (.object "ChairRanks$Ministry"))) rmX0_tried (xPc D cA A Zs X [.ref x0]) (xQr D cA A Zs ra Xf) 0 0 A := by
  refine Met.ofW (cc := cX0_tried) (maxL := 1) (ret := (some (.object "ChairRanks$Ministry"))) (by decide) rfl ?_
  intro p e s m args below meth c s₁ B hml hv
  obtain ⟨rfl, hR, hK⟩ := hv
  have hts := atoms_spec (ws := (ws_ yX0_tried cX0_tried 1 (some (.object "ChairRanks$Ministry")))) B.pre
  rw [lg_entry_eq]
  exact wX0_tried_0 (E := ⟨⟨B.exec, B.bytes, hml, findClass_of_methodNamed B.named, fun w h => hts w (List.mem_cons_of_mem _ h)⟩, hK, B.returns, B.notSynchronized⟩) hf _ _ _ 0 0 (Nat.le_of_ble_eq_true rfl) (Nat.le_of_ble_eq_true rfl) hR va_S.rf (lv_entry [.ref x0] (n := 1) (Nat.le_of_ble_eq_true rfl))
end
abbrev rmX0_goOn : Room := { frames := 12, cells := 0, slots := 0, locals := 250 }
section
variable {p : Program} {l : Launch} {e : Env} {s : State} {m : MethodId} {args : Array Value} {below : List Frame} {meth : Method} {c : Code} {D : va_G} {cA : Nat → ClassId} {A : Nat → Prop} {Zs : XZ} {Xf : AH} {r : Int32} {rl : Int64} {ra : Nat} {tv : Unit ⊕ Nat} {ti : Int32 ⊕ Nat} {tr : Nat ⊕ Nat} {q2 : Option Nat}
def fX0_goOn_L2  : Nat → AH → Nat → Int32 → Int32 → Option (Nat × AH)
  | 0, _, _, _, _ => none
  | n + 1, X, x0, x1, x2 =>
    if x1 ≤ x2 then ((gR X x0 0 5).bind fun v2 =>
    some (v2, X)) else ((gR X x0 0 5).bind fun v3 =>
    (ck X v3 1).bind fun _ =>
    (fX1_pass X v3).bind fun (v6, X5) =>
    (fX0_goOn_L2 n) X5 x0 x1 (x2 + 1))
theorem wX0_goOn_L2 (E : xE p m c cX0_goOn 3 s args RX0 D cA A Zs meth (some (.object "ChairRanks$Ministry"))) : ∀ (n : Nat) (X : AH) (x0 : Nat) (x1 : Int32) (x2 : Int32), fX0_goOn_L2 n X x0 x1 x2 = some (ra, Xf) → ∀ (H : Heap) (locs : List Loc) (ls : Array Slot) (cells slots : Nat), cells + 0 ≤ 0 → slots + 0 ≤ 0 → xR D cA A Zs X H → va_S A s.heap H locs → lv_has ls 3 [(0, .ref x0), (1, .int x1), (2, .int x2)] → W p l e rmX0_goOn s m args below meth c H locs cells slots (MQ below (xQr D cA A Zs ra Xf) args s 0 0 A) (F0 m 2 ls []) := by
  intro n
  induction n with
  | zero =>
    intro X x0 x1 x2 hf
    have hf : none = some (ra, Xf) := hf
    cases hf
  | succ n ih =>
    intro X x0 x1 x2 hf H locs ls cells slots hc hs hR hS hl
    refine lv_iload_n E.hx E.hb dX0_goOn_2 rfl (lv_at hl 2 rfl) ?_
    refine lv_iload_n E.hx E.hb dX0_goOn_3 rfl (lv_at hl 1 rfl) ?_
    refine lv_icmp_ge (tgt := 21) E.hx E.hb dX0_goOn_4 (by decide) (fun c1 => ?_) (fun c1 => ?_)
    · have hf := it_t hf c1
      refine lv_aload_n E.hx E.hb dX0_goOn_21 rfl (lv_at hl 0 rfl) ?_
      obtain ⟨v2, hv2, hf⟩ := bd_e hf
      refine xgX0_43 E hR hv2 dX0_goOn_22 ?_
      obtain ⟨rfl, rfl⟩ := rt_e hf
      exact xret_r E (Or.inl ⟨_, rfl⟩) (by omega) (by omega) hR hS dX0_goOn_25
    · have hf := it_f hf c1
      refine lv_aload_n E.hx E.hb dX0_goOn_7 rfl (lv_at hl 0 rfl) ?_
      obtain ⟨v3, hv3, hf⟩ := bd_e hf
      refine xgX0_43 E hR hv3 dX0_goOn_8 ?_
      obtain ⟨u4, hu4, hf⟩ := bd_e hf
      obtain ⟨⟨v6, X5⟩, hv6, hf⟩ := bd_e hf
      refine xrun_r (va_runV (As := []) (rest := []) E.1 (tX1_pass l hv6) (cwX0_189 E.ht ⟨Nat.le_of_ble_eq_true rfl, Nat.le_of_ble_eq_true rfl⟩) (xPreV (ci := 1) E hR hS rfl (ck_e hu4)) rfl rfl hl.1 rfl (lv_room (Nat.le_of_ble_eq_true rfl)) dX0_goOn_11 ⟨Nat.le_trans (by omega) (Nat.le_refl 0), Nat.le_trans (by omega) (Nat.le_refl 0)⟩) hS (fun H locs hR hS => ?_)
      refine lv_pop E.hx E.hb dX0_goOn_14 rfl ?_
      refine lv_iinc (v := (x2 + 1)) (lv' := [(2, .int (x2 + 1)), (0, .ref x0), (1, .int x1)]) E.hx E.hb dX0_goOn_15 hl (k := 2) rfl rfl (by decide) rfl (fun ls hl => ?_)
      refine lv_goto (tgt := 2) E.hx E.hb dX0_goOn_18 (by decide) ?_
      exact ih X5 _ _ _ hf _ _ _ _ _ (by omega) (by omega) hR hS (lv_sub hl [1, 2, 0] rfl)
def fX0_goOn  (X : AH) (x0 : Nat) (x1 : Int32) : Option (Nat × AH) :=
  fX0_goOn_L2 2000 X x0 x1 0
theorem wX0_goOn_0 (E : xE p m c cX0_goOn 3 s args RX0 D cA A Zs meth (some (.object "ChairRanks$Ministry"))) {X : AH} {x0 : Nat} {x1 : Int32} (hf : fX0_goOn X x0 x1 = some (ra, Xf)) : ∀ (H : Heap) (locs : List Loc) (ls : Array Slot) (cells slots : Nat), cells + 0 ≤ 0 → slots + 0 ≤ 0 → xR D cA A Zs X H → va_S A s.heap H locs → lv_has ls 3 [(0, .ref x0), (1, .int x1)] → W p l e rmX0_goOn s m args below meth c H locs cells slots (MQ below (xQr D cA A Zs ra Xf) args s 0 0 A) (F0 m 0 ls []) := by
  intro H locs ls cells slots hc hs hR hS hl
  refine lv_iconst (v := 0) E.hx E.hb dX0_goOn_0 (by decide) ?_
  refine lv_istore_n (lv' := [(2, .int 0), (0, .ref x0), (1, .int x1)]) E.hx E.hb dX0_goOn_1 rfl hl (by decide) rfl (fun ls hl => ?_)
  exact wX0_goOn_L2 E  2000 X _ _ _ hf _ _ _ _ _ (by omega) (by omega) hR hS (lv_sub hl [1, 2, 0] rfl)
theorem tX0_goOn (l : Launch) {D : va_G} {cA : Nat → ClassId} {A : Nat → Prop} {Zs : XZ} {X Xf : AH} {x0 : Nat} {x1 : Int32} {ra : Nat} (hf : fX0_goOn X x0 x1 = some (ra, Xf)) : Met l yX0_goOn (ws_ yX0_goOn cX0_goOn 3 (some (.object "ChairRanks$Ministry"))) rmX0_goOn (xPc D cA A Zs X [.ref x0, .int x1]) (xQr D cA A Zs ra Xf) 0 0 A := by
  refine Met.ofW (cc := cX0_goOn) (maxL := 3) (ret := (some (.object "ChairRanks$Ministry"))) (by decide) rfl ?_
  intro p e s m args below meth c s₁ B hml hv
  obtain ⟨rfl, hR, hK⟩ := hv
  have hts := atoms_spec (ws := (ws_ yX0_goOn cX0_goOn 3 (some (.object "ChairRanks$Ministry")))) B.pre
  rw [lg_entry_eq]
  exact wX0_goOn_0 (E := ⟨⟨B.exec, B.bytes, hml, findClass_of_methodNamed B.named, fun w h => hts w (List.mem_cons_of_mem _ h)⟩, hK, B.returns, B.notSynchronized⟩) hf _ _ _ 0 0 (Nat.le_of_ble_eq_true rfl) (Nat.le_of_ble_eq_true rfl) hR va_S.rf (lv_entry [.ref x0, .int x1] (n := 3) (Nat.le_of_ble_eq_true rfl))
end
abbrev rmX0_ahead : Room := { frames := 13, cells := 0, slots := 0, locals := 272 }
theorem cwX0_251 {R : Room} {s : State} {args : Array Value} (ht : ∀ w ∈ lw_all, w.before args s = true) (hR : rmX0_isFar.frames + 1 ≤ R.frames ∧ 8 + (1 + 11) + rmX0_isFar.locals ≤ R.locals) : CallB R s args RX0 251 yX0_isFar cX0_isFar 1 (some .boolean) (ws_ yX0_isFar cX0_isFar 1 (some .boolean)) rmX0_isFar 0 0 1 ∧ (Cond.static yX0_isFar).before args s = true :=
  va_cwS 1 ht (lw_S q903 q904 q68 q905) rfl rfl rfl (by decide +kernel) hR
theorem cwX0_254 {R : Room} {s : State} {args : Array Value} (ht : ∀ w ∈ lw_all, w.before args s = true) (hR : rmX0_tried.frames + 1 ≤ R.frames ∧ 8 + (1 + 11) + rmX0_tried.locals ≤ R.locals) : CallW R s args RX0 RX0 254 yX0_tried cX0_tried 1 (some (.object "ChairRanks$Ministry")) (ws_ yX0_tried cX0_tried 1 (some (.object "ChairRanks$Ministry"))) rmX0_tried 0 0 0 :=
  cwV 0 ht (lw_V q907 q909 qs22 q68 q910) rfl rfl rfl (by decide +kernel) hR
theorem cwX0_257 {R : Room} {s : State} {args : Array Value} (ht : ∀ w ∈ lw_all, w.before args s = true) (hR : rmX0_goOn.frames + 1 ≤ R.frames ∧ 8 + (3 + 11) + rmX0_goOn.locals ≤ R.locals) : CallW R s args RX0 RX0 257 yX0_goOn cX0_goOn 3 (some (.object "ChairRanks$Ministry")) (ws_ yX0_goOn cX0_goOn 3 (some (.object "ChairRanks$Ministry"))) rmX0_goOn 0 0 1 :=
  cwV 1 ht (lw_V q911 q913 qs23 q68 q914) rfl rfl rfl (by decide +kernel) hR
section
variable {p : Program} {l : Launch} {e : Env} {s : State} {m : MethodId} {args : Array Value} {below : List Frame} {meth : Method} {c : Code} {D : va_G} {cA : Nat → ClassId} {A : Nat → Prop} {Zs : XZ} {Xf : AH} {r : Int32} {rl : Int64} {ra : Nat} {tv : Unit ⊕ Nat} {ti : Int32 ⊕ Nat} {tr : Nat ⊕ Nat} {q2 : Option Nat}
def fX0_ahead  (X : AH) (x0 : Nat) (x1 : Int32) (x2 : Int32) (x3 : Int32) : Option (Int32 × AH) :=
  (ck X x0 0).bind fun _ =>
  (fX0_isChair X x0 x1).bind fun (v3, X2) =>
  if v3 = 0 then (some ((-1000001), X2)) else ((fX0_isFar x2).bind fun v5 =>
  if v5 = 0 then (some ((-1000001), X2)) else ((fX0_isIn (x3.toInt64) 0 2).bind fun v7 =>
  if v7 = 0 then (some ((-1000001), X2)) else ((ck X2 x0 0).bind fun _ =>
  (fX0_tried X2 x0).bind fun (v11, X10) =>
  (ck X10 x0 0).bind fun _ =>
  (fX0_goOn X10 x0 x2).bind fun (v14, X13) =>
  if x3 = 0 then ((gR X13 x0 0 5).bind fun v24 =>
  (ck X13 v24 1).bind fun _ =>
  (fX1_high X13 v24 x1).bind fun (v27, X26) =>
  some (v27, X26)) else (if x3 = 1 then ((gR X13 x0 0 5).bind fun v20 =>
  (ck X13 v20 1).bind fun _ =>
  (fX1_rank X13 v20 x1).bind fun (v23, X22) =>
  some (v23, X22)) else ((gR X13 x0 0 5).bind fun v17 =>
  (gR X13 v17 1 3).bind fun v18 =>
  (gA X13 v18 0 x1).bind fun v19 =>
  some (v19, X13))))))
theorem wX0_ahead_0 (E : xE p m c cX0_ahead 4 s args RX0 D cA A Zs meth (some .int)) {X : AH} {x0 : Nat} {x1 : Int32} {x2 : Int32} {x3 : Int32} (hf : fX0_ahead X x0 x1 x2 x3 = some (r, Xf)) : ∀ (H : Heap) (locs : List Loc) (ls : Array Slot) (cells slots : Nat), cells + 0 ≤ 0 → slots + 0 ≤ 0 → xR D cA A Zs X H → va_S A s.heap H locs → lv_has ls 4 [(0, .ref x0), (1, .int x1), (2, .int x2), (3, .int x3)] → W p l e rmX0_ahead s m args below meth c H locs cells slots (MQ below (xQi D cA A Zs r Xf) args s 0 0 A) (F0 m 0 ls []) := by
  intro H locs ls cells slots hc hs hR hS hl
  refine lv_aload_n E.hx E.hb dX0_ahead_0 rfl (lv_at hl 0 rfl) ?_
  refine lv_iload_n E.hx E.hb dX0_ahead_1 rfl (lv_at hl 1 rfl) ?_
  obtain ⟨u1, hu1, hf⟩ := bd_e hf
  obtain ⟨⟨v3, X2⟩, hv3, hf⟩ := bd_e hf
  refine xrun_i (va_runV (As := [.int x1]) (rest := []) E.1 (tX0_isChair l hv3) (cwX0_196 E.ht ⟨Nat.le_of_ble_eq_true rfl, Nat.le_of_ble_eq_true rfl⟩) (xPreV (ci := 0) E hR hS rfl (ck_e hu1)) rfl rfl hl.1 rfl (lv_room (Nat.le_of_ble_eq_true rfl)) dX0_ahead_2 ⟨Nat.le_trans (by omega) (Nat.le_refl 0), Nat.le_trans (by omega) (Nat.le_refl 0)⟩) hS (fun H locs hR hS => ?_)
  refine lv_if_eq (tgt := 27) E.hx E.hb dX0_ahead_5 (by decide) (fun c4 => ?_) (fun c4 => ?_)
  · have hf := it_t hf c4
    refine lv_ldc (v := (-1000001)) E.hx E.hb E.ho (E.ht _ q319) dX0_ahead_27 ?_
    obtain ⟨rfl, rfl⟩ := rt_e hf
    exact xret_i E (by omega) (by omega) hR hS dX0_ahead_29
  · have hf := it_f hf c4
    refine lv_iload_n E.hx E.hb dX0_ahead_8 rfl (lv_at hl 2 rfl) ?_
    obtain ⟨v5, hv5, hf⟩ := bd_e hf
    refine scall_i (rest := []) E.1 (tX0_isFar l hv5) (cwX0_251 E.ht ⟨Nat.le_of_ble_eq_true rfl, Nat.le_of_ble_eq_true rfl⟩) rfl hl.1 rfl (Nat.le_of_ble_eq_true rfl) dX0_ahead_9 ⟨Nat.le_trans (by omega) (Nat.le_refl 0), Nat.le_trans (by omega) (Nat.le_refl 0)⟩ ?_
    refine lv_if_eq (tgt := 27) E.hx E.hb dX0_ahead_12 (by decide) (fun c6 => ?_) (fun c6 => ?_)
    · have hf := it_t hf c6
      refine lv_ldc (v := (-1000001)) E.hx E.hb E.ho (E.ht _ q319) dX0_ahead_27 ?_
      obtain ⟨rfl, rfl⟩ := rt_e hf
      exact xret_i E (by omega) (by omega) hR hS dX0_ahead_29
    · have hf := it_f hf c6
      refine lv_iload_n E.hx E.hb dX0_ahead_15 rfl (lv_at hl 3 rfl) ?_
      refine lv_i2l E.hx E.hb dX0_ahead_16 rfl ?_
      refine lv_lconst (v := 0) E.hx E.hb dX0_ahead_17 (by decide) ?_
      refine lv_ldc2 (v := 2) E.hx E.hb E.ho (E.ht _ q318) dX0_ahead_18 ?_
      obtain ⟨v7, hv7, hf⟩ := bd_e hf
      refine scall_i (rest := []) E.1 (tX0_isIn l hv7) (cwX0_79 E.ht ⟨Nat.le_of_ble_eq_true rfl, Nat.le_of_ble_eq_true rfl⟩) rfl hl.1 rfl (Nat.le_of_ble_eq_true rfl) dX0_ahead_21 ⟨Nat.le_trans (by omega) (Nat.le_refl 0), Nat.le_trans (by omega) (Nat.le_refl 0)⟩ ?_
      refine lv_if_ne (tgt := 30) E.hx E.hb dX0_ahead_24 (by decide) (fun c8 => ?_) (fun c8 => ?_)
      · have hf := it_f hf c8
        refine lv_aload_n E.hx E.hb dX0_ahead_30 rfl (lv_at hl 0 rfl) ?_
        obtain ⟨u9, hu9, hf⟩ := bd_e hf
        obtain ⟨⟨v11, X10⟩, hv11, hf⟩ := bd_e hf
        refine xrun_r (va_runV (As := []) (rest := []) E.1 (tX0_tried l hv11) (cwX0_254 E.ht ⟨Nat.le_of_ble_eq_true rfl, Nat.le_of_ble_eq_true rfl⟩) (xPreV (ci := 0) E hR hS rfl (ck_e hu9)) rfl rfl hl.1 rfl (lv_room (Nat.le_of_ble_eq_true rfl)) dX0_ahead_31 ⟨Nat.le_trans (by omega) (Nat.le_refl 0), Nat.le_trans (by omega) (Nat.le_refl 0)⟩) hS (fun H locs hR hS => ?_)
        refine lv_pop E.hx E.hb dX0_ahead_34 rfl ?_
        refine lv_aload_n E.hx E.hb dX0_ahead_35 rfl (lv_at hl 0 rfl) ?_
        refine lv_iload_n E.hx E.hb dX0_ahead_36 rfl (lv_at hl 2 rfl) ?_
        obtain ⟨u12, hu12, hf⟩ := bd_e hf
        obtain ⟨⟨v14, X13⟩, hv14, hf⟩ := bd_e hf
        refine xrun_r (va_runV (As := [.int x2]) (rest := []) E.1 (tX0_goOn l hv14) (cwX0_257 E.ht ⟨Nat.le_of_ble_eq_true rfl, Nat.le_of_ble_eq_true rfl⟩) (xPreV (ci := 0) E hR hS rfl (ck_e hu12)) rfl rfl hl.1 rfl (lv_room (Nat.le_of_ble_eq_true rfl)) dX0_ahead_37 ⟨Nat.le_trans (by omega) (Nat.le_refl 0), Nat.le_trans (by omega) (Nat.le_refl 0)⟩) hS (fun H locs hR hS => ?_)
        refine lv_pop E.hx E.hb dX0_ahead_40 rfl ?_
        refine lv_iload_n E.hx E.hb dX0_ahead_41 rfl (lv_at hl 3 rfl) ?_
        refine lv_if_ne (tgt := 56) E.hx E.hb dX0_ahead_42 (by decide) (fun c15 => ?_) (fun c15 => ?_)
        · have hf := it_f hf c15
          refine lv_iload_n E.hx E.hb dX0_ahead_56 rfl (lv_at hl 3 rfl) ?_
          refine lv_iconst (v := 1) E.hx E.hb dX0_ahead_57 (by decide) ?_
          refine lv_icmp_ne (tgt := 72) E.hx E.hb dX0_ahead_58 (by decide) (fun c16 => ?_) (fun c16 => ?_)
          · have hf := it_f hf c16
            refine lv_aload_n E.hx E.hb dX0_ahead_72 rfl (lv_at hl 0 rfl) ?_
            obtain ⟨v17, hv17, hf⟩ := bd_e hf
            refine xgX0_43 E hR hv17 dX0_ahead_73 ?_
            obtain ⟨v18, hv18, hf⟩ := bd_e hf
            refine xgX0_208 E hR hv18 dX0_ahead_76 ?_
            refine lv_iload_n E.hx E.hb dX0_ahead_79 rfl (lv_at hl 1 rfl) ?_
            obtain ⟨v19, hv19, hf⟩ := bd_e hf
            refine xild E hR hv19 dX0_ahead_80 ?_
            obtain ⟨rfl, rfl⟩ := rt_e hf
            exact xret_i E (by omega) (by omega) hR hS dX0_ahead_81
          · have hf := it_t hf c16
            refine lv_aload_n E.hx E.hb dX0_ahead_61 rfl (lv_at hl 0 rfl) ?_
            obtain ⟨v20, hv20, hf⟩ := bd_e hf
            refine xgX0_43 E hR hv20 dX0_ahead_62 ?_
            refine lv_iload_n E.hx E.hb dX0_ahead_65 rfl (lv_at hl 1 rfl) ?_
            obtain ⟨u21, hu21, hf⟩ := bd_e hf
            obtain ⟨⟨v23, X22⟩, hv23, hf⟩ := bd_e hf
            refine xrun_i (va_runV (As := [.int x1]) (rest := []) E.1 (tX1_rank l hv23) (cwX0_242 E.ht ⟨Nat.le_of_ble_eq_true rfl, Nat.le_of_ble_eq_true rfl⟩) (xPreV (ci := 1) E hR hS rfl (ck_e hu21)) rfl rfl hl.1 rfl (lv_room (Nat.le_of_ble_eq_true rfl)) dX0_ahead_66 ⟨Nat.le_trans (by omega) (Nat.le_refl 0), Nat.le_trans (by omega) (Nat.le_refl 0)⟩) hS (fun H locs hR hS => ?_)
            refine lv_goto (tgt := 81) E.hx E.hb dX0_ahead_69 (by decide) ?_
            obtain ⟨rfl, rfl⟩ := rt_e hf
            exact xret_i E (by omega) (by omega) hR hS dX0_ahead_81
        · have hf := it_t hf c15
          refine lv_aload_n E.hx E.hb dX0_ahead_45 rfl (lv_at hl 0 rfl) ?_
          obtain ⟨v24, hv24, hf⟩ := bd_e hf
          refine xgX0_43 E hR hv24 dX0_ahead_46 ?_
          refine lv_iload_n E.hx E.hb dX0_ahead_49 rfl (lv_at hl 1 rfl) ?_
          obtain ⟨u25, hu25, hf⟩ := bd_e hf
          obtain ⟨⟨v27, X26⟩, hv27, hf⟩ := bd_e hf
          refine xrun_i (va_runV (As := [.int x1]) (rest := []) E.1 (tX1_high l hv27) (cwX0_239 E.ht ⟨Nat.le_of_ble_eq_true rfl, Nat.le_of_ble_eq_true rfl⟩) (xPreV (ci := 1) E hR hS rfl (ck_e hu25)) rfl rfl hl.1 rfl (lv_room (Nat.le_of_ble_eq_true rfl)) dX0_ahead_50 ⟨Nat.le_trans (by omega) (Nat.le_refl 0), Nat.le_trans (by omega) (Nat.le_refl 0)⟩) hS (fun H locs hR hS => ?_)
          refine lv_goto (tgt := 81) E.hx E.hb dX0_ahead_53 (by decide) ?_
          obtain ⟨rfl, rfl⟩ := rt_e hf
          exact xret_i E (by omega) (by omega) hR hS dX0_ahead_81
      · have hf := it_t hf c8
        refine lv_ldc (v := (-1000001)) E.hx E.hb E.ho (E.ht _ q319) dX0_ahead_27 ?_
        obtain ⟨rfl, rfl⟩ := rt_e hf
        exact xret_i E (by omega) (by omega) hR hS dX0_ahead_29
theorem tX0_ahead (l : Launch) {D : va_G} {cA : Nat → ClassId} {A : Nat → Prop} {Zs : XZ} {X Xf : AH} {x0 : Nat} {x1 : Int32} {x2 : Int32} {x3 : Int32} {r : Int32} (hf : fX0_ahead X x0 x1 x2 x3 = some (r, Xf)) : Met l yX0_ahead (ws_ yX0_ahead cX0_ahead 4 (some .int)) rmX0_ahead (xPc D cA A Zs X [.ref x0, .int x1, .int x2, .int x3]) (xQi D cA A Zs r Xf) 0 0 A := by
  refine Met.ofW (cc := cX0_ahead) (maxL := 4) (ret := (some .int)) (by decide) rfl ?_
  intro p e s m args below meth c s₁ B hml hv
  obtain ⟨rfl, hR, hK⟩ := hv
  have hts := atoms_spec (ws := (ws_ yX0_ahead cX0_ahead 4 (some .int))) B.pre
  rw [lg_entry_eq]
  exact wX0_ahead_0 (E := ⟨⟨B.exec, B.bytes, hml, findClass_of_methodNamed B.named, fun w h => hts w (List.mem_cons_of_mem _ h)⟩, hK, B.returns, B.notSynchronized⟩) hf _ _ _ 0 0 (Nat.le_of_ble_eq_true rfl) (Nat.le_of_ble_eq_true rfl) hR va_S.rf (lv_entry [.ref x0, .int x1, .int x2, .int x3] (n := 4) (Nat.le_of_ble_eq_true rfl))
end
abbrev rmX0_minister : Room := { frames := 13, cells := 0, slots := 0, locals := 272 }
section
variable {p : Program} {l : Launch} {e : Env} {s : State} {m : MethodId} {args : Array Value} {below : List Frame} {meth : Method} {c : Code} {D : va_G} {cA : Nat → ClassId} {A : Nat → Prop} {Zs : XZ} {Xf : AH} {r : Int32} {rl : Int64} {ra : Nat} {tv : Unit ⊕ Nat} {ti : Int32 ⊕ Nat} {tr : Nat ⊕ Nat} {q2 : Option Nat}
def fX0_minister  (X : AH) (x0 : Nat) (x1 : Int32) : Option (Int32 × AH) :=
  (ck X x0 0).bind fun _ =>
  (fX0_isMinistry X x0).bind fun (v3, X2) =>
  if v3 = 0 then (some ((-1000002), X2)) else ((fX0_isFar x1).bind fun v5 =>
  if v5 = 0 then (some ((-1000001), X2)) else ((ck X2 x0 0).bind fun _ =>
  (fX0_tried X2 x0).bind fun (v9, X8) =>
  (ck X8 x0 0).bind fun _ =>
  (fX0_goOn X8 x0 x1).bind fun (v12, X11) =>
  (ck X11 v12 1).bind fun _ =>
  (fX1_ranked X11 v12 0).bind fun (v15, X14) =>
  some (v15, X14)))
theorem wX0_minister_0 (E : xE p m c cX0_minister 2 s args RX0 D cA A Zs meth (some .int)) {X : AH} {x0 : Nat} {x1 : Int32} (hf : fX0_minister X x0 x1 = some (r, Xf)) : ∀ (H : Heap) (locs : List Loc) (ls : Array Slot) (cells slots : Nat), cells + 0 ≤ 0 → slots + 0 ≤ 0 → xR D cA A Zs X H → va_S A s.heap H locs → lv_has ls 2 [(0, .ref x0), (1, .int x1)] → W p l e rmX0_minister s m args below meth c H locs cells slots (MQ below (xQi D cA A Zs r Xf) args s 0 0 A) (F0 m 0 ls []) := by
  intro H locs ls cells slots hc hs hR hS hl
  refine lv_aload_n E.hx E.hb dX0_minister_0 rfl (lv_at hl 0 rfl) ?_
  obtain ⟨u1, hu1, hf⟩ := bd_e hf
  obtain ⟨⟨v3, X2⟩, hv3, hf⟩ := bd_e hf
  refine xrun_i (va_runV (As := []) (rest := []) E.1 (tX0_isMinistry l hv3) (cwX0_177 E.ht ⟨Nat.le_of_ble_eq_true rfl, Nat.le_of_ble_eq_true rfl⟩) (xPreV (ci := 0) E hR hS rfl (ck_e hu1)) rfl rfl hl.1 rfl (lv_room (Nat.le_of_ble_eq_true rfl)) dX0_minister_1 ⟨Nat.le_trans (by omega) (Nat.le_refl 0), Nat.le_trans (by omega) (Nat.le_refl 0)⟩) hS (fun H locs hR hS => ?_)
  refine lv_if_ne (tgt := 10) E.hx E.hb dX0_minister_4 (by decide) (fun c4 => ?_) (fun c4 => ?_)
  · have hf := it_f hf c4
    refine lv_iload_n E.hx E.hb dX0_minister_10 rfl (lv_at hl 1 rfl) ?_
    obtain ⟨v5, hv5, hf⟩ := bd_e hf
    refine scall_i (rest := []) E.1 (tX0_isFar l hv5) (cwX0_251 E.ht ⟨Nat.le_of_ble_eq_true rfl, Nat.le_of_ble_eq_true rfl⟩) rfl hl.1 rfl (Nat.le_of_ble_eq_true rfl) dX0_minister_11 ⟨Nat.le_trans (by omega) (Nat.le_refl 0), Nat.le_trans (by omega) (Nat.le_refl 0)⟩ ?_
    refine lv_if_ne (tgt := 20) E.hx E.hb dX0_minister_14 (by decide) (fun c6 => ?_) (fun c6 => ?_)
    · have hf := it_f hf c6
      refine lv_aload_n E.hx E.hb dX0_minister_20 rfl (lv_at hl 0 rfl) ?_
      obtain ⟨u7, hu7, hf⟩ := bd_e hf
      obtain ⟨⟨v9, X8⟩, hv9, hf⟩ := bd_e hf
      refine xrun_r (va_runV (As := []) (rest := []) E.1 (tX0_tried l hv9) (cwX0_254 E.ht ⟨Nat.le_of_ble_eq_true rfl, Nat.le_of_ble_eq_true rfl⟩) (xPreV (ci := 0) E hR hS rfl (ck_e hu7)) rfl rfl hl.1 rfl (lv_room (Nat.le_of_ble_eq_true rfl)) dX0_minister_21 ⟨Nat.le_trans (by omega) (Nat.le_refl 0), Nat.le_trans (by omega) (Nat.le_refl 0)⟩) hS (fun H locs hR hS => ?_)
      refine lv_pop E.hx E.hb dX0_minister_24 rfl ?_
      refine lv_aload_n E.hx E.hb dX0_minister_25 rfl (lv_at hl 0 rfl) ?_
      refine lv_iload_n E.hx E.hb dX0_minister_26 rfl (lv_at hl 1 rfl) ?_
      obtain ⟨u10, hu10, hf⟩ := bd_e hf
      obtain ⟨⟨v12, X11⟩, hv12, hf⟩ := bd_e hf
      refine xrun_r (va_runV (As := [.int x1]) (rest := []) E.1 (tX0_goOn l hv12) (cwX0_257 E.ht ⟨Nat.le_of_ble_eq_true rfl, Nat.le_of_ble_eq_true rfl⟩) (xPreV (ci := 0) E hR hS rfl (ck_e hu10)) rfl rfl hl.1 rfl (lv_room (Nat.le_of_ble_eq_true rfl)) dX0_minister_27 ⟨Nat.le_trans (by omega) (Nat.le_refl 0), Nat.le_trans (by omega) (Nat.le_refl 0)⟩) hS (fun H locs hR hS => ?_)
      refine lv_iconst (v := 0) E.hx E.hb dX0_minister_30 (by decide) ?_
      obtain ⟨u13, hu13, hf⟩ := bd_e hf
      obtain ⟨⟨v15, X14⟩, hv15, hf⟩ := bd_e hf
      refine xrun_i (va_runV (As := [.int 0]) (rest := []) E.1 (tX1_ranked l hv15) (cwX0_193 E.ht ⟨Nat.le_of_ble_eq_true rfl, Nat.le_of_ble_eq_true rfl⟩) (xPreV (ci := 1) E hR hS rfl (ck_e hu13)) rfl rfl hl.1 rfl (lv_room (Nat.le_of_ble_eq_true rfl)) dX0_minister_31 ⟨Nat.le_trans (by omega) (Nat.le_refl 0), Nat.le_trans (by omega) (Nat.le_refl 0)⟩) hS (fun H locs hR hS => ?_)
      obtain ⟨rfl, rfl⟩ := rt_e hf
      exact xret_i E (by omega) (by omega) hR hS dX0_minister_34
    · have hf := it_t hf c6
      refine lv_ldc (v := (-1000001)) E.hx E.hb E.ho (E.ht _ q319) dX0_minister_17 ?_
      obtain ⟨rfl, rfl⟩ := rt_e hf
      exact xret_i E (by omega) (by omega) hR hS dX0_minister_19
  · have hf := it_t hf c4
    refine lv_ldc (v := (-1000002)) E.hx E.hb E.ho (E.ht _ q733) dX0_minister_7 ?_
    obtain ⟨rfl, rfl⟩ := rt_e hf
    exact xret_i E (by omega) (by omega) hR hS dX0_minister_9
theorem tX0_minister (l : Launch) {D : va_G} {cA : Nat → ClassId} {A : Nat → Prop} {Zs : XZ} {X Xf : AH} {x0 : Nat} {x1 : Int32} {r : Int32} (hf : fX0_minister X x0 x1 = some (r, Xf)) : Met l yX0_minister (ws_ yX0_minister cX0_minister 2 (some .int)) rmX0_minister (xPc D cA A Zs X [.ref x0, .int x1]) (xQi D cA A Zs r Xf) 0 0 A := by
  refine Met.ofW (cc := cX0_minister) (maxL := 2) (ret := (some .int)) (by decide) rfl ?_
  intro p e s m args below meth c s₁ B hml hv
  obtain ⟨rfl, hR, hK⟩ := hv
  have hts := atoms_spec (ws := (ws_ yX0_minister cX0_minister 2 (some .int))) B.pre
  rw [lg_entry_eq]
  exact wX0_minister_0 (E := ⟨⟨B.exec, B.bytes, hml, findClass_of_methodNamed B.named, fun w h => hts w (List.mem_cons_of_mem _ h)⟩, hK, B.returns, B.notSynchronized⟩) hf _ _ _ 0 0 (Nat.le_of_ble_eq_true rfl) (Nat.le_of_ble_eq_true rfl) hR va_S.rf (lv_entry [.ref x0, .int x1] (n := 2) (Nat.le_of_ble_eq_true rfl))
end
abbrev rmX0_floor : Room := { frames := 12, cells := 0, slots := 0, locals := 250 }
section
variable {p : Program} {l : Launch} {e : Env} {s : State} {m : MethodId} {args : Array Value} {below : List Frame} {meth : Method} {c : Code} {D : va_G} {cA : Nat → ClassId} {A : Nat → Prop} {Zs : XZ} {Xf : AH} {r : Int32} {rl : Int64} {ra : Nat} {tv : Unit ⊕ Nat} {ti : Int32 ⊕ Nat} {tr : Nat ⊕ Nat} {q2 : Option Nat}
def fX0_floor_L18  : Nat → AH → Nat → Int32 → Int32 → Option (Int32 × AH)
  | 0, _, _, _, _ => none
  | n + 1, X, x0, x1, x2 =>
    if 60 < x2 then (some ((-1000000), X)) else ((gR X x0 0 5).bind fun v2 =>
    (gR X v2 1 3).bind fun v3 =>
    (gA X v3 0 x1).bind fun v4 =>
    if v4 = 0 then (some (x2, X)) else ((gR X x0 0 5).bind fun v6 =>
    (ck X v6 1).bind fun _ =>
    (fX1_pass X v6).bind fun (v9, X8) =>
    (fX0_floor_L18 n) X8 x0 x1 (x2 + 1)))
theorem wX0_floor_L18 (E : xE p m c cX0_floor 3 s args RX0 D cA A Zs meth (some .int)) : ∀ (n : Nat) (X : AH) (x0 : Nat) (x1 : Int32) (x2 : Int32), fX0_floor_L18 n X x0 x1 x2 = some (r, Xf) → ∀ (H : Heap) (locs : List Loc) (ls : Array Slot) (cells slots : Nat), cells + 0 ≤ 0 → slots + 0 ≤ 0 → xR D cA A Zs X H → va_S A s.heap H locs → lv_has ls 3 [(0, .ref x0), (1, .int x1), (2, .int x2)] → W p l e rmX0_floor s m args below meth c H locs cells slots (MQ below (xQi D cA A Zs r Xf) args s 0 0 A) (F0 m 18 ls []) := by
  intro n
  induction n with
  | zero =>
    intro X x0 x1 x2 hf
    have hf : none = some (r, Xf) := hf
    cases hf
  | succ n ih =>
    intro X x0 x1 x2 hf H locs ls cells slots hc hs hR hS hl
    refine lv_iload_n E.hx E.hb dX0_floor_18 rfl (lv_at hl 2 rfl) ?_
    refine lv_bipush (v := 60) E.hx E.hb dX0_floor_19 (by decide) ?_
    refine lv_icmp_gt (tgt := 52) E.hx E.hb dX0_floor_21 (by decide) (fun c1 => ?_) (fun c1 => ?_)
    · have hf := it_t hf c1
      refine lv_ldcw (v := (-1000000)) E.hx E.hb E.ho (E.ht _ q923) dX0_floor_52 ?_
      obtain ⟨rfl, rfl⟩ := rt_e hf
      exact xret_i E (by omega) (by omega) hR hS dX0_floor_55
    · have hf := it_f hf c1
      refine lv_aload_n E.hx E.hb dX0_floor_24 rfl (lv_at hl 0 rfl) ?_
      obtain ⟨v2, hv2, hf⟩ := bd_e hf
      refine xgX0_43 E hR hv2 dX0_floor_25 ?_
      obtain ⟨v3, hv3, hf⟩ := bd_e hf
      refine xgX0_208 E hR hv3 dX0_floor_28 ?_
      refine lv_iload_n E.hx E.hb dX0_floor_31 rfl (lv_at hl 1 rfl) ?_
      obtain ⟨v4, hv4, hf⟩ := bd_e hf
      refine xild E hR hv4 dX0_floor_32 ?_
      refine lv_if_ne (tgt := 38) E.hx E.hb dX0_floor_33 (by decide) (fun c5 => ?_) (fun c5 => ?_)
      · have hf := it_f hf c5
        refine lv_aload_n E.hx E.hb dX0_floor_38 rfl (lv_at hl 0 rfl) ?_
        obtain ⟨v6, hv6, hf⟩ := bd_e hf
        refine xgX0_43 E hR hv6 dX0_floor_39 ?_
        obtain ⟨u7, hu7, hf⟩ := bd_e hf
        obtain ⟨⟨v9, X8⟩, hv9, hf⟩ := bd_e hf
        refine xrun_r (va_runV (As := []) (rest := []) E.1 (tX1_pass l hv9) (cwX0_189 E.ht ⟨Nat.le_of_ble_eq_true rfl, Nat.le_of_ble_eq_true rfl⟩) (xPreV (ci := 1) E hR hS rfl (ck_e hu7)) rfl rfl hl.1 rfl (lv_room (Nat.le_of_ble_eq_true rfl)) dX0_floor_42 ⟨Nat.le_trans (by omega) (Nat.le_refl 0), Nat.le_trans (by omega) (Nat.le_refl 0)⟩) hS (fun H locs hR hS => ?_)
        refine lv_pop E.hx E.hb dX0_floor_45 rfl ?_
        refine lv_iinc (v := (x2 + 1)) (lv' := [(2, .int (x2 + 1)), (0, .ref x0), (1, .int x1)]) E.hx E.hb dX0_floor_46 hl (k := 2) rfl rfl (by decide) rfl (fun ls hl => ?_)
        refine lv_goto (tgt := 18) E.hx E.hb dX0_floor_49 (by decide) ?_
        exact ih X8 _ _ _ hf _ _ _ _ _ (by omega) (by omega) hR hS (lv_sub hl [1, 2, 0] rfl)
      · have hf := it_t hf c5
        refine lv_iload_n E.hx E.hb dX0_floor_36 rfl (lv_at hl 2 rfl) ?_
        obtain ⟨rfl, rfl⟩ := rt_e hf
        exact xret_i E (by omega) (by omega) hR hS dX0_floor_37
def fX0_floor  (X : AH) (x0 : Nat) (x1 : Int32) : Option (Int32 × AH) :=
  (ck X x0 0).bind fun _ =>
  (fX0_isChair X x0 x1).bind fun (v3, X2) =>
  if v3 = 0 then (some ((-1000001), X2)) else ((ck X2 x0 0).bind fun _ =>
  (fX0_tried X2 x0).bind fun (v7, X6) =>
  fX0_floor_L18 2000 X6 x0 x1 0)
theorem wX0_floor_0 (E : xE p m c cX0_floor 3 s args RX0 D cA A Zs meth (some .int)) {X : AH} {x0 : Nat} {x1 : Int32} (hf : fX0_floor X x0 x1 = some (r, Xf)) : ∀ (H : Heap) (locs : List Loc) (ls : Array Slot) (cells slots : Nat), cells + 0 ≤ 0 → slots + 0 ≤ 0 → xR D cA A Zs X H → va_S A s.heap H locs → lv_has ls 3 [(0, .ref x0), (1, .int x1)] → W p l e rmX0_floor s m args below meth c H locs cells slots (MQ below (xQi D cA A Zs r Xf) args s 0 0 A) (F0 m 0 ls []) := by
  intro H locs ls cells slots hc hs hR hS hl
  refine lv_aload_n E.hx E.hb dX0_floor_0 rfl (lv_at hl 0 rfl) ?_
  refine lv_iload_n E.hx E.hb dX0_floor_1 rfl (lv_at hl 1 rfl) ?_
  obtain ⟨u1, hu1, hf⟩ := bd_e hf
  obtain ⟨⟨v3, X2⟩, hv3, hf⟩ := bd_e hf
  refine xrun_i (va_runV (As := [.int x1]) (rest := []) E.1 (tX0_isChair l hv3) (cwX0_196 E.ht ⟨Nat.le_of_ble_eq_true rfl, Nat.le_of_ble_eq_true rfl⟩) (xPreV (ci := 0) E hR hS rfl (ck_e hu1)) rfl rfl hl.1 rfl (lv_room (Nat.le_of_ble_eq_true rfl)) dX0_floor_2 ⟨Nat.le_trans (by omega) (Nat.le_refl 0), Nat.le_trans (by omega) (Nat.le_refl 0)⟩) hS (fun H locs hR hS => ?_)
  refine lv_if_ne (tgt := 11) E.hx E.hb dX0_floor_5 (by decide) (fun c4 => ?_) (fun c4 => ?_)
  · have hf := it_f hf c4
    refine lv_aload_n E.hx E.hb dX0_floor_11 rfl (lv_at hl 0 rfl) ?_
    obtain ⟨u5, hu5, hf⟩ := bd_e hf
    obtain ⟨⟨v7, X6⟩, hv7, hf⟩ := bd_e hf
    refine xrun_r (va_runV (As := []) (rest := []) E.1 (tX0_tried l hv7) (cwX0_254 E.ht ⟨Nat.le_of_ble_eq_true rfl, Nat.le_of_ble_eq_true rfl⟩) (xPreV (ci := 0) E hR hS rfl (ck_e hu5)) rfl rfl hl.1 rfl (lv_room (Nat.le_of_ble_eq_true rfl)) dX0_floor_12 ⟨Nat.le_trans (by omega) (Nat.le_refl 0), Nat.le_trans (by omega) (Nat.le_refl 0)⟩) hS (fun H locs hR hS => ?_)
    refine lv_pop E.hx E.hb dX0_floor_15 rfl ?_
    refine lv_iconst (v := 0) E.hx E.hb dX0_floor_16 (by decide) ?_
    refine lv_istore_n (lv' := [(2, .int 0), (0, .ref x0), (1, .int x1)]) E.hx E.hb dX0_floor_17 rfl hl (by decide) rfl (fun ls hl => ?_)
    exact wX0_floor_L18 E  2000 X6 _ _ _ hf _ _ _ _ _ (by omega) (by omega) hR hS (lv_sub hl [1, 2, 0] rfl)
  · have hf := it_t hf c4
    refine lv_ldc (v := (-1000001)) E.hx E.hb E.ho (E.ht _ q319) dX0_floor_8 ?_
    obtain ⟨rfl, rfl⟩ := rt_e hf
    exact xret_i E (by omega) (by omega) hR hS dX0_floor_10
theorem tX0_floor (l : Launch) {D : va_G} {cA : Nat → ClassId} {A : Nat → Prop} {Zs : XZ} {X Xf : AH} {x0 : Nat} {x1 : Int32} {r : Int32} (hf : fX0_floor X x0 x1 = some (r, Xf)) : Met l yX0_floor (ws_ yX0_floor cX0_floor 3 (some .int)) rmX0_floor (xPc D cA A Zs X [.ref x0, .int x1]) (xQi D cA A Zs r Xf) 0 0 A := by
  refine Met.ofW (cc := cX0_floor) (maxL := 3) (ret := (some .int)) (by decide) rfl ?_
  intro p e s m args below meth c s₁ B hml hv
  obtain ⟨rfl, hR, hK⟩ := hv
  have hts := atoms_spec (ws := (ws_ yX0_floor cX0_floor 3 (some .int))) B.pre
  rw [lg_entry_eq]
  exact wX0_floor_0 (E := ⟨⟨B.exec, B.bytes, hml, findClass_of_methodNamed B.named, fun w h => hts w (List.mem_cons_of_mem _ h)⟩, hK, B.returns, B.notSynchronized⟩) hf _ _ _ 0 0 (Nat.le_of_ble_eq_true rfl) (Nat.le_of_ble_eq_true rfl) hR va_S.rf (lv_entry [.ref x0, .int x1] (n := 3) (Nat.le_of_ble_eq_true rfl))
end
abbrev rmX0_rises : Room := { frames := 12, cells := 0, slots := 0, locals := 250 }
theorem cwX0_262 {R : Room} {s : State} {args : Array Value} (ht : ∀ w ∈ lw_all, w.before args s = true) (hR : rmX0_isRank.frames + 1 ≤ R.frames ∧ 8 + (1 + 11) + rmX0_isRank.locals ≤ R.locals) : CallB R s args RX0 262 yX0_isRank cX0_isRank 1 (some .boolean) (ws_ yX0_isRank cX0_isRank 1 (some .boolean)) rmX0_isRank 0 0 1 ∧ (Cond.static yX0_isRank).before args s = true :=
  va_cwS 1 ht (lw_S q928 q929 q68 q930) rfl rfl rfl (by decide +kernel) hR
section
variable {p : Program} {l : Launch} {e : Env} {s : State} {m : MethodId} {args : Array Value} {below : List Frame} {meth : Method} {c : Code} {D : va_G} {cA : Nat → ClassId} {A : Nat → Prop} {Zs : XZ} {Xf : AH} {r : Int32} {rl : Int64} {ra : Nat} {tv : Unit ⊕ Nat} {ti : Int32 ⊕ Nat} {tr : Nat ⊕ Nat} {q2 : Option Nat}
def fX0_rises_L25  : Nat → AH → Nat → Int32 → Int32 → Int32 → Option (Int32 × AH)
  | 0, _, _, _, _, _ => none
  | n + 1, X, x0, x1, x2, x3 =>
    if 60 < x3 then (some ((-1000000), X)) else ((gR X x0 0 5).bind fun v2 =>
    (ck X v2 1).bind fun _ =>
    (fX1_rank X v2 x1).bind fun (v5, X4) =>
    if x2 < v5 then ((gR X4 x0 0 5).bind fun v7 =>
    (ck X4 v7 1).bind fun _ =>
    (fX1_pass X4 v7).bind fun (v10, X9) =>
    (fX0_rises_L25 n) X9 x0 x1 x2 (x3 + 1)) else (some (x3, X4)))
theorem wX0_rises_L25 (E : xE p m c cX0_rises 4 s args RX0 D cA A Zs meth (some .int)) : ∀ (n : Nat) (X : AH) (x0 : Nat) (x1 : Int32) (x2 : Int32) (x3 : Int32), fX0_rises_L25 n X x0 x1 x2 x3 = some (r, Xf) → ∀ (H : Heap) (locs : List Loc) (ls : Array Slot) (cells slots : Nat), cells + 0 ≤ 0 → slots + 0 ≤ 0 → xR D cA A Zs X H → va_S A s.heap H locs → lv_has ls 4 [(0, .ref x0), (1, .int x1), (2, .int x2), (3, .int x3)] → W p l e rmX0_rises s m args below meth c H locs cells slots (MQ below (xQi D cA A Zs r Xf) args s 0 0 A) (F0 m 25 ls []) := by
  intro n
  induction n with
  | zero =>
    intro X x0 x1 x2 x3 hf
    have hf : none = some (r, Xf) := hf
    cases hf
  | succ n ih =>
    intro X x0 x1 x2 x3 hf H locs ls cells slots hc hs hR hS hl
    refine lv_iload_n E.hx E.hb dX0_rises_25 rfl (lv_at hl 3 rfl) ?_
    refine lv_bipush (v := 60) E.hx E.hb dX0_rises_26 (by decide) ?_
    refine lv_icmp_gt (tgt := 59) E.hx E.hb dX0_rises_28 (by decide) (fun c1 => ?_) (fun c1 => ?_)
    · have hf := it_t hf c1
      refine lv_ldcw (v := (-1000000)) E.hx E.hb E.ho (E.ht _ q923) dX0_rises_59 ?_
      obtain ⟨rfl, rfl⟩ := rt_e hf
      exact xret_i E (by omega) (by omega) hR hS dX0_rises_62
    · have hf := it_f hf c1
      refine lv_aload_n E.hx E.hb dX0_rises_31 rfl (lv_at hl 0 rfl) ?_
      obtain ⟨v2, hv2, hf⟩ := bd_e hf
      refine xgX0_43 E hR hv2 dX0_rises_32 ?_
      refine lv_iload_n E.hx E.hb dX0_rises_35 rfl (lv_at hl 1 rfl) ?_
      obtain ⟨u3, hu3, hf⟩ := bd_e hf
      obtain ⟨⟨v5, X4⟩, hv5, hf⟩ := bd_e hf
      refine xrun_i (va_runV (As := [.int x1]) (rest := []) E.1 (tX1_rank l hv5) (cwX0_242 E.ht ⟨Nat.le_of_ble_eq_true rfl, Nat.le_of_ble_eq_true rfl⟩) (xPreV (ci := 1) E hR hS rfl (ck_e hu3)) rfl rfl hl.1 rfl (lv_room (Nat.le_of_ble_eq_true rfl)) dX0_rises_36 ⟨Nat.le_trans (by omega) (Nat.le_refl 0), Nat.le_trans (by omega) (Nat.le_refl 0)⟩) hS (fun H locs hR hS => ?_)
      refine lv_iload_n E.hx E.hb dX0_rises_39 rfl (lv_at hl 2 rfl) ?_
      refine lv_icmp_gt (tgt := 45) E.hx E.hb dX0_rises_40 (by decide) (fun c6 => ?_) (fun c6 => ?_)
      · have hf := it_t hf c6
        refine lv_aload_n E.hx E.hb dX0_rises_45 rfl (lv_at hl 0 rfl) ?_
        obtain ⟨v7, hv7, hf⟩ := bd_e hf
        refine xgX0_43 E hR hv7 dX0_rises_46 ?_
        obtain ⟨u8, hu8, hf⟩ := bd_e hf
        obtain ⟨⟨v10, X9⟩, hv10, hf⟩ := bd_e hf
        refine xrun_r (va_runV (As := []) (rest := []) E.1 (tX1_pass l hv10) (cwX0_189 E.ht ⟨Nat.le_of_ble_eq_true rfl, Nat.le_of_ble_eq_true rfl⟩) (xPreV (ci := 1) E hR hS rfl (ck_e hu8)) rfl rfl hl.1 rfl (lv_room (Nat.le_of_ble_eq_true rfl)) dX0_rises_49 ⟨Nat.le_trans (by omega) (Nat.le_refl 0), Nat.le_trans (by omega) (Nat.le_refl 0)⟩) hS (fun H locs hR hS => ?_)
        refine lv_pop E.hx E.hb dX0_rises_52 rfl ?_
        refine lv_iinc (v := (x3 + 1)) (lv' := [(3, .int (x3 + 1)), (0, .ref x0), (1, .int x1), (2, .int x2)]) E.hx E.hb dX0_rises_53 hl (k := 3) rfl rfl (by decide) rfl (fun ls hl => ?_)
        refine lv_goto (tgt := 25) E.hx E.hb dX0_rises_56 (by decide) ?_
        exact ih X9 _ _ _ _ hf _ _ _ _ _ (by omega) (by omega) hR hS (lv_sub hl [1, 2, 3, 0] rfl)
      · have hf := it_f hf c6
        refine lv_iload_n E.hx E.hb dX0_rises_43 rfl (lv_at hl 3 rfl) ?_
        obtain ⟨rfl, rfl⟩ := rt_e hf
        exact xret_i E (by omega) (by omega) hR hS dX0_rises_44
def fX0_rises  (X : AH) (x0 : Nat) (x1 : Int32) (x2 : Int32) : Option (Int32 × AH) :=
  (ck X x0 0).bind fun _ =>
  (fX0_isChair X x0 x1).bind fun (v3, X2) =>
  if v3 = 0 then (some ((-1000001), X2)) else ((fX0_isRank x2).bind fun v5 =>
  if v5 = 0 then (some ((-1000001), X2)) else ((ck X2 x0 0).bind fun _ =>
  (fX0_tried X2 x0).bind fun (v9, X8) =>
  fX0_rises_L25 2000 X8 x0 x1 x2 0))
theorem wX0_rises_0 (E : xE p m c cX0_rises 4 s args RX0 D cA A Zs meth (some .int)) {X : AH} {x0 : Nat} {x1 : Int32} {x2 : Int32} (hf : fX0_rises X x0 x1 x2 = some (r, Xf)) : ∀ (H : Heap) (locs : List Loc) (ls : Array Slot) (cells slots : Nat), cells + 0 ≤ 0 → slots + 0 ≤ 0 → xR D cA A Zs X H → va_S A s.heap H locs → lv_has ls 4 [(0, .ref x0), (1, .int x1), (2, .int x2)] → W p l e rmX0_rises s m args below meth c H locs cells slots (MQ below (xQi D cA A Zs r Xf) args s 0 0 A) (F0 m 0 ls []) := by
  intro H locs ls cells slots hc hs hR hS hl
  refine lv_aload_n E.hx E.hb dX0_rises_0 rfl (lv_at hl 0 rfl) ?_
  refine lv_iload_n E.hx E.hb dX0_rises_1 rfl (lv_at hl 1 rfl) ?_
  obtain ⟨u1, hu1, hf⟩ := bd_e hf
  obtain ⟨⟨v3, X2⟩, hv3, hf⟩ := bd_e hf
  refine xrun_i (va_runV (As := [.int x1]) (rest := []) E.1 (tX0_isChair l hv3) (cwX0_196 E.ht ⟨Nat.le_of_ble_eq_true rfl, Nat.le_of_ble_eq_true rfl⟩) (xPreV (ci := 0) E hR hS rfl (ck_e hu1)) rfl rfl hl.1 rfl (lv_room (Nat.le_of_ble_eq_true rfl)) dX0_rises_2 ⟨Nat.le_trans (by omega) (Nat.le_refl 0), Nat.le_trans (by omega) (Nat.le_refl 0)⟩) hS (fun H locs hR hS => ?_)
  refine lv_if_eq (tgt := 15) E.hx E.hb dX0_rises_5 (by decide) (fun c4 => ?_) (fun c4 => ?_)
  · have hf := it_t hf c4
    refine lv_ldc (v := (-1000001)) E.hx E.hb E.ho (E.ht _ q319) dX0_rises_15 ?_
    obtain ⟨rfl, rfl⟩ := rt_e hf
    exact xret_i E (by omega) (by omega) hR hS dX0_rises_17
  · have hf := it_f hf c4
    refine lv_iload_n E.hx E.hb dX0_rises_8 rfl (lv_at hl 2 rfl) ?_
    obtain ⟨v5, hv5, hf⟩ := bd_e hf
    refine scall_i (rest := []) E.1 (tX0_isRank l hv5) (cwX0_262 E.ht ⟨Nat.le_of_ble_eq_true rfl, Nat.le_of_ble_eq_true rfl⟩) rfl hl.1 rfl (Nat.le_of_ble_eq_true rfl) dX0_rises_9 ⟨Nat.le_trans (by omega) (Nat.le_refl 0), Nat.le_trans (by omega) (Nat.le_refl 0)⟩ ?_
    refine lv_if_ne (tgt := 18) E.hx E.hb dX0_rises_12 (by decide) (fun c6 => ?_) (fun c6 => ?_)
    · have hf := it_f hf c6
      refine lv_aload_n E.hx E.hb dX0_rises_18 rfl (lv_at hl 0 rfl) ?_
      obtain ⟨u7, hu7, hf⟩ := bd_e hf
      obtain ⟨⟨v9, X8⟩, hv9, hf⟩ := bd_e hf
      refine xrun_r (va_runV (As := []) (rest := []) E.1 (tX0_tried l hv9) (cwX0_254 E.ht ⟨Nat.le_of_ble_eq_true rfl, Nat.le_of_ble_eq_true rfl⟩) (xPreV (ci := 0) E hR hS rfl (ck_e hu7)) rfl rfl hl.1 rfl (lv_room (Nat.le_of_ble_eq_true rfl)) dX0_rises_19 ⟨Nat.le_trans (by omega) (Nat.le_refl 0), Nat.le_trans (by omega) (Nat.le_refl 0)⟩) hS (fun H locs hR hS => ?_)
      refine lv_pop E.hx E.hb dX0_rises_22 rfl ?_
      refine lv_iconst (v := 0) E.hx E.hb dX0_rises_23 (by decide) ?_
      refine lv_istore_n (lv' := [(3, .int 0), (0, .ref x0), (1, .int x1), (2, .int x2)]) E.hx E.hb dX0_rises_24 rfl hl (by decide) rfl (fun ls hl => ?_)
      exact wX0_rises_L25 E  2000 X8 _ _ _ _ hf _ _ _ _ _ (by omega) (by omega) hR hS (lv_sub hl [1, 2, 3, 0] rfl)
    · have hf := it_t hf c6
      refine lv_ldc (v := (-1000001)) E.hx E.hb E.ho (E.ht _ q319) dX0_rises_15 ?_
      obtain ⟨rfl, rfl⟩ := rt_e hf
      exact xret_i E (by omega) (by omega) hR hS dX0_rises_17
theorem tX0_rises (l : Launch) {D : va_G} {cA : Nat → ClassId} {A : Nat → Prop} {Zs : XZ} {X Xf : AH} {x0 : Nat} {x1 : Int32} {x2 : Int32} {r : Int32} (hf : fX0_rises X x0 x1 x2 = some (r, Xf)) : Met l yX0_rises (ws_ yX0_rises cX0_rises 4 (some .int)) rmX0_rises (xPc D cA A Zs X [.ref x0, .int x1, .int x2]) (xQi D cA A Zs r Xf) 0 0 A := by
  refine Met.ofW (cc := cX0_rises) (maxL := 4) (ret := (some .int)) (by decide) rfl ?_
  intro p e s m args below meth c s₁ B hml hv
  obtain ⟨rfl, hR, hK⟩ := hv
  have hts := atoms_spec (ws := (ws_ yX0_rises cX0_rises 4 (some .int))) B.pre
  rw [lg_entry_eq]
  exact wX0_rises_0 (E := ⟨⟨B.exec, B.bytes, hml, findClass_of_methodNamed B.named, fun w h => hts w (List.mem_cons_of_mem _ h)⟩, hK, B.returns, B.notSynchronized⟩) hf _ _ _ 0 0 (Nat.le_of_ble_eq_true rfl) (Nat.le_of_ble_eq_true rfl) hR va_S.rf (lv_entry [.ref x0, .int x1, .int x2] (n := 4) (Nat.le_of_ble_eq_true rfl))
end
abbrev rmX0_calm : Room := { frames := 12, cells := 0, slots := 0, locals := 250 }
theorem cwX0_265 {R : Room} {s : State} {args : Array Value} (ht : ∀ w ∈ lw_all, w.before args s = true) (hR : rmX1_allLegs.frames + 1 ≤ R.frames ∧ 8 + (3 + 11) + rmX1_allLegs.locals ≤ R.locals) : CallW R s args RX0 RX1 265 yX1_allLegs cX1_allLegs 3 (some .int) (ws_ yX1_allLegs cX1_allLegs 3 (some .int)) rmX1_allLegs 0 0 0 :=
  cwV 0 ht (lw_V q936 q937 q938 q69 q939) rfl rfl rfl (by decide +kernel) hR
section
variable {p : Program} {l : Launch} {e : Env} {s : State} {m : MethodId} {args : Array Value} {below : List Frame} {meth : Method} {c : Code} {D : va_G} {cA : Nat → ClassId} {A : Nat → Prop} {Zs : XZ} {Xf : AH} {r : Int32} {rl : Int64} {ra : Nat} {tv : Unit ⊕ Nat} {ti : Int32 ⊕ Nat} {tr : Nat ⊕ Nat} {q2 : Option Nat}
def fX0_calm_L17  : Nat → AH → Nat → Int32 → Option (Int32 × AH)
  | 0, _, _, _ => none
  | n + 1, X, x0, x1 =>
    if 60 < x1 then (some ((-1000000), X)) else ((gR X x0 0 5).bind fun v2 =>
    (ck X v2 1).bind fun _ =>
    (fX1_allLegs X v2).bind fun (v5, X4) =>
    (gR X4 x0 0 5).bind fun v6 =>
    (ck X4 v6 1).bind fun _ =>
    (fX1_pass X4 v6).bind fun (v9, X8) =>
    (ck X8 v9 1).bind fun _ =>
    (fX1_allLegs X8 v9).bind fun (v12, X11) =>
    if v12 = v5 then (some (x1, X11)) else ((fX0_calm_L17 n) X11 x0 (x1 + 1)))
theorem wX0_calm_L17 (E : xE p m c cX0_calm 3 s args RX0 D cA A Zs meth (some .int)) : ∀ (n : Nat) (X : AH) (x0 : Nat) (x1 : Int32), fX0_calm_L17 n X x0 x1 = some (r, Xf) → ∀ (H : Heap) (locs : List Loc) (ls : Array Slot) (cells slots : Nat), cells + 0 ≤ 0 → slots + 0 ≤ 0 → xR D cA A Zs X H → va_S A s.heap H locs → lv_has ls 3 [(0, .ref x0), (1, .int x1)] → W p l e rmX0_calm s m args below meth c H locs cells slots (MQ below (xQi D cA A Zs r Xf) args s 0 0 A) (F0 m 17 ls []) := by
  intro n
  induction n with
  | zero =>
    intro X x0 x1 hf
    have hf : none = some (r, Xf) := hf
    cases hf
  | succ n ih =>
    intro X x0 x1 hf H locs ls cells slots hc hs hR hS hl
    refine lv_iload_n E.hx E.hb dX0_calm_17 rfl (lv_at hl 1 rfl) ?_
    refine lv_bipush (v := 60) E.hx E.hb dX0_calm_18 (by decide) ?_
    refine lv_icmp_gt (tgt := 53) E.hx E.hb dX0_calm_20 (by decide) (fun c1 => ?_) (fun c1 => ?_)
    · have hf := it_t hf c1
      refine lv_ldcw (v := (-1000000)) E.hx E.hb E.ho (E.ht _ q923) dX0_calm_53 ?_
      obtain ⟨rfl, rfl⟩ := rt_e hf
      exact xret_i E (by omega) (by omega) hR hS dX0_calm_56
    · have hf := it_f hf c1
      refine lv_aload_n E.hx E.hb dX0_calm_23 rfl (lv_at hl 0 rfl) ?_
      obtain ⟨v2, hv2, hf⟩ := bd_e hf
      refine xgX0_43 E hR hv2 dX0_calm_24 ?_
      obtain ⟨u3, hu3, hf⟩ := bd_e hf
      obtain ⟨⟨v5, X4⟩, hv5, hf⟩ := bd_e hf
      refine xrun_i (va_runV (As := []) (rest := []) E.1 (tX1_allLegs l hv5) (cwX0_265 E.ht ⟨Nat.le_of_ble_eq_true rfl, Nat.le_of_ble_eq_true rfl⟩) (xPreV (ci := 1) E hR hS rfl (ck_e hu3)) rfl rfl hl.1 rfl (lv_room (Nat.le_of_ble_eq_true rfl)) dX0_calm_27 ⟨Nat.le_trans (by omega) (Nat.le_refl 0), Nat.le_trans (by omega) (Nat.le_refl 0)⟩) hS (fun H locs hR hS => ?_)
      refine lv_istore_n (lv' := [(2, .int v5), (0, .ref x0), (1, .int x1)]) E.hx E.hb dX0_calm_30 rfl hl (by decide) rfl (fun ls hl => ?_)
      refine lv_aload_n E.hx E.hb dX0_calm_31 rfl (lv_at hl 1 rfl) ?_
      obtain ⟨v6, hv6, hf⟩ := bd_e hf
      refine xgX0_43 E hR hv6 dX0_calm_32 ?_
      obtain ⟨u7, hu7, hf⟩ := bd_e hf
      obtain ⟨⟨v9, X8⟩, hv9, hf⟩ := bd_e hf
      refine xrun_r (va_runV (As := []) (rest := []) E.1 (tX1_pass l hv9) (cwX0_189 E.ht ⟨Nat.le_of_ble_eq_true rfl, Nat.le_of_ble_eq_true rfl⟩) (xPreV (ci := 1) E hR hS rfl (ck_e hu7)) rfl rfl hl.1 rfl (lv_room (Nat.le_of_ble_eq_true rfl)) dX0_calm_35 ⟨Nat.le_trans (by omega) (Nat.le_refl 0), Nat.le_trans (by omega) (Nat.le_refl 0)⟩) hS (fun H locs hR hS => ?_)
      obtain ⟨u10, hu10, hf⟩ := bd_e hf
      obtain ⟨⟨v12, X11⟩, hv12, hf⟩ := bd_e hf
      refine xrun_i (va_runV (As := []) (rest := []) E.1 (tX1_allLegs l hv12) (cwX0_265 E.ht ⟨Nat.le_of_ble_eq_true rfl, Nat.le_of_ble_eq_true rfl⟩) (xPreV (ci := 1) E hR hS rfl (ck_e hu10)) rfl rfl hl.1 rfl (lv_room (Nat.le_of_ble_eq_true rfl)) dX0_calm_38 ⟨Nat.le_trans (by omega) (Nat.le_refl 0), Nat.le_trans (by omega) (Nat.le_refl 0)⟩) hS (fun H locs hR hS => ?_)
      refine lv_iload_n E.hx E.hb dX0_calm_41 rfl (lv_at hl 0 rfl) ?_
      refine lv_icmp_ne (tgt := 47) E.hx E.hb dX0_calm_42 (by decide) (fun c13 => ?_) (fun c13 => ?_)
      · have hf := it_f hf c13
        refine lv_iinc (v := (x1 + 1)) (lv' := [(1, .int (x1 + 1)), (2, .int v5), (0, .ref x0)]) E.hx E.hb dX0_calm_47 hl (k := 2) rfl rfl (by decide) rfl (fun ls hl => ?_)
        refine lv_goto (tgt := 17) E.hx E.hb dX0_calm_50 (by decide) ?_
        exact ih X11 _ _ hf _ _ _ _ _ (by omega) (by omega) hR hS (lv_sub hl [2, 0] rfl)
      · have hf := it_t hf c13
        refine lv_iload_n E.hx E.hb dX0_calm_45 rfl (lv_at hl 2 rfl) ?_
        obtain ⟨rfl, rfl⟩ := rt_e hf
        exact xret_i E (by omega) (by omega) hR hS dX0_calm_46
def fX0_calm  (X : AH) (x0 : Nat) : Option (Int32 × AH) :=
  (ck X x0 0).bind fun _ =>
  (fX0_isMinistry X x0).bind fun (v3, X2) =>
  if v3 = 0 then (some ((-1000002), X2)) else ((ck X2 x0 0).bind fun _ =>
  (fX0_tried X2 x0).bind fun (v7, X6) =>
  fX0_calm_L17 2000 X6 x0 0)
theorem wX0_calm_0 (E : xE p m c cX0_calm 3 s args RX0 D cA A Zs meth (some .int)) {X : AH} {x0 : Nat} (hf : fX0_calm X x0 = some (r, Xf)) : ∀ (H : Heap) (locs : List Loc) (ls : Array Slot) (cells slots : Nat), cells + 0 ≤ 0 → slots + 0 ≤ 0 → xR D cA A Zs X H → va_S A s.heap H locs → lv_has ls 3 [(0, .ref x0)] → W p l e rmX0_calm s m args below meth c H locs cells slots (MQ below (xQi D cA A Zs r Xf) args s 0 0 A) (F0 m 0 ls []) := by
  intro H locs ls cells slots hc hs hR hS hl
  refine lv_aload_n E.hx E.hb dX0_calm_0 rfl (lv_at hl 0 rfl) ?_
  obtain ⟨u1, hu1, hf⟩ := bd_e hf
  obtain ⟨⟨v3, X2⟩, hv3, hf⟩ := bd_e hf
  refine xrun_i (va_runV (As := []) (rest := []) E.1 (tX0_isMinistry l hv3) (cwX0_177 E.ht ⟨Nat.le_of_ble_eq_true rfl, Nat.le_of_ble_eq_true rfl⟩) (xPreV (ci := 0) E hR hS rfl (ck_e hu1)) rfl rfl hl.1 rfl (lv_room (Nat.le_of_ble_eq_true rfl)) dX0_calm_1 ⟨Nat.le_trans (by omega) (Nat.le_refl 0), Nat.le_trans (by omega) (Nat.le_refl 0)⟩) hS (fun H locs hR hS => ?_)
  refine lv_if_ne (tgt := 10) E.hx E.hb dX0_calm_4 (by decide) (fun c4 => ?_) (fun c4 => ?_)
  · have hf := it_f hf c4
    refine lv_aload_n E.hx E.hb dX0_calm_10 rfl (lv_at hl 0 rfl) ?_
    obtain ⟨u5, hu5, hf⟩ := bd_e hf
    obtain ⟨⟨v7, X6⟩, hv7, hf⟩ := bd_e hf
    refine xrun_r (va_runV (As := []) (rest := []) E.1 (tX0_tried l hv7) (cwX0_254 E.ht ⟨Nat.le_of_ble_eq_true rfl, Nat.le_of_ble_eq_true rfl⟩) (xPreV (ci := 0) E hR hS rfl (ck_e hu5)) rfl rfl hl.1 rfl (lv_room (Nat.le_of_ble_eq_true rfl)) dX0_calm_11 ⟨Nat.le_trans (by omega) (Nat.le_refl 0), Nat.le_trans (by omega) (Nat.le_refl 0)⟩) hS (fun H locs hR hS => ?_)
    refine lv_pop E.hx E.hb dX0_calm_14 rfl ?_
    refine lv_iconst (v := 0) E.hx E.hb dX0_calm_15 (by decide) ?_
    refine lv_istore_n (lv' := [(1, .int 0), (0, .ref x0)]) E.hx E.hb dX0_calm_16 rfl hl (by decide) rfl (fun ls hl => ?_)
    exact wX0_calm_L17 E  2000 X6 _ _ hf _ _ _ _ _ (by omega) (by omega) hR hS (lv_sub hl [1, 0] rfl)
  · have hf := it_t hf c4
    refine lv_ldc (v := (-1000002)) E.hx E.hb E.ho (E.ht _ q733) dX0_calm_7 ?_
    obtain ⟨rfl, rfl⟩ := rt_e hf
    exact xret_i E (by omega) (by omega) hR hS dX0_calm_9
theorem tX0_calm (l : Launch) {D : va_G} {cA : Nat → ClassId} {A : Nat → Prop} {Zs : XZ} {X Xf : AH} {x0 : Nat} {r : Int32} (hf : fX0_calm X x0 = some (r, Xf)) : Met l yX0_calm (ws_ yX0_calm cX0_calm 3 (some .int)) rmX0_calm (xPc D cA A Zs X [.ref x0]) (xQi D cA A Zs r Xf) 0 0 A := by
  refine Met.ofW (cc := cX0_calm) (maxL := 3) (ret := (some .int)) (by decide) rfl ?_
  intro p e s m args below meth c s₁ B hml hv
  obtain ⟨rfl, hR, hK⟩ := hv
  have hts := atoms_spec (ws := (ws_ yX0_calm cX0_calm 3 (some .int))) B.pre
  rw [lg_entry_eq]
  exact wX0_calm_0 (E := ⟨⟨B.exec, B.bytes, hml, findClass_of_methodNamed B.named, fun w h => hts w (List.mem_cons_of_mem _ h)⟩, hK, B.returns, B.notSynchronized⟩) hf _ _ _ 0 0 (Nat.le_of_ble_eq_true rfl) (Nat.le_of_ble_eq_true rfl) hR va_S.rf (lv_entry [.ref x0] (n := 3) (Nat.le_of_ble_eq_true rfl))
end
