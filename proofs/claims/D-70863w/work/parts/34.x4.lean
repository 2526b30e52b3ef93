set_option maxRecDepth 100000
section
variable {p : Program} {l : Launch} {e : Env} {R : Room} {s : State} {m : MethodId} {args : Array Value} {below : List Frame} {meth : Method} {c : Code} {H : Heap} {locs : List Loc} {cells slots : Nat} {Q : State → Prop} {cc : ByteArray} {pc nL : Nat} {ls : Array Slot} {rest : List Value} {D : va_G} {cA : Nat → ClassId} {A : Nat → Prop} {Zs : XZ} {X X' : AH} {ret : Option FieldType} {a : Nat}
theorem xgX0_62 {v : Nat} (E : xE p m c cc nL s args RX0 D cA A Zs meth ret) (hR : xR D cA A Zs X H) (h : gR X a 0 11 = some v) (hdg : decode cc pc = .ok (.getfield 62, 3)) (kk : W p l e R s m args below meth c H locs cells slots Q (F0 m (pc + 3) ls (.ref v :: rest))) : W p l e R s m args below meth c H locs cells slots Q (F0 m pc ls (.ref a :: rest)) :=
  xget (ci := 0) (k := 11) E hR in_X0 rfl (by decide) q280 (fun _ h => h) (gR_e h) hdg kk
theorem xpX0_316 {x : Int32} (E : xE p m c cc nL s args RX0 D cA A Zs meth ret) (hR : xR D cA A Zs X H) (hS : va_S A s.heap H locs) (h : pF X a 1 11 (.int x) = some X') (hdg : decode cc pc = .ok (.putfield 316, 3)) (kk : ∀ (H : Heap) (locs : List Loc), xR D cA A Zs X' H → va_S A s.heap H locs → W p l e R s m args below meth c H locs cells slots Q (F0 m (pc + 3) ls rest)) : W p l e R s m args below meth c H locs cells slots Q (F0 m pc ls (.int x :: .ref a :: rest)) :=
  xput (ci := 1) (k := 11) E hR hS in_X1 tyX1 tyX1_ok nmX1 rfl (by decide) q175 (fun _ h => h) rfl (ty := .int) rfl rfl rfl h hdg kk
theorem xpX0_319 {x : Nat} (E : xE p m c cc nL s args RX0 D cA A Zs meth ret) (hR : xR D cA A Zs X H) (hS : va_S A s.heap H locs) (h : pF X a 1 12 (.ref x) = some X') (hdg : decode cc pc = .ok (.putfield 319, 3)) (kk : ∀ (H : Heap) (locs : List Loc), xR D cA A Zs X' H → va_S A s.heap H locs → W p l e R s m args below meth c H locs cells slots Q (F0 m (pc + 3) ls rest)) : W p l e R s m args below meth c H locs cells slots Q (F0 m pc ls (.ref x :: .ref a :: rest)) :=
  xput (ci := 1) (k := 12) E hR hS in_X1 tyX1 tyX1_ok nmX1 rfl (by decide) q177 (fun _ h => h) rfl (ty := (.object "ChairRanks$Chair")) rfl rfl rfl h hdg kk
end
abbrev rmX0_isHighIn : Room := { frames := 13, cells := 0, slots := 0, locals := 272 }
section
variable {p : Program} {l : Launch} {e : Env} {s : State} {m : MethodId} {args : Array Value} {below : List Frame} {meth : Method} {c : Code} {D : va_G} {cA : Nat → ClassId} {A : Nat → Prop} {Zs : XZ} {Xf : AH} {r : Int32} {rl : Int64} {ra : Nat} {tv : Unit ⊕ Nat} {ti : Int32 ⊕ Nat} {tr : Nat ⊕ Nat} {q2 : Option Nat}
def fX0_isHighIn  (X : AH) (x0 : Nat) (x1 : Int32) (x2 : Int32) (x3 : Int32) : Option (Int32 × AH) :=
  (ck X x0 0).bind fun _ =>
  (fX0_goOn X x0 x3).bind fun (v3, X2) =>
  (ck X2 v3 1).bind fun _ =>
  (fX1_rank X2 v3 x1).bind fun (v6, X5) =>
  if x2 < v6 then (some (0, X5)) else (some (1, X5))
theorem wX0_isHighIn_0 (E : xE p m c cX0_isHighIn 4 s args RX0 D cA A Zs meth (some .boolean)) {X : AH} {x0 : Nat} {x1 : Int32} {x2 : Int32} {x3 : Int32} (hf : fX0_isHighIn X x0 x1 x2 x3 = some (r, Xf)) : ∀ (H : Heap) (locs : List Loc) (ls : Array Slot) (cells slots : Nat), cells + 0 ≤ 0 → slots + 0 ≤ 0 → xR D cA A Zs X H → va_S A s.heap H locs → lv_has ls 4 [(0, .ref x0), (1, .int x1), (2, .int x2), (3, .int x3)] → W p l e rmX0_isHighIn s m args below meth c H locs cells slots (MQ below (xQi D cA A Zs r Xf) args s 0 0 A) (F0 m 0 ls []) := by
  intro H locs ls cells slots hc hs hR hS hl
  refine lv_aload_n E.hx E.hb dX0_isHighIn_0 rfl (lv_at hl 0 rfl) ?_
  refine lv_iload_n E.hx E.hb dX0_isHighIn_1 rfl (lv_at hl 3 rfl) ?_
  obtain ⟨u1, hu1, hf⟩ := bd_e hf
  obtain ⟨⟨v3, X2⟩, hv3, hf⟩ := bd_e hf
  refine xrun_r (va_runV (As := [.int x3]) (rest := []) E.1 (tX0_goOn l hv3) (cwX0_257 E.ht ⟨Nat.le_of_ble_eq_true rfl, Nat.le_of_ble_eq_true rfl⟩) (xPreV (ci := 0) E hR hS rfl (ck_e hu1)) rfl rfl hl.1 rfl (lv_room (Nat.le_of_ble_eq_true rfl)) dX0_isHighIn_2 ⟨Nat.le_trans (by omega) (Nat.le_refl 0), Nat.le_trans (by omega) (Nat.le_refl 0)⟩) hS (fun H locs hR hS => ?_)
  refine lv_iload_n E.hx E.hb dX0_isHighIn_5 rfl (lv_at hl 1 rfl) ?_
  obtain ⟨u4, hu4, hf⟩ := bd_e hf
  obtain ⟨⟨v6, X5⟩, hv6, hf⟩ := bd_e hf
  refine xrun_i (va_runV (As := [.int x1]) (rest := []) E.1 (tX1_rank l hv6) (cwX0_242 E.ht ⟨Nat.le_of_ble_eq_true rfl, Nat.le_of_ble_eq_true rfl⟩) (xPreV (ci := 1) E hR hS rfl (ck_e hu4)) rfl rfl hl.1 rfl (lv_room (Nat.le_of_ble_eq_true rfl)) dX0_isHighIn_6 ⟨Nat.le_trans (by omega) (Nat.le_refl 0), Nat.le_trans (by omega) (Nat.le_refl 0)⟩) hS (fun H locs hR hS => ?_)
  refine lv_iload_n E.hx E.hb dX0_isHighIn_9 rfl (lv_at hl 2 rfl) ?_
  refine lv_icmp_gt (tgt := 17) E.hx E.hb dX0_isHighIn_10 (by decide) (fun c7 => ?_) (fun c7 => ?_)
  · have hf := it_t hf c7
    refine lv_iconst (v := 0) E.hx E.hb dX0_isHighIn_17 (by decide) ?_
    obtain ⟨rfl, rfl⟩ := rt_e hf
    exact xret_z E rfl (by omega) (by omega) hR hS dX0_isHighIn_18
  · have hf := it_f hf c7
    refine lv_iconst (v := 1) E.hx E.hb dX0_isHighIn_13 (by decide) ?_
    refine lv_goto (tgt := 18) E.hx E.hb dX0_isHighIn_14 (by decide) ?_
    obtain ⟨rfl, rfl⟩ := rt_e hf
    exact xret_z E rfl (by omega) (by omega) hR hS dX0_isHighIn_18
theorem tX0_isHighIn (l : Launch) {D : va_G} {cA : Nat → ClassId} {A : Nat → Prop} {Zs : XZ} {X Xf : AH} {x0 : Nat} {x1 : Int32} {x2 : Int32} {x3 : Int32} {r : Int32} (hf : fX0_isHighIn X x0 x1 x2 x3 = some (r, Xf)) : Met l yX0_isHighIn (ws_ yX0_isHighIn cX0_isHighIn 4 (some .boolean)) rmX0_isHighIn (xPc D cA A Zs X [.ref x0, .int x1, .int x2, .int x3]) (xQi D cA A Zs r Xf) 0 0 A := by
  refine Met.ofW (cc := cX0_isHighIn) (maxL := 4) (ret := (some .boolean)) (by decide) rfl ?_
  intro p e s m args below meth c s₁ B hml hv
  obtain ⟨rfl, hR, hK⟩ := hv
  have hts := atoms_spec (ws := (ws_ yX0_isHighIn cX0_isHighIn 4 (some .boolean))) B.pre
  rw [lg_entry_eq]
  exact wX0_isHighIn_0 (E := ⟨⟨B.exec, B.bytes, hml, findClass_of_methodNamed B.named, fun w h => hts w (List.mem_cons_of_mem _ h)⟩, hK, B.returns, B.notSynchronized⟩) hf _ _ _ 0 0 (Nat.le_of_ble_eq_true rfl) (Nat.le_of_ble_eq_true rfl) hR va_S.rf (lv_entry [.ref x0, .int x1, .int x2, .int x3] (n := 4) (Nat.le_of_ble_eq_true rfl))
end
abbrev rmX0_cushionFor : Room := { frames := 14, cells := 0, slots := 0, locals := 295 }
theorem cwX0_268 {R : Room} {s : State} {args : Array Value} (ht : ∀ w ∈ lw_all, w.before args s = true) (hR : rmX0_isNear.frames + 1 ≤ R.frames ∧ 8 + (1 + 11) + rmX0_isNear.locals ≤ R.locals) : CallB R s args RX0 268 yX0_isNear cX0_isNear 1 (some .boolean) (ws_ yX0_isNear cX0_isNear 1 (some .boolean)) rmX0_isNear 0 0 1 ∧ (Cond.static yX0_isNear).before args s = true :=
  va_cwS 1 ht (lw_S q944 q945 q68 q946) rfl rfl rfl (by decide +kernel) hR
theorem cwX0_271 {R : Room} {s : State} {args : Array Value} (ht : ∀ w ∈ lw_all, w.before args s = true) (hR : rmX0_isHighIn.frames + 1 ≤ R.frames ∧ 8 + (4 + 11) + rmX0_isHighIn.locals ≤ R.locals) : CallW R s args RX0 RX0 271 yX0_isHighIn cX0_isHighIn 4 (some .boolean) (ws_ yX0_isHighIn cX0_isHighIn 4 (some .boolean)) rmX0_isHighIn 0 0 3 :=
  cwV 3 ht (lw_V q948 q950 qs24 q68 q951) rfl rfl rfl (by decide +kernel) hR
section
variable {p : Program} {l : Launch} {e : Env} {s : State} {m : MethodId} {args : Array Value} {below : List Frame} {meth : Method} {c : Code} {D : va_G} {cA : Nat → ClassId} {A : Nat → Prop} {Zs : XZ} {Xf : AH} {r : Int32} {rl : Int64} {ra : Nat} {tv : Unit ⊕ Nat} {ti : Int32 ⊕ Nat} {tr : Nat ⊕ Nat} {q2 : Option Nat}
def fX0_cushionFor_L28  : Nat → AH → Nat → Int32 → Int32 → Int32 → Int32 → Option (Int32 × AH)
  | 0, _, _, _, _, _, _ => none
  | n + 1, X, x0, x1, x2, x3, x4 =>
    if 20 < x4 then (some ((-1000000), X)) else ((ck X x0 0).bind fun _ =>
    (fX0_tried X x0).bind fun (v4, X3) =>
    (gR X3 v4 1 4).bind fun v5 =>
    (pA X3 v5 0 x1 x4).bind fun X6 =>
    (ck X6 x0 0).bind fun _ =>
    (fX0_isHighIn X6 x0 x1 x2 x3).bind fun (v9, X8) =>
    if v9 = 0 then ((fX0_cushionFor_L28 n) X8 x0 x1 x2 x3 (x4 + 1)) else (some (x4, X8)))
theorem wX0_cushionFor_L28 (E : xE p m c cX0_cushionFor 5 s args RX0 D cA A Zs meth (some .int)) : ∀ (n : Nat) (X : AH) (x0 : Nat) (x1 : Int32) (x2 : Int32) (x3 : Int32) (x4 : Int32), fX0_cushionFor_L28 n X x0 x1 x2 x3 x4 = some (r, Xf) → ∀ (H : Heap) (locs : List Loc) (ls : Array Slot) (cells slots : Nat), cells + 0 ≤ 0 → slots + 0 ≤ 0 → xR D cA A Zs X H → va_S A s.heap H locs → lv_has ls 5 [(0, .ref x0), (1, .int x1), (2, .int x2), (3, .int x3), (4, .int x4)] → W p l e rmX0_cushionFor s m args below meth c H locs cells slots (MQ below (xQi D cA A Zs r Xf) args s 0 0 A) (F0 m 28 ls []) := by
  intro n
  induction n with
  | zero =>
    intro X x0 x1 x2 x3 x4 hf
    have hf : none = some (r, Xf) := hf
    cases hf
  | succ n ih =>
    intro X x0 x1 x2 x3 x4 hf H locs ls cells slots hc hs hR hS hl
    refine lv_iload E.hx E.hb dX0_cushionFor_28 (lv_at hl 4 rfl) ?_
    refine lv_bipush (v := 20) E.hx E.hb dX0_cushionFor_30 (by decide) ?_
    refine lv_icmp_gt (tgt := 65) E.hx E.hb dX0_cushionFor_32 (by decide) (fun c1 => ?_) (fun c1 => ?_)
    · have hf := it_t hf c1
      refine lv_ldcw (v := (-1000000)) E.hx E.hb E.ho (E.ht _ q923) dX0_cushionFor_65 ?_
      obtain ⟨rfl, rfl⟩ := rt_e hf
      exact xret_i E (by omega) (by omega) hR hS dX0_cushionFor_68
    · have hf := it_f hf c1
      refine lv_aload_n E.hx E.hb dX0_cushionFor_35 rfl (lv_at hl 0 rfl) ?_
      obtain ⟨u2, hu2, hf⟩ := bd_e hf
      obtain ⟨⟨v4, X3⟩, hv4, hf⟩ := bd_e hf
      refine xrun_r (va_runV (As := []) (rest := []) E.1 (tX0_tried l hv4) (cwX0_254 E.ht ⟨Nat.le_of_ble_eq_true rfl, Nat.le_of_ble_eq_true rfl⟩) (xPreV (ci := 0) E hR hS rfl (ck_e hu2)) rfl rfl hl.1 rfl (lv_room (Nat.le_of_ble_eq_true rfl)) dX0_cushionFor_36 ⟨Nat.le_trans (by omega) (Nat.le_refl 0), Nat.le_trans (by omega) (Nat.le_refl 0)⟩) hS (fun H locs hR hS => ?_)
      obtain ⟨v5, hv5, hf⟩ := bd_e hf
      refine xgX0_201 E hR hv5 dX0_cushionFor_39 ?_
      refine lv_iload_n E.hx E.hb dX0_cushionFor_42 rfl (lv_at hl 1 rfl) ?_
      refine lv_iload E.hx E.hb dX0_cushionFor_43 (lv_at hl 4 rfl) ?_
      obtain ⟨X6, hX6, hf⟩ := bd_e hf
      refine xist E hR hS hX6 dX0_cushionFor_45 (fun H locs hR hS => ?_)
      refine lv_aload_n E.hx E.hb dX0_cushionFor_46 rfl (lv_at hl 0 rfl) ?_
      refine lv_iload_n E.hx E.hb dX0_cushionFor_47 rfl (lv_at hl 1 rfl) ?_
      refine lv_iload_n E.hx E.hb dX0_cushionFor_48 rfl (lv_at hl 2 rfl) ?_
      refine lv_iload_n E.hx E.hb dX0_cushionFor_49 rfl (lv_at hl 3 rfl) ?_
      obtain ⟨u7, hu7, hf⟩ := bd_e hf
      obtain ⟨⟨v9, X8⟩, hv9, hf⟩ := bd_e hf
      refine xrun_i (va_runV (As := [.int x1, .int x2, .int x3]) (rest := []) E.1 (tX0_isHighIn l hv9) (cwX0_271 E.ht ⟨Nat.le_of_ble_eq_true rfl, Nat.le_of_ble_eq_true rfl⟩) (xPreV (ci := 0) E hR hS rfl (ck_e hu7)) rfl rfl hl.1 rfl (lv_room (Nat.le_of_ble_eq_true rfl)) dX0_cushionFor_50 ⟨Nat.le_trans (by omega) (Nat.le_refl 0), Nat.le_trans (by omega) (Nat.le_refl 0)⟩) hS (fun H locs hR hS => ?_)
      refine lv_if_eq (tgt := 59) E.hx E.hb dX0_cushionFor_53 (by decide) (fun c10 => ?_) (fun c10 => ?_)
      · have hf := it_t hf c10
        refine lv_iinc (v := (x4 + 1)) (lv' := [(4, .int (x4 + 1)), (0, .ref x0), (1, .int x1), (2, .int x2), (3, .int x3)]) E.hx E.hb dX0_cushionFor_59 hl (k := 4) rfl rfl (by decide) rfl (fun ls hl => ?_)
        refine lv_goto (tgt := 28) E.hx E.hb dX0_cushionFor_62 (by decide) ?_
        exact ih X8 _ _ _ _ _ hf _ _ _ _ _ (by omega) (by omega) hR hS (lv_sub hl [1, 2, 3, 4, 0] rfl)
      · have hf := it_f hf c10
        refine lv_iload E.hx E.hb dX0_cushionFor_56 (lv_at hl 4 rfl) ?_
        obtain ⟨rfl, rfl⟩ := rt_e hf
        exact xret_i E (by omega) (by omega) hR hS dX0_cushionFor_58
def fX0_cushionFor  (X : AH) (x0 : Nat) (x1 : Int32) (x2 : Int32) (x3 : Int32) : Option (Int32 × AH) :=
  (ck X x0 0).bind fun _ =>
  (fX0_isChair X x0 x1).bind fun (v3, X2) =>
  if v3 = 0 then (some ((-1000001), X2)) else ((fX0_isRank x2).bind fun v5 =>
  if v5 = 0 then (some ((-1000001), X2)) else ((fX0_isNear x3).bind fun v7 =>
  if v7 = 0 then (some ((-1000001), X2)) else (fX0_cushionFor_L28 2000 X2 x0 x1 x2 x3 0)))
theorem wX0_cushionFor_0 (E : xE p m c cX0_cushionFor 5 s args RX0 D cA A Zs meth (some .int)) {X : AH} {x0 : Nat} {x1 : Int32} {x2 : Int32} {x3 : Int32} (hf : fX0_cushionFor X x0 x1 x2 x3 = some (r, Xf)) : ∀ (H : Heap) (locs : List Loc) (ls : Array Slot) (cells slots : Nat), cells + 0 ≤ 0 → slots + 0 ≤ 0 → xR D cA A Zs X H → va_S A s.heap H locs → lv_has ls 5 [(0, .ref x0), (1, .int x1), (2, .int x2), (3, .int x3)] → W p l e rmX0_cushionFor s m args below meth c H locs cells slots (MQ below (xQi D cA A Zs r Xf) args s 0 0 A) (F0 m 0 ls []) := by
  intro H locs ls cells slots hc hs hR hS hl
  refine lv_aload_n E.hx E.hb dX0_cushionFor_0 rfl (lv_at hl 0 rfl) ?_
  refine lv_iload_n E.hx E.hb dX0_cushionFor_1 rfl (lv_at hl 1 rfl) ?_
  obtain ⟨u1, hu1, hf⟩ := bd_e hf
  obtain ⟨⟨v3, X2⟩, hv3, hf⟩ := bd_e hf
  refine xrun_i (va_runV (As := [.int x1]) (rest := []) E.1 (tX0_isChair l hv3) (cwX0_196 E.ht ⟨Nat.le_of_ble_eq_true rfl, Nat.le_of_ble_eq_true rfl⟩) (xPreV (ci := 0) E hR hS rfl (ck_e hu1)) rfl rfl hl.1 rfl (lv_room (Nat.le_of_ble_eq_true rfl)) dX0_cushionFor_2 ⟨Nat.le_trans (by omega) (Nat.le_refl 0), Nat.le_trans (by omega) (Nat.le_refl 0)⟩) hS (fun H locs hR hS => ?_)
  refine lv_if_eq (tgt := 22) E.hx E.hb dX0_cushionFor_5 (by decide) (fun c4 => ?_) (fun c4 => ?_)
  · have hf := it_t hf c4
    refine lv_ldc (v := (-1000001)) E.hx E.hb E.ho (E.ht _ q319) dX0_cushionFor_22 ?_
    obtain ⟨rfl, rfl⟩ := rt_e hf
    exact xret_i E (by omega) (by omega) hR hS dX0_cushionFor_24
  · have hf := it_f hf c4
    refine lv_iload_n E.hx E.hb dX0_cushionFor_8 rfl (lv_at hl 2 rfl) ?_
    obtain ⟨v5, hv5, hf⟩ := bd_e hf
    refine scall_i (rest := []) E.1 (tX0_isRank l hv5) (cwX0_262 E.ht ⟨Nat.le_of_ble_eq_true rfl, Nat.le_of_ble_eq_true rfl⟩) rfl hl.1 rfl (Nat.le_of_ble_eq_true rfl) dX0_cushionFor_9 ⟨Nat.le_trans (by omega) (Nat.le_refl 0), Nat.le_trans (by omega) (Nat.le_refl 0)⟩ ?_
    refine lv_if_eq (tgt := 22) E.hx E.hb dX0_cushionFor_12 (by decide) (fun c6 => ?_) (fun c6 => ?_)
    · have hf := it_t hf c6
      refine lv_ldc (v := (-1000001)) E.hx E.hb E.ho (E.ht _ q319) dX0_cushionFor_22 ?_
      obtain ⟨rfl, rfl⟩ := rt_e hf
      exact xret_i E (by omega) (by omega) hR hS dX0_cushionFor_24
    · have hf := it_f hf c6
      refine lv_iload_n E.hx E.hb dX0_cushionFor_15 rfl (lv_at hl 3 rfl) ?_
      obtain ⟨v7, hv7, hf⟩ := bd_e hf
      refine scall_i (rest := []) E.1 (tX0_isNear l hv7) (cwX0_268 E.ht ⟨Nat.le_of_ble_eq_true rfl, Nat.le_of_ble_eq_true rfl⟩) rfl hl.1 rfl (Nat.le_of_ble_eq_true rfl) dX0_cushionFor_16 ⟨Nat.le_trans (by omega) (Nat.le_refl 0), Nat.le_trans (by omega) (Nat.le_refl 0)⟩ ?_
      refine lv_if_ne (tgt := 25) E.hx E.hb dX0_cushionFor_19 (by decide) (fun c8 => ?_) (fun c8 => ?_)
      · have hf := it_f hf c8
        refine lv_iconst (v := 0) E.hx E.hb dX0_cushionFor_25 (by decide) ?_
        refine lv_istore (lv' := [(4, .int 0), (0, .ref x0), (1, .int x1), (2, .int x2), (3, .int x3)]) E.hx E.hb dX0_cushionFor_26 hl (by decide) rfl (fun ls hl => ?_)
        exact wX0_cushionFor_L28 E  2000 X2 _ _ _ _ _ hf _ _ _ _ _ (by omega) (by omega) hR hS (lv_sub hl [1, 2, 3, 4, 0] rfl)
      · have hf := it_t hf c8
        refine lv_ldc (v := (-1000001)) E.hx E.hb E.ho (E.ht _ q319) dX0_cushionFor_22 ?_
        obtain ⟨rfl, rfl⟩ := rt_e hf
        exact xret_i E (by omega) (by omega) hR hS dX0_cushionFor_24
theorem tX0_cushionFor (l : Launch) {D : va_G} {cA : Nat → ClassId} {A : Nat → Prop} {Zs : XZ} {X Xf : AH} {x0 : Nat} {x1 : Int32} {x2 : Int32} {x3 : Int32} {r : Int32} (hf : fX0_cushionFor X x0 x1 x2 x3 = some (r, Xf)) : Met l yX0_cushionFor (ws_ yX0_cushionFor cX0_cushionFor 5 (some .int)) rmX0_cushionFor (xPc D cA A Zs X [.ref x0, .int x1, .int x2, .int x3]) (xQi D cA A Zs r Xf) 0 0 A := by
  refine Met.ofW (cc := cX0_cushionFor) (maxL := 5) (ret := (some .int)) (by decide) rfl ?_
  intro p e s m args below meth c s₁ B hml hv
  obtain ⟨rfl, hR, hK⟩ := hv
  have hts := atoms_spec (ws := (ws_ yX0_cushionFor cX0_cushionFor 5 (some .int))) B.pre
  rw [lg_entry_eq]
  exact wX0_cushionFor_0 (E := ⟨⟨B.exec, B.bytes, hml, findClass_of_methodNamed B.named, fun w h => hts w (List.mem_cons_of_mem _ h)⟩, hK, B.returns, B.notSynchronized⟩) hf _ _ _ 0 0 (Nat.le_of_ble_eq_true rfl) (Nat.le_of_ble_eq_true rfl) hR va_S.rf (lv_entry [.ref x0, .int x1, .int x2, .int x3] (n := 5) (Nat.le_of_ble_eq_true rfl))
end
abbrev rmX0_guard : Room := { frames := 14, cells := 0, slots := 0, locals := 295 }
theorem cwX0_275 {R : Room} {s : State} {args : Array Value} (ht : ∀ w ∈ lw_all, w.before args s = true) (hR : rmX0_told.frames + 1 ≤ R.frames ∧ 8 + (2 + 11) + rmX0_told.locals ≤ R.locals) : CallB R s args RX0 275 yX0_told cX0_told 2 (some .int) (ws_ yX0_told cX0_told 2 (some .int)) rmX0_told 0 0 2 ∧ (Cond.static yX0_told).before args s = true :=
  va_cwS 2 ht (lw_S q956 q957 q68 q958) rfl rfl rfl (by decide +kernel) hR
section
variable {p : Program} {l : Launch} {e : Env} {s : State} {m : MethodId} {args : Array Value} {below : List Frame} {meth : Method} {c : Code} {D : va_G} {cA : Nat → ClassId} {A : Nat → Prop} {Zs : XZ} {Xf : AH} {r : Int32} {rl : Int64} {ra : Nat} {tv : Unit ⊕ Nat} {ti : Int32 ⊕ Nat} {tr : Nat ⊕ Nat} {q2 : Option Nat}
def fX0_guard_b79 (k41 : AH → Nat → Int32 → Int32 → Int32 → Int32 → Int32 → Int32 → Option (Int32 × AH)) (X : AH) (x0 : Nat) (x1 : Int32) (x2 : Int32) (x3 : Int32) (x4 : Int32) (x5 : Int32) (x6 : Int32) : Option (Int32 × AH) :=
  (ck X x0 0).bind fun _ =>
  (fX0_tried X x0).bind fun (v3, X2) =>
  (pF X2 v3 1 8 (.int x6)).bind fun X4 =>
  (ck X4 x0 0).bind fun _ =>
  (fX0_isHighIn X4 x0 x1 x2 x3).bind fun (v7, X6) =>
  if v7 = 0 then (k41 X6 x0 x1 x2 x3 x4 x5 (x6 + 1)) else (k41 X6 x0 x1 x2 x3 x4 x6 (x6 + 1))
theorem wX0_guard_b79 (E : xE p m c cX0_guard 7 s args RX0 D cA A Zs meth (some .int)) {k41 : AH → Nat → Int32 → Int32 → Int32 → Int32 → Int32 → Int32 → Option (Int32 × AH)} (hk41 : ∀ (X : AH) (x0 : Nat) (x1 : Int32) (x2 : Int32) (x3 : Int32) (x4 : Int32) (x5 : Int32) (x6 : Int32), k41 X x0 x1 x2 x3 x4 x5 x6 = some (r, Xf) → ∀ (H : Heap) (locs : List Loc) (ls : Array Slot) (cells slots : Nat), cells + 0 ≤ 0 → slots + 0 ≤ 0 → xR D cA A Zs X H → va_S A s.heap H locs → lv_has ls 7 [(0, .ref x0), (1, .int x1), (2, .int x2), (3, .int x3), (4, .int x4), (5, .int x5), (6, .int x6)] → W p l e rmX0_guard s m args below meth c H locs cells slots (MQ below (xQi D cA A Zs r Xf) args s 0 0 A) (F0 m 41 ls [])) {X : AH} {x0 : Nat} {x1 : Int32} {x2 : Int32} {x3 : Int32} {x4 : Int32} {x5 : Int32} {x6 : Int32} (hf : fX0_guard_b79 k41 X x0 x1 x2 x3 x4 x5 x6 = some (r, Xf)) : ∀ (H : Heap) (locs : List Loc) (ls : Array Slot) (cells slots : Nat), cells + 0 ≤ 0 → slots + 0 ≤ 0 → xR D cA A Zs X H → va_S A s.heap H locs → lv_has ls 7 [(0, .ref x0), (1, .int x1), (2, .int x2), (3, .int x3), (4, .int x4), (5, .int x5), (6, .int x6)] → W p l e rmX0_guard s m args below meth c H locs cells slots (MQ below (xQi D cA A Zs r Xf) args s 0 0 A) (F0 m 79 ls []) := by
  intro H locs ls cells slots hc hs hR hS hl
  refine lv_aload_n E.hx E.hb dX0_guard_79 rfl (lv_at hl 0 rfl) ?_
  obtain ⟨u1, hu1, hf⟩ := bd_e hf
  obtain ⟨⟨v3, X2⟩, hv3, hf⟩ := bd_e hf
  refine xrun_r (va_runV (As := []) (rest := []) E.1 (tX0_tried l hv3) (cwX0_254 E.ht ⟨Nat.le_of_ble_eq_true rfl, Nat.le_of_ble_eq_true rfl⟩) (xPreV (ci := 0) E hR hS rfl (ck_e hu1)) rfl rfl hl.1 rfl (lv_room (Nat.le_of_ble_eq_true rfl)) dX0_guard_80 ⟨Nat.le_trans (by omega) (Nat.le_refl 0), Nat.le_trans (by omega) (Nat.le_refl 0)⟩) hS (fun H locs hR hS => ?_)
  refine lv_iload E.hx E.hb dX0_guard_83 (lv_at hl 6 rfl) ?_
  obtain ⟨X4, hX4, hf⟩ := bd_e hf
  refine xpX0_217 E hR hS hX4 dX0_guard_85 (fun H locs hR hS => ?_)
  refine lv_aload_n E.hx E.hb dX0_guard_88 rfl (lv_at hl 0 rfl) ?_
  refine lv_iload_n E.hx E.hb dX0_guard_89 rfl (lv_at hl 1 rfl) ?_
  refine lv_iload_n E.hx E.hb dX0_guard_90 rfl (lv_at hl 2 rfl) ?_
  refine lv_iload_n E.hx E.hb dX0_guard_91 rfl (lv_at hl 3 rfl) ?_
  obtain ⟨u5, hu5, hf⟩ := bd_e hf
  obtain ⟨⟨v7, X6⟩, hv7, hf⟩ := bd_e hf
  refine xrun_i (va_runV (As := [.int x1, .int x2, .int x3]) (rest := []) E.1 (tX0_isHighIn l hv7) (cwX0_271 E.ht ⟨Nat.le_of_ble_eq_true rfl, Nat.le_of_ble_eq_true rfl⟩) (xPreV (ci := 0) E hR hS rfl (ck_e hu5)) rfl rfl hl.1 rfl (lv_room (Nat.le_of_ble_eq_true rfl)) dX0_guard_92 ⟨Nat.le_trans (by omega) (Nat.le_refl 0), Nat.le_trans (by omega) (Nat.le_refl 0)⟩) hS (fun H locs hR hS => ?_)
  refine lv_if_eq (tgt := 103) E.hx E.hb dX0_guard_95 (by decide) (fun c8 => ?_) (fun c8 => ?_)
  · have hf := it_t hf c8
    refine lv_iload E.hx E.hb dX0_guard_103 (lv_at hl 5 rfl) ?_
    refine lv_istore (lv' := [(5, .int x5), (0, .ref x0), (1, .int x1), (2, .int x2), (3, .int x3), (4, .int x4), (6, .int x6)]) E.hx E.hb dX0_guard_105 hl (by decide) rfl (fun ls hl => ?_)
    refine lv_iinc (v := (x6 + 1)) (lv' := [(6, .int (x6 + 1)), (5, .int x5), (0, .ref x0), (1, .int x1), (2, .int x2), (3, .int x3), (4, .int x4)]) E.hx E.hb dX0_guard_107 hl (k := 6) rfl rfl (by decide) rfl (fun ls hl => ?_)
    refine lv_goto (tgt := 41) E.hx E.hb dX0_guard_110 (by decide) ?_
    exact hk41 X6 _ _ _ _ _ _ _ hf _ _ _ _ _ (by omega) (by omega) hR hS (lv_sub hl [2, 3, 4, 5, 6, 1, 0] rfl)
  · have hf := it_f hf c8
    refine lv_iload E.hx E.hb dX0_guard_98 (lv_at hl 6 rfl) ?_
    refine lv_goto (tgt := 105) E.hx E.hb dX0_guard_100 (by decide) ?_
    refine lv_istore (lv' := [(5, .int x6), (0, .ref x0), (1, .int x1), (2, .int x2), (3, .int x3), (4, .int x4), (6, .int x6)]) E.hx E.hb dX0_guard_105 hl (by decide) rfl (fun ls hl => ?_)
    refine lv_iinc (v := (x6 + 1)) (lv' := [(6, .int (x6 + 1)), (5, .int x6), (0, .ref x0), (1, .int x1), (2, .int x2), (3, .int x3), (4, .int x4)]) E.hx E.hb dX0_guard_107 hl (k := 6) rfl rfl (by decide) rfl (fun ls hl => ?_)
    refine lv_goto (tgt := 41) E.hx E.hb dX0_guard_110 (by decide) ?_
    exact hk41 X6 _ _ _ _ _ _ _ hf _ _ _ _ _ (by omega) (by omega) hR hS (lv_sub hl [2, 3, 4, 5, 6, 1, 0] rfl)
def fX0_guard_L41  : Nat → AH → Nat → Int32 → Int32 → Int32 → Int32 → Int32 → Int32 → Option (Int32 × AH)
  | 0, _, _, _, _, _, _, _, _ => none
  | n + 1, X, x0, x1, x2, x3, x4, x5, x6 =>
    (gR X x0 0 4).bind fun v1 =>
    (ck X v1 1).bind fun _ =>
    (fX1_many X v1).bind fun (v4, X3) =>
    if (1 <<< (v4 &&& 31)) ≤ x6 then ((fX0_told x5 x4).bind fun v6 =>
    some (v6, X3)) else (if x5 = (-1000000) then (fX0_guard_b79 (fX0_guard_L41 n) X3 x0 x1 x2 x3 x4 x5 x6) else ((fJ16_bitCount x6).bind fun v8 =>
    (fJ16_bitCount x5).bind fun v9 =>
    if v8 < v9 then (fX0_guard_b79 (fX0_guard_L41 n) X3 x0 x1 x2 x3 x4 x5 x6) else ((fX0_guard_L41 n) X3 x0 x1 x2 x3 x4 x5 (x6 + 1))))
theorem wX0_guard_L41 (E : xE p m c cX0_guard 7 s args RX0 D cA A Zs meth (some .int)) : ∀ (n : Nat) (X : AH) (x0 : Nat) (x1 : Int32) (x2 : Int32) (x3 : Int32) (x4 : Int32) (x5 : Int32) (x6 : Int32), fX0_guard_L41 n X x0 x1 x2 x3 x4 x5 x6 = some (r, Xf) → ∀ (H : Heap) (locs : List Loc) (ls : Array Slot) (cells slots : Nat), cells + 0 ≤ 0 → slots + 0 ≤ 0 → xR D cA A Zs X H → va_S A s.heap H locs → lv_has ls 7 [(0, .ref x0), (1, .int x1), (2, .int x2), (3, .int x3), (4, .int x4), (5, .int x5), (6, .int x6)] → W p l e rmX0_guard s m args below meth c H locs cells slots (MQ below (xQi D cA A Zs r Xf) args s 0 0 A) (F0 m 41 ls []) := by
  intro n
  induction n with
  | zero =>
    intro X x0 x1 x2 x3 x4 x5 x6 hf
    have hf : none = some (r, Xf) := hf
    cases hf
  | succ n ih =>
    intro X x0 x1 x2 x3 x4 x5 x6 hf H locs ls cells slots hc hs hR hS hl
    refine lv_iload E.hx E.hb dX0_guard_41 (lv_at hl 6 rfl) ?_
    refine lv_iconst (v := 1) E.hx E.hb dX0_guard_43 (by decide) ?_
    refine lv_aload_n E.hx E.hb dX0_guard_44 rfl (lv_at hl 0 rfl) ?_
    obtain ⟨v1, hv1, hf⟩ := bd_e hf
    refine xgX0_39 E hR hv1 dX0_guard_45 ?_
    obtain ⟨u2, hu2, hf⟩ := bd_e hf
    obtain ⟨⟨v4, X3⟩, hv4, hf⟩ := bd_e hf
    refine xrun_i (va_runV (As := []) (rest := [.int 1, .int x6]) E.1 (tX1_many l hv4) (cwX0_163 E.ht ⟨Nat.le_of_ble_eq_true rfl, Nat.le_of_ble_eq_true rfl⟩) (xPreV (ci := 1) E hR hS rfl (ck_e hu2)) rfl rfl hl.1 rfl (lv_room (Nat.le_of_ble_eq_true rfl)) dX0_guard_48 ⟨Nat.le_trans (by omega) (Nat.le_refl 0), Nat.le_trans (by omega) (Nat.le_refl 0)⟩) hS (fun H locs hR hS => ?_)
    refine lv_ishl E.hx E.hb dX0_guard_51 ?_
    refine lv_icmp_ge (tgt := 113) E.hx E.hb dX0_guard_52 (by decide) (fun c5 => ?_) (fun c5 => ?_)
    · have hf := it_t hf c5
      refine lv_iload E.hx E.hb dX0_guard_113 (lv_at hl 5 rfl) ?_
      refine lv_iload E.hx E.hb dX0_guard_115 (lv_at hl 4 rfl) ?_
      obtain ⟨v6, hv6, hf⟩ := bd_e hf
      refine scall_i (rest := []) E.1 (tX0_told l hv6) (cwX0_275 E.ht ⟨Nat.le_of_ble_eq_true rfl, Nat.le_of_ble_eq_true rfl⟩) rfl hl.1 rfl (Nat.le_of_ble_eq_true rfl) dX0_guard_117 ⟨Nat.le_trans (by omega) (Nat.le_refl 0), Nat.le_trans (by omega) (Nat.le_refl 0)⟩ ?_
      obtain ⟨rfl, rfl⟩ := rt_e hf
      exact xret_i E (by omega) (by omega) hR hS dX0_guard_120
    · have hf := it_f hf c5
      refine lv_iload E.hx E.hb dX0_guard_55 (lv_at hl 5 rfl) ?_
      refine lv_ldcw (v := (-1000000)) E.hx E.hb E.ho (E.ht _ q923) dX0_guard_57 ?_
      refine lv_icmp_eq (tgt := 79) E.hx E.hb dX0_guard_60 (by decide) (fun c7 => ?_) (fun c7 => ?_)
      · have hf := it_t hf c7
        exact wX0_guard_b79 E ih hf _ _ _ _ _ (by omega) (by omega) hR hS (lv_sub hl [0, 1, 2, 3, 4, 5, 6] rfl)
      · have hf := it_f hf c7
        refine lv_iload E.hx E.hb dX0_guard_63 (lv_at hl 6 rfl) ?_
        obtain ⟨v8, hv8, hf⟩ := bd_e hf
        refine scall_i (rest := []) E.1 (tJ16_bitCount l hv8) (cwX0_220 E.ht ⟨Nat.le_of_ble_eq_true rfl, Nat.le_of_ble_eq_true rfl⟩) rfl hl.1 rfl (Nat.le_of_ble_eq_true rfl) dX0_guard_65 ⟨Nat.le_trans (by omega) (Nat.le_refl 0), Nat.le_trans (by omega) (Nat.le_refl 0)⟩ ?_
        refine lv_iload E.hx E.hb dX0_guard_68 (lv_at hl 5 rfl) ?_
        obtain ⟨v9, hv9, hf⟩ := bd_e hf
        refine scall_i (rest := [.int v8]) E.1 (tJ16_bitCount l hv9) (cwX0_220 E.ht ⟨Nat.le_of_ble_eq_true rfl, Nat.le_of_ble_eq_true rfl⟩) rfl hl.1 rfl (Nat.le_of_ble_eq_true rfl) dX0_guard_70 ⟨Nat.le_trans (by omega) (Nat.le_refl 0), Nat.le_trans (by omega) (Nat.le_refl 0)⟩ ?_
        refine lv_icmp_lt (tgt := 79) E.hx E.hb dX0_guard_73 (by decide) (fun c10 => ?_) (fun c10 => ?_)
        · have hf := it_t hf c10
          exact wX0_guard_b79 E ih hf _ _ _ _ _ (by omega) (by omega) hR hS (lv_sub hl [0, 1, 2, 3, 4, 5, 6] rfl)
        · have hf := it_f hf c10
          refine lv_goto (tgt := 107) E.hx E.hb dX0_guard_76 (by decide) ?_
          refine lv_iinc (v := (x6 + 1)) (lv' := [(6, .int (x6 + 1)), (0, .ref x0), (1, .int x1), (2, .int x2), (3, .int x3), (4, .int x4), (5, .int x5)]) E.hx E.hb dX0_guard_107 hl (k := 6) rfl rfl (by decide) rfl (fun ls hl => ?_)
          refine lv_goto (tgt := 41) E.hx E.hb dX0_guard_110 (by decide) ?_
          exact ih X3 _ _ _ _ _ _ _ hf _ _ _ _ _ (by omega) (by omega) hR hS (lv_sub hl [1, 2, 3, 4, 5, 6, 0] rfl)
def fX0_guard  (X : AH) (x0 : Nat) (x1 : Int32) (x2 : Int32) (x3 : Int32) (x4 : Int32) : Option (Int32 × AH) :=
  (ck X x0 0).bind fun _ =>
  (fX0_isChair X x0 x1).bind fun (v3, X2) =>
  if v3 = 0 then (some ((-1000001), X2)) else ((fX0_isRank x2).bind fun v5 =>
  if v5 = 0 then (some ((-1000001), X2)) else ((fX0_isNear x3).bind fun v7 =>
  if v7 = 0 then (some ((-1000001), X2)) else ((fX0_isHalf x4).bind fun v9 =>
  if v9 = 0 then (some ((-1000001), X2)) else (fX0_guard_L41 2000 X2 x0 x1 x2 x3 x4 (-1000000) 0))))
theorem wX0_guard_0 (E : xE p m c cX0_guard 7 s args RX0 D cA A Zs meth (some .int)) {X : AH} {x0 : Nat} {x1 : Int32} {x2 : Int32} {x3 : Int32} {x4 : Int32} (hf : fX0_guard X x0 x1 x2 x3 x4 = some (r, Xf)) : ∀ (H : Heap) (locs : List Loc) (ls : Array Slot) (cells slots : Nat), cells + 0 ≤ 0 → slots + 0 ≤ 0 → xR D cA A Zs X H → va_S A s.heap H locs → lv_has ls 7 [(0, .ref x0), (1, .int x1), (2, .int x2), (3, .int x3), (4, .int x4)] → W p l e rmX0_guard s m args below meth c H locs cells slots (MQ below (xQi D cA A Zs r Xf) args s 0 0 A) (F0 m 0 ls []) := by
  intro H locs ls cells slots hc hs hR hS hl
  refine lv_aload_n E.hx E.hb dX0_guard_0 rfl (lv_at hl 0 rfl) ?_
  refine lv_iload_n E.hx E.hb dX0_guard_1 rfl (lv_at hl 1 rfl) ?_
  obtain ⟨u1, hu1, hf⟩ := bd_e hf
  obtain ⟨⟨v3, X2⟩, hv3, hf⟩ := bd_e hf
  refine xrun_i (va_runV (As := [.int x1]) (rest := []) E.1 (tX0_isChair l hv3) (cwX0_196 E.ht ⟨Nat.le_of_ble_eq_true rfl, Nat.le_of_ble_eq_true rfl⟩) (xPreV (ci := 0) E hR hS rfl (ck_e hu1)) rfl rfl hl.1 rfl (lv_room (Nat.le_of_ble_eq_true rfl)) dX0_guard_2 ⟨Nat.le_trans (by omega) (Nat.le_refl 0), Nat.le_trans (by omega) (Nat.le_refl 0)⟩) hS (fun H locs hR hS => ?_)
  refine lv_if_eq (tgt := 30) E.hx E.hb dX0_guard_5 (by decide) (fun c4 => ?_) (fun c4 => ?_)
  · have hf := it_t hf c4
    refine lv_ldc (v := (-1000001)) E.hx E.hb E.ho (E.ht _ q319) dX0_guard_30 ?_
    obtain ⟨rfl, rfl⟩ := rt_e hf
    exact xret_i E (by omega) (by omega) hR hS dX0_guard_32
  · have hf := it_f hf c4
    refine lv_iload_n E.hx E.hb dX0_guard_8 rfl (lv_at hl 2 rfl) ?_
    obtain ⟨v5, hv5, hf⟩ := bd_e hf
    refine scall_i (rest := []) E.1 (tX0_isRank l hv5) (cwX0_262 E.ht ⟨Nat.le_of_ble_eq_true rfl, Nat.le_of_ble_eq_true rfl⟩) rfl hl.1 rfl (Nat.le_of_ble_eq_true rfl) dX0_guard_9 ⟨Nat.le_trans (by omega) (Nat.le_refl 0), Nat.le_trans (by omega) (Nat.le_refl 0)⟩ ?_
    refine lv_if_eq (tgt := 30) E.hx E.hb dX0_guard_12 (by decide) (fun c6 => ?_) (fun c6 => ?_)
    · have hf := it_t hf c6
      refine lv_ldc (v := (-1000001)) E.hx E.hb E.ho (E.ht _ q319) dX0_guard_30 ?_
      obtain ⟨rfl, rfl⟩ := rt_e hf
      exact xret_i E (by omega) (by omega) hR hS dX0_guard_32
    · have hf := it_f hf c6
      refine lv_iload_n E.hx E.hb dX0_guard_15 rfl (lv_at hl 3 rfl) ?_
      obtain ⟨v7, hv7, hf⟩ := bd_e hf
      refine scall_i (rest := []) E.1 (tX0_isNear l hv7) (cwX0_268 E.ht ⟨Nat.le_of_ble_eq_true rfl, Nat.le_of_ble_eq_true rfl⟩) rfl hl.1 rfl (Nat.le_of_ble_eq_true rfl) dX0_guard_16 ⟨Nat.le_trans (by omega) (Nat.le_refl 0), Nat.le_trans (by omega) (Nat.le_refl 0)⟩ ?_
      refine lv_if_eq (tgt := 30) E.hx E.hb dX0_guard_19 (by decide) (fun c8 => ?_) (fun c8 => ?_)
      · have hf := it_t hf c8
        refine lv_ldc (v := (-1000001)) E.hx E.hb E.ho (E.ht _ q319) dX0_guard_30 ?_
        obtain ⟨rfl, rfl⟩ := rt_e hf
        exact xret_i E (by omega) (by omega) hR hS dX0_guard_32
      · have hf := it_f hf c8
        refine lv_iload E.hx E.hb dX0_guard_22 (lv_at hl 4 rfl) ?_
        obtain ⟨v9, hv9, hf⟩ := bd_e hf
        refine scall_i (rest := []) E.1 (tX0_isHalf l hv9) (cwX0_214 E.ht ⟨Nat.le_of_ble_eq_true rfl, Nat.le_of_ble_eq_true rfl⟩) rfl hl.1 rfl (Nat.le_of_ble_eq_true rfl) dX0_guard_24 ⟨Nat.le_trans (by omega) (Nat.le_refl 0), Nat.le_trans (by omega) (Nat.le_refl 0)⟩ ?_
        refine lv_if_ne (tgt := 33) E.hx E.hb dX0_guard_27 (by decide) (fun c10 => ?_) (fun c10 => ?_)
        · have hf := it_f hf c10
          refine lv_ldcw (v := (-1000000)) E.hx E.hb E.ho (E.ht _ q923) dX0_guard_33 ?_
          refine lv_istore (lv' := [(5, .int (-1000000)), (0, .ref x0), (1, .int x1), (2, .int x2), (3, .int x3), (4, .int x4)]) E.hx E.hb dX0_guard_36 hl (by decide) rfl (fun ls hl => ?_)
          refine lv_iconst (v := 0) E.hx E.hb dX0_guard_38 (by decide) ?_
          refine lv_istore (lv' := [(6, .int 0), (5, .int (-1000000)), (0, .ref x0), (1, .int x1), (2, .int x2), (3, .int x3), (4, .int x4)]) E.hx E.hb dX0_guard_39 hl (by decide) rfl (fun ls hl => ?_)
          exact wX0_guard_L41 E  2000 X2 _ _ _ _ _ _ _ hf _ _ _ _ _ (by omega) (by omega) hR hS (lv_sub hl [2, 3, 4, 5, 6, 1, 0] rfl)
        · have hf := it_t hf c10
          refine lv_ldc (v := (-1000001)) E.hx E.hb E.ho (E.ht _ q319) dX0_guard_30 ?_
          obtain ⟨rfl, rfl⟩ := rt_e hf
          exact xret_i E (by omega) (by omega) hR hS dX0_guard_32
theorem tX0_guard (l : Launch) {D : va_G} {cA : Nat → ClassId} {A : Nat → Prop} {Zs : XZ} {X Xf : AH} {x0 : Nat} {x1 : Int32} {x2 : Int32} {x3 : Int32} {x4 : Int32} {r : Int32} (hf : fX0_guard X x0 x1 x2 x3 x4 = some (r, Xf)) : Met l yX0_guard (ws_ yX0_guard cX0_guard 7 (some .int)) rmX0_guard (xPc D cA A Zs X [.ref x0, .int x1, .int x2, .int x3, .int x4]) (xQi D cA A Zs r Xf) 0 0 A := by
  refine Met.ofW (cc := cX0_guard) (maxL := 7) (ret := (some .int)) (by decide) rfl ?_
  intro p e s m args below meth c s₁ B hml hv
  obtain ⟨rfl, hR, hK⟩ := hv
  have hts := atoms_spec (ws := (ws_ yX0_guard cX0_guard 7 (some .int))) B.pre
  rw [lg_entry_eq]
  exact wX0_guard_0 (E := ⟨⟨B.exec, B.bytes, hml, findClass_of_methodNamed B.named, fun w h => hts w (List.mem_cons_of_mem _ h)⟩, hK, B.returns, B.notSynchronized⟩) hf _ _ _ 0 0 (Nat.le_of_ble_eq_true rfl) (Nat.le_of_ble_eq_true rfl) hR va_S.rf (lv_entry [.ref x0, .int x1, .int x2, .int x3, .int x4] (n := 7) (Nat.le_of_ble_eq_true rfl))
end
abbrev rmX0_bestWatch : Room := { frames := 13, cells := 0, slots := 0, locals := 272 }
section
variable {p : Program} {l : Launch} {e : Env} {s : State} {m : MethodId} {args : Array Value} {below : List Frame} {meth : Method} {c : Code} {D : va_G} {cA : Nat → ClassId} {A : Nat → Prop} {Zs : XZ} {Xf : AH} {r : Int32} {rl : Int64} {ra : Nat} {tv : Unit ⊕ Nat} {ti : Int32 ⊕ Nat} {tr : Nat ⊕ Nat} {q2 : Option Nat}
def fX0_bestWatch_b86 (k40 : AH → Nat → Int32 → Int32 → Int32 → Int32 → Int32 → Option (Int32 × AH)) (X : AH) (s0 : Int32) (x0 : Nat) (x1 : Int32) (x2 : Int32) (x4 : Int32) (x5 : Int32) (x6 : Int32) : Option (Int32 × AH) :=
  k40 X x0 x1 x2 s0 (jmax x4 x6) (x5 + 1)
theorem wX0_bestWatch_b86 (E : xE p m c cX0_bestWatch 7 s args RX0 D cA A Zs meth (some .int)) {k40 : AH → Nat → Int32 → Int32 → Int32 → Int32 → Int32 → Option (Int32 × AH)} (hk40 : ∀ (X : AH) (x0 : Nat) (x1 : Int32) (x2 : Int32) (x3 : Int32) (x4 : Int32) (x5 : Int32), k40 X x0 x1 x2 x3 x4 x5 = some (r, Xf) → ∀ (H : Heap) (locs : List Loc) (ls : Array Slot) (cells slots : Nat), cells + 0 ≤ 0 → slots + 0 ≤ 0 → xR D cA A Zs X H → va_S A s.heap H locs → lv_has ls 7 [(0, .ref x0), (1, .int x1), (2, .int x2), (3, .int x3), (4, .int x4), (5, .int x5)] → W p l e rmX0_bestWatch s m args below meth c H locs cells slots (MQ below (xQi D cA A Zs r Xf) args s 0 0 A) (F0 m 40 ls [])) {X : AH} {s0 : Int32} {x0 : Nat} {x1 : Int32} {x2 : Int32} {x4 : Int32} {x5 : Int32} {x6 : Int32} (hf : fX0_bestWatch_b86 k40 X s0 x0 x1 x2 x4 x5 x6 = some (r, Xf)) : ∀ (H : Heap) (locs : List Loc) (ls : Array Slot) (cells slots : Nat), cells + 0 ≤ 0 → slots + 0 ≤ 0 → xR D cA A Zs X H → va_S A s.heap H locs → lv_has ls 7 [(0, .ref x0), (1, .int x1), (2, .int x2), (4, .int x4), (5, .int x5), (6, .int x6)] → W p l e rmX0_bestWatch s m args below meth c H locs cells slots (MQ below (xQi D cA A Zs r Xf) args s 0 0 A) (F0 m 86 ls [.int s0]) := by
  intro H locs ls cells slots hc hs hR hS hl
  refine lv_istore_n (lv' := [(3, .int s0), (0, .ref x0), (1, .int x1), (2, .int x2), (4, .int x4), (5, .int x5), (6, .int x6)]) E.hx E.hb dX0_bestWatch_86 rfl hl (by decide) rfl (fun ls hl => ?_)
  refine lv_iload E.hx E.hb dX0_bestWatch_87 (lv_at hl 4 rfl) ?_
  refine lv_iload E.hx E.hb dX0_bestWatch_89 (lv_at hl 6 rfl) ?_
  refine xmmax E hl.1 q963 (Nat.le_of_ble_eq_true rfl) (Nat.le_of_ble_eq_true rfl) (Nat.le_trans (by omega) (Nat.le_refl 0)) (Nat.le_trans (by omega) (Nat.le_refl 0)) dX0_bestWatch_91 ?_
  refine lv_istore (lv' := [(4, .int (jmax x4 x6)), (3, .int s0), (0, .ref x0), (1, .int x1), (2, .int x2), (5, .int x5), (6, .int x6)]) E.hx E.hb dX0_bestWatch_94 hl (by decide) rfl (fun ls hl => ?_)
  refine lv_iinc (v := (x5 + 1)) (lv' := [(5, .int (x5 + 1)), (4, .int (jmax x4 x6)), (3, .int s0), (0, .ref x0), (1, .int x1), (2, .int x2), (6, .int x6)]) E.hx E.hb dX0_bestWatch_96 hl (k := 5) rfl rfl (by decide) rfl (fun ls hl => ?_)
  refine lv_goto (tgt := 40) E.hx E.hb dX0_bestWatch_99 (by decide) ?_
  exact hk40 X _ _ _ _ _ _ hf _ _ _ _ _ (by omega) (by omega) hR hS (lv_sub hl [3, 4, 5, 2, 1, 0] rfl)
def fX0_bestWatch_L40  : Nat → AH → Nat → Int32 → Int32 → Int32 → Int32 → Int32 → Option (Int32 × AH)
  | 0, _, _, _, _, _, _, _ => none
  | n + 1, X, x0, x1, x2, x3, x4, x5 =>
    (gR X x0 0 4).bind fun v1 =>
    (ck X v1 1).bind fun _ =>
    (fX1_many X v1).bind fun (v4, X3) =>
    if v4 ≤ x5 then (if x2 = 0 then (some (x3, X3)) else (some (x4, X3))) else ((ck X3 x0 0).bind fun _ =>
    (fX0_tried X3 x0).bind fun (v9, X8) =>
    (pF X8 v9 1 8 (.int (1 <<< (x5 &&& 31)))).bind fun X10 =>
    (ck X10 x0 0).bind fun _ =>
    (fX0_goOn X10 x0 x1).bind fun (v13, X12) =>
    (ck X12 v13 1).bind fun _ =>
    (fX1_allLegs X12 v13).bind fun (v16, X15) =>
    if v16 ≤ x4 then (fX0_bestWatch_b86 (fX0_bestWatch_L40 n) X15 x3 x0 x1 x2 x4 x5 v16) else (fX0_bestWatch_b86 (fX0_bestWatch_L40 n) X15 x5 x0 x1 x2 x4 x5 v16))
theorem wX0_bestWatch_L40 (E : xE p m c cX0_bestWatch 7 s args RX0 D cA A Zs meth (some .int)) : ∀ (n : Nat) (X : AH) (x0 : Nat) (x1 : Int32) (x2 : Int32) (x3 : Int32) (x4 : Int32) (x5 : Int32), fX0_bestWatch_L40 n X x0 x1 x2 x3 x4 x5 = some (r, Xf) → ∀ (H : Heap) (locs : List Loc) (ls : Array Slot) (cells slots : Nat), cells + 0 ≤ 0 → slots + 0 ≤ 0 → xR D cA A Zs X H → va_S A s.heap H locs → lv_has ls 7 [(0, .ref x0), (1, .int x1), (2, .int x2), (3, .int x3), (4, .int x4), (5, .int x5)] → W p l e rmX0_bestWatch s m args below meth c H locs cells slots (MQ below (xQi D cA A Zs r Xf) args s 0 0 A) (F0 m 40 ls []) := by
  intro n
  induction n with
  | zero =>
    intro X x0 x1 x2 x3 x4 x5 hf
    have hf : none = some (r, Xf) := hf
    cases hf
  | succ n ih =>
    intro X x0 x1 x2 x3 x4 x5 hf H locs ls cells slots hc hs hR hS hl
    refine lv_iload E.hx E.hb dX0_bestWatch_40 (lv_at hl 5 rfl) ?_
    refine lv_aload_n E.hx E.hb dX0_bestWatch_42 rfl (lv_at hl 0 rfl) ?_
    obtain ⟨v1, hv1, hf⟩ := bd_e hf
    refine xgX0_39 E hR hv1 dX0_bestWatch_43 ?_
    obtain ⟨u2, hu2, hf⟩ := bd_e hf
    obtain ⟨⟨v4, X3⟩, hv4, hf⟩ := bd_e hf
    refine xrun_i (va_runV (As := []) (rest := [.int x5]) E.1 (tX1_many l hv4) (cwX0_163 E.ht ⟨Nat.le_of_ble_eq_true rfl, Nat.le_of_ble_eq_true rfl⟩) (xPreV (ci := 1) E hR hS rfl (ck_e hu2)) rfl rfl hl.1 rfl (lv_room (Nat.le_of_ble_eq_true rfl)) dX0_bestWatch_46 ⟨Nat.le_trans (by omega) (Nat.le_refl 0), Nat.le_trans (by omega) (Nat.le_refl 0)⟩) hS (fun H locs hR hS => ?_)
    refine lv_icmp_ge (tgt := 102) E.hx E.hb dX0_bestWatch_49 (by decide) (fun c5 => ?_) (fun c5 => ?_)
    · have hf := it_t hf c5
      refine lv_iload_n E.hx E.hb dX0_bestWatch_102 rfl (lv_at hl 2 rfl) ?_
      refine lv_if_ne (tgt := 110) E.hx E.hb dX0_bestWatch_103 (by decide) (fun c6 => ?_) (fun c6 => ?_)
      · have hf := it_f hf c6
        refine lv_iload E.hx E.hb dX0_bestWatch_110 (lv_at hl 4 rfl) ?_
        obtain ⟨rfl, rfl⟩ := rt_e hf
        exact xret_i E (by omega) (by omega) hR hS dX0_bestWatch_112
      · have hf := it_t hf c6
        refine lv_iload_n E.hx E.hb dX0_bestWatch_106 rfl (lv_at hl 3 rfl) ?_
        refine lv_goto (tgt := 112) E.hx E.hb dX0_bestWatch_107 (by decide) ?_
        obtain ⟨rfl, rfl⟩ := rt_e hf
        exact xret_i E (by omega) (by omega) hR hS dX0_bestWatch_112
    · have hf := it_f hf c5
      refine lv_aload_n E.hx E.hb dX0_bestWatch_52 rfl (lv_at hl 0 rfl) ?_
      obtain ⟨u7, hu7, hf⟩ := bd_e hf
      obtain ⟨⟨v9, X8⟩, hv9, hf⟩ := bd_e hf
      refine xrun_r (va_runV (As := []) (rest := []) E.1 (tX0_tried l hv9) (cwX0_254 E.ht ⟨Nat.le_of_ble_eq_true rfl, Nat.le_of_ble_eq_true rfl⟩) (xPreV (ci := 0) E hR hS rfl (ck_e hu7)) rfl rfl hl.1 rfl (lv_room (Nat.le_of_ble_eq_true rfl)) dX0_bestWatch_53 ⟨Nat.le_trans (by omega) (Nat.le_refl 0), Nat.le_trans (by omega) (Nat.le_refl 0)⟩) hS (fun H locs hR hS => ?_)
      refine lv_iconst (v := 1) E.hx E.hb dX0_bestWatch_56 (by decide) ?_
      refine lv_iload E.hx E.hb dX0_bestWatch_57 (lv_at hl 5 rfl) ?_
      refine lv_ishl E.hx E.hb dX0_bestWatch_59 ?_
      obtain ⟨X10, hX10, hf⟩ := bd_e hf
      refine xpX0_217 E hR hS hX10 dX0_bestWatch_60 (fun H locs hR hS => ?_)
      refine lv_aload_n E.hx E.hb dX0_bestWatch_63 rfl (lv_at hl 0 rfl) ?_
      refine lv_iload_n E.hx E.hb dX0_bestWatch_64 rfl (lv_at hl 1 rfl) ?_
      obtain ⟨u11, hu11, hf⟩ := bd_e hf
      obtain ⟨⟨v13, X12⟩, hv13, hf⟩ := bd_e hf
      refine xrun_r (va_runV (As := [.int x1]) (rest := []) E.1 (tX0_goOn l hv13) (cwX0_257 E.ht ⟨Nat.le_of_ble_eq_true rfl, Nat.le_of_ble_eq_true rfl⟩) (xPreV (ci := 0) E hR hS rfl (ck_e hu11)) rfl rfl hl.1 rfl (lv_room (Nat.le_of_ble_eq_true rfl)) dX0_bestWatch_65 ⟨Nat.le_trans (by omega) (Nat.le_refl 0), Nat.le_trans (by omega) (Nat.le_refl 0)⟩) hS (fun H locs hR hS => ?_)
      obtain ⟨u14, hu14, hf⟩ := bd_e hf
      obtain ⟨⟨v16, X15⟩, hv16, hf⟩ := bd_e hf
      refine xrun_i (va_runV (As := []) (rest := []) E.1 (tX1_allLegs l hv16) (cwX0_265 E.ht ⟨Nat.le_of_ble_eq_true rfl, Nat.le_of_ble_eq_true rfl⟩) (xPreV (ci := 1) E hR hS rfl (ck_e hu14)) rfl rfl hl.1 rfl (lv_room (Nat.le_of_ble_eq_true rfl)) dX0_bestWatch_68 ⟨Nat.le_trans (by omega) (Nat.le_refl 0), Nat.le_trans (by omega) (Nat.le_refl 0)⟩) hS (fun H locs hR hS => ?_)
      refine lv_istore (lv' := [(6, .int v16), (0, .ref x0), (1, .int x1), (2, .int x2), (3, .int x3), (4, .int x4), (5, .int x5)]) E.hx E.hb dX0_bestWatch_71 hl (by decide) rfl (fun ls hl => ?_)
      refine lv_iload E.hx E.hb dX0_bestWatch_73 (lv_at hl 0 rfl) ?_
      refine lv_iload E.hx E.hb dX0_bestWatch_75 (lv_at hl 5 rfl) ?_
      refine lv_icmp_le (tgt := 85) E.hx E.hb dX0_bestWatch_77 (by decide) (fun c17 => ?_) (fun c17 => ?_)
      · have hf := it_t hf c17
        refine lv_iload_n E.hx E.hb dX0_bestWatch_85 rfl (lv_at hl 4 rfl) ?_
        exact wX0_bestWatch_b86 E ih hf _ _ _ _ _ (by omega) (by omega) hR hS (lv_sub hl [1, 2, 3, 5, 6, 0] rfl)
      · have hf := it_f hf c17
        refine lv_iload E.hx E.hb dX0_bestWatch_80 (lv_at hl 6 rfl) ?_
        refine lv_goto (tgt := 86) E.hx E.hb dX0_bestWatch_82 (by decide) ?_
        exact wX0_bestWatch_b86 E ih hf _ _ _ _ _ (by omega) (by omega) hR hS (lv_sub hl [1, 2, 3, 5, 6, 0] rfl)
def fX0_bestWatch  (X : AH) (x0 : Nat) (x1 : Int32) (x2 : Int32) : Option (Int32 × AH) :=
  (ck X x0 0).bind fun _ =>
  (fX0_isMinistry X x0).bind fun (v3, X2) =>
  if v3 = 0 then (some ((-1000002), X2)) else ((fX0_isIn (x1.toInt64) 1 30).bind fun v5 =>
  if v5 = 0 then (some ((-1000001), X2)) else ((fX0_isHalf x2).bind fun v7 =>
  if v7 = 0 then (some ((-1000001), X2)) else (fX0_bestWatch_L40 2000 X2 x0 x1 x2 0 (-1) 0)))
theorem wX0_bestWatch_0 (E : xE p m c cX0_bestWatch 7 s args RX0 D cA A Zs meth (some .int)) {X : AH} {x0 : Nat} {x1 : Int32} {x2 : Int32} (hf : fX0_bestWatch X x0 x1 x2 = some (r, Xf)) : ∀ (H : Heap) (locs : List Loc) (ls : Array Slot) (cells slots : Nat), cells + 0 ≤ 0 → slots + 0 ≤ 0 → xR D cA A Zs X H → va_S A s.heap H locs → lv_has ls 7 [(0, .ref x0), (1, .int x1), (2, .int x2)] → W p l e rmX0_bestWatch s m args below meth c H locs cells slots (MQ below (xQi D cA A Zs r Xf) args s 0 0 A) (F0 m 0 ls []) := by
  intro H locs ls cells slots hc hs hR hS hl
  refine lv_aload_n E.hx E.hb dX0_bestWatch_0 rfl (lv_at hl 0 rfl) ?_
  obtain ⟨u1, hu1, hf⟩ := bd_e hf
  obtain ⟨⟨v3, X2⟩, hv3, hf⟩ := bd_e hf
  refine xrun_i (va_runV (As := []) (rest := []) E.1 (tX0_isMinistry l hv3) (cwX0_177 E.ht ⟨Nat.le_of_ble_eq_true rfl, Nat.le_of_ble_eq_true rfl⟩) (xPreV (ci := 0) E hR hS rfl (ck_e hu1)) rfl rfl hl.1 rfl (lv_room (Nat.le_of_ble_eq_true rfl)) dX0_bestWatch_1 ⟨Nat.le_trans (by omega) (Nat.le_refl 0), Nat.le_trans (by omega) (Nat.le_refl 0)⟩) hS (fun H locs hR hS => ?_)
  refine lv_if_ne (tgt := 10) E.hx E.hb dX0_bestWatch_4 (by decide) (fun c4 => ?_) (fun c4 => ?_)
  · have hf := it_f hf c4
    refine lv_iload_n E.hx E.hb dX0_bestWatch_10 rfl (lv_at hl 1 rfl) ?_
    refine lv_i2l E.hx E.hb dX0_bestWatch_11 rfl ?_
    refine lv_lconst (v := 1) E.hx E.hb dX0_bestWatch_12 (by decide) ?_
    refine lv_ldc2 (v := 30) E.hx E.hb E.ho (E.ht _ q947) dX0_bestWatch_13 ?_
    obtain ⟨v5, hv5, hf⟩ := bd_e hf
    refine scall_i (rest := []) E.1 (tX0_isIn l hv5) (cwX0_79 E.ht ⟨Nat.le_of_ble_eq_true rfl, Nat.le_of_ble_eq_true rfl⟩) rfl hl.1 rfl (Nat.le_of_ble_eq_true rfl) dX0_bestWatch_16 ⟨Nat.le_trans (by omega) (Nat.le_refl 0), Nat.le_trans (by omega) (Nat.le_refl 0)⟩ ?_
    refine lv_if_eq (tgt := 29) E.hx E.hb dX0_bestWatch_19 (by decide) (fun c6 => ?_) (fun c6 => ?_)
    · have hf := it_t hf c6
      refine lv_ldc (v := (-1000001)) E.hx E.hb E.ho (E.ht _ q319) dX0_bestWatch_29 ?_
      obtain ⟨rfl, rfl⟩ := rt_e hf
      exact xret_i E (by omega) (by omega) hR hS dX0_bestWatch_31
    · have hf := it_f hf c6
      refine lv_iload_n E.hx E.hb dX0_bestWatch_22 rfl (lv_at hl 2 rfl) ?_
      obtain ⟨v7, hv7, hf⟩ := bd_e hf
      refine scall_i (rest := []) E.1 (tX0_isHalf l hv7) (cwX0_214 E.ht ⟨Nat.le_of_ble_eq_true rfl, Nat.le_of_ble_eq_true rfl⟩) rfl hl.1 rfl (Nat.le_of_ble_eq_true rfl) dX0_bestWatch_23 ⟨Nat.le_trans (by omega) (Nat.le_refl 0), Nat.le_trans (by omega) (Nat.le_refl 0)⟩ ?_
      refine lv_if_ne (tgt := 32) E.hx E.hb dX0_bestWatch_26 (by decide) (fun c8 => ?_) (fun c8 => ?_)
      · have hf := it_f hf c8
        refine lv_iconst (v := 0) E.hx E.hb dX0_bestWatch_32 (by decide) ?_
        refine lv_istore_n (lv' := [(3, .int 0), (0, .ref x0), (1, .int x1), (2, .int x2)]) E.hx E.hb dX0_bestWatch_33 rfl hl (by decide) rfl (fun ls hl => ?_)
        refine lv_iconst (v := (-1)) E.hx E.hb dX0_bestWatch_34 (by decide) ?_
        refine lv_istore (lv' := [(4, .int (-1)), (3, .int 0), (0, .ref x0), (1, .int x1), (2, .int x2)]) E.hx E.hb dX0_bestWatch_35 hl (by decide) rfl (fun ls hl => ?_)
        refine lv_iconst (v := 0) E.hx E.hb dX0_bestWatch_37 (by decide) ?_
        refine lv_istore (lv' := [(5, .int 0), (4, .int (-1)), (3, .int 0), (0, .ref x0), (1, .int x1), (2, .int x2)]) E.hx E.hb dX0_bestWatch_38 hl (by decide) rfl (fun ls hl => ?_)
        exact wX0_bestWatch_L40 E  2000 X2 _ _ _ _ _ _ hf _ _ _ _ _ (by omega) (by omega) hR hS (lv_sub hl [3, 4, 5, 2, 1, 0] rfl)
      · have hf := it_t hf c8
        refine lv_ldc (v := (-1000001)) E.hx E.hb E.ho (E.ht _ q319) dX0_bestWatch_29 ?_
        obtain ⟨rfl, rfl⟩ := rt_e hf
        exact xret_i E (by omega) (by omega) hR hS dX0_bestWatch_31
  · have hf := it_t hf c4
    refine lv_ldc (v := (-1000002)) E.hx E.hb E.ho (E.ht _ q733) dX0_bestWatch_7 ?_
    obtain ⟨rfl, rfl⟩ := rt_e hf
    exact xret_i E (by omega) (by omega) hR hS dX0_bestWatch_9
theorem tX0_bestWatch (l : Launch) {D : va_G} {cA : Nat → ClassId} {A : Nat → Prop} {Zs : XZ} {X Xf : AH} {x0 : Nat} {x1 : Int32} {x2 : Int32} {r : Int32} (hf : fX0_bestWatch X x0 x1 x2 = some (r, Xf)) : Met l yX0_bestWatch (ws_ yX0_bestWatch cX0_bestWatch 7 (some .int)) rmX0_bestWatch (xPc D cA A Zs X [.ref x0, .int x1, .int x2]) (xQi D cA A Zs r Xf) 0 0 A := by
  refine Met.ofW (cc := cX0_bestWatch) (maxL := 7) (ret := (some .int)) (by decide) rfl ?_
  intro p e s m args below meth c s₁ B hml hv
  obtain ⟨rfl, hR, hK⟩ := hv
  have hts := atoms_spec (ws := (ws_ yX0_bestWatch cX0_bestWatch 7 (some .int))) B.pre
  rw [lg_entry_eq]
  exact wX0_bestWatch_0 (E := ⟨⟨B.exec, B.bytes, hml, findClass_of_methodNamed B.named, fun w h => hts w (List.mem_cons_of_mem _ h)⟩, hK, B.returns, B.notSynchronized⟩) hf _ _ _ 0 0 (Nat.le_of_ble_eq_true rfl) (Nat.le_of_ble_eq_true rfl) hR va_S.rf (lv_entry [.ref x0, .int x1, .int x2] (n := 7) (Nat.le_of_ble_eq_true rfl))
end
abbrev rmX0_cutBelow : Room := { frames := 7, cells := 0, slots := 0, locals := 140 }
theorem cwX0_292 {R : Room} {s : State} {args : Array Value} (ht : ∀ w ∈ lw_all, w.before args s = true) (hR : rmX1_isHigher.frames + 1 ≤ R.frames ∧ 8 + (3 + 11) + rmX1_isHigher.locals ≤ R.locals) : CallW R s args RX0 RX1 292 yX1_isHigher cX1_isHigher 3 (some .boolean) (ws_ yX1_isHigher cX1_isHigher 3 (some .boolean)) rmX1_isHigher 0 0 2 :=
  cwV 2 ht (lw_V q989 q765 q766 q69 q767) rfl rfl rfl (by decide +kernel) hR
section
variable {p : Program} {l : Launch} {e : Env} {s : State} {m : MethodId} {args : Array Value} {below : List Frame} {meth : Method} {c : Code} {D : va_G} {cA : Nat → ClassId} {A : Nat → Prop} {Zs : XZ} {Xf : AH} {r : Int32} {rl : Int64} {ra : Nat} {tv : Unit ⊕ Nat} {ti : Int32 ⊕ Nat} {tr : Nat ⊕ Nat} {q2 : Option Nat}
def fX0_cutBelow_b50  (X : AH) (x0 : Nat) (x1 : Int32) (x2 : Int32) (x3 : Int32) : Option (Int32 × AH) :=
  (gR X x0 0 5).bind fun v1 =>
  (ck X v1 1).bind fun _ =>
  (fX1_isHigher X v1 x2 x1).bind fun (v4, X3) =>
  if v4 = 0 then (some ((-1000000), X3)) else ((gR X3 x0 0 5).bind fun v6 =>
  (gR X3 v6 1 3).bind fun v7 =>
  (gA X3 v7 0 x1).bind fun v8 =>
  some ((x3 - v8), X3))
theorem wX0_cutBelow_b50 (E : xE p m c cX0_cutBelow 4 s args RX0 D cA A Zs meth (some .int)) {X : AH} {x0 : Nat} {x1 : Int32} {x2 : Int32} {x3 : Int32} (hf : fX0_cutBelow_b50 X x0 x1 x2 x3 = some (r, Xf)) : ∀ (H : Heap) (locs : List Loc) (ls : Array Slot) (cells slots : Nat), cells + 0 ≤ 0 → slots + 0 ≤ 0 → xR D cA A Zs X H → va_S A s.heap H locs → lv_has ls 4 [(0, .ref x0), (1, .int x1), (2, .int x2), (3, .int x3)] → W p l e rmX0_cutBelow s m args below meth c H locs cells slots (MQ below (xQi D cA A Zs r Xf) args s 0 0 A) (F0 m 50 ls []) := by
  intro H locs ls cells slots hc hs hR hS hl
  refine lv_aload_n E.hx E.hb dX0_cutBelow_50 rfl (lv_at hl 0 rfl) ?_
  obtain ⟨v1, hv1, hf⟩ := bd_e hf
  refine xgX0_43 E hR hv1 dX0_cutBelow_51 ?_
  refine lv_iload_n E.hx E.hb dX0_cutBelow_54 rfl (lv_at hl 2 rfl) ?_
  refine lv_iload_n E.hx E.hb dX0_cutBelow_55 rfl (lv_at hl 1 rfl) ?_
  obtain ⟨u2, hu2, hf⟩ := bd_e hf
  obtain ⟨⟨v4, X3⟩, hv4, hf⟩ := bd_e hf
  refine xrun_i (va_runV (As := [.int x2, .int x1]) (rest := []) E.1 (tX1_isHigher l hv4) (cwX0_292 E.ht ⟨Nat.le_of_ble_eq_true rfl, Nat.le_of_ble_eq_true rfl⟩) (xPreV (ci := 1) E hR hS rfl (ck_e hu2)) rfl rfl hl.1 rfl (lv_room (Nat.le_of_ble_eq_true rfl)) dX0_cutBelow_56 ⟨Nat.le_trans (by omega) (Nat.le_refl 0), Nat.le_trans (by omega) (Nat.le_refl 0)⟩) hS (fun H locs hR hS => ?_)
  refine lv_if_eq (tgt := 76) E.hx E.hb dX0_cutBelow_59 (by decide) (fun c5 => ?_) (fun c5 => ?_)
  · have hf := it_t hf c5
    refine lv_ldcw (v := (-1000000)) E.hx E.hb E.ho (E.ht _ q923) dX0_cutBelow_76 ?_
    obtain ⟨rfl, rfl⟩ := rt_e hf
    exact xret_i E (by omega) (by omega) hR hS dX0_cutBelow_79
  · have hf := it_f hf c5
    refine lv_iload_n E.hx E.hb dX0_cutBelow_62 rfl (lv_at hl 3 rfl) ?_
    refine lv_aload_n E.hx E.hb dX0_cutBelow_63 rfl (lv_at hl 0 rfl) ?_
    obtain ⟨v6, hv6, hf⟩ := bd_e hf
    refine xgX0_43 E hR hv6 dX0_cutBelow_64 ?_
    obtain ⟨v7, hv7, hf⟩ := bd_e hf
    refine xgX0_208 E hR hv7 dX0_cutBelow_67 ?_
    refine lv_iload_n E.hx E.hb dX0_cutBelow_70 rfl (lv_at hl 1 rfl) ?_
    obtain ⟨v8, hv8, hf⟩ := bd_e hf
    refine xild E hR hv8 dX0_cutBelow_71 ?_
    refine lv_isub E.hx E.hb dX0_cutBelow_72 ?_
    refine lv_goto (tgt := 79) E.hx E.hb dX0_cutBelow_73 (by decide) ?_
    obtain ⟨rfl, rfl⟩ := rt_e hf
    exact xret_i E (by omega) (by omega) hR hS dX0_cutBelow_79
def fX0_cutBelow_L10  : Nat → AH → Nat → Int32 → Int32 → Int32 → Option (Int32 × AH)
  | 0, _, _, _, _, _ => none
  | n + 1, X, x0, x1, x2, x3 =>
    (gR X x0 0 5).bind fun v1 =>
    (ck X v1 1).bind fun _ =>
    (fX1_isHigher X v1 x2 x1).bind fun (v4, X3) =>
    if v4 = 0 then ((gR X3 x0 0 5).bind fun v6 =>
    (gR X3 v6 1 3).bind fun v7 =>
    (gA X3 v7 0 x1).bind fun v8 =>
    if v8 ≤ 0 then (fX0_cutBelow_b50 X3 x0 x1 x2 x3) else ((gR X3 x0 0 5).bind fun v10 =>
    (gR X3 v10 1 3).bind fun v11 =>
    (gA X3 v11 0 x1).bind fun v12 =>
    (pA X3 v11 0 x1 (v12 - 1)).bind fun X13 =>
    (fX0_cutBelow_L10 n) X13 x0 x1 x2 x3)) else (fX0_cutBelow_b50 X3 x0 x1 x2 x3)
theorem wX0_cutBelow_L10 (E : xE p m c cX0_cutBelow 4 s args RX0 D cA A Zs meth (some .int)) : ∀ (n : Nat) (X : AH) (x0 : Nat) (x1 : Int32) (x2 : Int32) (x3 : Int32), fX0_cutBelow_L10 n X x0 x1 x2 x3 = some (r, Xf) → ∀ (H : Heap) (locs : List Loc) (ls : Array Slot) (cells slots : Nat), cells + 0 ≤ 0 → slots + 0 ≤ 0 → xR D cA A Zs X H → va_S A s.heap H locs → lv_has ls 4 [(0, .ref x0), (1, .int x1), (2, .int x2), (3, .int x3)] → W p l e rmX0_cutBelow s m args below meth c H locs cells slots (MQ below (xQi D cA A Zs r Xf) args s 0 0 A) (F0 m 10 ls []) := by
  intro n
  induction n with
  | zero =>
    intro X x0 x1 x2 x3 hf
    have hf : none = some (r, Xf) := hf
    cases hf
  | succ n ih =>
    intro X x0 x1 x2 x3 hf H locs ls cells slots hc hs hR hS hl
    refine lv_aload_n E.hx E.hb dX0_cutBelow_10 rfl (lv_at hl 0 rfl) ?_
    obtain ⟨v1, hv1, hf⟩ := bd_e hf
    refine xgX0_43 E hR hv1 dX0_cutBelow_11 ?_
    refine lv_iload_n E.hx E.hb dX0_cutBelow_14 rfl (lv_at hl 2 rfl) ?_
    refine lv_iload_n E.hx E.hb dX0_cutBelow_15 rfl (lv_at hl 1 rfl) ?_
    obtain ⟨u2, hu2, hf⟩ := bd_e hf
    obtain ⟨⟨v4, X3⟩, hv4, hf⟩ := bd_e hf
    refine xrun_i (va_runV (As := [.int x2, .int x1]) (rest := []) E.1 (tX1_isHigher l hv4) (cwX0_292 E.ht ⟨Nat.le_of_ble_eq_true rfl, Nat.le_of_ble_eq_true rfl⟩) (xPreV (ci := 1) E hR hS rfl (ck_e hu2)) rfl rfl hl.1 rfl (lv_room (Nat.le_of_ble_eq_true rfl)) dX0_cutBelow_16 ⟨Nat.le_trans (by omega) (Nat.le_refl 0), Nat.le_trans (by omega) (Nat.le_refl 0)⟩) hS (fun H locs hR hS => ?_)
    refine lv_if_ne (tgt := 50) E.hx E.hb dX0_cutBelow_19 (by decide) (fun c5 => ?_) (fun c5 => ?_)
    · have hf := it_f hf c5
      exact wX0_cutBelow_b50 E  hf _ _ _ _ _ (by omega) (by omega) hR hS (lv_sub hl [0, 1, 2, 3] rfl)
    · have hf := it_t hf c5
      refine lv_aload_n E.hx E.hb dX0_cutBelow_22 rfl (lv_at hl 0 rfl) ?_
      obtain ⟨v6, hv6, hf⟩ := bd_e hf
      refine xgX0_43 E hR hv6 dX0_cutBelow_23 ?_
      obtain ⟨v7, hv7, hf⟩ := bd_e hf
      refine xgX0_208 E hR hv7 dX0_cutBelow_26 ?_
      refine lv_iload_n E.hx E.hb dX0_cutBelow_29 rfl (lv_at hl 1 rfl) ?_
      obtain ⟨v8, hv8, hf⟩ := bd_e hf
      refine xild E hR hv8 dX0_cutBelow_30 ?_
      refine lv_if_le (tgt := 50) E.hx E.hb dX0_cutBelow_31 (by decide) (fun c9 => ?_) (fun c9 => ?_)
      · have hf := it_t hf c9
        exact wX0_cutBelow_b50 E  hf _ _ _ _ _ (by omega) (by omega) hR hS (lv_sub hl [0, 1, 2, 3] rfl)
      · have hf := it_f hf c9
        refine lv_aload_n E.hx E.hb dX0_cutBelow_34 rfl (lv_at hl 0 rfl) ?_
        obtain ⟨v10, hv10, hf⟩ := bd_e hf
        refine xgX0_43 E hR hv10 dX0_cutBelow_35 ?_
        obtain ⟨v11, hv11, hf⟩ := bd_e hf
        refine xgX0_208 E hR hv11 dX0_cutBelow_38 ?_
        refine lv_iload_n E.hx E.hb dX0_cutBelow_41 rfl (lv_at hl 1 rfl) ?_
        refine lv_dup2_11 E.hx E.hb dX0_cutBelow_42 rfl rfl ?_
        obtain ⟨v12, hv12, hf⟩ := bd_e hf
        refine xild E hR hv12 dX0_cutBelow_43 ?_
        refine lv_iconst (v := 1) E.hx E.hb dX0_cutBelow_44 (by decide) ?_
        refine lv_isub E.hx E.hb dX0_cutBelow_45 ?_
        obtain ⟨X13, hX13, hf⟩ := bd_e hf
        refine xist E hR hS hX13 dX0_cutBelow_46 (fun H locs hR hS => ?_)
        refine lv_goto (tgt := 10) E.hx E.hb dX0_cutBelow_47 (by decide) ?_
        exact ih X13 _ _ _ _ hf _ _ _ _ _ (by omega) (by omega) hR hS (lv_sub hl [0, 1, 2, 3] rfl)
def fX0_cutBelow  (X : AH) (x0 : Nat) (x1 : Int32) (x2 : Int32) : Option (Int32 × AH) :=
  (gR X x0 0 5).bind fun v1 =>
  (gR X v1 1 3).bind fun v2 =>
  (gA X v2 0 x1).bind fun v3 =>
  fX0_cutBelow_L10 2000 X x0 x1 x2 v3
theorem wX0_cutBelow_0 (E : xE p m c cX0_cutBelow 4 s args RX0 D cA A Zs meth (some .int)) {X : AH} {x0 : Nat} {x1 : Int32} {x2 : Int32} (hf : fX0_cutBelow X x0 x1 x2 = some (r, Xf)) : ∀ (H : Heap) (locs : List Loc) (ls : Array Slot) (cells slots : Nat), cells + 0 ≤ 0 → slots + 0 ≤ 0 → xR D cA A Zs X H → va_S A s.heap H locs → lv_has ls 4 [(0, .ref x0), (1, .int x1), (2, .int x2)] → W p l e rmX0_cutBelow s m args below meth c H locs cells slots (MQ below (xQi D cA A Zs r Xf) args s 0 0 A) (F0 m 0 ls []) := by
  intro H locs ls cells slots hc hs hR hS hl
  refine lv_aload_n E.hx E.hb dX0_cutBelow_0 rfl (lv_at hl 0 rfl) ?_
  obtain ⟨v1, hv1, hf⟩ := bd_e hf
  refine xgX0_43 E hR hv1 dX0_cutBelow_1 ?_
  obtain ⟨v2, hv2, hf⟩ := bd_e hf
  refine xgX0_208 E hR hv2 dX0_cutBelow_4 ?_
  refine lv_iload_n E.hx E.hb dX0_cutBelow_7 rfl (lv_at hl 1 rfl) ?_
  obtain ⟨v3, hv3, hf⟩ := bd_e hf
  refine xild E hR hv3 dX0_cutBelow_8 ?_
  refine lv_istore_n (lv' := [(3, .int v3), (0, .ref x0), (1, .int x1), (2, .int x2)]) E.hx E.hb dX0_cutBelow_9 rfl hl (by decide) rfl (fun ls hl => ?_)
  exact wX0_cutBelow_L10 E  2000 X _ _ _ _ hf _ _ _ _ _ (by omega) (by omega) hR hS (lv_sub hl [1, 2, 3, 0] rfl)
theorem tX0_cutBelow (l : Launch) {D : va_G} {cA : Nat → ClassId} {A : Nat → Prop} {Zs : XZ} {X Xf : AH} {x0 : Nat} {x1 : Int32} {x2 : Int32} {r : Int32} (hf : fX0_cutBelow X x0 x1 x2 = some (r, Xf)) : Met l yX0_cutBelow (ws_ yX0_cutBelow cX0_cutBelow 4 (some .int)) rmX0_cutBelow (xPc D cA A Zs X [.ref x0, .int x1, .int x2]) (xQi D cA A Zs r Xf) 0 0 A := by
  refine Met.ofW (cc := cX0_cutBelow) (maxL := 4) (ret := (some .int)) (by decide) rfl ?_
  intro p e s m args below meth c s₁ B hml hv
  obtain ⟨rfl, hR, hK⟩ := hv
  have hts := atoms_spec (ws := (ws_ yX0_cutBelow cX0_cutBelow 4 (some .int))) B.pre
  rw [lg_entry_eq]
  exact wX0_cutBelow_0 (E := ⟨⟨B.exec, B.bytes, hml, findClass_of_methodNamed B.named, fun w h => hts w (List.mem_cons_of_mem _ h)⟩, hK, B.returns, B.notSynchronized⟩) hf _ _ _ 0 0 (Nat.le_of_ble_eq_true rfl) (Nat.le_of_ble_eq_true rfl) hR va_S.rf (lv_entry [.ref x0, .int x1, .int x2] (n := 4) (Nat.le_of_ble_eq_true rfl))
end
abbrev rmX0_dustOf : Room := { frames := 8, cells := 0, slots := 0, locals := 163 }
theorem cwX0_295 {R : Room} {s : State} {args : Array Value} (ht : ∀ w ∈ lw_all, w.before args s = true) (hR : rmX0_cutBelow.frames + 1 ≤ R.frames ∧ 8 + (4 + 11) + rmX0_cutBelow.locals ≤ R.locals) : CallW R s args RX0 RX0 295 yX0_cutBelow cX0_cutBelow 4 (some .int) (ws_ yX0_cutBelow cX0_cutBelow 4 (some .int)) rmX0_cutBelow 0 0 2 :=
  cwV 2 ht (lw_V q985 q987 qs27 q68 q988) rfl rfl rfl (by decide +kernel) hR
section
variable {p : Program} {l : Launch} {e : Env} {s : State} {m : MethodId} {args : Array Value} {below : List Frame} {meth : Method} {c : Code} {D : va_G} {cA : Nat → ClassId} {A : Nat → Prop} {Zs : XZ} {Xf : AH} {r : Int32} {rl : Int64} {ra : Nat} {tv : Unit ⊕ Nat} {ti : Int32 ⊕ Nat} {tr : Nat ⊕ Nat} {q2 : Option Nat}
def fX0_dustOf_L9  : Nat → AH → Nat → Nat → Int32 → Int32 → Option (Int32 × AH)
  | 0, _, _, _, _, _ => none
  | n + 1, X, x0, x1, x2, x3 =>
    (gL X x1 0).bind fun v1 =>
    if v1 ≤ x3 then (some (x2, X)) else (if x2 = (-1000000) then (some (x2, X)) else ((gA X x1 0 x3).bind fun v4 =>
    (gA X x1 0 (x3 - 1)).bind fun v5 =>
    (ck X x0 0).bind fun _ =>
    (fX0_cutBelow X x0 v4 v5).bind fun (v8, X7) =>
    if v8 = (-1000000) then ((fX0_dustOf_L9 n) X7 x0 x1 (-1000000) (x3 + 1)) else ((fX0_dustOf_L9 n) X7 x0 x1 (x2 + v8) (x3 + 1))))
theorem wX0_dustOf_L9 (E : xE p m c cX0_dustOf 5 s args RX0 D cA A Zs meth (some .int)) : ∀ (n : Nat) (X : AH) (x0 : Nat) (x1 : Nat) (x2 : Int32) (x3 : Int32), fX0_dustOf_L9 n X x0 x1 x2 x3 = some (r, Xf) → ∀ (H : Heap) (locs : List Loc) (ls : Array Slot) (cells slots : Nat), cells + 0 ≤ 0 → slots + 0 ≤ 0 → xR D cA A Zs X H → va_S A s.heap H locs → lv_has ls 5 [(0, .ref x0), (1, .ref x1), (2, .int x2), (3, .int x3)] → W p l e rmX0_dustOf s m args below meth c H locs cells slots (MQ below (xQi D cA A Zs r Xf) args s 0 0 A) (F0 m 9 ls []) := by
  intro n
  induction n with
  | zero =>
    intro X x0 x1 x2 x3 hf
    have hf : none = some (r, Xf) := hf
    cases hf
  | succ n ih =>
    intro X x0 x1 x2 x3 hf H locs ls cells slots hc hs hR hS hl
    refine lv_iload_n E.hx E.hb dX0_dustOf_9 rfl (lv_at hl 3 rfl) ?_
    refine lv_aload_n E.hx E.hb dX0_dustOf_10 rfl (lv_at hl 1 rfl) ?_
    obtain ⟨v1, hv1, hf⟩ := bd_e hf
    refine xlen (kd := 0) E hR rfl hv1 dX0_dustOf_11 ?_
    refine lv_icmp_ge (tgt := 61) E.hx E.hb dX0_dustOf_12 (by decide) (fun c2 => ?_) (fun c2 => ?_)
    · have hf := it_t hf c2
      refine lv_iload_n E.hx E.hb dX0_dustOf_61 rfl (lv_at hl 2 rfl) ?_
      obtain ⟨rfl, rfl⟩ := rt_e hf
      exact xret_i E (by omega) (by omega) hR hS dX0_dustOf_62
    · have hf := it_f hf c2
      refine lv_iload_n E.hx E.hb dX0_dustOf_15 rfl (lv_at hl 2 rfl) ?_
      refine lv_ldcw (v := (-1000000)) E.hx E.hb E.ho (E.ht _ q923) dX0_dustOf_16 ?_
      refine lv_icmp_eq (tgt := 61) E.hx E.hb dX0_dustOf_19 (by decide) (fun c3 => ?_) (fun c3 => ?_)
      · have hf := it_t hf c3
        refine lv_iload_n E.hx E.hb dX0_dustOf_61 rfl (lv_at hl 2 rfl) ?_
        obtain ⟨rfl, rfl⟩ := rt_e hf
        exact xret_i E (by omega) (by omega) hR hS dX0_dustOf_62
      · have hf := it_f hf c3
        refine lv_aload_n E.hx E.hb dX0_dustOf_22 rfl (lv_at hl 0 rfl) ?_
        refine lv_aload_n E.hx E.hb dX0_dustOf_23 rfl (lv_at hl 1 rfl) ?_
        refine lv_iload_n E.hx E.hb dX0_dustOf_24 rfl (lv_at hl 3 rfl) ?_
        obtain ⟨v4, hv4, hf⟩ := bd_e hf
        refine xild E hR hv4 dX0_dustOf_25 ?_
        refine lv_aload_n E.hx E.hb dX0_dustOf_26 rfl (lv_at hl 1 rfl) ?_
        refine lv_iload_n E.hx E.hb dX0_dustOf_27 rfl (lv_at hl 3 rfl) ?_
        refine lv_iconst (v := 1) E.hx E.hb dX0_dustOf_28 (by decide) ?_
        refine lv_isub E.hx E.hb dX0_dustOf_29 ?_
        obtain ⟨v5, hv5, hf⟩ := bd_e hf
        refine xild E hR hv5 dX0_dustOf_30 ?_
        obtain ⟨u6, hu6, hf⟩ := bd_e hf
        obtain ⟨⟨v8, X7⟩, hv8, hf⟩ := bd_e hf
        refine xrun_i (va_runV (As := [.int v4, .int v5]) (rest := []) E.1 (tX0_cutBelow l hv8) (cwX0_295 E.ht ⟨Nat.le_of_ble_eq_true rfl, Nat.le_of_ble_eq_true rfl⟩) (xPreV (ci := 0) E hR hS rfl (ck_e hu6)) rfl rfl hl.1 rfl (lv_room (Nat.le_of_ble_eq_true rfl)) dX0_dustOf_31 ⟨Nat.le_trans (by omega) (Nat.le_refl 0), Nat.le_trans (by omega) (Nat.le_refl 0)⟩) hS (fun H locs hR hS => ?_)
        refine lv_istore (lv' := [(4, .int v8), (0, .ref x0), (1, .ref x1), (2, .int x2), (3, .int x3)]) E.hx E.hb dX0_dustOf_34 hl (by decide) rfl (fun ls hl => ?_)
        refine lv_iload E.hx E.hb dX0_dustOf_36 (lv_at hl 0 rfl) ?_
        refine lv_ldcw (v := (-1000000)) E.hx E.hb E.ho (E.ht _ q923) dX0_dustOf_38 ?_
        refine lv_icmp_ne (tgt := 50) E.hx E.hb dX0_dustOf_41 (by decide) (fun c9 => ?_) (fun c9 => ?_)
        · have hf := it_f hf c9
          refine lv_iload_n E.hx E.hb dX0_dustOf_50 rfl (lv_at hl 3 rfl) ?_
          refine lv_iload E.hx E.hb dX0_dustOf_51 (lv_at hl 0 rfl) ?_
          refine lv_iadd E.hx E.hb dX0_dustOf_53 ?_
          refine lv_istore_n (lv' := [(2, .int (x2 + v8)), (4, .int v8), (0, .ref x0), (1, .ref x1), (3, .int x3)]) E.hx E.hb dX0_dustOf_54 rfl hl (by decide) rfl (fun ls hl => ?_)
          refine lv_iinc (v := (x3 + 1)) (lv' := [(3, .int (x3 + 1)), (2, .int (x2 + v8)), (4, .int v8), (0, .ref x0), (1, .ref x1)]) E.hx E.hb dX0_dustOf_55 hl (k := 4) rfl rfl (by decide) rfl (fun ls hl => ?_)
          refine lv_goto (tgt := 9) E.hx E.hb dX0_dustOf_58 (by decide) ?_
          exact ih X7 _ _ _ _ hf _ _ _ _ _ (by omega) (by omega) hR hS (lv_sub hl [3, 4, 1, 0] rfl)
        · have hf := it_t hf c9
          refine lv_ldcw (v := (-1000000)) E.hx E.hb E.ho (E.ht _ q923) dX0_dustOf_44 ?_
          refine lv_goto (tgt := 54) E.hx E.hb dX0_dustOf_47 (by decide) ?_
          refine lv_istore_n (lv' := [(2, .int (-1000000)), (4, .int v8), (0, .ref x0), (1, .ref x1), (3, .int x3)]) E.hx E.hb dX0_dustOf_54 rfl hl (by decide) rfl (fun ls hl => ?_)
          refine lv_iinc (v := (x3 + 1)) (lv' := [(3, .int (x3 + 1)), (2, .int (-1000000)), (4, .int v8), (0, .ref x0), (1, .ref x1)]) E.hx E.hb dX0_dustOf_55 hl (k := 4) rfl rfl (by decide) rfl (fun ls hl => ?_)
          refine lv_goto (tgt := 9) E.hx E.hb dX0_dustOf_58 (by decide) ?_
          exact ih X7 _ _ _ _ hf _ _ _ _ _ (by omega) (by omega) hR hS (lv_sub hl [3, 4, 1, 0] rfl)
def fX0_dustOf  (X : AH) (x0 : Nat) (x1 : Nat) : Option (Int32 × AH) :=
  (ck X x0 0).bind fun _ =>
  (fX0_tried X x0).bind fun (v3, X2) =>
  fX0_dustOf_L9 2000 X2 x0 x1 0 1
theorem wX0_dustOf_0 (E : xE p m c cX0_dustOf 5 s args RX0 D cA A Zs meth (some .int)) {X : AH} {x0 : Nat} {x1 : Nat} (hf : fX0_dustOf X x0 x1 = some (r, Xf)) : ∀ (H : Heap) (locs : List Loc) (ls : Array Slot) (cells slots : Nat), cells + 0 ≤ 0 → slots + 0 ≤ 0 → xR D cA A Zs X H → va_S A s.heap H locs → lv_has ls 5 [(0, .ref x0), (1, .ref x1)] → W p l e rmX0_dustOf s m args below meth c H locs cells slots (MQ below (xQi D cA A Zs r Xf) args s 0 0 A) (F0 m 0 ls []) := by
  intro H locs ls cells slots hc hs hR hS hl
  refine lv_aload_n E.hx E.hb dX0_dustOf_0 rfl (lv_at hl 0 rfl) ?_
  obtain ⟨u1, hu1, hf⟩ := bd_e hf
  obtain ⟨⟨v3, X2⟩, hv3, hf⟩ := bd_e hf
  refine xrun_r (va_runV (As := []) (rest := []) E.1 (tX0_tried l hv3) (cwX0_254 E.ht ⟨Nat.le_of_ble_eq_true rfl, Nat.le_of_ble_eq_true rfl⟩) (xPreV (ci := 0) E hR hS rfl (ck_e hu1)) rfl rfl hl.1 rfl (lv_room (Nat.le_of_ble_eq_true rfl)) dX0_dustOf_1 ⟨Nat.le_trans (by omega) (Nat.le_refl 0), Nat.le_trans (by omega) (Nat.le_refl 0)⟩) hS (fun H locs hR hS => ?_)
  refine lv_pop E.hx E.hb dX0_dustOf_4 rfl ?_
  refine lv_iconst (v := 0) E.hx E.hb dX0_dustOf_5 (by decide) ?_
  refine lv_istore_n (lv' := [(2, .int 0), (0, .ref x0), (1, .ref x1)]) E.hx E.hb dX0_dustOf_6 rfl hl (by decide) rfl (fun ls hl => ?_)
  refine lv_iconst (v := 1) E.hx E.hb dX0_dustOf_7 (by decide) ?_
  refine lv_istore_n (lv' := [(3, .int 1), (2, .int 0), (0, .ref x0), (1, .ref x1)]) E.hx E.hb dX0_dustOf_8 rfl hl (by decide) rfl (fun ls hl => ?_)
  exact wX0_dustOf_L9 E  2000 X2 _ _ _ _ hf _ _ _ _ _ (by omega) (by omega) hR hS (lv_sub hl [2, 3, 1, 0] rfl)
theorem tX0_dustOf (l : Launch) {D : va_G} {cA : Nat → ClassId} {A : Nat → Prop} {Zs : XZ} {X Xf : AH} {x0 : Nat} {x1 : Nat} {r : Int32} (hf : fX0_dustOf X x0 x1 = some (r, Xf)) : Met l yX0_dustOf (ws_ yX0_dustOf cX0_dustOf 5 (some .int)) rmX0_dustOf (xPc D cA A Zs X [.ref x0, .ref x1]) (xQi D cA A Zs r Xf) 0 0 A := by
  refine Met.ofW (cc := cX0_dustOf) (maxL := 5) (ret := (some .int)) (by decide) rfl ?_
  intro p e s m args below meth c s₁ B hml hv
  obtain ⟨rfl, hR, hK⟩ := hv
  have hts := atoms_spec (ws := (ws_ yX0_dustOf cX0_dustOf 5 (some .int))) B.pre
  rw [lg_entry_eq]
  exact wX0_dustOf_0 (E := ⟨⟨B.exec, B.bytes, hml, findClass_of_methodNamed B.named, fun w h => hts w (List.mem_cons_of_mem _ h)⟩, hK, B.returns, B.notSynchronized⟩) hf _ _ _ 0 0 (Nat.le_of_ble_eq_true rfl) (Nat.le_of_ble_eq_true rfl) hR va_S.rf (lv_entry [.ref x0, .ref x1] (n := 5) (Nat.le_of_ble_eq_true rfl))
end
abbrev rmX0_pileAbove : Room := { frames := 7, cells := 0, slots := 0, locals := 140 }
section
variable {p : Program} {l : Launch} {e : Env} {s : State} {m : MethodId} {args : Array Value} {below : List Frame} {meth : Method} {c : Code} {D : va_G} {cA : Nat → ClassId} {A : Nat → Prop} {Zs : XZ} {Xf : AH} {r : Int32} {rl : Int64} {ra : Nat} {tv : Unit ⊕ Nat} {ti : Int32 ⊕ Nat} {tr : Nat ⊕ Nat} {q2 : Option Nat}
def fX0_pileAbove_b52  (X : AH) (x0 : Nat) (x1 : Int32) (x2 : Int32) (x3 : Int32) : Option (Int32 × AH) :=
  (gR X x0 0 5).bind fun v1 =>
  (ck X v1 1).bind fun _ =>
  (fX1_isHigher X v1 x1 x2).bind fun (v4, X3) =>
  if v4 = 0 then (some ((-1000000), X3)) else ((gR X3 x0 0 5).bind fun v6 =>
  (gR X3 v6 1 4).bind fun v7 =>
  (gA X3 v7 0 x1).bind fun v8 =>
  some ((v8 - x3), X3))
theorem wX0_pileAbove_b52 (E : xE p m c cX0_pileAbove 4 s args RX0 D cA A Zs meth (some .int)) {X : AH} {x0 : Nat} {x1 : Int32} {x2 : Int32} {x3 : Int32} (hf : fX0_pileAbove_b52 X x0 x1 x2 x3 = some (r, Xf)) : ∀ (H : Heap) (locs : List Loc) (ls : Array Slot) (cells slots : Nat), cells + 0 ≤ 0 → slots + 0 ≤ 0 → xR D cA A Zs X H → va_S A s.heap H locs → lv_has ls 4 [(0, .ref x0), (1, .int x1), (2, .int x2), (3, .int x3)] → W p l e rmX0_pileAbove s m args below meth c H locs cells slots (MQ below (xQi D cA A Zs r Xf) args s 0 0 A) (F0 m 52 ls []) := by
  intro H locs ls cells slots hc hs hR hS hl
  refine lv_aload_n E.hx E.hb dX0_pileAbove_52 rfl (lv_at hl 0 rfl) ?_
  obtain ⟨v1, hv1, hf⟩ := bd_e hf
  refine xgX0_43 E hR hv1 dX0_pileAbove_53 ?_
  refine lv_iload_n E.hx E.hb dX0_pileAbove_56 rfl (lv_at hl 1 rfl) ?_
  refine lv_iload_n E.hx E.hb dX0_pileAbove_57 rfl (lv_at hl 2 rfl) ?_
  obtain ⟨u2, hu2, hf⟩ := bd_e hf
  obtain ⟨⟨v4, X3⟩, hv4, hf⟩ := bd_e hf
  refine xrun_i (va_runV (As := [.int x1, .int x2]) (rest := []) E.1 (tX1_isHigher l hv4) (cwX0_292 E.ht ⟨Nat.le_of_ble_eq_true rfl, Nat.le_of_ble_eq_true rfl⟩) (xPreV (ci := 1) E hR hS rfl (ck_e hu2)) rfl rfl hl.1 rfl (lv_room (Nat.le_of_ble_eq_true rfl)) dX0_pileAbove_58 ⟨Nat.le_trans (by omega) (Nat.le_refl 0), Nat.le_trans (by omega) (Nat.le_refl 0)⟩) hS (fun H locs hR hS => ?_)
  refine lv_if_eq (tgt := 78) E.hx E.hb dX0_pileAbove_61 (by decide) (fun c5 => ?_) (fun c5 => ?_)
  · have hf := it_t hf c5
    refine lv_ldcw (v := (-1000000)) E.hx E.hb E.ho (E.ht _ q923) dX0_pileAbove_78 ?_
    obtain ⟨rfl, rfl⟩ := rt_e hf
    exact xret_i E (by omega) (by omega) hR hS dX0_pileAbove_81
  · have hf := it_f hf c5
    refine lv_aload_n E.hx E.hb dX0_pileAbove_64 rfl (lv_at hl 0 rfl) ?_
    obtain ⟨v6, hv6, hf⟩ := bd_e hf
    refine xgX0_43 E hR hv6 dX0_pileAbove_65 ?_
    obtain ⟨v7, hv7, hf⟩ := bd_e hf
    refine xgX0_201 E hR hv7 dX0_pileAbove_68 ?_
    refine lv_iload_n E.hx E.hb dX0_pileAbove_71 rfl (lv_at hl 1 rfl) ?_
    obtain ⟨v8, hv8, hf⟩ := bd_e hf
    refine xild E hR hv8 dX0_pileAbove_72 ?_
    refine lv_iload_n E.hx E.hb dX0_pileAbove_73 rfl (lv_at hl 3 rfl) ?_
    refine lv_isub E.hx E.hb dX0_pileAbove_74 ?_
    refine lv_goto (tgt := 81) E.hx E.hb dX0_pileAbove_75 (by decide) ?_
    obtain ⟨rfl, rfl⟩ := rt_e hf
    exact xret_i E (by omega) (by omega) hR hS dX0_pileAbove_81
def fX0_pileAbove_L10  : Nat → AH → Nat → Int32 → Int32 → Int32 → Option (Int32 × AH)
  | 0, _, _, _, _, _ => none
  | n + 1, X, x0, x1, x2, x3 =>
    (gR X x0 0 5).bind fun v1 =>
    (ck X v1 1).bind fun _ =>
    (fX1_isHigher X v1 x1 x2).bind fun (v4, X3) =>
    if v4 = 0 then ((gR X3 x0 0 5).bind fun v6 =>
    (gR X3 v6 1 4).bind fun v7 =>
    (gA X3 v7 0 x1).bind fun v8 =>
    if 20 ≤ v8 then (fX0_pileAbove_b52 X3 x0 x1 x2 x3) else ((gR X3 x0 0 5).bind fun v10 =>
    (gR X3 v10 1 4).bind fun v11 =>
    (gA X3 v11 0 x1).bind fun v12 =>
    (pA X3 v11 0 x1 (v12 + 1)).bind fun X13 =>
    (fX0_pileAbove_L10 n) X13 x0 x1 x2 x3)) else (fX0_pileAbove_b52 X3 x0 x1 x2 x3)
theorem wX0_pileAbove_L10 (E : xE p m c cX0_pileAbove 4 s args RX0 D cA A Zs meth (some .int)) : ∀ (n : Nat) (X : AH) (x0 : Nat) (x1 : Int32) (x2 : Int32) (x3 : Int32), fX0_pileAbove_L10 n X x0 x1 x2 x3 = some (r, Xf) → ∀ (H : Heap) (locs : List Loc) (ls : Array Slot) (cells slots : Nat), cells + 0 ≤ 0 → slots + 0 ≤ 0 → xR D cA A Zs X H → va_S A s.heap H locs → lv_has ls 4 [(0, .ref x0), (1, .int x1), (2, .int x2), (3, .int x3)] → W p l e rmX0_pileAbove s m args below meth c H locs cells slots (MQ below (xQi D cA A Zs r Xf) args s 0 0 A) (F0 m 10 ls []) := by
  intro n
  induction n with
  | zero =>
    intro X x0 x1 x2 x3 hf
    have hf : none = some (r, Xf) := hf
    cases hf
  | succ n ih =>
    intro X x0 x1 x2 x3 hf H locs ls cells slots hc hs hR hS hl
    refine lv_aload_n E.hx E.hb dX0_pileAbove_10 rfl (lv_at hl 0 rfl) ?_
    obtain ⟨v1, hv1, hf⟩ := bd_e hf
    refine xgX0_43 E hR hv1 dX0_pileAbove_11 ?_
    refine lv_iload_n E.hx E.hb dX0_pileAbove_14 rfl (lv_at hl 1 rfl) ?_
    refine lv_iload_n E.hx E.hb dX0_pileAbove_15 rfl (lv_at hl 2 rfl) ?_
    obtain ⟨u2, hu2, hf⟩ := bd_e hf
    obtain ⟨⟨v4, X3⟩, hv4, hf⟩ := bd_e hf
    refine xrun_i (va_runV (As := [.int x1, .int x2]) (rest := []) E.1 (tX1_isHigher l hv4) (cwX0_292 E.ht ⟨Nat.le_of_ble_eq_true rfl, Nat.le_of_ble_eq_true rfl⟩) (xPreV (ci := 1) E hR hS rfl (ck_e hu2)) rfl rfl hl.1 rfl (lv_room (Nat.le_of_ble_eq_true rfl)) dX0_pileAbove_16 ⟨Nat.le_trans (by omega) (Nat.le_refl 0), Nat.le_trans (by omega) (Nat.le_refl 0)⟩) hS (fun H locs hR hS => ?_)
    refine lv_if_ne (tgt := 52) E.hx E.hb dX0_pileAbove_19 (by decide) (fun c5 => ?_) (fun c5 => ?_)
    · have hf := it_f hf c5
      exact wX0_pileAbove_b52 E  hf _ _ _ _ _ (by omega) (by omega) hR hS (lv_sub hl [0, 1, 2, 3] rfl)
    · have hf := it_t hf c5
      refine lv_aload_n E.hx E.hb dX0_pileAbove_22 rfl (lv_at hl 0 rfl) ?_
      obtain ⟨v6, hv6, hf⟩ := bd_e hf
      refine xgX0_43 E hR hv6 dX0_pileAbove_23 ?_
      obtain ⟨v7, hv7, hf⟩ := bd_e hf
      refine xgX0_201 E hR hv7 dX0_pileAbove_26 ?_
      refine lv_iload_n E.hx E.hb dX0_pileAbove_29 rfl (lv_at hl 1 rfl) ?_
      obtain ⟨v8, hv8, hf⟩ := bd_e hf
      refine xild E hR hv8 dX0_pileAbove_30 ?_
      refine lv_bipush (v := 20) E.hx E.hb dX0_pileAbove_31 (by decide) ?_
      refine lv_icmp_ge (tgt := 52) E.hx E.hb dX0_pileAbove_33 (by decide) (fun c9 => ?_) (fun c9 => ?_)
      · have hf := it_t hf c9
        exact wX0_pileAbove_b52 E  hf _ _ _ _ _ (by omega) (by omega) hR hS (lv_sub hl [0, 1, 2, 3] rfl)
      · have hf := it_f hf c9
        refine lv_aload_n E.hx E.hb dX0_pileAbove_36 rfl (lv_at hl 0 rfl) ?_
        obtain ⟨v10, hv10, hf⟩ := bd_e hf
        refine xgX0_43 E hR hv10 dX0_pileAbove_37 ?_
        obtain ⟨v11, hv11, hf⟩ := bd_e hf
        refine xgX0_201 E hR hv11 dX0_pileAbove_40 ?_
        refine lv_iload_n E.hx E.hb dX0_pileAbove_43 rfl (lv_at hl 1 rfl) ?_
        refine lv_dup2_11 E.hx E.hb dX0_pileAbove_44 rfl rfl ?_
        obtain ⟨v12, hv12, hf⟩ := bd_e hf
        refine xild E hR hv12 dX0_pileAbove_45 ?_
        refine lv_iconst (v := 1) E.hx E.hb dX0_pileAbove_46 (by decide) ?_
        refine lv_iadd E.hx E.hb dX0_pileAbove_47 ?_
        obtain ⟨X13, hX13, hf⟩ := bd_e hf
        refine xist E hR hS hX13 dX0_pileAbove_48 (fun H locs hR hS => ?_)
        refine lv_goto (tgt := 10) E.hx E.hb dX0_pileAbove_49 (by decide) ?_
        exact ih X13 _ _ _ _ hf _ _ _ _ _ (by omega) (by omega) hR hS (lv_sub hl [0, 1, 2, 3] rfl)
def fX0_pileAbove  (X : AH) (x0 : Nat) (x1 : Int32) (x2 : Int32) : Option (Int32 × AH) :=
  (gR X x0 0 5).bind fun v1 =>
  (gR X v1 1 4).bind fun v2 =>
  (gA X v2 0 x1).bind fun v3 =>
  fX0_pileAbove_L10 2000 X x0 x1 x2 v3
theorem wX0_pileAbove_0 (E : xE p m c cX0_pileAbove 4 s args RX0 D cA A Zs meth (some .int)) {X : AH} {x0 : Nat} {x1 : Int32} {x2 : Int32} (hf : fX0_pileAbove X x0 x1 x2 = some (r, Xf)) : ∀ (H : Heap) (locs : List Loc) (ls : Array Slot) (cells slots : Nat), cells + 0 ≤ 0 → slots + 0 ≤ 0 → xR D cA A Zs X H → va_S A s.heap H locs → lv_has ls 4 [(0, .ref x0), (1, .int x1), (2, .int x2)] → W p l e rmX0_pileAbove s m args below meth c H locs cells slots (MQ below (xQi D cA A Zs r Xf) args s 0 0 A) (F0 m 0 ls []) := by
  intro H locs ls cells slots hc hs hR hS hl
  refine lv_aload_n E.hx E.hb dX0_pileAbove_0 rfl (lv_at hl 0 rfl) ?_
  obtain ⟨v1, hv1, hf⟩ := bd_e hf
  refine xgX0_43 E hR hv1 dX0_pileAbove_1 ?_
  obtain ⟨v2, hv2, hf⟩ := bd_e hf
  refine xgX0_201 E hR hv2 dX0_pileAbove_4 ?_
  refine lv_iload_n E.hx E.hb dX0_pileAbove_7 rfl (lv_at hl 1 rfl) ?_
  obtain ⟨v3, hv3, hf⟩ := bd_e hf
  refine xild E hR hv3 dX0_pileAbove_8 ?_
  refine lv_istore_n (lv' := [(3, .int v3), (0, .ref x0), (1, .int x1), (2, .int x2)]) E.hx E.hb dX0_pileAbove_9 rfl hl (by decide) rfl (fun ls hl => ?_)
  exact wX0_pileAbove_L10 E  2000 X _ _ _ _ hf _ _ _ _ _ (by omega) (by omega) hR hS (lv_sub hl [1, 2, 3, 0] rfl)
theorem tX0_pileAbove (l : Launch) {D : va_G} {cA : Nat → ClassId} {A : Nat → Prop} {Zs : XZ} {X Xf : AH} {x0 : Nat} {x1 : Int32} {x2 : Int32} {r : Int32} (hf : fX0_pileAbove X x0 x1 x2 = some (r, Xf)) : Met l yX0_pileAbove (ws_ yX0_pileAbove cX0_pileAbove 4 (some .int)) rmX0_pileAbove (xPc D cA A Zs X [.ref x0, .int x1, .int x2]) (xQi D cA A Zs r Xf) 0 0 A := by
  refine Met.ofW (cc := cX0_pileAbove) (maxL := 4) (ret := (some .int)) (by decide) rfl ?_
  intro p e s m args below meth c s₁ B hml hv
  obtain ⟨rfl, hR, hK⟩ := hv
  have hts := atoms_spec (ws := (ws_ yX0_pileAbove cX0_pileAbove 4 (some .int))) B.pre
  rw [lg_entry_eq]
  exact wX0_pileAbove_0 (E := ⟨⟨B.exec, B.bytes, hml, findClass_of_methodNamed B.named, fun w h => hts w (List.mem_cons_of_mem _ h)⟩, hK, B.returns, B.notSynchronized⟩) hf _ _ _ 0 0 (Nat.le_of_ble_eq_true rfl) (Nat.le_of_ble_eq_true rfl) hR va_S.rf (lv_entry [.ref x0, .int x1, .int x2] (n := 4) (Nat.le_of_ble_eq_true rfl))
end
abbrev rmX0_pileOf : Room := { frames := 8, cells := 0, slots := 0, locals := 163 }
theorem cwX0_305 {R : Room} {s : State} {args : Array Value} (ht : ∀ w ∈ lw_all, w.before args s = true) (hR : rmX0_pileAbove.frames + 1 ≤ R.frames ∧ 8 + (4 + 11) + rmX0_pileAbove.locals ≤ R.locals) : CallW R s args RX0 RX0 305 yX0_pileAbove cX0_pileAbove 4 (some .int) (ws_ yX0_pileAbove cX0_pileAbove 4 (some .int)) rmX0_pileAbove 0 0 2 :=
  cwV 2 ht (lw_V q998 q1000 qs29 q68 q1001) rfl rfl rfl (by decide +kernel) hR
section
variable {p : Program} {l : Launch} {e : Env} {s : State} {m : MethodId} {args : Array Value} {below : List Frame} {meth : Method} {c : Code} {D : va_G} {cA : Nat → ClassId} {A : Nat → Prop} {Zs : XZ} {Xf : AH} {r : Int32} {rl : Int64} {ra : Nat} {tv : Unit ⊕ Nat} {ti : Int32 ⊕ Nat} {tr : Nat ⊕ Nat} {q2 : Option Nat}
def fX0_pileOf_L12  : Nat → AH → Nat → Nat → Int32 → Int32 → Option (Int32 × AH)
  | 0, _, _, _, _, _ => none
  | n + 1, X, x0, x1, x2, x3 =>
    if x3 < 0 then (some (x2, X)) else (if x2 = (-1000000) then (some (x2, X)) else ((gA X x1 0 x3).bind fun v3 =>
    (gA X x1 0 (x3 + 1)).bind fun v4 =>
    (ck X x0 0).bind fun _ =>
    (fX0_pileAbove X x0 v3 v4).bind fun (v7, X6) =>
    if v7 = (-1000000) then ((fX0_pileOf_L12 n) X6 x0 x1 (-1000000) (x3 + (-1))) else ((fX0_pileOf_L12 n) X6 x0 x1 (x2 + v7) (x3 + (-1)))))
theorem wX0_pileOf_L12 (E : xE p m c cX0_pileOf 5 s args RX0 D cA A Zs meth (some .int)) : ∀ (n : Nat) (X : AH) (x0 : Nat) (x1 : Nat) (x2 : Int32) (x3 : Int32), fX0_pileOf_L12 n X x0 x1 x2 x3 = some (r, Xf) → ∀ (H : Heap) (locs : List Loc) (ls : Array Slot) (cells slots : Nat), cells + 0 ≤ 0 → slots + 0 ≤ 0 → xR D cA A Zs X H → va_S A s.heap H locs → lv_has ls 5 [(0, .ref x0), (1, .ref x1), (2, .int x2), (3, .int x3)] → W p l e rmX0_pileOf s m args below meth c H locs cells slots (MQ below (xQi D cA A Zs r Xf) args s 0 0 A) (F0 m 12 ls []) := by
  intro n
  induction n with
  | zero =>
    intro X x0 x1 x2 x3 hf
    have hf : none = some (r, Xf) := hf
    cases hf
  | succ n ih =>
    intro X x0 x1 x2 x3 hf H locs ls cells slots hc hs hR hS hl
    refine lv_iload_n E.hx E.hb dX0_pileOf_12 rfl (lv_at hl 3 rfl) ?_
    refine lv_if_lt (tgt := 62) E.hx E.hb dX0_pileOf_13 (by decide) (fun c1 => ?_) (fun c1 => ?_)
    · have hf := it_t hf c1
      refine lv_iload_n E.hx E.hb dX0_pileOf_62 rfl (lv_at hl 2 rfl) ?_
      obtain ⟨rfl, rfl⟩ := rt_e hf
      exact xret_i E (by omega) (by omega) hR hS dX0_pileOf_63
    · have hf := it_f hf c1
      refine lv_iload_n E.hx E.hb dX0_pileOf_16 rfl (lv_at hl 2 rfl) ?_
      refine lv_ldcw (v := (-1000000)) E.hx E.hb E.ho (E.ht _ q923) dX0_pileOf_17 ?_
      refine lv_icmp_eq (tgt := 62) E.hx E.hb dX0_pileOf_20 (by decide) (fun c2 => ?_) (fun c2 => ?_)
      · have hf := it_t hf c2
        refine lv_iload_n E.hx E.hb dX0_pileOf_62 rfl (lv_at hl 2 rfl) ?_
        obtain ⟨rfl, rfl⟩ := rt_e hf
        exact xret_i E (by omega) (by omega) hR hS dX0_pileOf_63
      · have hf := it_f hf c2
        refine lv_aload_n E.hx E.hb dX0_pileOf_23 rfl (lv_at hl 0 rfl) ?_
        refine lv_aload_n E.hx E.hb dX0_pileOf_24 rfl (lv_at hl 1 rfl) ?_
        refine lv_iload_n E.hx E.hb dX0_pileOf_25 rfl (lv_at hl 3 rfl) ?_
        obtain ⟨v3, hv3, hf⟩ := bd_e hf
        refine xild E hR hv3 dX0_pileOf_26 ?_
        refine lv_aload_n E.hx E.hb dX0_pileOf_27 rfl (lv_at hl 1 rfl) ?_
        refine lv_iload_n E.hx E.hb dX0_pileOf_28 rfl (lv_at hl 3 rfl) ?_
        refine lv_iconst (v := 1) E.hx E.hb dX0_pileOf_29 (by decide) ?_
        refine lv_iadd E.hx E.hb dX0_pileOf_30 ?_
        obtain ⟨v4, hv4, hf⟩ := bd_e hf
        refine xild E hR hv4 dX0_pileOf_31 ?_
        obtain ⟨u5, hu5, hf⟩ := bd_e hf
        obtain ⟨⟨v7, X6⟩, hv7, hf⟩ := bd_e hf
        refine xrun_i (va_runV (As := [.int v3, .int v4]) (rest := []) E.1 (tX0_pileAbove l hv7) (cwX0_305 E.ht ⟨Nat.le_of_ble_eq_true rfl, Nat.le_of_ble_eq_true rfl⟩) (xPreV (ci := 0) E hR hS rfl (ck_e hu5)) rfl rfl hl.1 rfl (lv_room (Nat.le_of_ble_eq_true rfl)) dX0_pileOf_32 ⟨Nat.le_trans (by omega) (Nat.le_refl 0), Nat.le_trans (by omega) (Nat.le_refl 0)⟩) hS (fun H locs hR hS => ?_)
        refine lv_istore (lv' := [(4, .int v7), (0, .ref x0), (1, .ref x1), (2, .int x2), (3, .int x3)]) E.hx E.hb dX0_pileOf_35 hl (by decide) rfl (fun ls hl => ?_)
        refine lv_iload E.hx E.hb dX0_pileOf_37 (lv_at hl 0 rfl) ?_
        refine lv_ldcw (v := (-1000000)) E.hx E.hb E.ho (E.ht _ q923) dX0_pileOf_39 ?_
        refine lv_icmp_ne (tgt := 51) E.hx E.hb dX0_pileOf_42 (by decide) (fun c8 => ?_) (fun c8 => ?_)
        · have hf := it_f hf c8
          refine lv_iload_n E.hx E.hb dX0_pileOf_51 rfl (lv_at hl 3 rfl) ?_
          refine lv_iload E.hx E.hb dX0_pileOf_52 (lv_at hl 0 rfl) ?_
          refine lv_iadd E.hx E.hb dX0_pileOf_54 ?_
          refine lv_istore_n (lv' := [(2, .int (x2 + v7)), (4, .int v7), (0, .ref x0), (1, .ref x1), (3, .int x3)]) E.hx E.hb dX0_pileOf_55 rfl hl (by decide) rfl (fun ls hl => ?_)
          refine lv_iinc (v := (x3 + (-1))) (lv' := [(3, .int (x3 + (-1))), (2, .int (x2 + v7)), (4, .int v7), (0, .ref x0), (1, .ref x1)]) E.hx E.hb dX0_pileOf_56 hl (k := 4) rfl rfl (by decide) rfl (fun ls hl => ?_)
          refine lv_goto (tgt := 12) E.hx E.hb dX0_pileOf_59 (by decide) ?_
          exact ih X6 _ _ _ _ hf _ _ _ _ _ (by omega) (by omega) hR hS (lv_sub hl [3, 4, 1, 0] rfl)
        · have hf := it_t hf c8
          refine lv_ldcw (v := (-1000000)) E.hx E.hb E.ho (E.ht _ q923) dX0_pileOf_45 ?_
          refine lv_goto (tgt := 55) E.hx E.hb dX0_pileOf_48 (by decide) ?_
          refine lv_istore_n (lv' := [(2, .int (-1000000)), (4, .int v7), (0, .ref x0), (1, .ref x1), (3, .int x3)]) E.hx E.hb dX0_pileOf_55 rfl hl (by decide) rfl (fun ls hl => ?_)
          refine lv_iinc (v := (x3 + (-1))) (lv' := [(3, .int (x3 + (-1))), (2, .int (-1000000)), (4, .int v7), (0, .ref x0), (1, .ref x1)]) E.hx E.hb dX0_pileOf_56 hl (k := 4) rfl rfl (by decide) rfl (fun ls hl => ?_)
          refine lv_goto (tgt := 12) E.hx E.hb dX0_pileOf_59 (by decide) ?_
          exact ih X6 _ _ _ _ hf _ _ _ _ _ (by omega) (by omega) hR hS (lv_sub hl [3, 4, 1, 0] rfl)
def fX0_pileOf  (X : AH) (x0 : Nat) (x1 : Nat) : Option (Int32 × AH) :=
  (ck X x0 0).bind fun _ =>
  (fX0_tried X x0).bind fun (v3, X2) =>
  (gL X2 x1 0).bind fun v4 =>
  fX0_pileOf_L12 2000 X2 x0 x1 0 (v4 - 2)
theorem wX0_pileOf_0 (E : xE p m c cX0_pileOf 5 s args RX0 D cA A Zs meth (some .int)) {X : AH} {x0 : Nat} {x1 : Nat} (hf : fX0_pileOf X x0 x1 = some (r, Xf)) : ∀ (H : Heap) (locs : List Loc) (ls : Array Slot) (cells slots : Nat), cells + 0 ≤ 0 → slots + 0 ≤ 0 → xR D cA A Zs X H → va_S A s.heap H locs → lv_has ls 5 [(0, .ref x0), (1, .ref x1)] → W p l e rmX0_pileOf s m args below meth c H locs cells slots (MQ below (xQi D cA A Zs r Xf) args s 0 0 A) (F0 m 0 ls []) := by
  intro H locs ls cells slots hc hs hR hS hl
  refine lv_aload_n E.hx E.hb dX0_pileOf_0 rfl (lv_at hl 0 rfl) ?_
  obtain ⟨u1, hu1, hf⟩ := bd_e hf
  obtain ⟨⟨v3, X2⟩, hv3, hf⟩ := bd_e hf
  refine xrun_r (va_runV (As := []) (rest := []) E.1 (tX0_tried l hv3) (cwX0_254 E.ht ⟨Nat.le_of_ble_eq_true rfl, Nat.le_of_ble_eq_true rfl⟩) (xPreV (ci := 0) E hR hS rfl (ck_e hu1)) rfl rfl hl.1 rfl (lv_room (Nat.le_of_ble_eq_true rfl)) dX0_pileOf_1 ⟨Nat.le_trans (by omega) (Nat.le_refl 0), Nat.le_trans (by omega) (Nat.le_refl 0)⟩) hS (fun H locs hR hS => ?_)
  refine lv_pop E.hx E.hb dX0_pileOf_4 rfl ?_
  refine lv_iconst (v := 0) E.hx E.hb dX0_pileOf_5 (by decide) ?_
  refine lv_istore_n (lv' := [(2, .int 0), (0, .ref x0), (1, .ref x1)]) E.hx E.hb dX0_pileOf_6 rfl hl (by decide) rfl (fun ls hl => ?_)
  refine lv_aload_n E.hx E.hb dX0_pileOf_7 rfl (lv_at hl 2 rfl) ?_
  obtain ⟨v4, hv4, hf⟩ := bd_e hf
  refine xlen (kd := 0) E hR rfl hv4 dX0_pileOf_8 ?_
  refine lv_iconst (v := 2) E.hx E.hb dX0_pileOf_9 (by decide) ?_
  refine lv_isub E.hx E.hb dX0_pileOf_10 ?_
  refine lv_istore_n (lv' := [(3, .int (v4 - 2)), (2, .int 0), (0, .ref x0), (1, .ref x1)]) E.hx E.hb dX0_pileOf_11 rfl hl (by decide) rfl (fun ls hl => ?_)
  exact wX0_pileOf_L12 E  2000 X2 _ _ _ _ hf _ _ _ _ _ (by omega) (by omega) hR hS (lv_sub hl [2, 3, 1, 0] rfl)
theorem tX0_pileOf (l : Launch) {D : va_G} {cA : Nat → ClassId} {A : Nat → Prop} {Zs : XZ} {X Xf : AH} {x0 : Nat} {x1 : Nat} {r : Int32} (hf : fX0_pileOf X x0 x1 = some (r, Xf)) : Met l yX0_pileOf (ws_ yX0_pileOf cX0_pileOf 5 (some .int)) rmX0_pileOf (xPc D cA A Zs X [.ref x0, .ref x1]) (xQi D cA A Zs r Xf) 0 0 A := by
  refine Met.ofW (cc := cX0_pileOf) (maxL := 5) (ret := (some .int)) (by decide) rfl ?_
  intro p e s m args below meth c s₁ B hml hv
  obtain ⟨rfl, hR, hK⟩ := hv
  have hts := atoms_spec (ws := (ws_ yX0_pileOf cX0_pileOf 5 (some .int))) B.pre
  rw [lg_entry_eq]
  exact wX0_pileOf_0 (E := ⟨⟨B.exec, B.bytes, hml, findClass_of_methodNamed B.named, fun w h => hts w (List.mem_cons_of_mem _ h)⟩, hK, B.returns, B.notSynchronized⟩) hf _ _ _ 0 0 (Nat.le_of_ble_eq_true rfl) (Nat.le_of_ble_eq_true rfl) hR va_S.rf (lv_entry [.ref x0, .ref x1] (n := 5) (Nat.le_of_ble_eq_true rfl))
end
abbrev rmX0_climb : Room := { frames := 6, cells := 0, slots := 0, locals := 118 }
section
variable {p : Program} {l : Launch} {e : Env} {s : State} {m : MethodId} {args : Array Value} {below : List Frame} {meth : Method} {c : Code} {D : va_G} {cA : Nat → ClassId} {A : Nat → Prop} {Zs : XZ} {Xf : AH} {r : Int32} {rl : Int64} {ra : Nat} {tv : Unit ⊕ Nat} {ti : Int32 ⊕ Nat} {tr : Nat ⊕ Nat} {q2 : Option Nat}
def fX0_climb_b62 (k15 : AH → Nat → Int32 → Int32 → Int32 → Option (Int32 × AH)) (X : AH) (s0 : Int32) (s1 : Int32) (s2 : Int32) (x0 : Nat) (x1 : Int32) (x3 : Int32) : Option (Int32 × AH) :=
  k15 X x0 x1 (jmax s0 (s1 + s2)) (x3 + 1)
theorem wX0_climb_b62 (E : xE p m c cX0_climb 4 s args RX0 D cA A Zs meth (some .int)) {k15 : AH → Nat → Int32 → Int32 → Int32 → Option (Int32 × AH)} (hk15 : ∀ (X : AH) (x0 : Nat) (x1 : Int32) (x2 : Int32) (x3 : Int32), k15 X x0 x1 x2 x3 = some (r, Xf) → ∀ (H : Heap) (locs : List Loc) (ls : Array Slot) (cells slots : Nat), cells + 0 ≤ 0 → slots + 0 ≤ 0 → xR D cA A Zs X H → va_S A s.heap H locs → lv_has ls 4 [(0, .ref x0), (1, .int x1), (2, .int x2), (3, .int x3)] → W p l e rmX0_climb s m args below meth c H locs cells slots (MQ below (xQi D cA A Zs r Xf) args s 0 0 A) (F0 m 15 ls [])) {X : AH} {s0 : Int32} {s1 : Int32} {s2 : Int32} {x0 : Nat} {x1 : Int32} {x3 : Int32} (hf : fX0_climb_b62 k15 X s0 s1 s2 x0 x1 x3 = some (r, Xf)) : ∀ (H : Heap) (locs : List Loc) (ls : Array Slot) (cells slots : Nat), cells + 0 ≤ 0 → slots + 0 ≤ 0 → xR D cA A Zs X H → va_S A s.heap H locs → lv_has ls 4 [(0, .ref x0), (1, .int x1), (3, .int x3)] → W p l e rmX0_climb s m args below meth c H locs cells slots (MQ below (xQi D cA A Zs r Xf) args s 0 0 A) (F0 m 62 ls [.int s2, .int s1, .int s0]) := by
  intro H locs ls cells slots hc hs hR hS hl
  refine lv_iadd E.hx E.hb dX0_climb_62 ?_
  refine xmmax E hl.1 q963 (Nat.le_of_ble_eq_true rfl) (Nat.le_of_ble_eq_true rfl) (Nat.le_trans (by omega) (Nat.le_refl 0)) (Nat.le_trans (by omega) (Nat.le_refl 0)) dX0_climb_63 ?_
  refine lv_istore_n (lv' := [(2, .int (jmax s0 (s1 + s2))), (0, .ref x0), (1, .int x1), (3, .int x3)]) E.hx E.hb dX0_climb_66 rfl hl (by decide) rfl (fun ls hl => ?_)
  refine lv_iinc (v := (x3 + 1)) (lv' := [(3, .int (x3 + 1)), (2, .int (jmax s0 (s1 + s2))), (0, .ref x0), (1, .int x1)]) E.hx E.hb dX0_climb_67 hl (k := 3) rfl rfl (by decide) rfl (fun ls hl => ?_)
  refine lv_goto (tgt := 15) E.hx E.hb dX0_climb_70 (by decide) ?_
  exact hk15 X _ _ _ _ hf _ _ _ _ _ (by omega) (by omega) hR hS (lv_sub hl [2, 3, 1, 0] rfl)
def fX0_climb_L15  : Nat → AH → Nat → Int32 → Int32 → Int32 → Option (Int32 × AH)
  | 0, _, _, _, _, _ => none
  | n + 1, X, x0, x1, x2, x3 =>
    (gR X x0 0 4).bind fun v1 =>
    (ck X v1 1).bind fun _ =>
    (fX1_many X v1).bind fun (v4, X3) =>
    if v4 ≤ x3 then (some (x2, X3)) else (if x3 = x1 then ((fX0_climb_L15 n) X3 x0 x1 x2 (x3 + 1)) else ((gR X3 x0 0 4).bind fun v7 =>
    (ck X3 v7 1).bind fun _ =>
    (fX1_high X3 v7 x3).bind fun (v10, X9) =>
    (gR X9 x0 0 4).bind fun v11 =>
    (ck X9 v11 1).bind fun _ =>
    (fX1_high X9 v11 x1).bind fun (v14, X13) =>
    if x1 ≤ x3 then (fX0_climb_b62 (fX0_climb_L15 n) X13 x2 (v10 - v14) 0 x0 x1 x3) else (fX0_climb_b62 (fX0_climb_L15 n) X13 x2 (v10 - v14) 1 x0 x1 x3)))
theorem wX0_climb_L15 (E : xE p m c cX0_climb 4 s args RX0 D cA A Zs meth (some .int)) : ∀ (n : Nat) (X : AH) (x0 : Nat) (x1 : Int32) (x2 : Int32) (x3 : Int32), fX0_climb_L15 n X x0 x1 x2 x3 = some (r, Xf) → ∀ (H : Heap) (locs : List Loc) (ls : Array Slot) (cells slots : Nat), cells + 0 ≤ 0 → slots + 0 ≤ 0 → xR D cA A Zs X H → va_S A s.heap H locs → lv_has ls 4 [(0, .ref x0), (1, .int x1), (2, .int x2), (3, .int x3)] → W p l e rmX0_climb s m args below meth c H locs cells slots (MQ below (xQi D cA A Zs r Xf) args s 0 0 A) (F0 m 15 ls []) := by
  intro n
  induction n with
  | zero =>
    intro X x0 x1 x2 x3 hf
    have hf : none = some (r, Xf) := hf
    cases hf
  | succ n ih =>
    intro X x0 x1 x2 x3 hf H locs ls cells slots hc hs hR hS hl
    refine lv_iload_n E.hx E.hb dX0_climb_15 rfl (lv_at hl 3 rfl) ?_
    refine lv_aload_n E.hx E.hb dX0_climb_16 rfl (lv_at hl 0 rfl) ?_
    obtain ⟨v1, hv1, hf⟩ := bd_e hf
    refine xgX0_39 E hR hv1 dX0_climb_17 ?_
    obtain ⟨u2, hu2, hf⟩ := bd_e hf
    obtain ⟨⟨v4, X3⟩, hv4, hf⟩ := bd_e hf
    refine xrun_i (va_runV (As := []) (rest := [.int x3]) E.1 (tX1_many l hv4) (cwX0_163 E.ht ⟨Nat.le_of_ble_eq_true rfl, Nat.le_of_ble_eq_true rfl⟩) (xPreV (ci := 1) E hR hS rfl (ck_e hu2)) rfl rfl hl.1 rfl (lv_room (Nat.le_of_ble_eq_true rfl)) dX0_climb_20 ⟨Nat.le_trans (by omega) (Nat.le_refl 0), Nat.le_trans (by omega) (Nat.le_refl 0)⟩) hS (fun H locs hR hS => ?_)
    refine lv_icmp_ge (tgt := 73) E.hx E.hb dX0_climb_23 (by decide) (fun c5 => ?_) (fun c5 => ?_)
    · have hf := it_t hf c5
      refine lv_iload_n E.hx E.hb dX0_climb_73 rfl (lv_at hl 2 rfl) ?_
      obtain ⟨rfl, rfl⟩ := rt_e hf
      exact xret_i E (by omega) (by omega) hR hS dX0_climb_74
    · have hf := it_f hf c5
      refine lv_iload_n E.hx E.hb dX0_climb_26 rfl (lv_at hl 3 rfl) ?_
      refine lv_iload_n E.hx E.hb dX0_climb_27 rfl (lv_at hl 1 rfl) ?_
      refine lv_icmp_ne (tgt := 34) E.hx E.hb dX0_climb_28 (by decide) (fun c6 => ?_) (fun c6 => ?_)
      · have hf := it_f hf c6
        refine lv_iload_n E.hx E.hb dX0_climb_34 rfl (lv_at hl 2 rfl) ?_
        refine lv_aload_n E.hx E.hb dX0_climb_35 rfl (lv_at hl 0 rfl) ?_
        obtain ⟨v7, hv7, hf⟩ := bd_e hf
        refine xgX0_39 E hR hv7 dX0_climb_36 ?_
        refine lv_iload_n E.hx E.hb dX0_climb_39 rfl (lv_at hl 3 rfl) ?_
        obtain ⟨u8, hu8, hf⟩ := bd_e hf
        obtain ⟨⟨v10, X9⟩, hv10, hf⟩ := bd_e hf
        refine xrun_i (va_runV (As := [.int x3]) (rest := [.int x2]) E.1 (tX1_high l hv10) (cwX0_239 E.ht ⟨Nat.le_of_ble_eq_true rfl, Nat.le_of_ble_eq_true rfl⟩) (xPreV (ci := 1) E hR hS rfl (ck_e hu8)) rfl rfl hl.1 rfl (lv_room (Nat.le_of_ble_eq_true rfl)) dX0_climb_40 ⟨Nat.le_trans (by omega) (Nat.le_refl 0), Nat.le_trans (by omega) (Nat.le_refl 0)⟩) hS (fun H locs hR hS => ?_)
        refine lv_aload_n E.hx E.hb dX0_climb_43 rfl (lv_at hl 0 rfl) ?_
        obtain ⟨v11, hv11, hf⟩ := bd_e hf
        refine xgX0_39 E hR hv11 dX0_climb_44 ?_
        refine lv_iload_n E.hx E.hb dX0_climb_47 rfl (lv_at hl 1 rfl) ?_
        obtain ⟨u12, hu12, hf⟩ := bd_e hf
        obtain ⟨⟨v14, X13⟩, hv14, hf⟩ := bd_e hf
        refine xrun_i (va_runV (As := [.int x1]) (rest := [.int v10, .int x2]) E.1 (tX1_high l hv14) (cwX0_239 E.ht ⟨Nat.le_of_ble_eq_true rfl, Nat.le_of_ble_eq_true rfl⟩) (xPreV (ci := 1) E hR hS rfl (ck_e hu12)) rfl rfl hl.1 rfl (lv_room (Nat.le_of_ble_eq_true rfl)) dX0_climb_48 ⟨Nat.le_trans (by omega) (Nat.le_refl 0), Nat.le_trans (by omega) (Nat.le_refl 0)⟩) hS (fun H locs hR hS => ?_)
        refine lv_isub E.hx E.hb dX0_climb_51 ?_
        refine lv_iload_n E.hx E.hb dX0_climb_52 rfl (lv_at hl 3 rfl) ?_
        refine lv_iload_n E.hx E.hb dX0_climb_53 rfl (lv_at hl 1 rfl) ?_
        refine lv_icmp_ge (tgt := 61) E.hx E.hb dX0_climb_54 (by decide) (fun c15 => ?_) (fun c15 => ?_)
        · have hf := it_t hf c15
          refine lv_iconst (v := 0) E.hx E.hb dX0_climb_61 (by decide) ?_
          exact wX0_climb_b62 E ih hf _ _ _ _ _ (by omega) (by omega) hR hS (lv_sub hl [0, 1, 3] rfl)
        · have hf := it_f hf c15
          refine lv_iconst (v := 1) E.hx E.hb dX0_climb_57 (by decide) ?_
          refine lv_goto (tgt := 62) E.hx E.hb dX0_climb_58 (by decide) ?_
          exact wX0_climb_b62 E ih hf _ _ _ _ _ (by omega) (by omega) hR hS (lv_sub hl [0, 1, 3] rfl)
      · have hf := it_t hf c6
        refine lv_goto (tgt := 67) E.hx E.hb dX0_climb_31 (by decide) ?_
        refine lv_iinc (v := (x3 + 1)) (lv' := [(3, .int (x3 + 1)), (0, .ref x0), (1, .int x1), (2, .int x2)]) E.hx E.hb dX0_climb_67 hl (k := 3) rfl rfl (by decide) rfl (fun ls hl => ?_)
        refine lv_goto (tgt := 15) E.hx E.hb dX0_climb_70 (by decide) ?_
        exact ih X3 _ _ _ _ hf _ _ _ _ _ (by omega) (by omega) hR hS (lv_sub hl [1, 2, 3, 0] rfl)
def fX0_climb  (X : AH) (x0 : Nat) (x1 : Int32) : Option (Int32 × AH) :=
  (ck X x0 0).bind fun _ =>
  (fX0_isChair X x0 x1).bind fun (v3, X2) =>
  if v3 = 0 then (some ((-1000001), X2)) else (fX0_climb_L15 2000 X2 x0 x1 0 0)
theorem wX0_climb_0 (E : xE p m c cX0_climb 4 s args RX0 D cA A Zs meth (some .int)) {X : AH} {x0 : Nat} {x1 : Int32} (hf : fX0_climb X x0 x1 = some (r, Xf)) : ∀ (H : Heap) (locs : List Loc) (ls : Array Slot) (cells slots : Nat), cells + 0 ≤ 0 → slots + 0 ≤ 0 → xR D cA A Zs X H → va_S A s.heap H locs → lv_has ls 4 [(0, .ref x0), (1, .int x1)] → W p l e rmX0_climb s m args below meth c H locs cells slots (MQ below (xQi D cA A Zs r Xf) args s 0 0 A) (F0 m 0 ls []) := by
  intro H locs ls cells slots hc hs hR hS hl
  refine lv_aload_n E.hx E.hb dX0_climb_0 rfl (lv_at hl 0 rfl) ?_
  refine lv_iload_n E.hx E.hb dX0_climb_1 rfl (lv_at hl 1 rfl) ?_
  obtain ⟨u1, hu1, hf⟩ := bd_e hf
  obtain ⟨⟨v3, X2⟩, hv3, hf⟩ := bd_e hf
  refine xrun_i (va_runV (As := [.int x1]) (rest := []) E.1 (tX0_isChair l hv3) (cwX0_196 E.ht ⟨Nat.le_of_ble_eq_true rfl, Nat.le_of_ble_eq_true rfl⟩) (xPreV (ci := 0) E hR hS rfl (ck_e hu1)) rfl rfl hl.1 rfl (lv_room (Nat.le_of_ble_eq_true rfl)) dX0_climb_2 ⟨Nat.le_trans (by omega) (Nat.le_refl 0), Nat.le_trans (by omega) (Nat.le_refl 0)⟩) hS (fun H locs hR hS => ?_)
  refine lv_if_ne (tgt := 11) E.hx E.hb dX0_climb_5 (by decide) (fun c4 => ?_) (fun c4 => ?_)
  · have hf := it_f hf c4
    refine lv_iconst (v := 0) E.hx E.hb dX0_climb_11 (by decide) ?_
    refine lv_istore_n (lv' := [(2, .int 0), (0, .ref x0), (1, .int x1)]) E.hx E.hb dX0_climb_12 rfl hl (by decide) rfl (fun ls hl => ?_)
    refine lv_iconst (v := 0) E.hx E.hb dX0_climb_13 (by decide) ?_
    refine lv_istore_n (lv' := [(3, .int 0), (2, .int 0), (0, .ref x0), (1, .int x1)]) E.hx E.hb dX0_climb_14 rfl hl (by decide) rfl (fun ls hl => ?_)
    exact wX0_climb_L15 E  2000 X2 _ _ _ _ hf _ _ _ _ _ (by omega) (by omega) hR hS (lv_sub hl [2, 3, 1, 0] rfl)
  · have hf := it_t hf c4
    refine lv_ldc (v := (-1000001)) E.hx E.hb E.ho (E.ht _ q319) dX0_climb_8 ?_
    obtain ⟨rfl, rfl⟩ := rt_e hf
    exact xret_i E (by omega) (by omega) hR hS dX0_climb_10
theorem tX0_climb (l : Launch) {D : va_G} {cA : Nat → ClassId} {A : Nat → Prop} {Zs : XZ} {X Xf : AH} {x0 : Nat} {x1 : Int32} {r : Int32} (hf : fX0_climb X x0 x1 = some (r, Xf)) : Met l yX0_climb (ws_ yX0_climb cX0_climb 4 (some .int)) rmX0_climb (xPc D cA A Zs X [.ref x0, .int x1]) (xQi D cA A Zs r Xf) 0 0 A := by
  refine Met.ofW (cc := cX0_climb) (maxL := 4) (ret := (some .int)) (by decide) rfl ?_
  intro p e s m args below meth c s₁ B hml hv
  obtain ⟨rfl, hR, hK⟩ := hv
  have hts := atoms_spec (ws := (ws_ yX0_climb cX0_climb 4 (some .int))) B.pre
  rw [lg_entry_eq]
  exact wX0_climb_0 (E := ⟨⟨B.exec, B.bytes, hml, findClass_of_methodNamed B.named, fun w h => hts w (List.mem_cons_of_mem _ h)⟩, hK, B.returns, B.notSynchronized⟩) hf _ _ _ 0 0 (Nat.le_of_ble_eq_true rfl) (Nat.le_of_ble_eq_true rfl) hR va_S.rf (lv_entry [.ref x0, .int x1] (n := 4) (Nat.le_of_ble_eq_true rfl))
end
abbrev rmX0_coalition : Room := { frames := 7, cells := 0, slots := 0, locals := 141 }
theorem cwX0_311 {R : Room} {s : State} {args : Array Value} (ht : ∀ w ∈ lw_all, w.before args s = true) (hR : rmX1_allHigh.frames + 1 ≤ R.frames ∧ 8 + (4 + 11) + rmX1_allHigh.locals ≤ R.locals) : CallW R s args RX0 RX1 311 yX1_allHigh cX1_allHigh 4 (some .int) (ws_ yX1_allHigh cX1_allHigh 4 (some .int)) rmX1_allHigh 0 0 1 :=
  cwV 1 ht (lw_V q1010 q1011 q1012 q69 q1013) rfl rfl rfl (by decide +kernel) hR
section
variable {p : Program} {l : Launch} {e : Env} {s : State} {m : MethodId} {args : Array Value} {below : List Frame} {meth : Method} {c : Code} {D : va_G} {cA : Nat → ClassId} {A : Nat → Prop} {Zs : XZ} {Xf : AH} {r : Int32} {rl : Int64} {ra : Nat} {tv : Unit ⊕ Nat} {ti : Int32 ⊕ Nat} {tr : Nat ⊕ Nat} {q2 : Option Nat}
def fX0_coalition_b72 (k36 : AH → Nat → Int32 → Int32 → Int32 → Int32 → Option (Int32 × AH)) (X : AH) (x0 : Nat) (x1 : Int32) (x2 : Int32) (x3 : Int32) (x4 : Int32) : Option (Int32 × AH) :=
  (gR X x0 0 4).bind fun v1 =>
  (ck X v1 1).bind fun _ =>
  (fX1_allHigh X v1 x4).bind fun (v4, X3) =>
  if (2 * v4) ≤ x2 then (k36 X3 x0 x1 x2 x3 (x4 + 1)) else (k36 X3 x0 x1 x2 x4 (x4 + 1))
theorem wX0_coalition_b72 (E : xE p m c cX0_coalition 5 s args RX0 D cA A Zs meth (some .int)) {k36 : AH → Nat → Int32 → Int32 → Int32 → Int32 → Option (Int32 × AH)} (hk36 : ∀ (X : AH) (x0 : Nat) (x1 : Int32) (x2 : Int32) (x3 : Int32) (x4 : Int32), k36 X x0 x1 x2 x3 x4 = some (r, Xf) → ∀ (H : Heap) (locs : List Loc) (ls : Array Slot) (cells slots : Nat), cells + 0 ≤ 0 → slots + 0 ≤ 0 → xR D cA A Zs X H → va_S A s.heap H locs → lv_has ls 5 [(0, .ref x0), (1, .int x1), (2, .int x2), (3, .int x3), (4, .int x4)] → W p l e rmX0_coalition s m args below meth c H locs cells slots (MQ below (xQi D cA A Zs r Xf) args s 0 0 A) (F0 m 36 ls [])) {X : AH} {x0 : Nat} {x1 : Int32} {x2 : Int32} {x3 : Int32} {x4 : Int32} (hf : fX0_coalition_b72 k36 X x0 x1 x2 x3 x4 = some (r, Xf)) : ∀ (H : Heap) (locs : List Loc) (ls : Array Slot) (cells slots : Nat), cells + 0 ≤ 0 → slots + 0 ≤ 0 → xR D cA A Zs X H → va_S A s.heap H locs → lv_has ls 5 [(0, .ref x0), (1, .int x1), (2, .int x2), (3, .int x3), (4, .int x4)] → W p l e rmX0_coalition s m args below meth c H locs cells slots (MQ below (xQi D cA A Zs r Xf) args s 0 0 A) (F0 m 72 ls []) := by
  intro H locs ls cells slots hc hs hR hS hl
  refine lv_iconst (v := 2) E.hx E.hb dX0_coalition_72 (by decide) ?_
  refine lv_aload_n E.hx E.hb dX0_coalition_73 rfl (lv_at hl 0 rfl) ?_
  obtain ⟨v1, hv1, hf⟩ := bd_e hf
  refine xgX0_39 E hR hv1 dX0_coalition_74 ?_
  refine lv_iload E.hx E.hb dX0_coalition_77 (lv_at hl 4 rfl) ?_
  obtain ⟨u2, hu2, hf⟩ := bd_e hf
  obtain ⟨⟨v4, X3⟩, hv4, hf⟩ := bd_e hf
  refine xrun_i (va_runV (As := [.int x4]) (rest := [.int 2]) E.1 (tX1_allHigh l hv4) (cwX0_311 E.ht ⟨Nat.le_of_ble_eq_true rfl, Nat.le_of_ble_eq_true rfl⟩) (xPreV (ci := 1) E hR hS rfl (ck_e hu2)) rfl rfl hl.1 rfl (lv_room (Nat.le_of_ble_eq_true rfl)) dX0_coalition_79 ⟨Nat.le_trans (by omega) (Nat.le_refl 0), Nat.le_trans (by omega) (Nat.le_refl 0)⟩) hS (fun H locs hR hS => ?_)
  refine lv_imul E.hx E.hb dX0_coalition_82 ?_
  refine lv_iload_n E.hx E.hb dX0_coalition_83 rfl (lv_at hl 2 rfl) ?_
  refine lv_icmp_le (tgt := 92) E.hx E.hb dX0_coalition_84 (by decide) (fun c5 => ?_) (fun c5 => ?_)
  · have hf := it_t hf c5
    refine lv_iload_n E.hx E.hb dX0_coalition_92 rfl (lv_at hl 3 rfl) ?_
    refine lv_istore_n (lv' := [(3, .int x3), (0, .ref x0), (1, .int x1), (2, .int x2), (4, .int x4)]) E.hx E.hb dX0_coalition_93 rfl hl (by decide) rfl (fun ls hl => ?_)
    refine lv_iinc (v := (x4 + 1)) (lv' := [(4, .int (x4 + 1)), (3, .int x3), (0, .ref x0), (1, .int x1), (2, .int x2)]) E.hx E.hb dX0_coalition_94 hl (k := 4) rfl rfl (by decide) rfl (fun ls hl => ?_)
    refine lv_goto (tgt := 36) E.hx E.hb dX0_coalition_97 (by decide) ?_
    exact hk36 X3 _ _ _ _ _ hf _ _ _ _ _ (by omega) (by omega) hR hS (lv_sub hl [2, 3, 4, 1, 0] rfl)
  · have hf := it_f hf c5
    refine lv_iload E.hx E.hb dX0_coalition_87 (lv_at hl 4 rfl) ?_
    refine lv_goto (tgt := 93) E.hx E.hb dX0_coalition_89 (by decide) ?_
    refine lv_istore_n (lv' := [(3, .int x4), (0, .ref x0), (1, .int x1), (2, .int x2), (4, .int x4)]) E.hx E.hb dX0_coalition_93 rfl hl (by decide) rfl (fun ls hl => ?_)
    refine lv_iinc (v := (x4 + 1)) (lv' := [(4, .int (x4 + 1)), (3, .int x4), (0, .ref x0), (1, .int x1), (2, .int x2)]) E.hx E.hb dX0_coalition_94 hl (k := 4) rfl rfl (by decide) rfl (fun ls hl => ?_)
    refine lv_goto (tgt := 36) E.hx E.hb dX0_coalition_97 (by decide) ?_
    exact hk36 X3 _ _ _ _ _ hf _ _ _ _ _ (by omega) (by omega) hR hS (lv_sub hl [2, 3, 4, 1, 0] rfl)
def fX0_coalition_L36  : Nat → AH → Nat → Int32 → Int32 → Int32 → Int32 → Option (Int32 × AH)
  | 0, _, _, _, _, _, _ => none
  | n + 1, X, x0, x1, x2, x3, x4 =>
    (gR X x0 0 4).bind fun v1 =>
    (ck X v1 1).bind fun _ =>
    (fX1_many X v1).bind fun (v4, X3) =>
    if (1 <<< (v4 &&& 31)) ≤ x4 then ((fX0_told x3 x1).bind fun v6 =>
    some (v6, X3)) else (if x3 = (-1000000) then (fX0_coalition_b72 (fX0_coalition_L36 n) X3 x0 x1 x2 x3 x4) else ((fJ16_bitCount x4).bind fun v8 =>
    (fJ16_bitCount x3).bind fun v9 =>
    if v8 < v9 then (fX0_coalition_b72 (fX0_coalition_L36 n) X3 x0 x1 x2 x3 x4) else ((fX0_coalition_L36 n) X3 x0 x1 x2 x3 (x4 + 1))))
theorem wX0_coalition_L36 (E : xE p m c cX0_coalition 5 s args RX0 D cA A Zs meth (some .int)) : ∀ (n : Nat) (X : AH) (x0 : Nat) (x1 : Int32) (x2 : Int32) (x3 : Int32) (x4 : Int32), fX0_coalition_L36 n X x0 x1 x2 x3 x4 = some (r, Xf) → ∀ (H : Heap) (locs : List Loc) (ls : Array Slot) (cells slots : Nat), cells + 0 ≤ 0 → slots + 0 ≤ 0 → xR D cA A Zs X H → va_S A s.heap H locs → lv_has ls 5 [(0, .ref x0), (1, .int x1), (2, .int x2), (3, .int x3), (4, .int x4)] → W p l e rmX0_coalition s m args below meth c H locs cells slots (MQ below (xQi D cA A Zs r Xf) args s 0 0 A) (F0 m 36 ls []) := by
  intro n
  induction n with
  | zero =>
    intro X x0 x1 x2 x3 x4 hf
    have hf : none = some (r, Xf) := hf
    cases hf
  | succ n ih =>
    intro X x0 x1 x2 x3 x4 hf H locs ls cells slots hc hs hR hS hl
    refine lv_iload E.hx E.hb dX0_coalition_36 (lv_at hl 4 rfl) ?_
    refine lv_iconst (v := 1) E.hx E.hb dX0_coalition_38 (by decide) ?_
    refine lv_aload_n E.hx E.hb dX0_coalition_39 rfl (lv_at hl 0 rfl) ?_
    obtain ⟨v1, hv1, hf⟩ := bd_e hf
    refine xgX0_39 E hR hv1 dX0_coalition_40 ?_
    obtain ⟨u2, hu2, hf⟩ := bd_e hf
    obtain ⟨⟨v4, X3⟩, hv4, hf⟩ := bd_e hf
    refine xrun_i (va_runV (As := []) (rest := [.int 1, .int x4]) E.1 (tX1_many l hv4) (cwX0_163 E.ht ⟨Nat.le_of_ble_eq_true rfl, Nat.le_of_ble_eq_true rfl⟩) (xPreV (ci := 1) E hR hS rfl (ck_e hu2)) rfl rfl hl.1 rfl (lv_room (Nat.le_of_ble_eq_true rfl)) dX0_coalition_43 ⟨Nat.le_trans (by omega) (Nat.le_refl 0), Nat.le_trans (by omega) (Nat.le_refl 0)⟩) hS (fun H locs hR hS => ?_)
    refine lv_ishl E.hx E.hb dX0_coalition_46 ?_
    refine lv_icmp_ge (tgt := 100) E.hx E.hb dX0_coalition_47 (by decide) (fun c5 => ?_) (fun c5 => ?_)
    · have hf := it_t hf c5
      refine lv_iload_n E.hx E.hb dX0_coalition_100 rfl (lv_at hl 3 rfl) ?_
      refine lv_iload_n E.hx E.hb dX0_coalition_101 rfl (lv_at hl 1 rfl) ?_
      obtain ⟨v6, hv6, hf⟩ := bd_e hf
      refine scall_i (rest := []) E.1 (tX0_told l hv6) (cwX0_275 E.ht ⟨Nat.le_of_ble_eq_true rfl, Nat.le_of_ble_eq_true rfl⟩) rfl hl.1 rfl (Nat.le_of_ble_eq_true rfl) dX0_coalition_102 ⟨Nat.le_trans (by omega) (Nat.le_refl 0), Nat.le_trans (by omega) (Nat.le_refl 0)⟩ ?_
      obtain ⟨rfl, rfl⟩ := rt_e hf
      exact xret_i E (by omega) (by omega) hR hS dX0_coalition_105
    · have hf := it_f hf c5
      refine lv_iload_n E.hx E.hb dX0_coalition_50 rfl (lv_at hl 3 rfl) ?_
      refine lv_ldcw (v := (-1000000)) E.hx E.hb E.ho (E.ht _ q923) dX0_coalition_51 ?_
      refine lv_icmp_eq (tgt := 72) E.hx E.hb dX0_coalition_54 (by decide) (fun c7 => ?_) (fun c7 => ?_)
      · have hf := it_t hf c7
        exact wX0_coalition_b72 E ih hf _ _ _ _ _ (by omega) (by omega) hR hS (lv_sub hl [0, 1, 2, 3, 4] rfl)
      · have hf := it_f hf c7
        refine lv_iload E.hx E.hb dX0_coalition_57 (lv_at hl 4 rfl) ?_
        obtain ⟨v8, hv8, hf⟩ := bd_e hf
        refine scall_i (rest := []) E.1 (tJ16_bitCount l hv8) (cwX0_220 E.ht ⟨Nat.le_of_ble_eq_true rfl, Nat.le_of_ble_eq_true rfl⟩) rfl hl.1 rfl (Nat.le_of_ble_eq_true rfl) dX0_coalition_59 ⟨Nat.le_trans (by omega) (Nat.le_refl 0), Nat.le_trans (by omega) (Nat.le_refl 0)⟩ ?_
        refine lv_iload_n E.hx E.hb dX0_coalition_62 rfl (lv_at hl 3 rfl) ?_
        obtain ⟨v9, hv9, hf⟩ := bd_e hf
        refine scall_i (rest := [.int v8]) E.1 (tJ16_bitCount l hv9) (cwX0_220 E.ht ⟨Nat.le_of_ble_eq_true rfl, Nat.le_of_ble_eq_true rfl⟩) rfl hl.1 rfl (Nat.le_of_ble_eq_true rfl) dX0_coalition_63 ⟨Nat.le_trans (by omega) (Nat.le_refl 0), Nat.le_trans (by omega) (Nat.le_refl 0)⟩ ?_
        refine lv_icmp_lt (tgt := 72) E.hx E.hb dX0_coalition_66 (by decide) (fun c10 => ?_) (fun c10 => ?_)
        · have hf := it_t hf c10
          exact wX0_coalition_b72 E ih hf _ _ _ _ _ (by omega) (by omega) hR hS (lv_sub hl [0, 1, 2, 3, 4] rfl)
        · have hf := it_f hf c10
          refine lv_goto (tgt := 94) E.hx E.hb dX0_coalition_69 (by decide) ?_
          refine lv_iinc (v := (x4 + 1)) (lv' := [(4, .int (x4 + 1)), (0, .ref x0), (1, .int x1), (2, .int x2), (3, .int x3)]) E.hx E.hb dX0_coalition_94 hl (k := 4) rfl rfl (by decide) rfl (fun ls hl => ?_)
          refine lv_goto (tgt := 36) E.hx E.hb dX0_coalition_97 (by decide) ?_
          exact ih X3 _ _ _ _ _ hf _ _ _ _ _ (by omega) (by omega) hR hS (lv_sub hl [1, 2, 3, 4, 0] rfl)
def fX0_coalition  (X : AH) (x0 : Nat) (x1 : Int32) : Option (Int32 × AH) :=
  (ck X x0 0).bind fun _ =>
  (fX0_isMinistry X x0).bind fun (v3, X2) =>
  if v3 = 0 then (some ((-1000002), X2)) else ((fX0_isHalf x1).bind fun v5 =>
  if v5 = 0 then (some ((-1000001), X2)) else ((gR X2 x0 0 4).bind fun v7 =>
  (ck X2 v7 1).bind fun _ =>
  (fX1_allHigh X2 v7 (-1)).bind fun (v10, X9) =>
  fX0_coalition_L36 2000 X9 x0 x1 v10 (-1000000) 0))
theorem wX0_coalition_0 (E : xE p m c cX0_coalition 5 s args RX0 D cA A Zs meth (some .int)) {X : AH} {x0 : Nat} {x1 : Int32} (hf : fX0_coalition X x0 x1 = some (r, Xf)) : ∀ (H : Heap) (locs : List Loc) (ls : Array Slot) (cells slots : Nat), cells + 0 ≤ 0 → slots + 0 ≤ 0 → xR D cA A Zs X H → va_S A s.heap H locs → lv_has ls 5 [(0, .ref x0), (1, .int x1)] → W p l e rmX0_coalition s m args below meth c H locs cells slots (MQ below (xQi D cA A Zs r Xf) args s 0 0 A) (F0 m 0 ls []) := by
  intro H locs ls cells slots hc hs hR hS hl
  refine lv_aload_n E.hx E.hb dX0_coalition_0 rfl (lv_at hl 0 rfl) ?_
  obtain ⟨u1, hu1, hf⟩ := bd_e hf
  obtain ⟨⟨v3, X2⟩, hv3, hf⟩ := bd_e hf
  refine xrun_i (va_runV (As := []) (rest := []) E.1 (tX0_isMinistry l hv3) (cwX0_177 E.ht ⟨Nat.le_of_ble_eq_true rfl, Nat.le_of_ble_eq_true rfl⟩) (xPreV (ci := 0) E hR hS rfl (ck_e hu1)) rfl rfl hl.1 rfl (lv_room (Nat.le_of_ble_eq_true rfl)) dX0_coalition_1 ⟨Nat.le_trans (by omega) (Nat.le_refl 0), Nat.le_trans (by omega) (Nat.le_refl 0)⟩) hS (fun H locs hR hS => ?_)
  refine lv_if_ne (tgt := 10) E.hx E.hb dX0_coalition_4 (by decide) (fun c4 => ?_) (fun c4 => ?_)
  · have hf := it_f hf c4
    refine lv_iload_n E.hx E.hb dX0_coalition_10 rfl (lv_at hl 1 rfl) ?_
    obtain ⟨v5, hv5, hf⟩ := bd_e hf
    refine scall_i (rest := []) E.1 (tX0_isHalf l hv5) (cwX0_214 E.ht ⟨Nat.le_of_ble_eq_true rfl, Nat.le_of_ble_eq_true rfl⟩) rfl hl.1 rfl (Nat.le_of_ble_eq_true rfl) dX0_coalition_11 ⟨Nat.le_trans (by omega) (Nat.le_refl 0), Nat.le_trans (by omega) (Nat.le_refl 0)⟩ ?_
    refine lv_if_ne (tgt := 20) E.hx E.hb dX0_coalition_14 (by decide) (fun c6 => ?_) (fun c6 => ?_)
    · have hf := it_f hf c6
      refine lv_aload_n E.hx E.hb dX0_coalition_20 rfl (lv_at hl 0 rfl) ?_
      obtain ⟨v7, hv7, hf⟩ := bd_e hf
      refine xgX0_39 E hR hv7 dX0_coalition_21 ?_
      refine lv_iconst (v := (-1)) E.hx E.hb dX0_coalition_24 (by decide) ?_
      obtain ⟨u8, hu8, hf⟩ := bd_e hf
      obtain ⟨⟨v10, X9⟩, hv10, hf⟩ := bd_e hf
      refine xrun_i (va_runV (As := [.int (-1)]) (rest := []) E.1 (tX1_allHigh l hv10) (cwX0_311 E.ht ⟨Nat.le_of_ble_eq_true rfl, Nat.le_of_ble_eq_true rfl⟩) (xPreV (ci := 1) E hR hS rfl (ck_e hu8)) rfl rfl hl.1 rfl (lv_room (Nat.le_of_ble_eq_true rfl)) dX0_coalition_25 ⟨Nat.le_trans (by omega) (Nat.le_refl 0), Nat.le_trans (by omega) (Nat.le_refl 0)⟩) hS (fun H locs hR hS => ?_)
      refine lv_istore_n (lv' := [(2, .int v10), (0, .ref x0), (1, .int x1)]) E.hx E.hb dX0_coalition_28 rfl hl (by decide) rfl (fun ls hl => ?_)
      refine lv_ldcw (v := (-1000000)) E.hx E.hb E.ho (E.ht _ q923) dX0_coalition_29 ?_
      refine lv_istore_n (lv' := [(3, .int (-1000000)), (2, .int v10), (0, .ref x0), (1, .int x1)]) E.hx E.hb dX0_coalition_32 rfl hl (by decide) rfl (fun ls hl => ?_)
      refine lv_iconst (v := 0) E.hx E.hb dX0_coalition_33 (by decide) ?_
      refine lv_istore (lv' := [(4, .int 0), (3, .int (-1000000)), (2, .int v10), (0, .ref x0), (1, .int x1)]) E.hx E.hb dX0_coalition_34 hl (by decide) rfl (fun ls hl => ?_)
      exact wX0_coalition_L36 E  2000 X9 _ _ _ _ _ hf _ _ _ _ _ (by omega) (by omega) hR hS (lv_sub hl [3, 4, 2, 1, 0] rfl)
    · have hf := it_t hf c6
      refine lv_ldc (v := (-1000001)) E.hx E.hb E.ho (E.ht _ q319) dX0_coalition_17 ?_
      obtain ⟨rfl, rfl⟩ := rt_e hf
      exact xret_i E (by omega) (by omega) hR hS dX0_coalition_19
  · have hf := it_t hf c4
    refine lv_ldc (v := (-1000002)) E.hx E.hb E.ho (E.ht _ q733) dX0_coalition_7 ?_
    obtain ⟨rfl, rfl⟩ := rt_e hf
    exact xret_i E (by omega) (by omega) hR hS dX0_coalition_9
theorem tX0_coalition (l : Launch) {D : va_G} {cA : Nat → ClassId} {A : Nat → Prop} {Zs : XZ} {X Xf : AH} {x0 : Nat} {x1 : Int32} {r : Int32} (hf : fX0_coalition X x0 x1 = some (r, Xf)) : Met l yX0_coalition (ws_ yX0_coalition cX0_coalition 5 (some .int)) rmX0_coalition (xPc D cA A Zs X [.ref x0, .int x1]) (xQi D cA A Zs r Xf) 0 0 A := by
  refine Met.ofW (cc := cX0_coalition) (maxL := 5) (ret := (some .int)) (by decide) rfl ?_
  intro p e s m args below meth c s₁ B hml hv
  obtain ⟨rfl, hR, hK⟩ := hv
  have hts := atoms_spec (ws := (ws_ yX0_coalition cX0_coalition 5 (some .int))) B.pre
  rw [lg_entry_eq]
  exact wX0_coalition_0 (E := ⟨⟨B.exec, B.bytes, hml, findClass_of_methodNamed B.named, fun w h => hts w (List.mem_cons_of_mem _ h)⟩, hK, B.returns, B.notSynchronized⟩) hf _ _ _ 0 0 (Nat.le_of_ble_eq_true rfl) (Nat.le_of_ble_eq_true rfl) hR va_S.rf (lv_entry [.ref x0, .int x1] (n := 5) (Nat.le_of_ble_eq_true rfl))
end
abbrev rmX0_sawnBy : Room := { frames := 11, cells := 0, slots := 0, locals := 228 }
section
variable {p : Program} {l : Launch} {e : Env} {s : State} {m : MethodId} {args : Array Value} {below : List Frame} {meth : Method} {c : Code} {D : va_G} {cA : Nat → ClassId} {A : Nat → Prop} {Zs : XZ} {Xf : AH} {r : Int32} {rl : Int64} {ra : Nat} {tv : Unit ⊕ Nat} {ti : Int32 ⊕ Nat} {tr : Nat ⊕ Nat} {q2 : Option Nat}
def fX0_sawnBy_L15  : Nat → AH → Nat → Int32 → Int32 → Int32 → Option (Int32 × AH)
  | 0, _, _, _, _, _ => none
  | n + 1, X, x0, x1, x2, x3 =>
    (gR X x0 0 4).bind fun v1 =>
    (ck X v1 1).bind fun _ =>
    (fX1_many X v1).bind fun (v4, X3) =>
    if v4 ≤ x3 then (some (x2, X3)) else ((gR X3 x0 0 4).bind fun v6 =>
    (ck X3 v6 1).bind fun _ =>
    (fX1_victim X3 v6 x3).bind fun (v9, X8) =>
    if v9 = x1 then ((fX0_sawnBy_L15 n) X8 x0 x1 (x2 ||| (1 <<< (x3 &&& 31))) (x3 + 1)) else ((fX0_sawnBy_L15 n) X8 x0 x1 (x2 ||| 0) (x3 + 1)))
theorem wX0_sawnBy_L15 (E : xE p m c cX0_sawnBy 4 s args RX0 D cA A Zs meth (some .int)) : ∀ (n : Nat) (X : AH) (x0 : Nat) (x1 : Int32) (x2 : Int32) (x3 : Int32), fX0_sawnBy_L15 n X x0 x1 x2 x3 = some (r, Xf) → ∀ (H : Heap) (locs : List Loc) (ls : Array Slot) (cells slots : Nat), cells + 0 ≤ 0 → slots + 0 ≤ 0 → xR D cA A Zs X H → va_S A s.heap H locs → lv_has ls 4 [(0, .ref x0), (1, .int x1), (2, .int x2), (3, .int x3)] → W p l e rmX0_sawnBy s m args below meth c H locs cells slots (MQ below (xQi D cA A Zs r Xf) args s 0 0 A) (F0 m 15 ls []) := by
  intro n
  induction n with
  | zero =>
    intro X x0 x1 x2 x3 hf
    have hf : none = some (r, Xf) := hf
    cases hf
  | succ n ih =>
    intro X x0 x1 x2 x3 hf H locs ls cells slots hc hs hR hS hl
    refine lv_iload_n E.hx E.hb dX0_sawnBy_15 rfl (lv_at hl 3 rfl) ?_
    refine lv_aload_n E.hx E.hb dX0_sawnBy_16 rfl (lv_at hl 0 rfl) ?_
    obtain ⟨v1, hv1, hf⟩ := bd_e hf
    refine xgX0_39 E hR hv1 dX0_sawnBy_17 ?_
    obtain ⟨u2, hu2, hf⟩ := bd_e hf
    obtain ⟨⟨v4, X3⟩, hv4, hf⟩ := bd_e hf
    refine xrun_i (va_runV (As := []) (rest := [.int x3]) E.1 (tX1_many l hv4) (cwX0_163 E.ht ⟨Nat.le_of_ble_eq_true rfl, Nat.le_of_ble_eq_true rfl⟩) (xPreV (ci := 1) E hR hS rfl (ck_e hu2)) rfl rfl hl.1 rfl (lv_room (Nat.le_of_ble_eq_true rfl)) dX0_sawnBy_20 ⟨Nat.le_trans (by omega) (Nat.le_refl 0), Nat.le_trans (by omega) (Nat.le_refl 0)⟩) hS (fun H locs hR hS => ?_)
    refine lv_icmp_ge (tgt := 54) E.hx E.hb dX0_sawnBy_23 (by decide) (fun c5 => ?_) (fun c5 => ?_)
    · have hf := it_t hf c5
      refine lv_iload_n E.hx E.hb dX0_sawnBy_54 rfl (lv_at hl 2 rfl) ?_
      obtain ⟨rfl, rfl⟩ := rt_e hf
      exact xret_i E (by omega) (by omega) hR hS dX0_sawnBy_55
    · have hf := it_f hf c5
      refine lv_iload_n E.hx E.hb dX0_sawnBy_26 rfl (lv_at hl 2 rfl) ?_
      refine lv_aload_n E.hx E.hb dX0_sawnBy_27 rfl (lv_at hl 0 rfl) ?_
      obtain ⟨v6, hv6, hf⟩ := bd_e hf
      refine xgX0_39 E hR hv6 dX0_sawnBy_28 ?_
      refine lv_iload_n E.hx E.hb dX0_sawnBy_31 rfl (lv_at hl 3 rfl) ?_
      obtain ⟨u7, hu7, hf⟩ := bd_e hf
      obtain ⟨⟨v9, X8⟩, hv9, hf⟩ := bd_e hf
      refine xrun_i (va_runV (As := [.int x3]) (rest := [.int x2]) E.1 (tX1_victim l hv9) (cwX0_231 E.ht ⟨Nat.le_of_ble_eq_true rfl, Nat.le_of_ble_eq_true rfl⟩) (xPreV (ci := 1) E hR hS rfl (ck_e hu7)) rfl rfl hl.1 rfl (lv_room (Nat.le_of_ble_eq_true rfl)) dX0_sawnBy_32 ⟨Nat.le_trans (by omega) (Nat.le_refl 0), Nat.le_trans (by omega) (Nat.le_refl 0)⟩) hS (fun H locs hR hS => ?_)
      refine lv_iload_n E.hx E.hb dX0_sawnBy_35 rfl (lv_at hl 1 rfl) ?_
      refine lv_icmp_ne (tgt := 45) E.hx E.hb dX0_sawnBy_36 (by decide) (fun c10 => ?_) (fun c10 => ?_)
      · have hf := it_f hf c10
        refine lv_iconst (v := 0) E.hx E.hb dX0_sawnBy_45 (by decide) ?_
        refine lv_ior E.hx E.hb dX0_sawnBy_46 ?_
        refine lv_istore_n (lv' := [(2, .int (x2 ||| 0)), (0, .ref x0), (1, .int x1), (3, .int x3)]) E.hx E.hb dX0_sawnBy_47 rfl hl (by decide) rfl (fun ls hl => ?_)
        refine lv_iinc (v := (x3 + 1)) (lv' := [(3, .int (x3 + 1)), (2, .int (x2 ||| 0)), (0, .ref x0), (1, .int x1)]) E.hx E.hb dX0_sawnBy_48 hl (k := 3) rfl rfl (by decide) rfl (fun ls hl => ?_)
        refine lv_goto (tgt := 15) E.hx E.hb dX0_sawnBy_51 (by decide) ?_
        exact ih X8 _ _ _ _ hf _ _ _ _ _ (by omega) (by omega) hR hS (lv_sub hl [2, 3, 1, 0] rfl)
      · have hf := it_t hf c10
        refine lv_iconst (v := 1) E.hx E.hb dX0_sawnBy_39 (by decide) ?_
        refine lv_iload_n E.hx E.hb dX0_sawnBy_40 rfl (lv_at hl 3 rfl) ?_
        refine lv_ishl E.hx E.hb dX0_sawnBy_41 ?_
        refine lv_goto (tgt := 46) E.hx E.hb dX0_sawnBy_42 (by decide) ?_
        refine lv_ior E.hx E.hb dX0_sawnBy_46 ?_
        refine lv_istore_n (lv' := [(2, .int (x2 ||| (1 <<< (x3 &&& 31)))), (0, .ref x0), (1, .int x1), (3, .int x3)]) E.hx E.hb dX0_sawnBy_47 rfl hl (by decide) rfl (fun ls hl => ?_)
        refine lv_iinc (v := (x3 + 1)) (lv' := [(3, .int (x3 + 1)), (2, .int (x2 ||| (1 <<< (x3 &&& 31)))), (0, .ref x0), (1, .int x1)]) E.hx E.hb dX0_sawnBy_48 hl (k := 3) rfl rfl (by decide) rfl (fun ls hl => ?_)
        refine lv_goto (tgt := 15) E.hx E.hb dX0_sawnBy_51 (by decide) ?_
        exact ih X8 _ _ _ _ hf _ _ _ _ _ (by omega) (by omega) hR hS (lv_sub hl [2, 3, 1, 0] rfl)
def fX0_sawnBy  (X : AH) (x0 : Nat) (x1 : Int32) : Option (Int32 × AH) :=
  (ck X x0 0).bind fun _ =>
  (fX0_isChair X x0 x1).bind fun (v3, X2) =>
  if v3 = 0 then (some ((-1000001), X2)) else (fX0_sawnBy_L15 2000 X2 x0 x1 0 0)
theorem wX0_sawnBy_0 (E : xE p m c cX0_sawnBy 4 s args RX0 D cA A Zs meth (some .int)) {X : AH} {x0 : Nat} {x1 : Int32} (hf : fX0_sawnBy X x0 x1 = some (r, Xf)) : ∀ (H : Heap) (locs : List Loc) (ls : Array Slot) (cells slots : Nat), cells + 0 ≤ 0 → slots + 0 ≤ 0 → xR D cA A Zs X H → va_S A s.heap H locs → lv_has ls 4 [(0, .ref x0), (1, .int x1)] → W p l e rmX0_sawnBy s m args below meth c H locs cells slots (MQ below (xQi D cA A Zs r Xf) args s 0 0 A) (F0 m 0 ls []) := by
  intro H locs ls cells slots hc hs hR hS hl
  refine lv_aload_n E.hx E.hb dX0_sawnBy_0 rfl (lv_at hl 0 rfl) ?_
  refine lv_iload_n E.hx E.hb dX0_sawnBy_1 rfl (lv_at hl 1 rfl) ?_
  obtain ⟨u1, hu1, hf⟩ := bd_e hf
  obtain ⟨⟨v3, X2⟩, hv3, hf⟩ := bd_e hf
  refine xrun_i (va_runV (As := [.int x1]) (rest := []) E.1 (tX0_isChair l hv3) (cwX0_196 E.ht ⟨Nat.le_of_ble_eq_true rfl, Nat.le_of_ble_eq_true rfl⟩) (xPreV (ci := 0) E hR hS rfl (ck_e hu1)) rfl rfl hl.1 rfl (lv_room (Nat.le_of_ble_eq_true rfl)) dX0_sawnBy_2 ⟨Nat.le_trans (by omega) (Nat.le_refl 0), Nat.le_trans (by omega) (Nat.le_refl 0)⟩) hS (fun H locs hR hS => ?_)
  refine lv_if_ne (tgt := 11) E.hx E.hb dX0_sawnBy_5 (by decide) (fun c4 => ?_) (fun c4 => ?_)
  · have hf := it_f hf c4
    refine lv_iconst (v := 0) E.hx E.hb dX0_sawnBy_11 (by decide) ?_
    refine lv_istore_n (lv' := [(2, .int 0), (0, .ref x0), (1, .int x1)]) E.hx E.hb dX0_sawnBy_12 rfl hl (by decide) rfl (fun ls hl => ?_)
    refine lv_iconst (v := 0) E.hx E.hb dX0_sawnBy_13 (by decide) ?_
    refine lv_istore_n (lv' := [(3, .int 0), (2, .int 0), (0, .ref x0), (1, .int x1)]) E.hx E.hb dX0_sawnBy_14 rfl hl (by decide) rfl (fun ls hl => ?_)
    exact wX0_sawnBy_L15 E  2000 X2 _ _ _ _ hf _ _ _ _ _ (by omega) (by omega) hR hS (lv_sub hl [2, 3, 1, 0] rfl)
  · have hf := it_t hf c4
    refine lv_ldc (v := (-1000001)) E.hx E.hb E.ho (E.ht _ q319) dX0_sawnBy_8 ?_
    obtain ⟨rfl, rfl⟩ := rt_e hf
    exact xret_i E (by omega) (by omega) hR hS dX0_sawnBy_10
theorem tX0_sawnBy (l : Launch) {D : va_G} {cA : Nat → ClassId} {A : Nat → Prop} {Zs : XZ} {X Xf : AH} {x0 : Nat} {x1 : Int32} {r : Int32} (hf : fX0_sawnBy X x0 x1 = some (r, Xf)) : Met l yX0_sawnBy (ws_ yX0_sawnBy cX0_sawnBy 4 (some .int)) rmX0_sawnBy (xPc D cA A Zs X [.ref x0, .int x1]) (xQi D cA A Zs r Xf) 0 0 A := by
  refine Met.ofW (cc := cX0_sawnBy) (maxL := 4) (ret := (some .int)) (by decide) rfl ?_
  intro p e s m args below meth c s₁ B hml hv
  obtain ⟨rfl, hR, hK⟩ := hv
  have hts := atoms_spec (ws := (ws_ yX0_sawnBy cX0_sawnBy 4 (some .int))) B.pre
  rw [lg_entry_eq]
  exact wX0_sawnBy_0 (E := ⟨⟨B.exec, B.bytes, hml, findClass_of_methodNamed B.named, fun w h => hts w (List.mem_cons_of_mem _ h)⟩, hK, B.returns, B.notSynchronized⟩) hf _ _ _ 0 0 (Nat.le_of_ble_eq_true rfl) (Nat.le_of_ble_eq_true rfl) hR va_S.rf (lv_entry [.ref x0, .int x1] (n := 4) (Nat.le_of_ble_eq_true rfl))
end
abbrev rmX0_round : Room := { frames := 11, cells := 0, slots := 0, locals := 228 }
section
variable {p : Program} {l : Launch} {e : Env} {s : State} {m : MethodId} {args : Array Value} {below : List Frame} {meth : Method} {c : Code} {D : va_G} {cA : Nat → ClassId} {A : Nat → Prop} {Zs : XZ} {Xf : AH} {r : Int32} {rl : Int64} {ra : Nat} {tv : Unit ⊕ Nat} {ti : Int32 ⊕ Nat} {tr : Nat ⊕ Nat} {q2 : Option Nat}
def fX0_round_L14  : Nat → AH → Nat → Int32 → Int32 → Option (Int32 × AH)
  | 0, _, _, _, _ => none
  | n + 1, X, x0, x1, x2 =>
    (gR X x0 0 4).bind fun v1 =>
    (ck X v1 1).bind fun _ =>
    (fX1_many X v1).bind fun (v4, X3) =>
    if v4 ≤ x2 then (some (x1, X3)) else ((gR X3 x0 0 4).bind fun v6 =>
    (ck X3 v6 1).bind fun _ =>
    (fX1_victim X3 v6 x2).bind fun (v9, X8) =>
    if v9 = (-1000000) then ((fX0_round_L14 n) X8 x0 (x1 ||| 0) (x2 + 1)) else ((gR X8 x0 0 4).bind fun v11 =>
    (ck X8 v11 1).bind fun _ =>
    (fX1_victim X8 v11 v9).bind fun (v14, X13) =>
    if v14 = x2 then ((fX0_round_L14 n) X13 x0 (x1 ||| (1 <<< (x2 &&& 31))) (x2 + 1)) else ((fX0_round_L14 n) X13 x0 (x1 ||| 0) (x2 + 1))))
theorem wX0_round_L14 (E : xE p m c cX0_round 4 s args RX0 D cA A Zs meth (some .int)) : ∀ (n : Nat) (X : AH) (x0 : Nat) (x1 : Int32) (x2 : Int32), fX0_round_L14 n X x0 x1 x2 = some (r, Xf) → ∀ (H : Heap) (locs : List Loc) (ls : Array Slot) (cells slots : Nat), cells + 0 ≤ 0 → slots + 0 ≤ 0 → xR D cA A Zs X H → va_S A s.heap H locs → lv_has ls 4 [(0, .ref x0), (1, .int x1), (2, .int x2)] → W p l e rmX0_round s m args below meth c H locs cells slots (MQ below (xQi D cA A Zs r Xf) args s 0 0 A) (F0 m 14 ls []) := by
  intro n
  induction n with
  | zero =>
    intro X x0 x1 x2 hf
    have hf : none = some (r, Xf) := hf
    cases hf
  | succ n ih =>
    intro X x0 x1 x2 hf H locs ls cells slots hc hs hR hS hl
    refine lv_iload_n E.hx E.hb dX0_round_14 rfl (lv_at hl 2 rfl) ?_
    refine lv_aload_n E.hx E.hb dX0_round_15 rfl (lv_at hl 0 rfl) ?_
    obtain ⟨v1, hv1, hf⟩ := bd_e hf
    refine xgX0_39 E hR hv1 dX0_round_16 ?_
    obtain ⟨u2, hu2, hf⟩ := bd_e hf
    obtain ⟨⟨v4, X3⟩, hv4, hf⟩ := bd_e hf
    refine xrun_i (va_runV (As := []) (rest := [.int x2]) E.1 (tX1_many l hv4) (cwX0_163 E.ht ⟨Nat.le_of_ble_eq_true rfl, Nat.le_of_ble_eq_true rfl⟩) (xPreV (ci := 1) E hR hS rfl (ck_e hu2)) rfl rfl hl.1 rfl (lv_room (Nat.le_of_ble_eq_true rfl)) dX0_round_19 ⟨Nat.le_trans (by omega) (Nat.le_refl 0), Nat.le_trans (by omega) (Nat.le_refl 0)⟩) hS (fun H locs hR hS => ?_)
    refine lv_icmp_ge (tgt := 69) E.hx E.hb dX0_round_22 (by decide) (fun c5 => ?_) (fun c5 => ?_)
    · have hf := it_t hf c5
      refine lv_iload_n E.hx E.hb dX0_round_69 rfl (lv_at hl 1 rfl) ?_
      obtain ⟨rfl, rfl⟩ := rt_e hf
      exact xret_i E (by omega) (by omega) hR hS dX0_round_70
    · have hf := it_f hf c5
      refine lv_aload_n E.hx E.hb dX0_round_25 rfl (lv_at hl 0 rfl) ?_
      obtain ⟨v6, hv6, hf⟩ := bd_e hf
      refine xgX0_39 E hR hv6 dX0_round_26 ?_
      refine lv_iload_n E.hx E.hb dX0_round_29 rfl (lv_at hl 2 rfl) ?_
      obtain ⟨u7, hu7, hf⟩ := bd_e hf
      obtain ⟨⟨v9, X8⟩, hv9, hf⟩ := bd_e hf
      refine xrun_i (va_runV (As := [.int x2]) (rest := []) E.1 (tX1_victim l hv9) (cwX0_231 E.ht ⟨Nat.le_of_ble_eq_true rfl, Nat.le_of_ble_eq_true rfl⟩) (xPreV (ci := 1) E hR hS rfl (ck_e hu7)) rfl rfl hl.1 rfl (lv_room (Nat.le_of_ble_eq_true rfl)) dX0_round_30 ⟨Nat.le_trans (by omega) (Nat.le_refl 0), Nat.le_trans (by omega) (Nat.le_refl 0)⟩) hS (fun H locs hR hS => ?_)
      refine lv_istore_n (lv' := [(3, .int v9), (0, .ref x0), (1, .int x1), (2, .int x2)]) E.hx E.hb dX0_round_33 rfl hl (by decide) rfl (fun ls hl => ?_)
      refine lv_iload_n E.hx E.hb dX0_round_34 rfl (lv_at hl 2 rfl) ?_
      refine lv_iload_n E.hx E.hb dX0_round_35 rfl (lv_at hl 0 rfl) ?_
      refine lv_ldcw (v := (-1000000)) E.hx E.hb E.ho (E.ht _ q923) dX0_round_36 ?_
      refine lv_icmp_eq (tgt := 60) E.hx E.hb dX0_round_39 (by decide) (fun c10 => ?_) (fun c10 => ?_)
      · have hf := it_t hf c10
        refine lv_iconst (v := 0) E.hx E.hb dX0_round_60 (by decide) ?_
        refine lv_ior E.hx E.hb dX0_round_61 ?_
        refine lv_istore_n (lv' := [(1, .int (x1 ||| 0)), (3, .int v9), (0, .ref x0), (2, .int x2)]) E.hx E.hb dX0_round_62 rfl hl (by decide) rfl (fun ls hl => ?_)
        refine lv_iinc (v := (x2 + 1)) (lv' := [(2, .int (x2 + 1)), (1, .int (x1 ||| 0)), (3, .int v9), (0, .ref x0)]) E.hx E.hb dX0_round_63 hl (k := 3) rfl rfl (by decide) rfl (fun ls hl => ?_)
        refine lv_goto (tgt := 14) E.hx E.hb dX0_round_66 (by decide) ?_
        exact ih X8 _ _ _ hf _ _ _ _ _ (by omega) (by omega) hR hS (lv_sub hl [3, 1, 0] rfl)
      · have hf := it_f hf c10
        refine lv_aload_n E.hx E.hb dX0_round_42 rfl (lv_at hl 1 rfl) ?_
        obtain ⟨v11, hv11, hf⟩ := bd_e hf
        refine xgX0_39 E hR hv11 dX0_round_43 ?_
        refine lv_iload_n E.hx E.hb dX0_round_46 rfl (lv_at hl 0 rfl) ?_
        obtain ⟨u12, hu12, hf⟩ := bd_e hf
        obtain ⟨⟨v14, X13⟩, hv14, hf⟩ := bd_e hf
        refine xrun_i (va_runV (As := [.int v9]) (rest := [.int x1]) E.1 (tX1_victim l hv14) (cwX0_231 E.ht ⟨Nat.le_of_ble_eq_true rfl, Nat.le_of_ble_eq_true rfl⟩) (xPreV (ci := 1) E hR hS rfl (ck_e hu12)) rfl rfl hl.1 rfl (lv_room (Nat.le_of_ble_eq_true rfl)) dX0_round_47 ⟨Nat.le_trans (by omega) (Nat.le_refl 0), Nat.le_trans (by omega) (Nat.le_refl 0)⟩) hS (fun H locs hR hS => ?_)
        refine lv_iload_n E.hx E.hb dX0_round_50 rfl (lv_at hl 3 rfl) ?_
        refine lv_icmp_ne (tgt := 60) E.hx E.hb dX0_round_51 (by decide) (fun c15 => ?_) (fun c15 => ?_)
        · have hf := it_f hf c15
          refine lv_iconst (v := 0) E.hx E.hb dX0_round_60 (by decide) ?_
          refine lv_ior E.hx E.hb dX0_round_61 ?_
          refine lv_istore_n (lv' := [(1, .int (x1 ||| 0)), (3, .int v9), (0, .ref x0), (2, .int x2)]) E.hx E.hb dX0_round_62 rfl hl (by decide) rfl (fun ls hl => ?_)
          refine lv_iinc (v := (x2 + 1)) (lv' := [(2, .int (x2 + 1)), (1, .int (x1 ||| 0)), (3, .int v9), (0, .ref x0)]) E.hx E.hb dX0_round_63 hl (k := 3) rfl rfl (by decide) rfl (fun ls hl => ?_)
          refine lv_goto (tgt := 14) E.hx E.hb dX0_round_66 (by decide) ?_
          exact ih X13 _ _ _ hf _ _ _ _ _ (by omega) (by omega) hR hS (lv_sub hl [3, 1, 0] rfl)
        · have hf := it_t hf c15
          refine lv_iconst (v := 1) E.hx E.hb dX0_round_54 (by decide) ?_
          refine lv_iload_n E.hx E.hb dX0_round_55 rfl (lv_at hl 3 rfl) ?_
          refine lv_ishl E.hx E.hb dX0_round_56 ?_
          refine lv_goto (tgt := 61) E.hx E.hb dX0_round_57 (by decide) ?_
          refine lv_ior E.hx E.hb dX0_round_61 ?_
          refine lv_istore_n (lv' := [(1, .int (x1 ||| (1 <<< (x2 &&& 31)))), (3, .int v9), (0, .ref x0), (2, .int x2)]) E.hx E.hb dX0_round_62 rfl hl (by decide) rfl (fun ls hl => ?_)
          refine lv_iinc (v := (x2 + 1)) (lv' := [(2, .int (x2 + 1)), (1, .int (x1 ||| (1 <<< (x2 &&& 31)))), (3, .int v9), (0, .ref x0)]) E.hx E.hb dX0_round_63 hl (k := 3) rfl rfl (by decide) rfl (fun ls hl => ?_)
          refine lv_goto (tgt := 14) E.hx E.hb dX0_round_66 (by decide) ?_
          exact ih X13 _ _ _ hf _ _ _ _ _ (by omega) (by omega) hR hS (lv_sub hl [3, 1, 0] rfl)
def fX0_round  (X : AH) (x0 : Nat) : Option (Int32 × AH) :=
  (ck X x0 0).bind fun _ =>
  (fX0_isMinistry X x0).bind fun (v3, X2) =>
  if v3 = 0 then (some ((-1000002), X2)) else (fX0_round_L14 2000 X2 x0 0 0)
theorem wX0_round_0 (E : xE p m c cX0_round 4 s args RX0 D cA A Zs meth (some .int)) {X : AH} {x0 : Nat} (hf : fX0_round X x0 = some (r, Xf)) : ∀ (H : Heap) (locs : List Loc) (ls : Array Slot) (cells slots : Nat), cells + 0 ≤ 0 → slots + 0 ≤ 0 → xR D cA A Zs X H → va_S A s.heap H locs → lv_has ls 4 [(0, .ref x0)] → W p l e rmX0_round s m args below meth c H locs cells slots (MQ below (xQi D cA A Zs r Xf) args s 0 0 A) (F0 m 0 ls []) := by
  intro H locs ls cells slots hc hs hR hS hl
  refine lv_aload_n E.hx E.hb dX0_round_0 rfl (lv_at hl 0 rfl) ?_
  obtain ⟨u1, hu1, hf⟩ := bd_e hf
  obtain ⟨⟨v3, X2⟩, hv3, hf⟩ := bd_e hf
  refine xrun_i (va_runV (As := []) (rest := []) E.1 (tX0_isMinistry l hv3) (cwX0_177 E.ht ⟨Nat.le_of_ble_eq_true rfl, Nat.le_of_ble_eq_true rfl⟩) (xPreV (ci := 0) E hR hS rfl (ck_e hu1)) rfl rfl hl.1 rfl (lv_room (Nat.le_of_ble_eq_true rfl)) dX0_round_1 ⟨Nat.le_trans (by omega) (Nat.le_refl 0), Nat.le_trans (by omega) (Nat.le_refl 0)⟩) hS (fun H locs hR hS => ?_)
  refine lv_if_ne (tgt := 10) E.hx E.hb dX0_round_4 (by decide) (fun c4 => ?_) (fun c4 => ?_)
  · have hf := it_f hf c4
    refine lv_iconst (v := 0) E.hx E.hb dX0_round_10 (by decide) ?_
    refine lv_istore_n (lv' := [(1, .int 0), (0, .ref x0)]) E.hx E.hb dX0_round_11 rfl hl (by decide) rfl (fun ls hl => ?_)
    refine lv_iconst (v := 0) E.hx E.hb dX0_round_12 (by decide) ?_
    refine lv_istore_n (lv' := [(2, .int 0), (1, .int 0), (0, .ref x0)]) E.hx E.hb dX0_round_13 rfl hl (by decide) rfl (fun ls hl => ?_)
    exact wX0_round_L14 E  2000 X2 _ _ _ hf _ _ _ _ _ (by omega) (by omega) hR hS (lv_sub hl [2, 1, 0] rfl)
  · have hf := it_t hf c4
    refine lv_ldc (v := (-1000002)) E.hx E.hb E.ho (E.ht _ q733) dX0_round_7 ?_
    obtain ⟨rfl, rfl⟩ := rt_e hf
    exact xret_i E (by omega) (by omega) hR hS dX0_round_9
theorem tX0_round (l : Launch) {D : va_G} {cA : Nat → ClassId} {A : Nat → Prop} {Zs : XZ} {X Xf : AH} {x0 : Nat} {r : Int32} (hf : fX0_round X x0 = some (r, Xf)) : Met l yX0_round (ws_ yX0_round cX0_round 4 (some .int)) rmX0_round (xPc D cA A Zs X [.ref x0]) (xQi D cA A Zs r Xf) 0 0 A := by
  refine Met.ofW (cc := cX0_round) (maxL := 4) (ret := (some .int)) (by decide) rfl ?_
  intro p e s m args below meth c s₁ B hml hv
  obtain ⟨rfl, hR, hK⟩ := hv
  have hts := atoms_spec (ws := (ws_ yX0_round cX0_round 4 (some .int))) B.pre
  rw [lg_entry_eq]
  exact wX0_round_0 (E := ⟨⟨B.exec, B.bytes, hml, findClass_of_methodNamed B.named, fun w h => hts w (List.mem_cons_of_mem _ h)⟩, hK, B.returns, B.notSynchronized⟩) hf _ _ _ 0 0 (Nat.le_of_ble_eq_true rfl) (Nat.le_of_ble_eq_true rfl) hR va_S.rf (lv_entry [.ref x0] (n := 4) (Nat.le_of_ble_eq_true rfl))
end
abbrev rmX0_enemy : Room := { frames := 13, cells := 0, slots := 0, locals := 272 }
section
variable {p : Program} {l : Launch} {e : Env} {s : State} {m : MethodId} {args : Array Value} {below : List Frame} {meth : Method} {c : Code} {D : va_G} {cA : Nat → ClassId} {A : Nat → Prop} {Zs : XZ} {Xf : AH} {r : Int32} {rl : Int64} {ra : Nat} {tv : Unit ⊕ Nat} {ti : Int32 ⊕ Nat} {tr : Nat ⊕ Nat} {q2 : Option Nat}
def fX0_enemy_b87 (k39 : AH → Nat → Int32 → Int32 → Int32 → Int32 → Int32 → Int32 → Option (Int32 × AH)) (X : AH) (s0 : Int32) (x0 : Nat) (x1 : Int32) (x2 : Int32) (x3 : Int32) (x5 : Int32) (x6 : Int32) (x7 : Int32) : Option (Int32 × AH) :=
  k39 X x0 x1 x2 x3 s0 (jmax x5 x7) (x6 + 1)
theorem wX0_enemy_b87 (E : xE p m c cX0_enemy 8 s args RX0 D cA A Zs meth (some .int)) {k39 : AH → Nat → Int32 → Int32 → Int32 → Int32 → Int32 → Int32 → Option (Int32 × AH)} (hk39 : ∀ (X : AH) (x0 : Nat) (x1 : Int32) (x2 : Int32) (x3 : Int32) (x4 : Int32) (x5 : Int32) (x6 : Int32), k39 X x0 x1 x2 x3 x4 x5 x6 = some (r, Xf) → ∀ (H : Heap) (locs : List Loc) (ls : Array Slot) (cells slots : Nat), cells + 0 ≤ 0 → slots + 0 ≤ 0 → xR D cA A Zs X H → va_S A s.heap H locs → lv_has ls 8 [(0, .ref x0), (1, .int x1), (2, .int x2), (3, .int x3), (4, .int x4), (5, .int x5), (6, .int x6)] → W p l e rmX0_enemy s m args below meth c H locs cells slots (MQ below (xQi D cA A Zs r Xf) args s 0 0 A) (F0 m 39 ls [])) {X : AH} {s0 : Int32} {x0 : Nat} {x1 : Int32} {x2 : Int32} {x3 : Int32} {x5 : Int32} {x6 : Int32} {x7 : Int32} (hf : fX0_enemy_b87 k39 X s0 x0 x1 x2 x3 x5 x6 x7 = some (r, Xf)) : ∀ (H : Heap) (locs : List Loc) (ls : Array Slot) (cells slots : Nat), cells + 0 ≤ 0 → slots + 0 ≤ 0 → xR D cA A Zs X H → va_S A s.heap H locs → lv_has ls 8 [(0, .ref x0), (1, .int x1), (2, .int x2), (3, .int x3), (5, .int x5), (6, .int x6), (7, .int x7)] → W p l e rmX0_enemy s m args below meth c H locs cells slots (MQ below (xQi D cA A Zs r Xf) args s 0 0 A) (F0 m 87 ls [.int s0]) := by
  intro H locs ls cells slots hc hs hR hS hl
  refine lv_istore (lv' := [(4, .int s0), (0, .ref x0), (1, .int x1), (2, .int x2), (3, .int x3), (5, .int x5), (6, .int x6), (7, .int x7)]) E.hx E.hb dX0_enemy_87 hl (by decide) rfl (fun ls hl => ?_)
  refine lv_iload E.hx E.hb dX0_enemy_89 (lv_at hl 5 rfl) ?_
  refine lv_iload E.hx E.hb dX0_enemy_91 (lv_at hl 7 rfl) ?_
  refine xmmax E hl.1 q963 (Nat.le_of_ble_eq_true rfl) (Nat.le_of_ble_eq_true rfl) (Nat.le_trans (by omega) (Nat.le_refl 0)) (Nat.le_trans (by omega) (Nat.le_refl 0)) dX0_enemy_93 ?_
  refine lv_istore (lv' := [(5, .int (jmax x5 x7)), (4, .int s0), (0, .ref x0), (1, .int x1), (2, .int x2), (3, .int x3), (6, .int x6), (7, .int x7)]) E.hx E.hb dX0_enemy_96 hl (by decide) rfl (fun ls hl => ?_)
  refine lv_iinc (v := (x6 + 1)) (lv' := [(6, .int (x6 + 1)), (5, .int (jmax x5 x7)), (4, .int s0), (0, .ref x0), (1, .int x1), (2, .int x2), (3, .int x3), (7, .int x7)]) E.hx E.hb dX0_enemy_98 hl (k := 6) rfl rfl (by decide) rfl (fun ls hl => ?_)
  refine lv_goto (tgt := 39) E.hx E.hb dX0_enemy_101 (by decide) ?_
  exact hk39 X _ _ _ _ _ _ _ hf _ _ _ _ _ (by omega) (by omega) hR hS (lv_sub hl [3, 4, 5, 6, 2, 1, 0] rfl)
def fX0_enemy_L39  : Nat → AH → Nat → Int32 → Int32 → Int32 → Int32 → Int32 → Int32 → Option (Int32 × AH)
  | 0, _, _, _, _, _, _, _, _ => none
  | n + 1, X, x0, x1, x2, x3, x4, x5, x6 =>
    (gR X x0 0 4).bind fun v1 =>
    (ck X v1 1).bind fun _ =>
    (fX1_many X v1).bind fun (v4, X3) =>
    if v4 ≤ x6 then (if x3 = 0 then (some (x4, X3)) else (some (x5, X3))) else ((ck X3 x0 0).bind fun _ =>
    (fX0_tried X3 x0).bind fun (v9, X8) =>
    (gR X8 v9 1 5).bind fun v10 =>
    (pA X8 v10 0 x6 0).bind fun X11 =>
    (ck X11 x0 0).bind fun _ =>
    (fX0_goOn X11 x0 x2).bind fun (v14, X13) =>
    (ck X13 v14 1).bind fun _ =>
    (fX1_high X13 v14 x1).bind fun (v17, X16) =>
    if v17 ≤ x5 then (fX0_enemy_b87 (fX0_enemy_L39 n) X16 x4 x0 x1 x2 x3 x5 x6 v17) else (fX0_enemy_b87 (fX0_enemy_L39 n) X16 x6 x0 x1 x2 x3 x5 x6 v17))
theorem wX0_enemy_L39 (E : xE p m c cX0_enemy 8 s args RX0 D cA A Zs meth (some .int)) : ∀ (n : Nat) (X : AH) (x0 : Nat) (x1 : Int32) (x2 : Int32) (x3 : Int32) (x4 : Int32) (x5 : Int32) (x6 : Int32), fX0_enemy_L39 n X x0 x1 x2 x3 x4 x5 x6 = some (r, Xf) → ∀ (H : Heap) (locs : List Loc) (ls : Array Slot) (cells slots : Nat), cells + 0 ≤ 0 → slots + 0 ≤ 0 → xR D cA A Zs X H → va_S A s.heap H locs → lv_has ls 8 [(0, .ref x0), (1, .int x1), (2, .int x2), (3, .int x3), (4, .int x4), (5, .int x5), (6, .int x6)] → W p l e rmX0_enemy s m args below meth c H locs cells slots (MQ below (xQi D cA A Zs r Xf) args s 0 0 A) (F0 m 39 ls []) := by
  intro n
  induction n with
  | zero =>
    intro X x0 x1 x2 x3 x4 x5 x6 hf
    have hf : none = some (r, Xf) := hf
    cases hf
  | succ n ih =>
    intro X x0 x1 x2 x3 x4 x5 x6 hf H locs ls cells slots hc hs hR hS hl
    refine lv_iload E.hx E.hb dX0_enemy_39 (lv_at hl 6 rfl) ?_
    refine lv_aload_n E.hx E.hb dX0_enemy_41 rfl (lv_at hl 0 rfl) ?_
    obtain ⟨v1, hv1, hf⟩ := bd_e hf
    refine xgX0_39 E hR hv1 dX0_enemy_42 ?_
    obtain ⟨u2, hu2, hf⟩ := bd_e hf
    obtain ⟨⟨v4, X3⟩, hv4, hf⟩ := bd_e hf
    refine xrun_i (va_runV (As := []) (rest := [.int x6]) E.1 (tX1_many l hv4) (cwX0_163 E.ht ⟨Nat.le_of_ble_eq_true rfl, Nat.le_of_ble_eq_true rfl⟩) (xPreV (ci := 1) E hR hS rfl (ck_e hu2)) rfl rfl hl.1 rfl (lv_room (Nat.le_of_ble_eq_true rfl)) dX0_enemy_45 ⟨Nat.le_trans (by omega) (Nat.le_refl 0), Nat.le_trans (by omega) (Nat.le_refl 0)⟩) hS (fun H locs hR hS => ?_)
    refine lv_icmp_ge (tgt := 104) E.hx E.hb dX0_enemy_48 (by decide) (fun c5 => ?_) (fun c5 => ?_)
    · have hf := it_t hf c5
      refine lv_iload_n E.hx E.hb dX0_enemy_104 rfl (lv_at hl 3 rfl) ?_
      refine lv_if_ne (tgt := 113) E.hx E.hb dX0_enemy_105 (by decide) (fun c6 => ?_) (fun c6 => ?_)
      · have hf := it_f hf c6
        refine lv_iload E.hx E.hb dX0_enemy_113 (lv_at hl 5 rfl) ?_
        obtain ⟨rfl, rfl⟩ := rt_e hf
        exact xret_i E (by omega) (by omega) hR hS dX0_enemy_115
      · have hf := it_t hf c6
        refine lv_iload E.hx E.hb dX0_enemy_108 (lv_at hl 4 rfl) ?_
        refine lv_goto (tgt := 115) E.hx E.hb dX0_enemy_110 (by decide) ?_
        obtain ⟨rfl, rfl⟩ := rt_e hf
        exact xret_i E (by omega) (by omega) hR hS dX0_enemy_115
    · have hf := it_f hf c5
      refine lv_aload_n E.hx E.hb dX0_enemy_51 rfl (lv_at hl 0 rfl) ?_
      obtain ⟨u7, hu7, hf⟩ := bd_e hf
      obtain ⟨⟨v9, X8⟩, hv9, hf⟩ := bd_e hf
      refine xrun_r (va_runV (As := []) (rest := []) E.1 (tX0_tried l hv9) (cwX0_254 E.ht ⟨Nat.le_of_ble_eq_true rfl, Nat.le_of_ble_eq_true rfl⟩) (xPreV (ci := 0) E hR hS rfl (ck_e hu7)) rfl rfl hl.1 rfl (lv_room (Nat.le_of_ble_eq_true rfl)) dX0_enemy_52 ⟨Nat.le_trans (by omega) (Nat.le_refl 0), Nat.le_trans (by omega) (Nat.le_refl 0)⟩) hS (fun H locs hR hS => ?_)
      obtain ⟨v10, hv10, hf⟩ := bd_e hf
      refine xgX0_236 E hR hv10 dX0_enemy_55 ?_
      refine lv_iload E.hx E.hb dX0_enemy_58 (lv_at hl 6 rfl) ?_
      refine lv_iconst (v := 0) E.hx E.hb dX0_enemy_60 (by decide) ?_
      obtain ⟨X11, hX11, hf⟩ := bd_e hf
      refine xist E hR hS hX11 dX0_enemy_61 (fun H locs hR hS => ?_)
      refine lv_aload_n E.hx E.hb dX0_enemy_62 rfl (lv_at hl 0 rfl) ?_
      refine lv_iload_n E.hx E.hb dX0_enemy_63 rfl (lv_at hl 2 rfl) ?_
      obtain ⟨u12, hu12, hf⟩ := bd_e hf
      obtain ⟨⟨v14, X13⟩, hv14, hf⟩ := bd_e hf
      refine xrun_r (va_runV (As := [.int x2]) (rest := []) E.1 (tX0_goOn l hv14) (cwX0_257 E.ht ⟨Nat.le_of_ble_eq_true rfl, Nat.le_of_ble_eq_true rfl⟩) (xPreV (ci := 0) E hR hS rfl (ck_e hu12)) rfl rfl hl.1 rfl (lv_room (Nat.le_of_ble_eq_true rfl)) dX0_enemy_64 ⟨Nat.le_trans (by omega) (Nat.le_refl 0), Nat.le_trans (by omega) (Nat.le_refl 0)⟩) hS (fun H locs hR hS => ?_)
      refine lv_iload_n E.hx E.hb dX0_enemy_67 rfl (lv_at hl 1 rfl) ?_
      obtain ⟨u15, hu15, hf⟩ := bd_e hf
      obtain ⟨⟨v17, X16⟩, hv17, hf⟩ := bd_e hf
      refine xrun_i (va_runV (As := [.int x1]) (rest := []) E.1 (tX1_high l hv17) (cwX0_239 E.ht ⟨Nat.le_of_ble_eq_true rfl, Nat.le_of_ble_eq_true rfl⟩) (xPreV (ci := 1) E hR hS rfl (ck_e hu15)) rfl rfl hl.1 rfl (lv_room (Nat.le_of_ble_eq_true rfl)) dX0_enemy_68 ⟨Nat.le_trans (by omega) (Nat.le_refl 0), Nat.le_trans (by omega) (Nat.le_refl 0)⟩) hS (fun H locs hR hS => ?_)
      refine lv_istore (lv' := [(7, .int v17), (0, .ref x0), (1, .int x1), (2, .int x2), (3, .int x3), (4, .int x4), (5, .int x5), (6, .int x6)]) E.hx E.hb dX0_enemy_71 hl (by decide) rfl (fun ls hl => ?_)
      refine lv_iload E.hx E.hb dX0_enemy_73 (lv_at hl 0 rfl) ?_
      refine lv_iload E.hx E.hb dX0_enemy_75 (lv_at hl 6 rfl) ?_
      refine lv_icmp_le (tgt := 85) E.hx E.hb dX0_enemy_77 (by decide) (fun c18 => ?_) (fun c18 => ?_)
      · have hf := it_t hf c18
        refine lv_iload E.hx E.hb dX0_enemy_85 (lv_at hl 5 rfl) ?_
        exact wX0_enemy_b87 E ih hf _ _ _ _ _ (by omega) (by omega) hR hS (lv_sub hl [1, 2, 3, 4, 6, 7, 0] rfl)
      · have hf := it_f hf c18
        refine lv_iload E.hx E.hb dX0_enemy_80 (lv_at hl 7 rfl) ?_
        refine lv_goto (tgt := 87) E.hx E.hb dX0_enemy_82 (by decide) ?_
        exact wX0_enemy_b87 E ih hf _ _ _ _ _ (by omega) (by omega) hR hS (lv_sub hl [1, 2, 3, 4, 6, 7, 0] rfl)
def fX0_enemy  (X : AH) (x0 : Nat) (x1 : Int32) (x2 : Int32) (x3 : Int32) : Option (Int32 × AH) :=
  (ck X x0 0).bind fun _ =>
  (fX0_isChair X x0 x1).bind fun (v3, X2) =>
  if v3 = 0 then (some ((-1000001), X2)) else ((fX0_isIn (x2.toInt64) 1 30).bind fun v5 =>
  if v5 = 0 then (some ((-1000001), X2)) else ((fX0_isHalf x3).bind fun v7 =>
  if v7 = 0 then (some ((-1000001), X2)) else (fX0_enemy_L39 2000 X2 x0 x1 x2 x3 0 (-1) 0)))
theorem wX0_enemy_0 (E : xE p m c cX0_enemy 8 s args RX0 D cA A Zs meth (some .int)) {X : AH} {x0 : Nat} {x1 : Int32} {x2 : Int32} {x3 : Int32} (hf : fX0_enemy X x0 x1 x2 x3 = some (r, Xf)) : ∀ (H : Heap) (locs : List Loc) (ls : Array Slot) (cells slots : Nat), cells + 0 ≤ 0 → slots + 0 ≤ 0 → xR D cA A Zs X H → va_S A s.heap H locs → lv_has ls 8 [(0, .ref x0), (1, .int x1), (2, .int x2), (3, .int x3)] → W p l e rmX0_enemy s m args below meth c H locs cells slots (MQ below (xQi D cA A Zs r Xf) args s 0 0 A) (F0 m 0 ls []) := by
  intro H locs ls cells slots hc hs hR hS hl
  refine lv_aload_n E.hx E.hb dX0_enemy_0 rfl (lv_at hl 0 rfl) ?_
  refine lv_iload_n E.hx E.hb dX0_enemy_1 rfl (lv_at hl 1 rfl) ?_
  obtain ⟨u1, hu1, hf⟩ := bd_e hf
  obtain ⟨⟨v3, X2⟩, hv3, hf⟩ := bd_e hf
  refine xrun_i (va_runV (As := [.int x1]) (rest := []) E.1 (tX0_isChair l hv3) (cwX0_196 E.ht ⟨Nat.le_of_ble_eq_true rfl, Nat.le_of_ble_eq_true rfl⟩) (xPreV (ci := 0) E hR hS rfl (ck_e hu1)) rfl rfl hl.1 rfl (lv_room (Nat.le_of_ble_eq_true rfl)) dX0_enemy_2 ⟨Nat.le_trans (by omega) (Nat.le_refl 0), Nat.le_trans (by omega) (Nat.le_refl 0)⟩) hS (fun H locs hR hS => ?_)
  refine lv_if_eq (tgt := 27) E.hx E.hb dX0_enemy_5 (by decide) (fun c4 => ?_) (fun c4 => ?_)
  · have hf := it_t hf c4
    refine lv_ldc (v := (-1000001)) E.hx E.hb E.ho (E.ht _ q319) dX0_enemy_27 ?_
    obtain ⟨rfl, rfl⟩ := rt_e hf
    exact xret_i E (by omega) (by omega) hR hS dX0_enemy_29
  · have hf := it_f hf c4
    refine lv_iload_n E.hx E.hb dX0_enemy_8 rfl (lv_at hl 2 rfl) ?_
    refine lv_i2l E.hx E.hb dX0_enemy_9 rfl ?_
    refine lv_lconst (v := 1) E.hx E.hb dX0_enemy_10 (by decide) ?_
    refine lv_ldc2 (v := 30) E.hx E.hb E.ho (E.ht _ q947) dX0_enemy_11 ?_
    obtain ⟨v5, hv5, hf⟩ := bd_e hf
    refine scall_i (rest := []) E.1 (tX0_isIn l hv5) (cwX0_79 E.ht ⟨Nat.le_of_ble_eq_true rfl, Nat.le_of_ble_eq_true rfl⟩) rfl hl.1 rfl (Nat.le_of_ble_eq_true rfl) dX0_enemy_14 ⟨Nat.le_trans (by omega) (Nat.le_refl 0), Nat.le_trans (by omega) (Nat.le_refl 0)⟩ ?_
    refine lv_if_eq (tgt := 27) E.hx E.hb dX0_enemy_17 (by decide) (fun c6 => ?_) (fun c6 => ?_)
    · have hf := it_t hf c6
      refine lv_ldc (v := (-1000001)) E.hx E.hb E.ho (E.ht _ q319) dX0_enemy_27 ?_
      obtain ⟨rfl, rfl⟩ := rt_e hf
      exact xret_i E (by omega) (by omega) hR hS dX0_enemy_29
    · have hf := it_f hf c6
      refine lv_iload_n E.hx E.hb dX0_enemy_20 rfl (lv_at hl 3 rfl) ?_
      obtain ⟨v7, hv7, hf⟩ := bd_e hf
      refine scall_i (rest := []) E.1 (tX0_isHalf l hv7) (cwX0_214 E.ht ⟨Nat.le_of_ble_eq_true rfl, Nat.le_of_ble_eq_true rfl⟩) rfl hl.1 rfl (Nat.le_of_ble_eq_true rfl) dX0_enemy_21 ⟨Nat.le_trans (by omega) (Nat.le_refl 0), Nat.le_trans (by omega) (Nat.le_refl 0)⟩ ?_
      refine lv_if_ne (tgt := 30) E.hx E.hb dX0_enemy_24 (by decide) (fun c8 => ?_) (fun c8 => ?_)
      · have hf := it_f hf c8
        refine lv_iconst (v := 0) E.hx E.hb dX0_enemy_30 (by decide) ?_
        refine lv_istore (lv' := [(4, .int 0), (0, .ref x0), (1, .int x1), (2, .int x2), (3, .int x3)]) E.hx E.hb dX0_enemy_31 hl (by decide) rfl (fun ls hl => ?_)
        refine lv_iconst (v := (-1)) E.hx E.hb dX0_enemy_33 (by decide) ?_
        refine lv_istore (lv' := [(5, .int (-1)), (4, .int 0), (0, .ref x0), (1, .int x1), (2, .int x2), (3, .int x3)]) E.hx E.hb dX0_enemy_34 hl (by decide) rfl (fun ls hl => ?_)
        refine lv_iconst (v := 0) E.hx E.hb dX0_enemy_36 (by decide) ?_
        refine lv_istore (lv' := [(6, .int 0), (5, .int (-1)), (4, .int 0), (0, .ref x0), (1, .int x1), (2, .int x2), (3, .int x3)]) E.hx E.hb dX0_enemy_37 hl (by decide) rfl (fun ls hl => ?_)
        exact wX0_enemy_L39 E  2000 X2 _ _ _ _ _ _ _ hf _ _ _ _ _ (by omega) (by omega) hR hS (lv_sub hl [3, 4, 5, 6, 2, 1, 0] rfl)
      · have hf := it_t hf c8
        refine lv_ldc (v := (-1000001)) E.hx E.hb E.ho (E.ht _ q319) dX0_enemy_27 ?_
        obtain ⟨rfl, rfl⟩ := rt_e hf
        exact xret_i E (by omega) (by omega) hR hS dX0_enemy_29
theorem tX0_enemy (l : Launch) {D : va_G} {cA : Nat → ClassId} {A : Nat → Prop} {Zs : XZ} {X Xf : AH} {x0 : Nat} {x1 : Int32} {x2 : Int32} {x3 : Int32} {r : Int32} (hf : fX0_enemy X x0 x1 x2 x3 = some (r, Xf)) : Met l yX0_enemy (ws_ yX0_enemy cX0_enemy 8 (some .int)) rmX0_enemy (xPc D cA A Zs X [.ref x0, .int x1, .int x2, .int x3]) (xQi D cA A Zs r Xf) 0 0 A := by
  refine Met.ofW (cc := cX0_enemy) (maxL := 8) (ret := (some .int)) (by decide) rfl ?_
  intro p e s m args below meth c s₁ B hml hv
  obtain ⟨rfl, hR, hK⟩ := hv
  have hts := atoms_spec (ws := (ws_ yX0_enemy cX0_enemy 8 (some .int))) B.pre
  rw [lg_entry_eq]
  exact wX0_enemy_0 (E := ⟨⟨B.exec, B.bytes, hml, findClass_of_methodNamed B.named, fun w h => hts w (List.mem_cons_of_mem _ h)⟩, hK, B.returns, B.notSynchronized⟩) hf _ _ _ 0 0 (Nat.le_of_ble_eq_true rfl) (Nat.le_of_ble_eq_true rfl) hR va_S.rf (lv_entry [.ref x0, .int x1, .int x2, .int x3] (n := 8) (Nat.le_of_ble_eq_true rfl))
end
abbrev rmX0_isSeen : Room := { frames := 12, cells := 0, slots := 0, locals := 250 }
section
variable {p : Program} {l : Launch} {e : Env} {s : State} {m : MethodId} {args : Array Value} {below : List Frame} {meth : Method} {c : Code} {D : va_G} {cA : Nat → ClassId} {A : Nat → Prop} {Zs : XZ} {Xf : AH} {r : Int32} {rl : Int64} {ra : Nat} {tv : Unit ⊕ Nat} {ti : Int32 ⊕ Nat} {tr : Nat ⊕ Nat} {q2 : Option Nat}
def fX0_isSeen_L5  : Nat → AH → Nat → Int32 → Nat → Int32 → Int32 → Option (Int32 × AH)
  | 0, _, _, _, _, _, _ => none
  | n + 1, X, x0, x1, x2, x3, x4 =>
    (gL X x2 0).bind fun v1 =>
    if v1 ≤ x4 then ((bz x3).bind fun v3 =>
    some (v3, X)) else ((gR X x0 0 5).bind fun v4 =>
    (ck X v4 1).bind fun _ =>
    (fX1_pass X v4).bind fun (v7, X6) =>
    (ck X6 v7 1).bind fun _ =>
    (fX1_high X6 v7 x1).bind fun (v10, X9) =>
    (gA X9 x2 0 x4).bind fun v11 =>
    if v10 = v11 then ((fX0_isSeen_L5 n) X9 x0 x1 x2 (x3 &&& 1) (x4 + 1)) else ((fX0_isSeen_L5 n) X9 x0 x1 x2 (x3 &&& 0) (x4 + 1)))
theorem wX0_isSeen_L5 (E : xE p m c cX0_isSeen 5 s args RX0 D cA A Zs meth (some .boolean)) : ∀ (n : Nat) (X : AH) (x0 : Nat) (x1 : Int32) (x2 : Nat) (x3 : Int32) (x4 : Int32), fX0_isSeen_L5 n X x0 x1 x2 x3 x4 = some (r, Xf) → ∀ (H : Heap) (locs : List Loc) (ls : Array Slot) (cells slots : Nat), cells + 0 ≤ 0 → slots + 0 ≤ 0 → xR D cA A Zs X H → va_S A s.heap H locs → lv_has ls 5 [(0, .ref x0), (1, .int x1), (2, .ref x2), (3, .int x3), (4, .int x4)] → W p l e rmX0_isSeen s m args below meth c H locs cells slots (MQ below (xQi D cA A Zs r Xf) args s 0 0 A) (F0 m 5 ls []) := by
  intro n
  induction n with
  | zero =>
    intro X x0 x1 x2 x3 x4 hf
    have hf : none = some (r, Xf) := hf
    cases hf
  | succ n ih =>
    intro X x0 x1 x2 x3 x4 hf H locs ls cells slots hc hs hR hS hl
    refine lv_iload E.hx E.hb dX0_isSeen_5 (lv_at hl 4 rfl) ?_
    refine lv_aload_n E.hx E.hb dX0_isSeen_7 rfl (lv_at hl 2 rfl) ?_
    obtain ⟨v1, hv1, hf⟩ := bd_e hf
    refine xlen (kd := 0) E hR rfl hv1 dX0_isSeen_8 ?_
    refine lv_icmp_ge (tgt := 44) E.hx E.hb dX0_isSeen_9 (by decide) (fun c2 => ?_) (fun c2 => ?_)
    · have hf := it_t hf c2
      refine lv_iload_n E.hx E.hb dX0_isSeen_44 rfl (lv_at hl 3 rfl) ?_
      obtain ⟨v3, hv3, hf⟩ := bd_e hf
      obtain ⟨hz, rfl⟩ := bz_e hv3
      obtain ⟨rfl, rfl⟩ := rt_e hf
      exact xret_z E hz (by omega) (by omega) hR hS dX0_isSeen_45
    · have hf := it_f hf c2
      refine lv_iload_n E.hx E.hb dX0_isSeen_12 rfl (lv_at hl 3 rfl) ?_
      refine lv_aload_n E.hx E.hb dX0_isSeen_13 rfl (lv_at hl 0 rfl) ?_
      obtain ⟨v4, hv4, hf⟩ := bd_e hf
      refine xgX0_43 E hR hv4 dX0_isSeen_14 ?_
      obtain ⟨u5, hu5, hf⟩ := bd_e hf
      obtain ⟨⟨v7, X6⟩, hv7, hf⟩ := bd_e hf
      refine xrun_r (va_runV (As := []) (rest := [.int x3]) E.1 (tX1_pass l hv7) (cwX0_189 E.ht ⟨Nat.le_of_ble_eq_true rfl, Nat.le_of_ble_eq_true rfl⟩) (xPreV (ci := 1) E hR hS rfl (ck_e hu5)) rfl rfl hl.1 rfl (lv_room (Nat.le_of_ble_eq_true rfl)) dX0_isSeen_17 ⟨Nat.le_trans (by omega) (Nat.le_refl 0), Nat.le_trans (by omega) (Nat.le_refl 0)⟩) hS (fun H locs hR hS => ?_)
      refine lv_iload_n E.hx E.hb dX0_isSeen_20 rfl (lv_at hl 1 rfl) ?_
      obtain ⟨u8, hu8, hf⟩ := bd_e hf
      obtain ⟨⟨v10, X9⟩, hv10, hf⟩ := bd_e hf
      refine xrun_i (va_runV (As := [.int x1]) (rest := [.int x3]) E.1 (tX1_high l hv10) (cwX0_239 E.ht ⟨Nat.le_of_ble_eq_true rfl, Nat.le_of_ble_eq_true rfl⟩) (xPreV (ci := 1) E hR hS rfl (ck_e hu8)) rfl rfl hl.1 rfl (lv_room (Nat.le_of_ble_eq_true rfl)) dX0_isSeen_21 ⟨Nat.le_trans (by omega) (Nat.le_refl 0), Nat.le_trans (by omega) (Nat.le_refl 0)⟩) hS (fun H locs hR hS => ?_)
      refine lv_aload_n E.hx E.hb dX0_isSeen_24 rfl (lv_at hl 2 rfl) ?_
      refine lv_iload E.hx E.hb dX0_isSeen_25 (lv_at hl 4 rfl) ?_
      obtain ⟨v11, hv11, hf⟩ := bd_e hf
      refine xild E hR hv11 dX0_isSeen_27 ?_
      refine lv_icmp_ne (tgt := 35) E.hx E.hb dX0_isSeen_28 (by decide) (fun c12 => ?_) (fun c12 => ?_)
      · have hf := it_f hf c12
        refine lv_iconst (v := 0) E.hx E.hb dX0_isSeen_35 (by decide) ?_
        refine lv_iand E.hx E.hb dX0_isSeen_36 ?_
        refine lv_istore_n (lv' := [(3, .int (x3 &&& 0)), (0, .ref x0), (1, .int x1), (2, .ref x2), (4, .int x4)]) E.hx E.hb dX0_isSeen_37 rfl hl (by decide) rfl (fun ls hl => ?_)
        refine lv_iinc (v := (x4 + 1)) (lv' := [(4, .int (x4 + 1)), (3, .int (x3 &&& 0)), (0, .ref x0), (1, .int x1), (2, .ref x2)]) E.hx E.hb dX0_isSeen_38 hl (k := 4) rfl rfl (by decide) rfl (fun ls hl => ?_)
        refine lv_goto (tgt := 5) E.hx E.hb dX0_isSeen_41 (by decide) ?_
        exact ih X9 _ _ _ _ _ hf _ _ _ _ _ (by omega) (by omega) hR hS (lv_sub hl [2, 3, 4, 1, 0] rfl)
      · have hf := it_t hf c12
        refine lv_iconst (v := 1) E.hx E.hb dX0_isSeen_31 (by decide) ?_
        refine lv_goto (tgt := 36) E.hx E.hb dX0_isSeen_32 (by decide) ?_
        refine lv_iand E.hx E.hb dX0_isSeen_36 ?_
        refine lv_istore_n (lv' := [(3, .int (x3 &&& 1)), (0, .ref x0), (1, .int x1), (2, .ref x2), (4, .int x4)]) E.hx E.hb dX0_isSeen_37 rfl hl (by decide) rfl (fun ls hl => ?_)
        refine lv_iinc (v := (x4 + 1)) (lv' := [(4, .int (x4 + 1)), (3, .int (x3 &&& 1)), (0, .ref x0), (1, .int x1), (2, .ref x2)]) E.hx E.hb dX0_isSeen_38 hl (k := 4) rfl rfl (by decide) rfl (fun ls hl => ?_)
        refine lv_goto (tgt := 5) E.hx E.hb dX0_isSeen_41 (by decide) ?_
        exact ih X9 _ _ _ _ _ hf _ _ _ _ _ (by omega) (by omega) hR hS (lv_sub hl [2, 3, 4, 1, 0] rfl)
def fX0_isSeen  (X : AH) (x0 : Nat) (x1 : Int32) (x2 : Nat) : Option (Int32 × AH) :=
  fX0_isSeen_L5 2000 X x0 x1 x2 1 0
theorem wX0_isSeen_0 (E : xE p m c cX0_isSeen 5 s args RX0 D cA A Zs meth (some .boolean)) {X : AH} {x0 : Nat} {x1 : Int32} {x2 : Nat} (hf : fX0_isSeen X x0 x1 x2 = some (r, Xf)) : ∀ (H : Heap) (locs : List Loc) (ls : Array Slot) (cells slots : Nat), cells + 0 ≤ 0 → slots + 0 ≤ 0 → xR D cA A Zs X H → va_S A s.heap H locs → lv_has ls 5 [(0, .ref x0), (1, .int x1), (2, .ref x2)] → W p l e rmX0_isSeen s m args below meth c H locs cells slots (MQ below (xQi D cA A Zs r Xf) args s 0 0 A) (F0 m 0 ls []) := by
  intro H locs ls cells slots hc hs hR hS hl
  refine lv_iconst (v := 1) E.hx E.hb dX0_isSeen_0 (by decide) ?_
  refine lv_istore_n (lv' := [(3, .int 1), (0, .ref x0), (1, .int x1), (2, .ref x2)]) E.hx E.hb dX0_isSeen_1 rfl hl (by decide) rfl (fun ls hl => ?_)
  refine lv_iconst (v := 0) E.hx E.hb dX0_isSeen_2 (by decide) ?_
  refine lv_istore (lv' := [(4, .int 0), (3, .int 1), (0, .ref x0), (1, .int x1), (2, .ref x2)]) E.hx E.hb dX0_isSeen_3 hl (by decide) rfl (fun ls hl => ?_)
  exact wX0_isSeen_L5 E  2000 X _ _ _ _ _ hf _ _ _ _ _ (by omega) (by omega) hR hS (lv_sub hl [2, 3, 4, 1, 0] rfl)
theorem tX0_isSeen (l : Launch) {D : va_G} {cA : Nat → ClassId} {A : Nat → Prop} {Zs : XZ} {X Xf : AH} {x0 : Nat} {x1 : Int32} {x2 : Nat} {r : Int32} (hf : fX0_isSeen X x0 x1 x2 = some (r, Xf)) : Met l yX0_isSeen (ws_ yX0_isSeen cX0_isSeen 5 (some .boolean)) rmX0_isSeen (xPc D cA A Zs X [.ref x0, .int x1, .ref x2]) (xQi D cA A Zs r Xf) 0 0 A := by
  refine Met.ofW (cc := cX0_isSeen) (maxL := 5) (ret := (some .boolean)) (by decide) rfl ?_
  intro p e s m args below meth c s₁ B hml hv
  obtain ⟨rfl, hR, hK⟩ := hv
  have hts := atoms_spec (ws := (ws_ yX0_isSeen cX0_isSeen 5 (some .boolean))) B.pre
  rw [lg_entry_eq]
  exact wX0_isSeen_0 (E := ⟨⟨B.exec, B.bytes, hml, findClass_of_methodNamed B.named, fun w h => hts w (List.mem_cons_of_mem _ h)⟩, hK, B.returns, B.notSynchronized⟩) hf _ _ _ 0 0 (Nat.le_of_ble_eq_true rfl) (Nat.le_of_ble_eq_true rfl) hR va_S.rf (lv_entry [.ref x0, .int x1, .ref x2] (n := 5) (Nat.le_of_ble_eq_true rfl))
end
abbrev rmX0_alters : Room := { frames := 3, cells := 0, slots := 0, locals := 105 }
section
variable {p : Program} {l : Launch} {e : Env} {s : State} {m : MethodId} {args : Array Value} {below : List Frame} {meth : Method} {c : Code} {D : va_G} {cA : Nat → ClassId} {A : Nat → Prop} {Zs : XZ} {Xf : AH} {r : Int32} {rl : Int64} {ra : Nat} {tv : Unit ⊕ Nat} {ti : Int32 ⊕ Nat} {tr : Nat ⊕ Nat} {q2 : Option Nat}
def fX0_alters  (X : AH) (x0 : Nat) (x1 : Int32) (x2 : Int32) (x3 : Int32) : Option AH :=
  (ck X x0 0).bind fun _ =>
  (fX0_tried X x0).bind fun (v3, X2) =>
  if x2 = 0 then ((gR X2 x0 0 5).bind fun v12 =>
  (pF X2 v12 1 11 (.int x1)).bind fun X13 =>
  (gR X13 x0 0 5).bind fun v14 =>
  (gR X13 x0 0 11).bind fun v15 =>
  (gQn X13 v15 4 (x3 - 1)).bind fun v16 =>
  (pF X13 v14 1 12 (.ref v16)).bind fun X17 =>
  some X17) else (if x2 = 1 then ((gR X2 x0 0 5).bind fun v9 =>
  (gR X2 v9 1 5).bind fun v10 =>
  (pA X2 v10 0 x1 x3).bind fun X11 =>
  some X11) else ((gR X2 x0 0 5).bind fun v6 =>
  (gR X2 v6 1 6).bind fun v7 =>
  (pA X2 v7 0 x1 x3).bind fun X8 =>
  some X8))
theorem wX0_alters_0 (E : xE p m c cX0_alters 4 s args RX0 D cA A Zs meth none) {X : AH} {x0 : Nat} {x1 : Int32} {x2 : Int32} {x3 : Int32} (hf : fX0_alters X x0 x1 x2 x3 = some Xf) : ∀ (H : Heap) (locs : List Loc) (ls : Array Slot) (cells slots : Nat), cells + 0 ≤ 0 → slots + 0 ≤ 0 → xR D cA A Zs X H → va_S A s.heap H locs → lv_has ls 4 [(0, .ref x0), (1, .int x1), (2, .int x2), (3, .int x3)] → W p l e rmX0_alters s m args below meth c H locs cells slots (MQ below (xQv D cA A Zs Xf) args s 0 0 A) (F0 m 0 ls []) := by
  intro H locs ls cells slots hc hs hR hS hl
  refine lv_aload_n E.hx E.hb dX0_alters_0 rfl (lv_at hl 0 rfl) ?_
  obtain ⟨u1, hu1, hf⟩ := bd_e hf
  obtain ⟨⟨v3, X2⟩, hv3, hf⟩ := bd_e hf
  refine xrun_r (va_runV (As := []) (rest := []) E.1 (tX0_tried l hv3) (cwX0_254 E.ht ⟨Nat.le_of_ble_eq_true rfl, Nat.le_of_ble_eq_true rfl⟩) (xPreV (ci := 0) E hR hS rfl (ck_e hu1)) rfl rfl hl.1 rfl (lv_room (Nat.le_of_ble_eq_true rfl)) dX0_alters_1 ⟨Nat.le_trans (by omega) (Nat.le_refl 0), Nat.le_trans (by omega) (Nat.le_refl 0)⟩) hS (fun H locs hR hS => ?_)
  refine lv_pop E.hx E.hb dX0_alters_4 rfl ?_
  refine lv_iload_n E.hx E.hb dX0_alters_5 rfl (lv_at hl 2 rfl) ?_
  refine lv_if_ne (tgt := 35) E.hx E.hb dX0_alters_6 (by decide) (fun c4 => ?_) (fun c4 => ?_)
  · have hf := it_f hf c4
    refine lv_iload_n E.hx E.hb dX0_alters_35 rfl (lv_at hl 2 rfl) ?_
    refine lv_iconst (v := 1) E.hx E.hb dX0_alters_36 (by decide) ?_
    refine lv_icmp_ne (tgt := 53) E.hx E.hb dX0_alters_37 (by decide) (fun c5 => ?_) (fun c5 => ?_)
    · have hf := it_f hf c5
      refine lv_aload_n E.hx E.hb dX0_alters_53 rfl (lv_at hl 0 rfl) ?_
      obtain ⟨v6, hv6, hf⟩ := bd_e hf
      refine xgX0_43 E hR hv6 dX0_alters_54 ?_
      obtain ⟨v7, hv7, hf⟩ := bd_e hf
      refine xgX0_245 E hR hv7 dX0_alters_57 ?_
      refine lv_iload_n E.hx E.hb dX0_alters_60 rfl (lv_at hl 1 rfl) ?_
      refine lv_iload_n E.hx E.hb dX0_alters_61 rfl (lv_at hl 3 rfl) ?_
      obtain ⟨X8, hX8, hf⟩ := bd_e hf
      refine xist E hR hS hX8 dX0_alters_62 (fun H locs hR hS => ?_)
      obtain rfl := Option.some.inj hf
      exact xret_v E (by omega) (by omega) hR hS dX0_alters_63
    · have hf := it_t hf c5
      refine lv_aload_n E.hx E.hb dX0_alters_40 rfl (lv_at hl 0 rfl) ?_
      obtain ⟨v9, hv9, hf⟩ := bd_e hf
      refine xgX0_43 E hR hv9 dX0_alters_41 ?_
      obtain ⟨v10, hv10, hf⟩ := bd_e hf
      refine xgX0_236 E hR hv10 dX0_alters_44 ?_
      refine lv_iload_n E.hx E.hb dX0_alters_47 rfl (lv_at hl 1 rfl) ?_
      refine lv_iload_n E.hx E.hb dX0_alters_48 rfl (lv_at hl 3 rfl) ?_
      obtain ⟨X11, hX11, hf⟩ := bd_e hf
      refine xist E hR hS hX11 dX0_alters_49 (fun H locs hR hS => ?_)
      refine lv_goto (tgt := 63) E.hx E.hb dX0_alters_50 (by decide) ?_
      obtain rfl := Option.some.inj hf
      exact xret_v E (by omega) (by omega) hR hS dX0_alters_63
  · have hf := it_t hf c4
    refine lv_aload_n E.hx E.hb dX0_alters_9 rfl (lv_at hl 0 rfl) ?_
    obtain ⟨v12, hv12, hf⟩ := bd_e hf
    refine xgX0_43 E hR hv12 dX0_alters_10 ?_
    refine lv_iload_n E.hx E.hb dX0_alters_13 rfl (lv_at hl 1 rfl) ?_
    obtain ⟨X13, hX13, hf⟩ := bd_e hf
    refine xpX0_316 E hR hS hX13 dX0_alters_14 (fun H locs hR hS => ?_)
    refine lv_aload_n E.hx E.hb dX0_alters_17 rfl (lv_at hl 0 rfl) ?_
    obtain ⟨v14, hv14, hf⟩ := bd_e hf
    refine xgX0_43 E hR hv14 dX0_alters_18 ?_
    refine lv_aload_n E.hx E.hb dX0_alters_21 rfl (lv_at hl 0 rfl) ?_
    obtain ⟨v15, hv15, hf⟩ := bd_e hf
    refine xgX0_62 E hR hv15 dX0_alters_22 ?_
    refine lv_iload_n E.hx E.hb dX0_alters_25 rfl (lv_at hl 3 rfl) ?_
    refine lv_iconst (v := 1) E.hx E.hb dX0_alters_26 (by decide) ?_
    refine lv_isub E.hx E.hb dX0_alters_27 ?_
    obtain ⟨v16, hv16, hf⟩ := bd_e hf
    refine xaldn (kd := 4) E hR rfl hv16 dX0_alters_28 ?_
    obtain ⟨X17, hX17, hf⟩ := bd_e hf
    refine xpX0_319 E hR hS hX17 dX0_alters_29 (fun H locs hR hS => ?_)
    refine lv_goto (tgt := 63) E.hx E.hb dX0_alters_32 (by decide) ?_
    obtain rfl := Option.some.inj hf
    exact xret_v E (by omega) (by omega) hR hS dX0_alters_63
theorem tX0_alters (l : Launch) {D : va_G} {cA : Nat → ClassId} {A : Nat → Prop} {Zs : XZ} {X Xf : AH} {x0 : Nat} {x1 : Int32} {x2 : Int32} {x3 : Int32}  (hf : fX0_alters X x0 x1 x2 x3 = some Xf) : Met l yX0_alters (ws_ yX0_alters cX0_alters 4 none) rmX0_alters (xPc D cA A Zs X [.ref x0, .int x1, .int x2, .int x3]) (xQv D cA A Zs Xf) 0 0 A := by
  refine Met.ofW (cc := cX0_alters) (maxL := 4) (ret := none) (by decide) rfl ?_
  intro p e s m args below meth c s₁ B hml hv
  obtain ⟨rfl, hR, hK⟩ := hv
  have hts := atoms_spec (ws := (ws_ yX0_alters cX0_alters 4 none)) B.pre
  rw [lg_entry_eq]
  exact wX0_alters_0 (E := ⟨⟨B.exec, B.bytes, hml, findClass_of_methodNamed B.named, fun w h => hts w (List.mem_cons_of_mem _ h)⟩, hK, B.returns, B.notSynchronized⟩) hf _ _ _ 0 0 (Nat.le_of_ble_eq_true rfl) (Nat.le_of_ble_eq_true rfl) hR va_S.rf (lv_entry [.ref x0, .int x1, .int x2, .int x3] (n := 4) (Nat.le_of_ble_eq_true rfl))
end
