set_option maxRecDepth 100000
section
variable {p : Program} {l : Launch} {e : Env} {R : Room} {s : State} {m : MethodId} {args : Array Value} {below : List Frame} {meth : Method} {c : Code} {H : Heap} {locs : List Loc} {cells slots : Nat} {Q : State → Prop} {cc : ByteArray} {pc nL : Nat} {ls : Array Slot} {rest : List Value} {D : va_G} {cA : Nat → ClassId} {A : Nat → Prop} {Zs : XZ} {X X' : AH} {ret : Option FieldType} {a : Nat}
end
abbrev rmX0_as : Room := { frames := 8, cells := 4, slots := 1217, locals := 10304 }
theorem cwX0_363_X4 {R : Room} {s : State} {args : Array Value} (ht : ∀ w ∈ lw_all, w.before args s = true) (hR : rmX3_number.frames + 1 ≤ R.frames ∧ 8 + (1 + 11) + rmX3_number.locals ≤ R.locals) : va_CU R s args RX0 "ChairRanks$Plain" "ChairRanks$Chair" 363 ⟨"ChairRanks$Chair", "number", "()I"⟩ yX3_number cX3_number 1 (some .int) (ws_ yX3_number cX3_number 1 (some .int)) rmX3_number 0 0 0 :=
  xCU (ws := (ws_ yX3_number cX3_number 1 (some .int))) ht (lw_meth q1121) rfl rfl rfl q1113 q1115 (va_Decl.of (ht _ q1114) (ht _ q1121)) q1118 q1114 q74 (by decide +kernel) hR
theorem cwX0_363_X5 {R : Room} {s : State} {args : Array Value} (ht : ∀ w ∈ lw_all, w.before args s = true) (hR : rmX3_number.frames + 1 ≤ R.frames ∧ 8 + (1 + 11) + rmX3_number.locals ≤ R.locals) : va_CU R s args RX0 "ChairRanks$Rocker" "ChairRanks$Chair" 363 ⟨"ChairRanks$Chair", "number", "()I"⟩ yX3_number cX3_number 1 (some .int) (ws_ yX3_number cX3_number 1 (some .int)) rmX3_number 0 0 0 :=
  xCU (ws := (ws_ yX3_number cX3_number 1 (some .int))) ht (lw_meth q1121) rfl rfl rfl q1113 q1115 (va_Decl.of (ht _ q1114) (ht _ q1121)) q1119 q1114 q74 (by decide +kernel) hR
theorem cwX0_363_X6 {R : Room} {s : State} {args : Array Value} (ht : ∀ w ∈ lw_all, w.before args s = true) (hR : rmX3_number.frames + 1 ≤ R.frames ∧ 8 + (1 + 11) + rmX3_number.locals ≤ R.locals) : va_CU R s args RX0 "ChairRanks$Cushioned" "ChairRanks$Chair" 363 ⟨"ChairRanks$Chair", "number", "()I"⟩ yX3_number cX3_number 1 (some .int) (ws_ yX3_number cX3_number 1 (some .int)) rmX3_number 0 0 0 :=
  xCU (ws := (ws_ yX3_number cX3_number 1 (some .int))) ht (lw_meth q1121) rfl rfl rfl q1113 q1115 (va_Decl.of (ht _ q1114) (ht _ q1121)) q1116 q1114 q74 (by decide +kernel) hR
theorem cwX0_363_X7 {R : Room} {s : State} {args : Array Value} (ht : ∀ w ∈ lw_all, w.before args s = true) (hR : rmX3_number.frames + 1 ≤ R.frames ∧ 8 + (1 + 11) + rmX3_number.locals ≤ R.locals) : va_CU R s args RX0 "ChairRanks$Oak" "ChairRanks$Chair" 363 ⟨"ChairRanks$Chair", "number", "()I"⟩ yX3_number cX3_number 1 (some .int) (ws_ yX3_number cX3_number 1 (some .int)) rmX3_number 0 0 0 :=
  xCU (ws := (ws_ yX3_number cX3_number 1 (some .int))) ht (lw_meth q1121) rfl rfl rfl q1113 q1115 (va_Decl.of (ht _ q1114) (ht _ q1121)) q1117 q1114 q74 (by decide +kernel) hR
theorem cwX0_363_X8 {R : Room} {s : State} {args : Array Value} (ht : ∀ w ∈ lw_all, w.before args s = true) (hR : rmX3_number.frames + 1 ≤ R.frames ∧ 8 + (1 + 11) + rmX3_number.locals ≤ R.locals) : va_CU R s args RX0 "ChairRanks$Throne" "ChairRanks$Chair" 363 ⟨"ChairRanks$Chair", "number", "()I"⟩ yX3_number cX3_number 1 (some .int) (ws_ yX3_number cX3_number 1 (some .int)) rmX3_number 0 0 0 :=
  xCU (ws := (ws_ yX3_number cX3_number 1 (some .int))) ht (lw_meth q1121) rfl rfl rfl q1113 q1115 (va_Decl.of (ht _ q1114) (ht _ q1121)) q1120 q1114 q74 (by decide +kernel) hR
section
variable {p : Program} {l : Launch} {e : Env} {s : State} {m : MethodId} {args : Array Value} {below : List Frame} {meth : Method} {c : Code} {D : va_G} {cA : Nat → ClassId} {A : Nat → Prop} {Zs : XZ} {Xf : AH} {r : Int32} {rl : Int64} {ra : Nat} {tv : Unit ⊕ Nat} {ti : Int32 ⊕ Nat} {tr : Nat ⊕ Nat} {q2 : Option Nat}
def fX0_as_b100  (X : AH) (s0 : Nat) (x0 : Nat) : Option (Int32 × AH) :=
  (gC X s0).bind fun k1 =>
  if k1 = 4 then ((fX3_number X s0).bind fun (v27, X26) =>
  (ck X26 x0 0).bind fun _ =>
  (fX0_well X26 x0 v27).bind fun (v30, X29) =>
  some (v30, X29)) else (if k1 = 5 then ((fX3_number X s0).bind fun (v21, X20) =>
  (ck X20 x0 0).bind fun _ =>
  (fX0_well X20 x0 v21).bind fun (v24, X23) =>
  some (v24, X23)) else (if k1 = 6 then ((fX3_number X s0).bind fun (v15, X14) =>
  (ck X14 x0 0).bind fun _ =>
  (fX0_well X14 x0 v15).bind fun (v18, X17) =>
  some (v18, X17)) else (if k1 = 7 then ((fX3_number X s0).bind fun (v9, X8) =>
  (ck X8 x0 0).bind fun _ =>
  (fX0_well X8 x0 v9).bind fun (v12, X11) =>
  some (v12, X11)) else (if k1 = 8 then ((fX3_number X s0).bind fun (v3, X2) =>
  (ck X2 x0 0).bind fun _ =>
  (fX0_well X2 x0 v3).bind fun (v6, X5) =>
  some (v6, X5)) else none))))
theorem wX0_as_b100 (E : xE p m c cX0_as 5 s args RX0 D cA A Zs meth (some .int)) (ht : c.exceptionTable.toList.map (fun h => (h.startPc, h.endPc, h.handlerPc, h.catchType)) = [(40, 111, 112, 365), (23, 111, 123, 67), (112, 123, 123, 67)]) (hfl : l.flags = flags0) (F : xX A s) {X : AH} {s0 : Nat} {x0 : Nat} (hf : fX0_as_b100 X s0 x0 = some (r, Xf)) : ∀ (H : Heap) (locs : List Loc) (ls : Array Slot) (cells slots : Nat), cells + 0 ≤ 4 → slots + 0 ≤ 1217 → xR D cA A Zs X H → va_S A s.heap H locs → lv_has ls 5 [(0, .ref x0)] → W p l e rmX0_as s m args below meth c H locs cells slots (MQ below (xQi D cA A Zs r Xf) args s 4 1217 A) (F0 m 100 ls [.ref s0]) := by
  intro H locs ls cells slots hc hs hR hS hl
  refine lv_astore (lv' := [(4, .ref s0), (0, .ref x0)]) E.hx E.hb dX0_as_100 hl (by decide) rfl (fun ls hl => ?_)
  refine lv_aload_n E.hx E.hb dX0_as_102 rfl (lv_at hl 1 rfl) ?_
  refine lv_aload E.hx E.hb dX0_as_103 (lv_at hl 0 rfl) ?_
  obtain ⟨k1, hk1, hf⟩ := bd_e hf
  by_cases c31 : k1 = 4
  · have hf := it_t hf c31
    obtain ⟨⟨v27, X26⟩, hv27, hf⟩ := bd_e hf
    refine xrun_i (va_runU (As := []) (rest := [.ref x0]) E.1 (tX3_number l hv27) (cwX0_363_X4 E.ht ⟨Nat.le_of_ble_eq_true rfl, Nat.le_of_ble_eq_true rfl⟩) (xPreV (ci := 4) E hR hS rfl (hk1.trans (congrArg some c31))) rfl rfl hl.1 rfl (lv_room (Nat.le_of_ble_eq_true rfl)) dX0_as_105 ⟨Nat.le_trans (by omega) (Nat.le_refl 4), Nat.le_trans (by omega) (Nat.le_refl 1217)⟩) hS (fun H locs hR hS => ?_)
    obtain ⟨u28, hu28, hf⟩ := bd_e hf
    obtain ⟨⟨v30, X29⟩, hv30, hf⟩ := bd_e hf
    refine xrun_i (va_runV (As := [.int v27]) (rest := []) E.1 (tX0_well l hv30) (cwX0_97 E.ht ⟨Nat.le_of_ble_eq_true rfl, Nat.le_of_ble_eq_true rfl⟩) (xPreV (ci := 0) E hR hS rfl (ck_e hu28)) rfl rfl hl.1 rfl (lv_room (Nat.le_of_ble_eq_true rfl)) dX0_as_108 ⟨Nat.le_trans (by omega) (Nat.le_refl 4), Nat.le_trans (by omega) (Nat.le_refl 1217)⟩) hS (fun H locs hR hS => ?_)
    obtain ⟨rfl, rfl⟩ := rt_e hf
    exact xret_i E (by omega) (by omega) hR hS dX0_as_111
  · have hf := it_f hf c31
    by_cases c25 : k1 = 5
    · have hf := it_t hf c25
      obtain ⟨⟨v21, X20⟩, hv21, hf⟩ := bd_e hf
      refine xrun_i (va_runU (As := []) (rest := [.ref x0]) E.1 (tX3_number l hv21) (cwX0_363_X5 E.ht ⟨Nat.le_of_ble_eq_true rfl, Nat.le_of_ble_eq_true rfl⟩) (xPreV (ci := 5) E hR hS rfl (hk1.trans (congrArg some c25))) rfl rfl hl.1 rfl (lv_room (Nat.le_of_ble_eq_true rfl)) dX0_as_105 ⟨Nat.le_trans (by omega) (Nat.le_refl 4), Nat.le_trans (by omega) (Nat.le_refl 1217)⟩) hS (fun H locs hR hS => ?_)
      obtain ⟨u22, hu22, hf⟩ := bd_e hf
      obtain ⟨⟨v24, X23⟩, hv24, hf⟩ := bd_e hf
      refine xrun_i (va_runV (As := [.int v21]) (rest := []) E.1 (tX0_well l hv24) (cwX0_97 E.ht ⟨Nat.le_of_ble_eq_true rfl, Nat.le_of_ble_eq_true rfl⟩) (xPreV (ci := 0) E hR hS rfl (ck_e hu22)) rfl rfl hl.1 rfl (lv_room (Nat.le_of_ble_eq_true rfl)) dX0_as_108 ⟨Nat.le_trans (by omega) (Nat.le_refl 4), Nat.le_trans (by omega) (Nat.le_refl 1217)⟩) hS (fun H locs hR hS => ?_)
      obtain ⟨rfl, rfl⟩ := rt_e hf
      exact xret_i E (by omega) (by omega) hR hS dX0_as_111
    · have hf := it_f hf c25
      by_cases c19 : k1 = 6
      · have hf := it_t hf c19
        obtain ⟨⟨v15, X14⟩, hv15, hf⟩ := bd_e hf
        refine xrun_i (va_runU (As := []) (rest := [.ref x0]) E.1 (tX3_number l hv15) (cwX0_363_X6 E.ht ⟨Nat.le_of_ble_eq_true rfl, Nat.le_of_ble_eq_true rfl⟩) (xPreV (ci := 6) E hR hS rfl (hk1.trans (congrArg some c19))) rfl rfl hl.1 rfl (lv_room (Nat.le_of_ble_eq_true rfl)) dX0_as_105 ⟨Nat.le_trans (by omega) (Nat.le_refl 4), Nat.le_trans (by omega) (Nat.le_refl 1217)⟩) hS (fun H locs hR hS => ?_)
        obtain ⟨u16, hu16, hf⟩ := bd_e hf
        obtain ⟨⟨v18, X17⟩, hv18, hf⟩ := bd_e hf
        refine xrun_i (va_runV (As := [.int v15]) (rest := []) E.1 (tX0_well l hv18) (cwX0_97 E.ht ⟨Nat.le_of_ble_eq_true rfl, Nat.le_of_ble_eq_true rfl⟩) (xPreV (ci := 0) E hR hS rfl (ck_e hu16)) rfl rfl hl.1 rfl (lv_room (Nat.le_of_ble_eq_true rfl)) dX0_as_108 ⟨Nat.le_trans (by omega) (Nat.le_refl 4), Nat.le_trans (by omega) (Nat.le_refl 1217)⟩) hS (fun H locs hR hS => ?_)
        obtain ⟨rfl, rfl⟩ := rt_e hf
        exact xret_i E (by omega) (by omega) hR hS dX0_as_111
      · have hf := it_f hf c19
        by_cases c13 : k1 = 7
        · have hf := it_t hf c13
          obtain ⟨⟨v9, X8⟩, hv9, hf⟩ := bd_e hf
          refine xrun_i (va_runU (As := []) (rest := [.ref x0]) E.1 (tX3_number l hv9) (cwX0_363_X7 E.ht ⟨Nat.le_of_ble_eq_true rfl, Nat.le_of_ble_eq_true rfl⟩) (xPreV (ci := 7) E hR hS rfl (hk1.trans (congrArg some c13))) rfl rfl hl.1 rfl (lv_room (Nat.le_of_ble_eq_true rfl)) dX0_as_105 ⟨Nat.le_trans (by omega) (Nat.le_refl 4), Nat.le_trans (by omega) (Nat.le_refl 1217)⟩) hS (fun H locs hR hS => ?_)
          obtain ⟨u10, hu10, hf⟩ := bd_e hf
          obtain ⟨⟨v12, X11⟩, hv12, hf⟩ := bd_e hf
          refine xrun_i (va_runV (As := [.int v9]) (rest := []) E.1 (tX0_well l hv12) (cwX0_97 E.ht ⟨Nat.le_of_ble_eq_true rfl, Nat.le_of_ble_eq_true rfl⟩) (xPreV (ci := 0) E hR hS rfl (ck_e hu10)) rfl rfl hl.1 rfl (lv_room (Nat.le_of_ble_eq_true rfl)) dX0_as_108 ⟨Nat.le_trans (by omega) (Nat.le_refl 4), Nat.le_trans (by omega) (Nat.le_refl 1217)⟩) hS (fun H locs hR hS => ?_)
          obtain ⟨rfl, rfl⟩ := rt_e hf
          exact xret_i E (by omega) (by omega) hR hS dX0_as_111
        · have hf := it_f hf c13
          by_cases c7 : k1 = 8
          · have hf := it_t hf c7
            obtain ⟨⟨v3, X2⟩, hv3, hf⟩ := bd_e hf
            refine xrun_i (va_runU (As := []) (rest := [.ref x0]) E.1 (tX3_number l hv3) (cwX0_363_X8 E.ht ⟨Nat.le_of_ble_eq_true rfl, Nat.le_of_ble_eq_true rfl⟩) (xPreV (ci := 8) E hR hS rfl (hk1.trans (congrArg some c7))) rfl rfl hl.1 rfl (lv_room (Nat.le_of_ble_eq_true rfl)) dX0_as_105 ⟨Nat.le_trans (by omega) (Nat.le_refl 4), Nat.le_trans (by omega) (Nat.le_refl 1217)⟩) hS (fun H locs hR hS => ?_)
            obtain ⟨u4, hu4, hf⟩ := bd_e hf
            obtain ⟨⟨v6, X5⟩, hv6, hf⟩ := bd_e hf
            refine xrun_i (va_runV (As := [.int v3]) (rest := []) E.1 (tX0_well l hv6) (cwX0_97 E.ht ⟨Nat.le_of_ble_eq_true rfl, Nat.le_of_ble_eq_true rfl⟩) (xPreV (ci := 0) E hR hS rfl (ck_e hu4)) rfl rfl hl.1 rfl (lv_room (Nat.le_of_ble_eq_true rfl)) dX0_as_108 ⟨Nat.le_trans (by omega) (Nat.le_refl 4), Nat.le_trans (by omega) (Nat.le_refl 1217)⟩) hS (fun H locs hR hS => ?_)
            obtain ⟨rfl, rfl⟩ := rt_e hf
            exact xret_i E (by omega) (by omega) hR hS dX0_as_111
          · have hf := it_f hf c7
            have hf : none = some (r, Xf) := hf
            cases hf
def fX0_as_b112  (X : AH) (s0 : Nat) (x0 : Nat) : Option (Int32 × AH) :=
  (some (xnw X (.inl (10, [.null, .null, .null, .null, .null, .int 0, .int 0])))).bind fun X1 =>
  (fX10_init X1 X.1 3).bind fun X2 =>
  (ck X2 X.1 10).bind fun _ =>
  (ck X2 x0 0).bind fun _ =>
  (fX0_found X2 x0 X.1).bind fun (v7, X6) =>
  some (v7, X6)
theorem wX0_as_b112 (E : xE p m c cX0_as 5 s args RX0 D cA A Zs meth (some .int)) (ht : c.exceptionTable.toList.map (fun h => (h.startPc, h.endPc, h.handlerPc, h.catchType)) = [(40, 111, 112, 365), (23, 111, 123, 67), (112, 123, 123, 67)]) (hfl : l.flags = flags0) (F : xX A s) {X : AH} {s0 : Nat} {x0 : Nat} (hf : fX0_as_b112 X s0 x0 = some (r, Xf)) : ∀ (H : Heap) (locs : List Loc) (ls : Array Slot) (cells slots : Nat), cells + 1 ≤ 4 → slots + 7 ≤ 1217 → xR D cA A Zs X H → va_S A s.heap H locs → lv_has ls 5 [(0, .ref x0)] → W p l e rmX0_as s m args below meth c H locs cells slots (MQ below (xQi D cA A Zs r Xf) args s 4 1217 A) (F0 m 112 ls [.ref s0]) := by
  intro H locs ls cells slots hc hs hR hS hl
  refine lv_astore (lv' := [(4, .ref s0), (0, .ref x0)]) E.hx E.hb dX0_as_112 hl (by decide) rfl (fun ls hl => ?_)
  obtain ⟨X1, hX1, hf⟩ := bd_e hf
  refine xnew (ci := 10) E hR hS in_X10 tyX10 tyX10_ok q310 q323 q83 rfl dfX10 (Nat.le_trans (by omega) (Nat.le_refl 4)) (Nat.le_trans (by omega) (Nat.le_refl 1217)) dX0_as_114 (fun H hR hS => ?_)
  rw [Option.some.inj hX1] at hR
  refine lv_dup E.hx E.hb dX0_as_117 rfl ?_
  refine lv_iconst (v := 3) E.hx E.hb dX0_as_118 (by decide) ?_
  obtain ⟨X2, hX2, hf⟩ := bd_e hf
  refine xrun_v (va_runI (As := [.int 3]) (rest := [.ref X.1]) E.1 (tX10_init l hX2) (cwX0_76 E.ht ⟨Nat.le_of_ble_eq_true rfl, Nat.le_of_ble_eq_true rfl⟩) (xPreS E hR hS) rfl rfl hl.1 rfl (lv_room (Nat.le_of_ble_eq_true rfl)) dX0_as_119 ⟨Nat.le_trans (by omega) (Nat.le_refl 4), Nat.le_trans (by omega) (Nat.le_refl 1217)⟩) hS (fun H locs hR hS => ?_)
  obtain ⟨u4, hu4, hf⟩ := bd_e hf
  refine xathrow_catch (hp := [(40, 111, 112, 365), (23, 111, 123, 67)]) (q := (112, 123, 123, 67)) (hr' := []) (ci := 10) (name := "ChairRanks$Finding") E ht rfl (by decide) (by decide) (by decide) q310 rfl (E.2.1.2.1 ("ChairRanks$Finding", "ChairRanks$Finding") (by decide +kernel)) (ck_e hu4) hR dX0_as_122 ?_
  refine lv_astore_n (lv' := [(3, .ref X.1), (4, .ref s0), (0, .ref x0)]) E.hx E.hb dX0_as_123 rfl hl (by decide) rfl (fun ls hl => ?_)
  refine lv_aload_n E.hx E.hb dX0_as_124 rfl (lv_at hl 2 rfl) ?_
  refine lv_aload_n E.hx E.hb dX0_as_125 rfl (lv_at hl 0 rfl) ?_
  obtain ⟨u5, hu5, hf⟩ := bd_e hf
  obtain ⟨⟨v7, X6⟩, hv7, hf⟩ := bd_e hf
  refine xrun_i (va_runV (As := [.ref X.1]) (rest := []) E.1 (tX0_found l hv7) (cwX0_101 E.ht ⟨Nat.le_of_ble_eq_true rfl, Nat.le_of_ble_eq_true rfl⟩) (xPreV (ci := 0) E hR hS rfl (ck_e hu5)) rfl rfl hl.1 rfl (lv_room (Nat.le_of_ble_eq_true rfl)) dX0_as_126 ⟨Nat.le_trans (by omega) (Nat.le_refl 4), Nat.le_trans (by omega) (Nat.le_refl 1217)⟩) hS (fun H locs hR hS => ?_)
  obtain ⟨rfl, rfl⟩ := rt_e hf
  exact xret_i E (by omega) (by omega) hR hS dX0_as_129
def fX0_as  (X : AH) (x0 : Nat) (x1 : Int32) (x2 : Int32) : Option (Int32 × AH) :=
  (ck X x0 0).bind fun _ =>
  (fX0_isChair X x0 x1).bind fun (v3, X2) =>
  if v3 = 0 then (some ((-1000001), X2)) else ((fX0_isIn (x2.toInt64) 0 5).bind fun v5 =>
  if v5 = 0 then (some ((-1000001), X2)) else ((gR X2 x0 0 4).bind fun v7 =>
  (gR X2 v7 1 2).bind fun v8 =>
  (ck X2 v8 9).bind fun _ =>
  (fJ2_get X2 v8 x1).bind fun (v11, X10) =>
  (gCh X10 v11).bind fun v12 =>
  if x2 = 0 then (fX0_as_b100 X10 v11 x0) else (if x2 = 1 then ((gCh X10 v11).bind fun v30 =>
  if casts v30 4 = true then (fX0_as_b100 X10 v11 x0) else ((some (xsk X10)).bind fun X31 =>
  fX0_as_b112 X31 (X10.1 + 2) x0)) else (if x2 = 2 then ((gCh X10 v11).bind fun v27 =>
  if casts v27 5 = true then (fX0_as_b100 X10 v11 x0) else ((some (xsk X10)).bind fun X28 =>
  fX0_as_b112 X28 (X10.1 + 2) x0)) else (if x2 = 3 then ((gCh X10 v11).bind fun v24 =>
  if casts v24 6 = true then (fX0_as_b100 X10 v11 x0) else ((some (xsk X10)).bind fun X25 =>
  fX0_as_b112 X25 (X10.1 + 2) x0)) else (if x2 = 4 then ((gCh X10 v11).bind fun v21 =>
  if casts v21 7 = true then (fX0_as_b100 X10 v11 x0) else ((some (xsk X10)).bind fun X22 =>
  fX0_as_b112 X22 (X10.1 + 2) x0)) else ((gCh X10 v11).bind fun v18 =>
  if casts v18 8 = true then (fX0_as_b100 X10 v11 x0) else ((some (xsk X10)).bind fun X19 =>
  fX0_as_b112 X19 (X10.1 + 2) x0))))))))
theorem wX0_as_0 (E : xE p m c cX0_as 5 s args RX0 D cA A Zs meth (some .int)) (ht : c.exceptionTable.toList.map (fun h => (h.startPc, h.endPc, h.handlerPc, h.catchType)) = [(40, 111, 112, 365), (23, 111, 123, 67), (112, 123, 123, 67)]) (hfl : l.flags = flags0) (F : xX A s) {X : AH} {x0 : Nat} {x1 : Int32} {x2 : Int32} (hf : fX0_as X x0 x1 x2 = some (r, Xf)) : ∀ (H : Heap) (locs : List Loc) (ls : Array Slot) (cells slots : Nat), cells + 4 ≤ 4 → slots + 1217 ≤ 1217 → xR D cA A Zs X H → va_S A s.heap H locs → lv_has ls 5 [(0, .ref x0), (1, .int x1), (2, .int x2)] → W p l e rmX0_as s m args below meth c H locs cells slots (MQ below (xQi D cA A Zs r Xf) args s 4 1217 A) (F0 m 0 ls []) := by
  intro H locs ls cells slots hc hs hR hS hl
  refine lv_aload_n E.hx E.hb dX0_as_0 rfl (lv_at hl 0 rfl) ?_
  refine lv_iload_n E.hx E.hb dX0_as_1 rfl (lv_at hl 1 rfl) ?_
  obtain ⟨u1, hu1, hf⟩ := bd_e hf
  obtain ⟨⟨v3, X2⟩, hv3, hf⟩ := bd_e hf
  refine xrun_i (va_runV (As := [.int x1]) (rest := []) E.1 (tX0_isChair l hv3) (cwX0_196 E.ht ⟨Nat.le_of_ble_eq_true rfl, Nat.le_of_ble_eq_true rfl⟩) (xPreV (ci := 0) E hR hS rfl (ck_e hu1)) rfl rfl hl.1 rfl (lv_room (Nat.le_of_ble_eq_true rfl)) dX0_as_2 ⟨Nat.le_trans (by omega) (Nat.le_refl 4), Nat.le_trans (by omega) (Nat.le_refl 1217)⟩) hS (fun H locs hR hS => ?_)
  refine lv_if_eq (tgt := 20) E.hx E.hb dX0_as_5 (by decide) (fun c4 => ?_) (fun c4 => ?_)
  · have hf := it_t hf c4
    refine lv_ldc (v := (-1000001)) E.hx E.hb E.ho (E.ht _ q319) dX0_as_20 ?_
    obtain ⟨rfl, rfl⟩ := rt_e hf
    exact xret_i E (by omega) (by omega) hR hS dX0_as_22
  · have hf := it_f hf c4
    refine lv_iload_n E.hx E.hb dX0_as_8 rfl (lv_at hl 2 rfl) ?_
    refine lv_i2l E.hx E.hb dX0_as_9 rfl ?_
    refine lv_lconst (v := 0) E.hx E.hb dX0_as_10 (by decide) ?_
    refine lv_ldc2 (v := 5) E.hx E.hb E.ho (E.ht _ q931) dX0_as_11 ?_
    obtain ⟨v5, hv5, hf⟩ := bd_e hf
    refine scall_i (rest := []) E.1 (tX0_isIn l hv5) (cwX0_79 E.ht ⟨Nat.le_of_ble_eq_true rfl, Nat.le_of_ble_eq_true rfl⟩) rfl hl.1 rfl (Nat.le_of_ble_eq_true rfl) dX0_as_14 ⟨Nat.le_trans (by omega) (Nat.le_refl 4), Nat.le_trans (by omega) (Nat.le_refl 1217)⟩ ?_
    refine lv_if_ne (tgt := 23) E.hx E.hb dX0_as_17 (by decide) (fun c6 => ?_) (fun c6 => ?_)
    · have hf := it_f hf c6
      refine lv_aload_n E.hx E.hb dX0_as_23 rfl (lv_at hl 0 rfl) ?_
      obtain ⟨v7, hv7, hf⟩ := bd_e hf
      refine xgX0_39 E hR hv7 dX0_as_24 ?_
      obtain ⟨v8, hv8, hf⟩ := bd_e hf
      refine xgX0_351 E hR hv8 dX0_as_27 ?_
      refine lv_iload_n E.hx E.hb dX0_as_30 rfl (lv_at hl 1 rfl) ?_
      obtain ⟨u9, hu9, hf⟩ := bd_e hf
      obtain ⟨⟨v11, X10⟩, hv11, hf⟩ := bd_e hf
      refine xrun5_r (va_runF (As := [.int x1]) (rest := []) (xClassAt (ci := 9) E rfl) E.1 (tJ2_get l hv11) (cwX0_355_J2 E.ht (E.2.1.2.2.2.2.2.2.1 ("java/util/ArrayList", ⟨"java/util/List", "get", "(I)Ljava/lang/Object;"⟩, ⟨"java/util/ArrayList", "get", "(I)Ljava/lang/Object;"⟩) (by decide +kernel)) ⟨Nat.le_of_ble_eq_true rfl, Nat.le_of_ble_eq_true rfl⟩) (xPreV (ci := 9) E hR hS rfl (ck_e hu9)) rfl rfl hl.1 rfl (lv_room (Nat.le_of_ble_eq_true rfl)) dX0_as_31 ⟨Nat.le_trans (by omega) (Nat.le_refl 4), Nat.le_trans (by omega) (Nat.le_refl 1217)⟩) hS (fun H locs hR hS => ?_)
      obtain ⟨v12, hv12, hf⟩ := bd_e hf
      refine xcastC E hR hv12 q222 dX0_as_36 ?_
      refine lv_astore_n (lv' := [(3, .ref v11), (0, .ref x0), (1, .int x1), (2, .int x2)]) E.hx E.hb dX0_as_39 rfl hl (by decide) rfl (fun ls hl => ?_)
      refine lv_iload_n E.hx E.hb dX0_as_40 rfl (lv_at hl 3 rfl) ?_
      refine lv_if_ne (tgt := 48) E.hx E.hb dX0_as_41 (by decide) (fun c13 => ?_) (fun c13 => ?_)
      · have hf := it_f hf c13
        refine lv_iload_n E.hx E.hb dX0_as_48 rfl (lv_at hl 3 rfl) ?_
        refine lv_iconst (v := 1) E.hx E.hb dX0_as_49 (by decide) ?_
        refine lv_icmp_ne (tgt := 60) E.hx E.hb dX0_as_50 (by decide) (fun c14 => ?_) (fun c14 => ?_)
        · have hf := it_f hf c14
          refine lv_iload_n E.hx E.hb dX0_as_60 rfl (lv_at hl 3 rfl) ?_
          refine lv_iconst (v := 2) E.hx E.hb dX0_as_61 (by decide) ?_
          refine lv_icmp_ne (tgt := 72) E.hx E.hb dX0_as_62 (by decide) (fun c15 => ?_) (fun c15 => ?_)
          · have hf := it_f hf c15
            refine lv_iload_n E.hx E.hb dX0_as_72 rfl (lv_at hl 3 rfl) ?_
            refine lv_iconst (v := 3) E.hx E.hb dX0_as_73 (by decide) ?_
            refine lv_icmp_ne (tgt := 84) E.hx E.hb dX0_as_74 (by decide) (fun c16 => ?_) (fun c16 => ?_)
            · have hf := it_f hf c16
              refine lv_iload_n E.hx E.hb dX0_as_84 rfl (lv_at hl 3 rfl) ?_
              refine lv_iconst (v := 4) E.hx E.hb dX0_as_85 (by decide) ?_
              refine lv_icmp_ne (tgt := 96) E.hx E.hb dX0_as_86 (by decide) (fun c17 => ?_) (fun c17 => ?_)
              · have hf := it_f hf c17
                refine lv_aload_n E.hx E.hb dX0_as_96 rfl (lv_at hl 0 rfl) ?_
                obtain ⟨v18, hv18, hf⟩ := bd_e hf
                refine xcastK (v := v18) (K := 8) (hp := []) (q := (40, 111, 112, 365)) (hr' := [(23, 111, 123, 67), (112, 123, 123, 67)]) E hfl F ht rfl (by decide) (by decide) (by decide) q1099 hR hS hl.1 ⟨by decide, by decide⟩ rfl hv18 q261 dX0_as_97 (Nat.le_of_ble_eq_true rfl) (Nat.le_of_ble_eq_true rfl) (Nat.le_trans (by omega) (Nat.le_refl 4)) (Nat.le_trans (by omega) (Nat.le_refl 1217)) (fun c20 => ?_) (fun c20 H locs hR hS => ?_)
                · have hf := it_t hf c20
                  exact wX0_as_b100 E ht hfl F  hf _ _ _ _ _ (by omega) (by omega) hR hS (lv_sub hl [1] rfl)
                · have hf := it_f hf c20
                  obtain ⟨X19, hX19, hf⟩ := bd_e hf
                  rw [Option.some.inj hX19] at hR
                  exact wX0_as_b112 E ht hfl F  hf _ _ _ _ _ (by omega) (by omega) hR hS (lv_sub hl [1] rfl)
              · have hf := it_t hf c17
                refine lv_aload_n E.hx E.hb dX0_as_89 rfl (lv_at hl 0 rfl) ?_
                obtain ⟨v21, hv21, hf⟩ := bd_e hf
                refine xcastK (v := v21) (K := 7) (hp := []) (q := (40, 111, 112, 365)) (hr' := [(23, 111, 123, 67), (112, 123, 123, 67)]) E hfl F ht rfl (by decide) (by decide) (by decide) q1099 hR hS hl.1 ⟨by decide, by decide⟩ rfl hv21 q253 dX0_as_90 (Nat.le_of_ble_eq_true rfl) (Nat.le_of_ble_eq_true rfl) (Nat.le_trans (by omega) (Nat.le_refl 4)) (Nat.le_trans (by omega) (Nat.le_refl 1217)) (fun c23 => ?_) (fun c23 H locs hR hS => ?_)
                · have hf := it_t hf c23
                  refine lv_goto (tgt := 100) E.hx E.hb dX0_as_93 (by decide) ?_
                  exact wX0_as_b100 E ht hfl F  hf _ _ _ _ _ (by omega) (by omega) hR hS (lv_sub hl [1] rfl)
                · have hf := it_f hf c23
                  obtain ⟨X22, hX22, hf⟩ := bd_e hf
                  rw [Option.some.inj hX22] at hR
                  exact wX0_as_b112 E ht hfl F  hf _ _ _ _ _ (by omega) (by omega) hR hS (lv_sub hl [1] rfl)
            · have hf := it_t hf c16
              refine lv_aload_n E.hx E.hb dX0_as_77 rfl (lv_at hl 0 rfl) ?_
              obtain ⟨v24, hv24, hf⟩ := bd_e hf
              refine xcastK (v := v24) (K := 6) (hp := []) (q := (40, 111, 112, 365)) (hr' := [(23, 111, 123, 67), (112, 123, 123, 67)]) E hfl F ht rfl (by decide) (by decide) (by decide) q1099 hR hS hl.1 ⟨by decide, by decide⟩ rfl hv24 q245 dX0_as_78 (Nat.le_of_ble_eq_true rfl) (Nat.le_of_ble_eq_true rfl) (Nat.le_trans (by omega) (Nat.le_refl 4)) (Nat.le_trans (by omega) (Nat.le_refl 1217)) (fun c26 => ?_) (fun c26 H locs hR hS => ?_)
              · have hf := it_t hf c26
                refine lv_goto (tgt := 100) E.hx E.hb dX0_as_81 (by decide) ?_
                exact wX0_as_b100 E ht hfl F  hf _ _ _ _ _ (by omega) (by omega) hR hS (lv_sub hl [1] rfl)
              · have hf := it_f hf c26
                obtain ⟨X25, hX25, hf⟩ := bd_e hf
                rw [Option.some.inj hX25] at hR
                exact wX0_as_b112 E ht hfl F  hf _ _ _ _ _ (by omega) (by omega) hR hS (lv_sub hl [1] rfl)
          · have hf := it_t hf c15
            refine lv_aload_n E.hx E.hb dX0_as_65 rfl (lv_at hl 0 rfl) ?_
            obtain ⟨v27, hv27, hf⟩ := bd_e hf
            refine xcastK (v := v27) (K := 5) (hp := []) (q := (40, 111, 112, 365)) (hr' := [(23, 111, 123, 67), (112, 123, 123, 67)]) E hfl F ht rfl (by decide) (by decide) (by decide) q1099 hR hS hl.1 ⟨by decide, by decide⟩ rfl hv27 q237 dX0_as_66 (Nat.le_of_ble_eq_true rfl) (Nat.le_of_ble_eq_true rfl) (Nat.le_trans (by omega) (Nat.le_refl 4)) (Nat.le_trans (by omega) (Nat.le_refl 1217)) (fun c29 => ?_) (fun c29 H locs hR hS => ?_)
            · have hf := it_t hf c29
              refine lv_goto (tgt := 100) E.hx E.hb dX0_as_69 (by decide) ?_
              exact wX0_as_b100 E ht hfl F  hf _ _ _ _ _ (by omega) (by omega) hR hS (lv_sub hl [1] rfl)
            · have hf := it_f hf c29
              obtain ⟨X28, hX28, hf⟩ := bd_e hf
              rw [Option.some.inj hX28] at hR
              exact wX0_as_b112 E ht hfl F  hf _ _ _ _ _ (by omega) (by omega) hR hS (lv_sub hl [1] rfl)
        · have hf := it_t hf c14
          refine lv_aload_n E.hx E.hb dX0_as_53 rfl (lv_at hl 0 rfl) ?_
          obtain ⟨v30, hv30, hf⟩ := bd_e hf
          refine xcastK (v := v30) (K := 4) (hp := []) (q := (40, 111, 112, 365)) (hr' := [(23, 111, 123, 67), (112, 123, 123, 67)]) E hfl F ht rfl (by decide) (by decide) (by decide) q1099 hR hS hl.1 ⟨by decide, by decide⟩ rfl hv30 q224 dX0_as_54 (Nat.le_of_ble_eq_true rfl) (Nat.le_of_ble_eq_true rfl) (Nat.le_trans (by omega) (Nat.le_refl 4)) (Nat.le_trans (by omega) (Nat.le_refl 1217)) (fun c32 => ?_) (fun c32 H locs hR hS => ?_)
          · have hf := it_t hf c32
            refine lv_goto (tgt := 100) E.hx E.hb dX0_as_57 (by decide) ?_
            exact wX0_as_b100 E ht hfl F  hf _ _ _ _ _ (by omega) (by omega) hR hS (lv_sub hl [1] rfl)
          · have hf := it_f hf c32
            obtain ⟨X31, hX31, hf⟩ := bd_e hf
            rw [Option.some.inj hX31] at hR
            exact wX0_as_b112 E ht hfl F  hf _ _ _ _ _ (by omega) (by omega) hR hS (lv_sub hl [1] rfl)
      · have hf := it_t hf c13
        refine lv_aload_n E.hx E.hb dX0_as_44 rfl (lv_at hl 0 rfl) ?_
        refine lv_goto (tgt := 100) E.hx E.hb dX0_as_45 (by decide) ?_
        exact wX0_as_b100 E ht hfl F  hf _ _ _ _ _ (by omega) (by omega) hR hS (lv_sub hl [1] rfl)
    · have hf := it_t hf c6
      refine lv_ldc (v := (-1000001)) E.hx E.hb E.ho (E.ht _ q319) dX0_as_20 ?_
      obtain ⟨rfl, rfl⟩ := rt_e hf
      exact xret_i E (by omega) (by omega) hR hS dX0_as_22
theorem tX0_as (l : Launch) (hfl : l.flags = flags0) {D : va_G} {cA : Nat → ClassId} {A : Nat → Prop} {Zs : XZ} {X Xf : AH} {x0 : Nat} {x1 : Int32} {x2 : Int32} {r : Int32} (hf : fX0_as X x0 x1 x2 = some (r, Xf)) : Met l yX0_as (wsW_ yX0_as cX0_as 5 (some .int) [(40, 111, 112, 365), (23, 111, 123, 67), (112, 123, 123, 67)]) rmX0_as (xPcX D cA A Zs X [.ref x0, .int x1, .int x2]) (xQi D cA A Zs r Xf) 4 1217 A := by
  refine Met.ofWH (cc := cX0_as) (maxL := 5) (ret := (some .int)) (by decide) rfl ?_
  intro p e s m args below meth c s₁ B hml ht hv
  obtain ⟨rfl, hR, hK, hF⟩ := hv
  have hts := atoms_spec (ws := (wsW_ yX0_as cX0_as 5 (some .int) [(40, 111, 112, 365), (23, 111, 123, 67), (112, 123, 123, 67)])) B.pre
  rw [lg_entry_eq]
  exact wX0_as_0 (E := ⟨⟨B.exec, B.bytes, hml, findClass_of_methodNamed B.named, fun w h => hts w (List.mem_cons_of_mem _ h)⟩, hK, B.returns, B.notSynchronized⟩) ht hfl hF hf _ _ _ 0 0 (Nat.le_of_ble_eq_true rfl) (Nat.le_of_ble_eq_true rfl) hR va_S.rf (lv_entry [.ref x0, .int x1, .int x2] (n := 5) (Nat.le_of_ble_eq_true rfl))
end
