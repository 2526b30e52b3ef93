set_option maxRecDepth 100000
section
variable {p : Program} {l : Launch} {e : Env} {R : Room} {s : State} {m : MethodId} {args : Array Value} {below : List Frame} {meth : Method} {c : Code} {H : Heap} {locs : List Loc} {cells slots : Nat} {Q : State → Prop} {cc : ByteArray} {pc nL : Nat} {ls : Array Slot} {rest : List Value} {D : va_G} {cA : Nat → ClassId} {A : Nat → Prop} {Zs : XZ} {X X' : AH} {ret : Option FieldType} {a : Nat}
theorem xgX4_24 {v : Nat} (E : xE p m c cc nL s args RX4 D cA A Zs meth ret) (hR : xR D cA A Zs X H) (h : gR X a 1 4 = some v) (hdg : decode cc pc = .ok (.getfield 24, 3)) (kk : W p l e R s m args below meth c H locs cells slots Q (F0 m (pc + 3) ls (.ref v :: rest))) : W p l e R s m args below meth c H locs cells slots Q (F0 m pc ls (.ref a :: rest)) :=
  xget (ci := 1) (k := 4) E hR in_X1 rfl (by decide) q159 (fun _ h => h) (gR_e h) hdg kk
theorem dfX2 : ∀ j, j < 2 → defaultValue (tyX2 j) = vp_V [.null, .int 0] j := fun j hj => by
  match j, hj with
  | 0, _ => rfl
  | 1, _ => rfl
  | j + 2, h => exact absurd h (by omega)
theorem xpX0_56 {x : Nat} (E : xE p m c cc nL s args RX0 D cA A Zs meth ret) (hR : xR D cA A Zs X H) (hS : va_S A s.heap H locs) (h : pF X a 0 9 (.ref x) = some X') (hdg : decode cc pc = .ok (.putfield 56, 3)) (kk : ∀ (H : Heap) (locs : List Loc), xR D cA A Zs X' H → va_S A s.heap H locs → W p l e R s m args below meth c H locs cells slots Q (F0 m (pc + 3) ls rest)) : W p l e R s m args below meth c H locs cells slots Q (F0 m pc ls (.ref x :: .ref a :: rest)) :=
  xput (ci := 0) (k := 9) E hR hS in_X0 tyX0 tyX0_ok nmX0 rfl (by decide) q278 (fun _ h => h) rfl (ty := (.object "ChairRanks$Trail")) rfl rfl rfl h hdg kk
end
abbrev rmX4_mark : Room := { frames := 3, cells := 0, slots := 0, locals := 55 }
theorem cwX4_30_X4 {R : Room} {s : State} {args : Array Value} (ht : ∀ w ∈ lw_all, w.before args s = true) (hd : va_Decl s ⟨"ChairRanks$Chair", "number", "()I"⟩) (hR : rmX3_number.frames + 1 ≤ R.frames ∧ 8 + (1 + 11) + rmX3_number.locals ≤ R.locals) : va_CU R s args RX4 "ChairRanks$Plain" "ChairRanks$Chair" 30 ⟨"ChairRanks$Plain", "number", "()I"⟩ yX3_number cX3_number 1 (some .int) (ws_ yX3_number cX3_number 1 (some .int)) rmX3_number 0 0 0 :=
  xCU (ws := (ws_ yX3_number cX3_number 1 (some .int))) ht (lw_meth q1121) rfl rfl rfl q1177 q1178 hd q1181 q1114 q74 (by decide +kernel) hR
theorem cwX4_30_X5 {R : Room} {s : State} {args : Array Value} (ht : ∀ w ∈ lw_all, w.before args s = true) (hd : va_Decl s ⟨"ChairRanks$Chair", "number", "()I"⟩) (hR : rmX3_number.frames + 1 ≤ R.frames ∧ 8 + (1 + 11) + rmX3_number.locals ≤ R.locals) : va_CU R s args RX4 "ChairRanks$Rocker" "ChairRanks$Chair" 30 ⟨"ChairRanks$Plain", "number", "()I"⟩ yX3_number cX3_number 1 (some .int) (ws_ yX3_number cX3_number 1 (some .int)) rmX3_number 0 0 0 :=
  xCU (ws := (ws_ yX3_number cX3_number 1 (some .int))) ht (lw_meth q1121) rfl rfl rfl q1177 q1178 hd q1182 q1114 q74 (by decide +kernel) hR
theorem cwX4_30_X6 {R : Room} {s : State} {args : Array Value} (ht : ∀ w ∈ lw_all, w.before args s = true) (hd : va_Decl s ⟨"ChairRanks$Chair", "number", "()I"⟩) (hR : rmX3_number.frames + 1 ≤ R.frames ∧ 8 + (1 + 11) + rmX3_number.locals ≤ R.locals) : va_CU R s args RX4 "ChairRanks$Cushioned" "ChairRanks$Chair" 30 ⟨"ChairRanks$Plain", "number", "()I"⟩ yX3_number cX3_number 1 (some .int) (ws_ yX3_number cX3_number 1 (some .int)) rmX3_number 0 0 0 :=
  xCU (ws := (ws_ yX3_number cX3_number 1 (some .int))) ht (lw_meth q1121) rfl rfl rfl q1177 q1178 hd q1180 q1114 q74 (by decide +kernel) hR
theorem cwX4_9 {R : Room} {s : State} {args : Array Value} (ht : ∀ w ∈ lw_all, w.before args s = true) (hR : rmX2_begins.frames + 1 ≤ R.frames ∧ 8 + (2 + 11) + rmX2_begins.locals ≤ R.locals) : CallW R s args RX4 RX2 9 yX2_begins cX2_begins 2 none (ws_ yX2_begins cX2_begins 2 none) rmX2_begins 0 0 1 :=
  cwV 1 ht (lw_V q1132 q1133 q1134 q73 q1135) rfl rfl rfl (by decide +kernel) hR
section
variable {p : Program} {l : Launch} {e : Env} {s : State} {m : MethodId} {args : Array Value} {below : List Frame} {meth : Method} {c : Code} {D : va_G} {cA : Nat → ClassId} {A : Nat → Prop} {Zs : XZ} {Xf : AH} {r : Int32} {rl : Int64} {ra : Nat} {tv : Unit ⊕ Nat} {ti : Int32 ⊕ Nat} {tr : Nat ⊕ Nat} {q2 : Option Nat}
def fX4_mark  (X : AH) (x0 : Nat) (x1 : Nat) (x2 : Nat) : Option (Int32 × AH) :=
  (ck X x1 2).bind fun _ =>
  (fX2_begins X x1 21).bind fun X2 =>
  (gC X2 x0).bind fun k4 =>
  if k4 = 4 then ((fX14_mark X2 x0 x1 x2).bind fun (v40, X39) =>
  (gR X39 x2 1 4).bind fun v41 =>
  (gC X39 x0).bind fun k42 =>
  if k42 = 4 then ((fX3_number X39 x0).bind fun (v52, X51) =>
  (gA X51 v41 0 v52).bind fun v53 =>
  some ((v40 + v53), X51)) else (if k42 = 5 then ((fX3_number X39 x0).bind fun (v48, X47) =>
  (gA X47 v41 0 v48).bind fun v49 =>
  some ((v40 + v49), X47)) else (if k42 = 6 then ((fX3_number X39 x0).bind fun (v44, X43) =>
  (gA X43 v41 0 v44).bind fun v45 =>
  some ((v40 + v45), X43)) else none))) else (if k4 = 5 then ((fX14_mark X2 x0 x1 x2).bind fun (v23, X22) =>
  (gR X22 x2 1 4).bind fun v24 =>
  (gC X22 x0).bind fun k25 =>
  if k25 = 4 then ((fX3_number X22 x0).bind fun (v35, X34) =>
  (gA X34 v24 0 v35).bind fun v36 =>
  some ((v23 + v36), X34)) else (if k25 = 5 then ((fX3_number X22 x0).bind fun (v31, X30) =>
  (gA X30 v24 0 v31).bind fun v32 =>
  some ((v23 + v32), X30)) else (if k25 = 6 then ((fX3_number X22 x0).bind fun (v27, X26) =>
  (gA X26 v24 0 v27).bind fun v28 =>
  some ((v23 + v28), X26)) else none))) else (if k4 = 6 then ((fX14_mark X2 x0 x1 x2).bind fun (v6, X5) =>
  (gR X5 x2 1 4).bind fun v7 =>
  (gC X5 x0).bind fun k8 =>
  if k8 = 4 then ((fX3_number X5 x0).bind fun (v18, X17) =>
  (gA X17 v7 0 v18).bind fun v19 =>
  some ((v6 + v19), X17)) else (if k8 = 5 then ((fX3_number X5 x0).bind fun (v14, X13) =>
  (gA X13 v7 0 v14).bind fun v15 =>
  some ((v6 + v15), X13)) else (if k8 = 6 then ((fX3_number X5 x0).bind fun (v10, X9) =>
  (gA X9 v7 0 v10).bind fun v11 =>
  some ((v6 + v11), X9)) else none))) else none))
theorem wX4_mark_0 (E : xE p m c cX4_mark 3 s args RX4 D cA A Zs meth (some .int)) (M : xM s) {X : AH} {x0 : Nat} {x1 : Nat} {x2 : Nat} (hf : fX4_mark X x0 x1 x2 = some (r, Xf)) : ∀ (H : Heap) (locs : List Loc) (ls : Array Slot) (cells slots : Nat), cells + 0 ≤ 0 → slots + 0 ≤ 0 → xR D cA A Zs X H → va_S A s.heap H locs → lv_has ls 3 [(0, .ref x0), (1, .ref x1), (2, .ref x2)] → W p l e rmX4_mark s m args below meth c H locs cells slots (MQ below (xQi D cA A Zs r Xf) args s 0 0 A) (F0 m 0 ls []) := by
  intro H locs ls cells slots hc hs hR hS hl
  refine lv_aload_n E.hx E.hb dX4_mark_0 rfl (lv_at hl 1 rfl) ?_
  refine lv_bipush (v := 21) E.hx E.hb dX4_mark_1 (by decide) ?_
  obtain ⟨u1, hu1, hf⟩ := bd_e hf
  obtain ⟨X2, hX2, hf⟩ := bd_e hf
  refine xrun_v (va_runV (As := [.int 21]) (rest := []) E.1 (tX2_begins l hX2) (cwX4_9 E.ht ⟨Nat.le_of_ble_eq_true rfl, Nat.le_of_ble_eq_true rfl⟩) (xPreV (ci := 2) E hR hS rfl (ck_e hu1)) rfl rfl hl.1 rfl (lv_room (Nat.le_of_ble_eq_true rfl)) dX4_mark_3 ⟨Nat.le_trans (by omega) (Nat.le_refl 0), Nat.le_trans (by omega) (Nat.le_refl 0)⟩) hS (fun H locs hR hS => ?_)
  refine lv_aload_n E.hx E.hb dX4_mark_6 rfl (lv_at hl 0 rfl) ?_
  refine lv_aload_n E.hx E.hb dX4_mark_7 rfl (lv_at hl 1 rfl) ?_
  refine lv_aload_n E.hx E.hb dX4_mark_8 rfl (lv_at hl 2 rfl) ?_
  obtain ⟨k4, hk4, hf⟩ := bd_e hf
  by_cases c55 : k4 = 4
  · have hf := it_t hf c55
    obtain ⟨⟨v40, X39⟩, hv40, hf⟩ := bd_e hf
    refine xrun_i (runSD (ci := 4) (rest := []) E M hR hS (by decide +kernel) q236 rfl (hk4.trans (congrArg some c55)) hv40 hl.1 (Nat.le_of_ble_eq_true rfl) dX4_mark_9 ⟨Nat.le_of_ble_eq_true rfl, Nat.le_of_ble_eq_true rfl⟩ ⟨Nat.le_trans (by omega) (Nat.le_refl 0), Nat.le_trans (by omega) (Nat.le_refl 0)⟩) hS (fun H locs hR hS => ?_)
    refine lv_aload_n E.hx E.hb dX4_mark_12 rfl (lv_at hl 2 rfl) ?_
    obtain ⟨v41, hv41, hf⟩ := bd_e hf
    refine xgX4_24 E hR hv41 dX4_mark_13 ?_
    refine lv_aload_n E.hx E.hb dX4_mark_16 rfl (lv_at hl 0 rfl) ?_
    obtain ⟨k42, hk42, hf⟩ := bd_e hf
    by_cases c54 : k42 = 4
    · have hf := it_t hf c54
      obtain ⟨⟨v52, X51⟩, hv52, hf⟩ := bd_e hf
      refine xrun_i (va_runU (As := []) (rest := [.ref v41, .int v40]) E.1 (tX3_number l hv52) (cwX4_30_X4 E.ht (va_Decl.abs (E.2.1.2.2.1 ⟨"ChairRanks$Chair", "number", "()I"⟩ (by decide +kernel))) ⟨Nat.le_of_ble_eq_true rfl, Nat.le_of_ble_eq_true rfl⟩) (xPreV (ci := 4) E hR hS rfl (hk42.trans (congrArg some c54))) rfl rfl hl.1 rfl (lv_room (Nat.le_of_ble_eq_true rfl)) dX4_mark_17 ⟨Nat.le_trans (by omega) (Nat.le_refl 0), Nat.le_trans (by omega) (Nat.le_refl 0)⟩) hS (fun H locs hR hS => ?_)
      obtain ⟨v53, hv53, hf⟩ := bd_e hf
      refine xild E hR hv53 dX4_mark_20 ?_
      refine lv_iadd E.hx E.hb dX4_mark_21 ?_
      obtain ⟨rfl, rfl⟩ := rt_e hf
      exact xret_i E (by omega) (by omega) hR hS dX4_mark_22
    · have hf := it_f hf c54
      by_cases c50 : k42 = 5
      · have hf := it_t hf c50
        obtain ⟨⟨v48, X47⟩, hv48, hf⟩ := bd_e hf
        refine xrun_i (va_runU (As := []) (rest := [.ref v41, .int v40]) E.1 (tX3_number l hv48) (cwX4_30_X5 E.ht (va_Decl.abs (E.2.1.2.2.1 ⟨"ChairRanks$Chair", "number", "()I"⟩ (by decide +kernel))) ⟨Nat.le_of_ble_eq_true rfl, Nat.le_of_ble_eq_true rfl⟩) (xPreV (ci := 5) E hR hS rfl (hk42.trans (congrArg some c50))) rfl rfl hl.1 rfl (lv_room (Nat.le_of_ble_eq_true rfl)) dX4_mark_17 ⟨Nat.le_trans (by omega) (Nat.le_refl 0), Nat.le_trans (by omega) (Nat.le_refl 0)⟩) hS (fun H locs hR hS => ?_)
        obtain ⟨v49, hv49, hf⟩ := bd_e hf
        refine xild E hR hv49 dX4_mark_20 ?_
        refine lv_iadd E.hx E.hb dX4_mark_21 ?_
        obtain ⟨rfl, rfl⟩ := rt_e hf
        exact xret_i E (by omega) (by omega) hR hS dX4_mark_22
      · have hf := it_f hf c50
        by_cases c46 : k42 = 6
        · have hf := it_t hf c46
          obtain ⟨⟨v44, X43⟩, hv44, hf⟩ := bd_e hf
          refine xrun_i (va_runU (As := []) (rest := [.ref v41, .int v40]) E.1 (tX3_number l hv44) (cwX4_30_X6 E.ht (va_Decl.abs (E.2.1.2.2.1 ⟨"ChairRanks$Chair", "number", "()I"⟩ (by decide +kernel))) ⟨Nat.le_of_ble_eq_true rfl, Nat.le_of_ble_eq_true rfl⟩) (xPreV (ci := 6) E hR hS rfl (hk42.trans (congrArg some c46))) rfl rfl hl.1 rfl (lv_room (Nat.le_of_ble_eq_true rfl)) dX4_mark_17 ⟨Nat.le_trans (by omega) (Nat.le_refl 0), Nat.le_trans (by omega) (Nat.le_refl 0)⟩) hS (fun H locs hR hS => ?_)
          obtain ⟨v45, hv45, hf⟩ := bd_e hf
          refine xild E hR hv45 dX4_mark_20 ?_
          refine lv_iadd E.hx E.hb dX4_mark_21 ?_
          obtain ⟨rfl, rfl⟩ := rt_e hf
          exact xret_i E (by omega) (by omega) hR hS dX4_mark_22
        · have hf := it_f hf c46
          have hf : none = some (r, Xf) := hf
          cases hf
  · have hf := it_f hf c55
    by_cases c38 : k4 = 5
    · have hf := it_t hf c38
      obtain ⟨⟨v23, X22⟩, hv23, hf⟩ := bd_e hf
      refine xrun_i (runSD (ci := 5) (rest := []) E M hR hS (by decide +kernel) q236 rfl (hk4.trans (congrArg some c38)) hv23 hl.1 (Nat.le_of_ble_eq_true rfl) dX4_mark_9 ⟨Nat.le_of_ble_eq_true rfl, Nat.le_of_ble_eq_true rfl⟩ ⟨Nat.le_trans (by omega) (Nat.le_refl 0), Nat.le_trans (by omega) (Nat.le_refl 0)⟩) hS (fun H locs hR hS => ?_)
      refine lv_aload_n E.hx E.hb dX4_mark_12 rfl (lv_at hl 2 rfl) ?_
      obtain ⟨v24, hv24, hf⟩ := bd_e hf
      refine xgX4_24 E hR hv24 dX4_mark_13 ?_
      refine lv_aload_n E.hx E.hb dX4_mark_16 rfl (lv_at hl 0 rfl) ?_
      obtain ⟨k25, hk25, hf⟩ := bd_e hf
      by_cases c37 : k25 = 4
      · have hf := it_t hf c37
        obtain ⟨⟨v35, X34⟩, hv35, hf⟩ := bd_e hf
        refine xrun_i (va_runU (As := []) (rest := [.ref v24, .int v23]) E.1 (tX3_number l hv35) (cwX4_30_X4 E.ht (va_Decl.abs (E.2.1.2.2.1 ⟨"ChairRanks$Chair", "number", "()I"⟩ (by decide +kernel))) ⟨Nat.le_of_ble_eq_true rfl, Nat.le_of_ble_eq_true rfl⟩) (xPreV (ci := 4) E hR hS rfl (hk25.trans (congrArg some c37))) rfl rfl hl.1 rfl (lv_room (Nat.le_of_ble_eq_true rfl)) dX4_mark_17 ⟨Nat.le_trans (by omega) (Nat.le_refl 0), Nat.le_trans (by omega) (Nat.le_refl 0)⟩) hS (fun H locs hR hS => ?_)
        obtain ⟨v36, hv36, hf⟩ := bd_e hf
        refine xild E hR hv36 dX4_mark_20 ?_
        refine lv_iadd E.hx E.hb dX4_mark_21 ?_
        obtain ⟨rfl, rfl⟩ := rt_e hf
        exact xret_i E (by omega) (by omega) hR hS dX4_mark_22
      · have hf := it_f hf c37
        by_cases c33 : k25 = 5
        · have hf := it_t hf c33
          obtain ⟨⟨v31, X30⟩, hv31, hf⟩ := bd_e hf
          refine xrun_i (va_runU (As := []) (rest := [.ref v24, .int v23]) E.1 (tX3_number l hv31) (cwX4_30_X5 E.ht (va_Decl.abs (E.2.1.2.2.1 ⟨"ChairRanks$Chair", "number", "()I"⟩ (by decide +kernel))) ⟨Nat.le_of_ble_eq_true rfl, Nat.le_of_ble_eq_true rfl⟩) (xPreV (ci := 5) E hR hS rfl (hk25.trans (congrArg some c33))) rfl rfl hl.1 rfl (lv_room (Nat.le_of_ble_eq_true rfl)) dX4_mark_17 ⟨Nat.le_trans (by omega) (Nat.le_refl 0), Nat.le_trans (by omega) (Nat.le_refl 0)⟩) hS (fun H locs hR hS => ?_)
          obtain ⟨v32, hv32, hf⟩ := bd_e hf
          refine xild E hR hv32 dX4_mark_20 ?_
          refine lv_iadd E.hx E.hb dX4_mark_21 ?_
          obtain ⟨rfl, rfl⟩ := rt_e hf
          exact xret_i E (by omega) (by omega) hR hS dX4_mark_22
        · have hf := it_f hf c33
          by_cases c29 : k25 = 6
          · have hf := it_t hf c29
            obtain ⟨⟨v27, X26⟩, hv27, hf⟩ := bd_e hf
            refine xrun_i (va_runU (As := []) (rest := [.ref v24, .int v23]) E.1 (tX3_number l hv27) (cwX4_30_X6 E.ht (va_Decl.abs (E.2.1.2.2.1 ⟨"ChairRanks$Chair", "number", "()I"⟩ (by decide +kernel))) ⟨Nat.le_of_ble_eq_true rfl, Nat.le_of_ble_eq_true rfl⟩) (xPreV (ci := 6) E hR hS rfl (hk25.trans (congrArg some c29))) rfl rfl hl.1 rfl (lv_room (Nat.le_of_ble_eq_true rfl)) dX4_mark_17 ⟨Nat.le_trans (by omega) (Nat.le_refl 0), Nat.le_trans (by omega) (Nat.le_refl 0)⟩) hS (fun H locs hR hS => ?_)
            obtain ⟨v28, hv28, hf⟩ := bd_e hf
            refine xild E hR hv28 dX4_mark_20 ?_
            refine lv_iadd E.hx E.hb dX4_mark_21 ?_
            obtain ⟨rfl, rfl⟩ := rt_e hf
            exact xret_i E (by omega) (by omega) hR hS dX4_mark_22
          · have hf := it_f hf c29
            have hf : none = some (r, Xf) := hf
            cases hf
    · have hf := it_f hf c38
      by_cases c21 : k4 = 6
      · have hf := it_t hf c21
        obtain ⟨⟨v6, X5⟩, hv6, hf⟩ := bd_e hf
        refine xrun_i (runSD (ci := 6) (rest := []) E M hR hS (by decide +kernel) q236 rfl (hk4.trans (congrArg some c21)) hv6 hl.1 (Nat.le_of_ble_eq_true rfl) dX4_mark_9 ⟨Nat.le_of_ble_eq_true rfl, Nat.le_of_ble_eq_true rfl⟩ ⟨Nat.le_trans (by omega) (Nat.le_refl 0), Nat.le_trans (by omega) (Nat.le_refl 0)⟩) hS (fun H locs hR hS => ?_)
        refine lv_aload_n E.hx E.hb dX4_mark_12 rfl (lv_at hl 2 rfl) ?_
        obtain ⟨v7, hv7, hf⟩ := bd_e hf
        refine xgX4_24 E hR hv7 dX4_mark_13 ?_
        refine lv_aload_n E.hx E.hb dX4_mark_16 rfl (lv_at hl 0 rfl) ?_
        obtain ⟨k8, hk8, hf⟩ := bd_e hf
        by_cases c20 : k8 = 4
        · have hf := it_t hf c20
          obtain ⟨⟨v18, X17⟩, hv18, hf⟩ := bd_e hf
          refine xrun_i (va_runU (As := []) (rest := [.ref v7, .int v6]) E.1 (tX3_number l hv18) (cwX4_30_X4 E.ht (va_Decl.abs (E.2.1.2.2.1 ⟨"ChairRanks$Chair", "number", "()I"⟩ (by decide +kernel))) ⟨Nat.le_of_ble_eq_true rfl, Nat.le_of_ble_eq_true rfl⟩) (xPreV (ci := 4) E hR hS rfl (hk8.trans (congrArg some c20))) rfl rfl hl.1 rfl (lv_room (Nat.le_of_ble_eq_true rfl)) dX4_mark_17 ⟨Nat.le_trans (by omega) (Nat.le_refl 0), Nat.le_trans (by omega) (Nat.le_refl 0)⟩) hS (fun H locs hR hS => ?_)
          obtain ⟨v19, hv19, hf⟩ := bd_e hf
          refine xild E hR hv19 dX4_mark_20 ?_
          refine lv_iadd E.hx E.hb dX4_mark_21 ?_
          obtain ⟨rfl, rfl⟩ := rt_e hf
          exact xret_i E (by omega) (by omega) hR hS dX4_mark_22
        · have hf := it_f hf c20
          by_cases c16 : k8 = 5
          · have hf := it_t hf c16
            obtain ⟨⟨v14, X13⟩, hv14, hf⟩ := bd_e hf
            refine xrun_i (va_runU (As := []) (rest := [.ref v7, .int v6]) E.1 (tX3_number l hv14) (cwX4_30_X5 E.ht (va_Decl.abs (E.2.1.2.2.1 ⟨"ChairRanks$Chair", "number", "()I"⟩ (by decide +kernel))) ⟨Nat.le_of_ble_eq_true rfl, Nat.le_of_ble_eq_true rfl⟩) (xPreV (ci := 5) E hR hS rfl (hk8.trans (congrArg some c16))) rfl rfl hl.1 rfl (lv_room (Nat.le_of_ble_eq_true rfl)) dX4_mark_17 ⟨Nat.le_trans (by omega) (Nat.le_refl 0), Nat.le_trans (by omega) (Nat.le_refl 0)⟩) hS (fun H locs hR hS => ?_)
            obtain ⟨v15, hv15, hf⟩ := bd_e hf
            refine xild E hR hv15 dX4_mark_20 ?_
            refine lv_iadd E.hx E.hb dX4_mark_21 ?_
            obtain ⟨rfl, rfl⟩ := rt_e hf
            exact xret_i E (by omega) (by omega) hR hS dX4_mark_22
          · have hf := it_f hf c16
            by_cases c12 : k8 = 6
            · have hf := it_t hf c12
              obtain ⟨⟨v10, X9⟩, hv10, hf⟩ := bd_e hf
              refine xrun_i (va_runU (As := []) (rest := [.ref v7, .int v6]) E.1 (tX3_number l hv10) (cwX4_30_X6 E.ht (va_Decl.abs (E.2.1.2.2.1 ⟨"ChairRanks$Chair", "number", "()I"⟩ (by decide +kernel))) ⟨Nat.le_of_ble_eq_true rfl, Nat.le_of_ble_eq_true rfl⟩) (xPreV (ci := 6) E hR hS rfl (hk8.trans (congrArg some c12))) rfl rfl hl.1 rfl (lv_room (Nat.le_of_ble_eq_true rfl)) dX4_mark_17 ⟨Nat.le_trans (by omega) (Nat.le_refl 0), Nat.le_trans (by omega) (Nat.le_refl 0)⟩) hS (fun H locs hR hS => ?_)
              obtain ⟨v11, hv11, hf⟩ := bd_e hf
              refine xild E hR hv11 dX4_mark_20 ?_
              refine lv_iadd E.hx E.hb dX4_mark_21 ?_
              obtain ⟨rfl, rfl⟩ := rt_e hf
              exact xret_i E (by omega) (by omega) hR hS dX4_mark_22
            · have hf := it_f hf c12
              have hf : none = some (r, Xf) := hf
              cases hf
      · have hf := it_f hf c21
        have hf : none = some (r, Xf) := hf
        cases hf
theorem tX4_mark (l : Launch) {D : va_G} {cA : Nat → ClassId} {A : Nat → Prop} {Zs : XZ} {X Xf : AH} {x0 : Nat} {x1 : Nat} {x2 : Nat} {r : Int32} (hf : fX4_mark X x0 x1 x2 = some (r, Xf)) : Met l yX4_mark (ws_ yX4_mark cX4_mark 3 (some .int)) rmX4_mark (xPcM D cA A Zs X [.ref x0, .ref x1, .ref x2]) (xQi D cA A Zs r Xf) 0 0 A := by
  refine Met.ofW (cc := cX4_mark) (maxL := 3) (ret := (some .int)) (by decide) rfl ?_
  intro p e s m args below meth c s₁ B hml hv
  obtain ⟨rfl, hR, hK, hM⟩ := hv
  have hts := atoms_spec (ws := (ws_ yX4_mark cX4_mark 3 (some .int))) B.pre
  rw [lg_entry_eq]
  exact wX4_mark_0 (E := ⟨⟨B.exec, B.bytes, hml, findClass_of_methodNamed B.named, fun w h => hts w (List.mem_cons_of_mem _ h)⟩, hK, B.returns, B.notSynchronized⟩) hM hf _ _ _ 0 0 (Nat.le_of_ble_eq_true rfl) (Nat.le_of_ble_eq_true rfl) hR va_S.rf (lv_entry [.ref x0, .ref x1, .ref x2] (n := 3) (Nat.le_of_ble_eq_true rfl))
end
abbrev rmX5_mark : Room := { frames := 4, cells := 0, slots := 0, locals := 77 }
theorem cwX5_13 {R : Room} {s : State} {args : Array Value} (ht : ∀ w ∈ lw_all, w.before args s = true) (hR : rmX2_begins.frames + 1 ≤ R.frames ∧ 8 + (2 + 11) + rmX2_begins.locals ≤ R.locals) : CallW R s args RX5 RX2 13 yX2_begins cX2_begins 2 none (ws_ yX2_begins cX2_begins 2 none) rmX2_begins 0 0 1 :=
  cwV 1 ht (lw_V q1149 q1133 q1134 q73 q1135) rfl rfl rfl (by decide +kernel) hR
theorem cwX5_22_X5 {R : Room} {s : State} {args : Array Value} (ht : ∀ w ∈ lw_all, w.before args s = true) (hR : rmX4_mark.frames + 1 ≤ R.frames ∧ 8 + (3 + 11) + rmX4_mark.locals ≤ R.locals) : va_CS R s args RX5 22 yX4_mark cX4_mark 3 (some .int) (ws_ yX4_mark cX4_mark 3 (some .int)) rmX4_mark 0 0 2 :=
  va_cwSU (ws := (ws_ yX4_mark cX4_mark 3 (some .int))) 2 ht (xwsSU q1150 q1140 q244 q1138 q75 (lw_meth q1151)) rfl rfl rfl (by decide +kernel) hR
section
variable {p : Program} {l : Launch} {e : Env} {s : State} {m : MethodId} {args : Array Value} {below : List Frame} {meth : Method} {c : Code} {D : va_G} {cA : Nat → ClassId} {A : Nat → Prop} {Zs : XZ} {Xf : AH} {r : Int32} {rl : Int64} {ra : Nat} {tv : Unit ⊕ Nat} {ti : Int32 ⊕ Nat} {tr : Nat ⊕ Nat} {q2 : Option Nat}
def fX5_mark  (X : AH) (x0 : Nat) (x1 : Nat) (x2 : Nat) : Option (Int32 × AH) :=
  (ck X x1 2).bind fun _ =>
  (fX2_begins X x1 24).bind fun X2 =>
  (ck X2 x0 5).bind fun _ =>
  (fX4_mark X2 x0 x1 x2).bind fun (v6, X5) =>
  some ((2 * v6), X5)
theorem wX5_mark_0 (E : xE p m c cX5_mark 3 s args RX5 D cA A Zs meth (some .int)) (M : xM s) {X : AH} {x0 : Nat} {x1 : Nat} {x2 : Nat} (hf : fX5_mark X x0 x1 x2 = some (r, Xf)) : ∀ (H : Heap) (locs : List Loc) (ls : Array Slot) (cells slots : Nat), cells + 0 ≤ 0 → slots + 0 ≤ 0 → xR D cA A Zs X H → va_S A s.heap H locs → lv_has ls 3 [(0, .ref x0), (1, .ref x1), (2, .ref x2)] → W p l e rmX5_mark s m args below meth c H locs cells slots (MQ below (xQi D cA A Zs r Xf) args s 0 0 A) (F0 m 0 ls []) := by
  intro H locs ls cells slots hc hs hR hS hl
  refine lv_aload_n E.hx E.hb dX5_mark_0 rfl (lv_at hl 1 rfl) ?_
  refine lv_bipush (v := 24) E.hx E.hb dX5_mark_1 (by decide) ?_
  obtain ⟨u1, hu1, hf⟩ := bd_e hf
  obtain ⟨X2, hX2, hf⟩ := bd_e hf
  refine xrun_v (va_runV (As := [.int 24]) (rest := []) E.1 (tX2_begins l hX2) (cwX5_13 E.ht ⟨Nat.le_of_ble_eq_true rfl, Nat.le_of_ble_eq_true rfl⟩) (xPreV (ci := 2) E hR hS rfl (ck_e hu1)) rfl rfl hl.1 rfl (lv_room (Nat.le_of_ble_eq_true rfl)) dX5_mark_3 ⟨Nat.le_trans (by omega) (Nat.le_refl 0), Nat.le_trans (by omega) (Nat.le_refl 0)⟩) hS (fun H locs hR hS => ?_)
  refine lv_iconst (v := 2) E.hx E.hb dX5_mark_6 (by decide) ?_
  refine lv_aload_n E.hx E.hb dX5_mark_7 rfl (lv_at hl 0 rfl) ?_
  refine lv_aload_n E.hx E.hb dX5_mark_8 rfl (lv_at hl 1 rfl) ?_
  refine lv_aload_n E.hx E.hb dX5_mark_9 rfl (lv_at hl 2 rfl) ?_
  obtain ⟨u4, hu4, hf⟩ := bd_e hf
  obtain ⟨⟨v6, X5⟩, hv6, hf⟩ := bd_e hf
  refine xrun_i (va_runSU (As := [.ref x1, .ref x2]) (rest := [.int 2]) (xClassAt (ci := 5) E rfl) E.1 (tX4_mark l hv6) (cwX5_22_X5 E.ht ⟨Nat.le_of_ble_eq_true rfl, Nat.le_of_ble_eq_true rfl⟩) (xPreVM (ci := 5) E M hR hS rfl (ck_e hu4)) rfl rfl hl.1 rfl (lv_room (Nat.le_of_ble_eq_true rfl)) dX5_mark_10 ⟨Nat.le_trans (by omega) (Nat.le_refl 0), Nat.le_trans (by omega) (Nat.le_refl 0)⟩) hS (fun H locs hR hS => ?_)
  refine lv_imul E.hx E.hb dX5_mark_13 ?_
  obtain ⟨rfl, rfl⟩ := rt_e hf
  exact xret_i E (by omega) (by omega) hR hS dX5_mark_14
theorem tX5_mark (l : Launch) {D : va_G} {cA : Nat → ClassId} {A : Nat → Prop} {Zs : XZ} {X Xf : AH} {x0 : Nat} {x1 : Nat} {x2 : Nat} {r : Int32} (hf : fX5_mark X x0 x1 x2 = some (r, Xf)) : Met l yX5_mark (ws_ yX5_mark cX5_mark 3 (some .int)) rmX5_mark (xPcM D cA A Zs X [.ref x0, .ref x1, .ref x2]) (xQi D cA A Zs r Xf) 0 0 A := by
  refine Met.ofW (cc := cX5_mark) (maxL := 3) (ret := (some .int)) (by decide) rfl ?_
  intro p e s m args below meth c s₁ B hml hv
  obtain ⟨rfl, hR, hK, hM⟩ := hv
  have hts := atoms_spec (ws := (ws_ yX5_mark cX5_mark 3 (some .int))) B.pre
  rw [lg_entry_eq]
  exact wX5_mark_0 (E := ⟨⟨B.exec, B.bytes, hml, findClass_of_methodNamed B.named, fun w h => hts w (List.mem_cons_of_mem _ h)⟩, hK, B.returns, B.notSynchronized⟩) hM hf _ _ _ 0 0 (Nat.le_of_ble_eq_true rfl) (Nat.le_of_ble_eq_true rfl) hR va_S.rf (lv_entry [.ref x0, .ref x1, .ref x2] (n := 3) (Nat.le_of_ble_eq_true rfl))
end
abbrev rmX6_mark : Room := { frames := 4, cells := 0, slots := 0, locals := 77 }
theorem cwX6_13 {R : Room} {s : State} {args : Array Value} (ht : ∀ w ∈ lw_all, w.before args s = true) (hR : rmX2_begins.frames + 1 ≤ R.frames ∧ 8 + (2 + 11) + rmX2_begins.locals ≤ R.locals) : CallW R s args RX6 RX2 13 yX2_begins cX2_begins 2 none (ws_ yX2_begins cX2_begins 2 none) rmX2_begins 0 0 1 :=
  cwV 1 ht (lw_V q1144 q1133 q1134 q73 q1135) rfl rfl rfl (by decide +kernel) hR
theorem cwX6_18_X6 {R : Room} {s : State} {args : Array Value} (ht : ∀ w ∈ lw_all, w.before args s = true) (hR : rmX4_mark.frames + 1 ≤ R.frames ∧ 8 + (3 + 11) + rmX4_mark.locals ≤ R.locals) : va_CS R s args RX6 18 yX4_mark cX4_mark 3 (some .int) (ws_ yX4_mark cX4_mark 3 (some .int)) rmX4_mark 0 0 2 :=
  va_cwSU (ws := (ws_ yX4_mark cX4_mark 3 (some .int))) 2 ht (xwsSU q1145 q1140 q252 q1138 q75 (lw_meth q1151)) rfl rfl rfl (by decide +kernel) hR
section
variable {p : Program} {l : Launch} {e : Env} {s : State} {m : MethodId} {args : Array Value} {below : List Frame} {meth : Method} {c : Code} {D : va_G} {cA : Nat → ClassId} {A : Nat → Prop} {Zs : XZ} {Xf : AH} {r : Int32} {rl : Int64} {ra : Nat} {tv : Unit ⊕ Nat} {ti : Int32 ⊕ Nat} {tr : Nat ⊕ Nat} {q2 : Option Nat}
def fX6_mark  (X : AH) (x0 : Nat) (x1 : Nat) (x2 : Nat) : Option (Int32 × AH) :=
  (ck X x1 2).bind fun _ =>
  (fX2_begins X x1 22).bind fun X2 =>
  (ck X2 x0 6).bind fun _ =>
  (fX4_mark X2 x0 x1 x2).bind fun (v6, X5) =>
  some ((v6 - 1000), X5)
theorem wX6_mark_0 (E : xE p m c cX6_mark 3 s args RX6 D cA A Zs meth (some .int)) (M : xM s) {X : AH} {x0 : Nat} {x1 : Nat} {x2 : Nat} (hf : fX6_mark X x0 x1 x2 = some (r, Xf)) : ∀ (H : Heap) (locs : List Loc) (ls : Array Slot) (cells slots : Nat), cells + 0 ≤ 0 → slots + 0 ≤ 0 → xR D cA A Zs X H → va_S A s.heap H locs → lv_has ls 3 [(0, .ref x0), (1, .ref x1), (2, .ref x2)] → W p l e rmX6_mark s m args below meth c H locs cells slots (MQ below (xQi D cA A Zs r Xf) args s 0 0 A) (F0 m 0 ls []) := by
  intro H locs ls cells slots hc hs hR hS hl
  refine lv_aload_n E.hx E.hb dX6_mark_0 rfl (lv_at hl 1 rfl) ?_
  refine lv_bipush (v := 22) E.hx E.hb dX6_mark_1 (by decide) ?_
  obtain ⟨u1, hu1, hf⟩ := bd_e hf
  obtain ⟨X2, hX2, hf⟩ := bd_e hf
  refine xrun_v (va_runV (As := [.int 22]) (rest := []) E.1 (tX2_begins l hX2) (cwX6_13 E.ht ⟨Nat.le_of_ble_eq_true rfl, Nat.le_of_ble_eq_true rfl⟩) (xPreV (ci := 2) E hR hS rfl (ck_e hu1)) rfl rfl hl.1 rfl (lv_room (Nat.le_of_ble_eq_true rfl)) dX6_mark_3 ⟨Nat.le_trans (by omega) (Nat.le_refl 0), Nat.le_trans (by omega) (Nat.le_refl 0)⟩) hS (fun H locs hR hS => ?_)
  refine lv_aload_n E.hx E.hb dX6_mark_6 rfl (lv_at hl 0 rfl) ?_
  refine lv_aload_n E.hx E.hb dX6_mark_7 rfl (lv_at hl 1 rfl) ?_
  refine lv_aload_n E.hx E.hb dX6_mark_8 rfl (lv_at hl 2 rfl) ?_
  obtain ⟨u4, hu4, hf⟩ := bd_e hf
  obtain ⟨⟨v6, X5⟩, hv6, hf⟩ := bd_e hf
  refine xrun_i (va_runSU (As := [.ref x1, .ref x2]) (rest := []) (xClassAt (ci := 6) E rfl) E.1 (tX4_mark l hv6) (cwX6_18_X6 E.ht ⟨Nat.le_of_ble_eq_true rfl, Nat.le_of_ble_eq_true rfl⟩) (xPreVM (ci := 6) E M hR hS rfl (ck_e hu4)) rfl rfl hl.1 rfl (lv_room (Nat.le_of_ble_eq_true rfl)) dX6_mark_9 ⟨Nat.le_trans (by omega) (Nat.le_refl 0), Nat.le_trans (by omega) (Nat.le_refl 0)⟩) hS (fun H locs hR hS => ?_)
  refine lv_sipush (v := 1000) E.hx E.hb dX6_mark_12 (by decide) ?_
  refine lv_isub E.hx E.hb dX6_mark_15 ?_
  obtain ⟨rfl, rfl⟩ := rt_e hf
  exact xret_i E (by omega) (by omega) hR hS dX6_mark_16
theorem tX6_mark (l : Launch) {D : va_G} {cA : Nat → ClassId} {A : Nat → Prop} {Zs : XZ} {X Xf : AH} {x0 : Nat} {x1 : Nat} {x2 : Nat} {r : Int32} (hf : fX6_mark X x0 x1 x2 = some (r, Xf)) : Met l yX6_mark (ws_ yX6_mark cX6_mark 3 (some .int)) rmX6_mark (xPcM D cA A Zs X [.ref x0, .ref x1, .ref x2]) (xQi D cA A Zs r Xf) 0 0 A := by
  refine Met.ofW (cc := cX6_mark) (maxL := 3) (ret := (some .int)) (by decide) rfl ?_
  intro p e s m args below meth c s₁ B hml hv
  obtain ⟨rfl, hR, hK, hM⟩ := hv
  have hts := atoms_spec (ws := (ws_ yX6_mark cX6_mark 3 (some .int))) B.pre
  rw [lg_entry_eq]
  exact wX6_mark_0 (E := ⟨⟨B.exec, B.bytes, hml, findClass_of_methodNamed B.named, fun w h => hts w (List.mem_cons_of_mem _ h)⟩, hK, B.returns, B.notSynchronized⟩) hM hf _ _ _ 0 0 (Nat.le_of_ble_eq_true rfl) (Nat.le_of_ble_eq_true rfl) hR va_S.rf (lv_entry [.ref x0, .ref x1, .ref x2] (n := 3) (Nat.le_of_ble_eq_true rfl))
end
abbrev rmX4_size : Room := { frames := 5, cells := 0, slots := 0, locals := 99 }
theorem cwX4_14_X4 {R : Room} {s : State} {args : Array Value} (ht : ∀ w ∈ lw_all, w.before args s = true) (hR : rmX3_size.frames + 1 ≤ R.frames ∧ 8 + (3 + 11) + rmX3_size.locals ≤ R.locals) : va_CS R s args RX4 14 yX3_size cX3_size 3 (some .int) (ws_ yX3_size cX3_size 3 (some .int)) rmX3_size 0 0 2 :=
  va_cwSU (ws := (ws_ yX3_size cX3_size 3 (some .int))) 2 ht (xwsSU q1136 q1128 q236 q1127 q74 (lw_meth q1198)) rfl rfl rfl (by decide +kernel) hR
theorem cwX4_14_X5 {R : Room} {s : State} {args : Array Value} (ht : ∀ w ∈ lw_all, w.before args s = true) (hR : rmX3_size.frames + 1 ≤ R.frames ∧ 8 + (3 + 11) + rmX3_size.locals ≤ R.locals) : va_CS R s args RX4 14 yX3_size cX3_size 3 (some .int) (ws_ yX3_size cX3_size 3 (some .int)) rmX3_size 0 0 2 :=
  va_cwSU (ws := (ws_ yX3_size cX3_size 3 (some .int))) 2 ht (xwsSU q1136 q1128 q236 q1127 q74 (lw_meth q1198)) rfl rfl rfl (by decide +kernel) hR
theorem cwX4_14_X6 {R : Room} {s : State} {args : Array Value} (ht : ∀ w ∈ lw_all, w.before args s = true) (hR : rmX3_size.frames + 1 ≤ R.frames ∧ 8 + (3 + 11) + rmX3_size.locals ≤ R.locals) : va_CS R s args RX4 14 yX3_size cX3_size 3 (some .int) (ws_ yX3_size cX3_size 3 (some .int)) rmX3_size 0 0 2 :=
  va_cwSU (ws := (ws_ yX3_size cX3_size 3 (some .int))) 2 ht (xwsSU q1136 q1128 q236 q1127 q74 (lw_meth q1198)) rfl rfl rfl (by decide +kernel) hR
theorem cwX4_18 {R : Room} {s : State} {args : Array Value} (ht : ∀ w ∈ lw_all, w.before args s = true) (hR : rmX4_mark.frames + 1 ≤ R.frames ∧ 8 + (3 + 11) + rmX4_mark.locals ≤ R.locals) : CallW R s args RX4 RX4 18 yX4_mark cX4_mark 3 (some .int) (ws_ yX4_mark cX4_mark 3 (some .int)) rmX4_mark 0 0 2 :=
  cwV 2 ht (lw_V q1137 q1138 q1139 q75 q1151) rfl rfl rfl (by decide +kernel) hR
theorem cwX4_18_X5 {R : Room} {s : State} {args : Array Value} (ht : ∀ w ∈ lw_all, w.before args s = true) (hR : rmX5_mark.frames + 1 ≤ R.frames ∧ 8 + (3 + 11) + rmX5_mark.locals ≤ R.locals) : va_CU R s args RX4 "ChairRanks$Rocker" "ChairRanks$Plain" 18 ⟨"ChairRanks$Plain", "mark", "(LChairRanks$Trail;LChairRanks$Ministry;)I"⟩ yX5_mark cX5_mark 3 (some .int) (ws_ yX5_mark cX5_mark 3 (some .int)) rmX5_mark 0 0 2 :=
  xCU (ws := (ws_ yX5_mark cX5_mark 3 (some .int))) ht (lw_meth q1148) rfl rfl rfl q1137 q1140 (va_Decl.of (ht _ q1138) (ht _ q1151)) q1146 q1147 q76 (by decide +kernel) hR
theorem cwX4_18_X6 {R : Room} {s : State} {args : Array Value} (ht : ∀ w ∈ lw_all, w.before args s = true) (hR : rmX6_mark.frames + 1 ≤ R.frames ∧ 8 + (3 + 11) + rmX6_mark.locals ≤ R.locals) : va_CU R s args RX4 "ChairRanks$Cushioned" "ChairRanks$Plain" 18 ⟨"ChairRanks$Plain", "mark", "(LChairRanks$Trail;LChairRanks$Ministry;)I"⟩ yX6_mark cX6_mark 3 (some .int) (ws_ yX6_mark cX6_mark 3 (some .int)) rmX6_mark 0 0 2 :=
  xCU (ws := (ws_ yX6_mark cX6_mark 3 (some .int))) ht (lw_meth q1143) rfl rfl rfl q1137 q1140 (va_Decl.of (ht _ q1138) (ht _ q1151)) q1141 q1142 q77 (by decide +kernel) hR
section
variable {p : Program} {l : Launch} {e : Env} {s : State} {m : MethodId} {args : Array Value} {below : List Frame} {meth : Method} {c : Code} {D : va_G} {cA : Nat → ClassId} {A : Nat → Prop} {Zs : XZ} {Xf : AH} {r : Int32} {rl : Int64} {ra : Nat} {tv : Unit ⊕ Nat} {ti : Int32 ⊕ Nat} {tr : Nat ⊕ Nat} {q2 : Option Nat}
def fX4_size  (X : AH) (x0 : Nat) (x1 : Nat) (x2 : Nat) : Option (Int32 × AH) :=
  (ck X x1 2).bind fun _ =>
  (fX2_begins X x1 11).bind fun X2 =>
  (gC X2 x0).bind fun k4 =>
  if k4 = 4 then ((fX3_size X2 x0 x1 x2).bind fun (v32, X31) =>
  (gC X31 x0).bind fun k33 =>
  if k33 = 4 then ((fX4_mark X31 x0 x1 x2).bind fun (v41, X40) =>
  some ((v32 + v41), X40)) else (if k33 = 5 then ((fX5_mark X31 x0 x1 x2).bind fun (v38, X37) =>
  some ((v32 + v38), X37)) else (if k33 = 6 then ((fX6_mark X31 x0 x1 x2).bind fun (v35, X34) =>
  some ((v32 + v35), X34)) else none))) else (if k4 = 5 then ((fX3_size X2 x0 x1 x2).bind fun (v19, X18) =>
  (gC X18 x0).bind fun k20 =>
  if k20 = 4 then ((fX4_mark X18 x0 x1 x2).bind fun (v28, X27) =>
  some ((v19 + v28), X27)) else (if k20 = 5 then ((fX5_mark X18 x0 x1 x2).bind fun (v25, X24) =>
  some ((v19 + v25), X24)) else (if k20 = 6 then ((fX6_mark X18 x0 x1 x2).bind fun (v22, X21) =>
  some ((v19 + v22), X21)) else none))) else (if k4 = 6 then ((fX3_size X2 x0 x1 x2).bind fun (v6, X5) =>
  (gC X5 x0).bind fun k7 =>
  if k7 = 4 then ((fX4_mark X5 x0 x1 x2).bind fun (v15, X14) =>
  some ((v6 + v15), X14)) else (if k7 = 5 then ((fX5_mark X5 x0 x1 x2).bind fun (v12, X11) =>
  some ((v6 + v12), X11)) else (if k7 = 6 then ((fX6_mark X5 x0 x1 x2).bind fun (v9, X8) =>
  some ((v6 + v9), X8)) else none))) else none))
theorem wX4_size_0 (E : xE p m c cX4_size 3 s args RX4 D cA A Zs meth (some .int)) (M : xM s) {X : AH} {x0 : Nat} {x1 : Nat} {x2 : Nat} (hf : fX4_size X x0 x1 x2 = some (r, Xf)) : ∀ (H : Heap) (locs : List Loc) (ls : Array Slot) (cells slots : Nat), cells + 0 ≤ 0 → slots + 0 ≤ 0 → xR D cA A Zs X H → va_S A s.heap H locs → lv_has ls 3 [(0, .ref x0), (1, .ref x1), (2, .ref x2)] → W p l e rmX4_size s m args below meth c H locs cells slots (MQ below (xQi D cA A Zs r Xf) args s 0 0 A) (F0 m 0 ls []) := by
  intro H locs ls cells slots hc hs hR hS hl
  refine lv_aload_n E.hx E.hb dX4_size_0 rfl (lv_at hl 1 rfl) ?_
  refine lv_bipush (v := 11) E.hx E.hb dX4_size_1 (by decide) ?_
  obtain ⟨u1, hu1, hf⟩ := bd_e hf
  obtain ⟨X2, hX2, hf⟩ := bd_e hf
  refine xrun_v (va_runV (As := [.int 11]) (rest := []) E.1 (tX2_begins l hX2) (cwX4_9 E.ht ⟨Nat.le_of_ble_eq_true rfl, Nat.le_of_ble_eq_true rfl⟩) (xPreV (ci := 2) E hR hS rfl (ck_e hu1)) rfl rfl hl.1 rfl (lv_room (Nat.le_of_ble_eq_true rfl)) dX4_size_3 ⟨Nat.le_trans (by omega) (Nat.le_refl 0), Nat.le_trans (by omega) (Nat.le_refl 0)⟩) hS (fun H locs hR hS => ?_)
  refine lv_aload_n E.hx E.hb dX4_size_6 rfl (lv_at hl 0 rfl) ?_
  refine lv_aload_n E.hx E.hb dX4_size_7 rfl (lv_at hl 1 rfl) ?_
  refine lv_aload_n E.hx E.hb dX4_size_8 rfl (lv_at hl 2 rfl) ?_
  obtain ⟨k4, hk4, hf⟩ := bd_e hf
  by_cases c43 : k4 = 4
  · have hf := it_t hf c43
    obtain ⟨⟨v32, X31⟩, hv32, hf⟩ := bd_e hf
    refine xrun_i (va_runSU (As := [.ref x1, .ref x2]) (rest := []) (xClassAt (ci := 4) E rfl) E.1 (tX3_size l hv32) (cwX4_14_X4 E.ht ⟨Nat.le_of_ble_eq_true rfl, Nat.le_of_ble_eq_true rfl⟩) (xPreV (ci := 4) E hR hS rfl (hk4.trans (congrArg some c43))) rfl rfl hl.1 rfl (lv_room (Nat.le_of_ble_eq_true rfl)) dX4_size_9 ⟨Nat.le_trans (by omega) (Nat.le_refl 0), Nat.le_trans (by omega) (Nat.le_refl 0)⟩) hS (fun H locs hR hS => ?_)
    refine lv_aload_n E.hx E.hb dX4_size_12 rfl (lv_at hl 0 rfl) ?_
    refine lv_aload_n E.hx E.hb dX4_size_13 rfl (lv_at hl 1 rfl) ?_
    refine lv_aload_n E.hx E.hb dX4_size_14 rfl (lv_at hl 2 rfl) ?_
    obtain ⟨k33, hk33, hf⟩ := bd_e hf
    by_cases c42 : k33 = 4
    · have hf := it_t hf c42
      obtain ⟨⟨v41, X40⟩, hv41, hf⟩ := bd_e hf
      refine xrun_i (va_runV (As := [.ref x1, .ref x2]) (rest := [.int v32]) E.1 (tX4_mark l hv41) (cwX4_18 E.ht ⟨Nat.le_of_ble_eq_true rfl, Nat.le_of_ble_eq_true rfl⟩) (xPreVM (ci := 4) E M hR hS rfl (hk33.trans (congrArg some c42))) rfl rfl hl.1 rfl (lv_room (Nat.le_of_ble_eq_true rfl)) dX4_size_15 ⟨Nat.le_trans (by omega) (Nat.le_refl 0), Nat.le_trans (by omega) (Nat.le_refl 0)⟩) hS (fun H locs hR hS => ?_)
      refine lv_iadd E.hx E.hb dX4_size_18 ?_
      obtain ⟨rfl, rfl⟩ := rt_e hf
      exact xret_i E (by omega) (by omega) hR hS dX4_size_19
    · have hf := it_f hf c42
      by_cases c39 : k33 = 5
      · have hf := it_t hf c39
        obtain ⟨⟨v38, X37⟩, hv38, hf⟩ := bd_e hf
        refine xrun_i (va_runU (As := [.ref x1, .ref x2]) (rest := [.int v32]) E.1 (tX5_mark l hv38) (cwX4_18_X5 E.ht ⟨Nat.le_of_ble_eq_true rfl, Nat.le_of_ble_eq_true rfl⟩) (xPreVM (ci := 5) E M hR hS rfl (hk33.trans (congrArg some c39))) rfl rfl hl.1 rfl (lv_room (Nat.le_of_ble_eq_true rfl)) dX4_size_15 ⟨Nat.le_trans (by omega) (Nat.le_refl 0), Nat.le_trans (by omega) (Nat.le_refl 0)⟩) hS (fun H locs hR hS => ?_)
        refine lv_iadd E.hx E.hb dX4_size_18 ?_
        obtain ⟨rfl, rfl⟩ := rt_e hf
        exact xret_i E (by omega) (by omega) hR hS dX4_size_19
      · have hf := it_f hf c39
        by_cases c36 : k33 = 6
        · have hf := it_t hf c36
          obtain ⟨⟨v35, X34⟩, hv35, hf⟩ := bd_e hf
          refine xrun_i (va_runU (As := [.ref x1, .ref x2]) (rest := [.int v32]) E.1 (tX6_mark l hv35) (cwX4_18_X6 E.ht ⟨Nat.le_of_ble_eq_true rfl, Nat.le_of_ble_eq_true rfl⟩) (xPreVM (ci := 6) E M hR hS rfl (hk33.trans (congrArg some c36))) rfl rfl hl.1 rfl (lv_room (Nat.le_of_ble_eq_true rfl)) dX4_size_15 ⟨Nat.le_trans (by omega) (Nat.le_refl 0), Nat.le_trans (by omega) (Nat.le_refl 0)⟩) hS (fun H locs hR hS => ?_)
          refine lv_iadd E.hx E.hb dX4_size_18 ?_
          obtain ⟨rfl, rfl⟩ := rt_e hf
          exact xret_i E (by omega) (by omega) hR hS dX4_size_19
        · have hf := it_f hf c36
          have hf : none = some (r, Xf) := hf
          cases hf
  · have hf := it_f hf c43
    by_cases c30 : k4 = 5
    · have hf := it_t hf c30
      obtain ⟨⟨v19, X18⟩, hv19, hf⟩ := bd_e hf
      refine xrun_i (va_runSU (As := [.ref x1, .ref x2]) (rest := []) (xClassAt (ci := 5) E rfl) E.1 (tX3_size l hv19) (cwX4_14_X5 E.ht ⟨Nat.le_of_ble_eq_true rfl, Nat.le_of_ble_eq_true rfl⟩) (xPreV (ci := 5) E hR hS rfl (hk4.trans (congrArg some c30))) rfl rfl hl.1 rfl (lv_room (Nat.le_of_ble_eq_true rfl)) dX4_size_9 ⟨Nat.le_trans (by omega) (Nat.le_refl 0), Nat.le_trans (by omega) (Nat.le_refl 0)⟩) hS (fun H locs hR hS => ?_)
      refine lv_aload_n E.hx E.hb dX4_size_12 rfl (lv_at hl 0 rfl) ?_
      refine lv_aload_n E.hx E.hb dX4_size_13 rfl (lv_at hl 1 rfl) ?_
      refine lv_aload_n E.hx E.hb dX4_size_14 rfl (lv_at hl 2 rfl) ?_
      obtain ⟨k20, hk20, hf⟩ := bd_e hf
      by_cases c29 : k20 = 4
      · have hf := it_t hf c29
        obtain ⟨⟨v28, X27⟩, hv28, hf⟩ := bd_e hf
        refine xrun_i (va_runV (As := [.ref x1, .ref x2]) (rest := [.int v19]) E.1 (tX4_mark l hv28) (cwX4_18 E.ht ⟨Nat.le_of_ble_eq_true rfl, Nat.le_of_ble_eq_true rfl⟩) (xPreVM (ci := 4) E M hR hS rfl (hk20.trans (congrArg some c29))) rfl rfl hl.1 rfl (lv_room (Nat.le_of_ble_eq_true rfl)) dX4_size_15 ⟨Nat.le_trans (by omega) (Nat.le_refl 0), Nat.le_trans (by omega) (Nat.le_refl 0)⟩) hS (fun H locs hR hS => ?_)
        refine lv_iadd E.hx E.hb dX4_size_18 ?_
        obtain ⟨rfl, rfl⟩ := rt_e hf
        exact xret_i E (by omega) (by omega) hR hS dX4_size_19
      · have hf := it_f hf c29
        by_cases c26 : k20 = 5
        · have hf := it_t hf c26
          obtain ⟨⟨v25, X24⟩, hv25, hf⟩ := bd_e hf
          refine xrun_i (va_runU (As := [.ref x1, .ref x2]) (rest := [.int v19]) E.1 (tX5_mark l hv25) (cwX4_18_X5 E.ht ⟨Nat.le_of_ble_eq_true rfl, Nat.le_of_ble_eq_true rfl⟩) (xPreVM (ci := 5) E M hR hS rfl (hk20.trans (congrArg some c26))) rfl rfl hl.1 rfl (lv_room (Nat.le_of_ble_eq_true rfl)) dX4_size_15 ⟨Nat.le_trans (by omega) (Nat.le_refl 0), Nat.le_trans (by omega) (Nat.le_refl 0)⟩) hS (fun H locs hR hS => ?_)
          refine lv_iadd E.hx E.hb dX4_size_18 ?_
          obtain ⟨rfl, rfl⟩ := rt_e hf
          exact xret_i E (by omega) (by omega) hR hS dX4_size_19
        · have hf := it_f hf c26
          by_cases c23 : k20 = 6
          · have hf := it_t hf c23
            obtain ⟨⟨v22, X21⟩, hv22, hf⟩ := bd_e hf
            refine xrun_i (va_runU (As := [.ref x1, .ref x2]) (rest := [.int v19]) E.1 (tX6_mark l hv22) (cwX4_18_X6 E.ht ⟨Nat.le_of_ble_eq_true rfl, Nat.le_of_ble_eq_true rfl⟩) (xPreVM (ci := 6) E M hR hS rfl (hk20.trans (congrArg some c23))) rfl rfl hl.1 rfl (lv_room (Nat.le_of_ble_eq_true rfl)) dX4_size_15 ⟨Nat.le_trans (by omega) (Nat.le_refl 0), Nat.le_trans (by omega) (Nat.le_refl 0)⟩) hS (fun H locs hR hS => ?_)
            refine lv_iadd E.hx E.hb dX4_size_18 ?_
            obtain ⟨rfl, rfl⟩ := rt_e hf
            exact xret_i E (by omega) (by omega) hR hS dX4_size_19
          · have hf := it_f hf c23
            have hf : none = some (r, Xf) := hf
            cases hf
    · have hf := it_f hf c30
      by_cases c17 : k4 = 6
      · have hf := it_t hf c17
        obtain ⟨⟨v6, X5⟩, hv6, hf⟩ := bd_e hf
        refine xrun_i (va_runSU (As := [.ref x1, .ref x2]) (rest := []) (xClassAt (ci := 6) E rfl) E.1 (tX3_size l hv6) (cwX4_14_X6 E.ht ⟨Nat.le_of_ble_eq_true rfl, Nat.le_of_ble_eq_true rfl⟩) (xPreV (ci := 6) E hR hS rfl (hk4.trans (congrArg some c17))) rfl rfl hl.1 rfl (lv_room (Nat.le_of_ble_eq_true rfl)) dX4_size_9 ⟨Nat.le_trans (by omega) (Nat.le_refl 0), Nat.le_trans (by omega) (Nat.le_refl 0)⟩) hS (fun H locs hR hS => ?_)
        refine lv_aload_n E.hx E.hb dX4_size_12 rfl (lv_at hl 0 rfl) ?_
        refine lv_aload_n E.hx E.hb dX4_size_13 rfl (lv_at hl 1 rfl) ?_
        refine lv_aload_n E.hx E.hb dX4_size_14 rfl (lv_at hl 2 rfl) ?_
        obtain ⟨k7, hk7, hf⟩ := bd_e hf
        by_cases c16 : k7 = 4
        · have hf := it_t hf c16
          obtain ⟨⟨v15, X14⟩, hv15, hf⟩ := bd_e hf
          refine xrun_i (va_runV (As := [.ref x1, .ref x2]) (rest := [.int v6]) E.1 (tX4_mark l hv15) (cwX4_18 E.ht ⟨Nat.le_of_ble_eq_true rfl, Nat.le_of_ble_eq_true rfl⟩) (xPreVM (ci := 4) E M hR hS rfl (hk7.trans (congrArg some c16))) rfl rfl hl.1 rfl (lv_room (Nat.le_of_ble_eq_true rfl)) dX4_size_15 ⟨Nat.le_trans (by omega) (Nat.le_refl 0), Nat.le_trans (by omega) (Nat.le_refl 0)⟩) hS (fun H locs hR hS => ?_)
          refine lv_iadd E.hx E.hb dX4_size_18 ?_
          obtain ⟨rfl, rfl⟩ := rt_e hf
          exact xret_i E (by omega) (by omega) hR hS dX4_size_19
        · have hf := it_f hf c16
          by_cases c13 : k7 = 5
          · have hf := it_t hf c13
            obtain ⟨⟨v12, X11⟩, hv12, hf⟩ := bd_e hf
            refine xrun_i (va_runU (As := [.ref x1, .ref x2]) (rest := [.int v6]) E.1 (tX5_mark l hv12) (cwX4_18_X5 E.ht ⟨Nat.le_of_ble_eq_true rfl, Nat.le_of_ble_eq_true rfl⟩) (xPreVM (ci := 5) E M hR hS rfl (hk7.trans (congrArg some c13))) rfl rfl hl.1 rfl (lv_room (Nat.le_of_ble_eq_true rfl)) dX4_size_15 ⟨Nat.le_trans (by omega) (Nat.le_refl 0), Nat.le_trans (by omega) (Nat.le_refl 0)⟩) hS (fun H locs hR hS => ?_)
            refine lv_iadd E.hx E.hb dX4_size_18 ?_
            obtain ⟨rfl, rfl⟩ := rt_e hf
            exact xret_i E (by omega) (by omega) hR hS dX4_size_19
          · have hf := it_f hf c13
            by_cases c10 : k7 = 6
            · have hf := it_t hf c10
              obtain ⟨⟨v9, X8⟩, hv9, hf⟩ := bd_e hf
              refine xrun_i (va_runU (As := [.ref x1, .ref x2]) (rest := [.int v6]) E.1 (tX6_mark l hv9) (cwX4_18_X6 E.ht ⟨Nat.le_of_ble_eq_true rfl, Nat.le_of_ble_eq_true rfl⟩) (xPreVM (ci := 6) E M hR hS rfl (hk7.trans (congrArg some c10))) rfl rfl hl.1 rfl (lv_room (Nat.le_of_ble_eq_true rfl)) dX4_size_15 ⟨Nat.le_trans (by omega) (Nat.le_refl 0), Nat.le_trans (by omega) (Nat.le_refl 0)⟩) hS (fun H locs hR hS => ?_)
              refine lv_iadd E.hx E.hb dX4_size_18 ?_
              obtain ⟨rfl, rfl⟩ := rt_e hf
              exact xret_i E (by omega) (by omega) hR hS dX4_size_19
            · have hf := it_f hf c10
              have hf : none = some (r, Xf) := hf
              cases hf
      · have hf := it_f hf c17
        have hf : none = some (r, Xf) := hf
        cases hf
theorem tX4_size (l : Launch) {D : va_G} {cA : Nat → ClassId} {A : Nat → Prop} {Zs : XZ} {X Xf : AH} {x0 : Nat} {x1 : Nat} {x2 : Nat} {r : Int32} (hf : fX4_size X x0 x1 x2 = some (r, Xf)) : Met l yX4_size (ws_ yX4_size cX4_size 3 (some .int)) rmX4_size (xPcM D cA A Zs X [.ref x0, .ref x1, .ref x2]) (xQi D cA A Zs r Xf) 0 0 A := by
  refine Met.ofW (cc := cX4_size) (maxL := 3) (ret := (some .int)) (by decide) rfl ?_
  intro p e s m args below meth c s₁ B hml hv
  obtain ⟨rfl, hR, hK, hM⟩ := hv
  have hts := atoms_spec (ws := (ws_ yX4_size cX4_size 3 (some .int))) B.pre
  rw [lg_entry_eq]
  exact wX4_size_0 (E := ⟨⟨B.exec, B.bytes, hml, findClass_of_methodNamed B.named, fun w h => hts w (List.mem_cons_of_mem _ h)⟩, hK, B.returns, B.notSynchronized⟩) hM hf _ _ _ 0 0 (Nat.le_of_ble_eq_true rfl) (Nat.le_of_ble_eq_true rfl) hR va_S.rf (lv_entry [.ref x0, .ref x1, .ref x2] (n := 3) (Nat.le_of_ble_eq_true rfl))
end
abbrev rmX5_size : Room := { frames := 6, cells := 0, slots := 0, locals := 121 }
theorem cwX5_18_X5 {R : Room} {s : State} {args : Array Value} (ht : ∀ w ∈ lw_all, w.before args s = true) (hR : rmX4_size.frames + 1 ≤ R.frames ∧ 8 + (3 + 11) + rmX4_size.locals ≤ R.locals) : va_CS R s args RX5 18 yX4_size cX4_size 3 (some .int) (ws_ yX4_size cX4_size 3 (some .int)) rmX4_size 0 0 2 :=
  va_cwSU (ws := (ws_ yX4_size cX4_size 3 (some .int))) 2 ht (xwsSU q1192 q1674 q244 q1130 q75 (lw_meth q1131)) rfl rfl rfl (by decide +kernel) hR
section
variable {p : Program} {l : Launch} {e : Env} {s : State} {m : MethodId} {args : Array Value} {below : List Frame} {meth : Method} {c : Code} {D : va_G} {cA : Nat → ClassId} {A : Nat → Prop} {Zs : XZ} {Xf : AH} {r : Int32} {rl : Int64} {ra : Nat} {tv : Unit ⊕ Nat} {ti : Int32 ⊕ Nat} {tr : Nat ⊕ Nat} {q2 : Option Nat}
def fX5_size  (X : AH) (x0 : Nat) (x1 : Nat) (x2 : Nat) : Option (Int32 × AH) :=
  (ck X x1 2).bind fun _ =>
  (fX2_begins X x1 12).bind fun X2 =>
  (ck X2 x0 5).bind fun _ =>
  (fX4_size X2 x0 x1 x2).bind fun (v6, X5) =>
  some ((-v6), X5)
theorem wX5_size_0 (E : xE p m c cX5_size 3 s args RX5 D cA A Zs meth (some .int)) (M : xM s) {X : AH} {x0 : Nat} {x1 : Nat} {x2 : Nat} (hf : fX5_size X x0 x1 x2 = some (r, Xf)) : ∀ (H : Heap) (locs : List Loc) (ls : Array Slot) (cells slots : Nat), cells + 0 ≤ 0 → slots + 0 ≤ 0 → xR D cA A Zs X H → va_S A s.heap H locs → lv_has ls 3 [(0, .ref x0), (1, .ref x1), (2, .ref x2)] → W p l e rmX5_size s m args below meth c H locs cells slots (MQ below (xQi D cA A Zs r Xf) args s 0 0 A) (F0 m 0 ls []) := by
  intro H locs ls cells slots hc hs hR hS hl
  refine lv_aload_n E.hx E.hb dX5_size_0 rfl (lv_at hl 1 rfl) ?_
  refine lv_bipush (v := 12) E.hx E.hb dX5_size_1 (by decide) ?_
  obtain ⟨u1, hu1, hf⟩ := bd_e hf
  obtain ⟨X2, hX2, hf⟩ := bd_e hf
  refine xrun_v (va_runV (As := [.int 12]) (rest := []) E.1 (tX2_begins l hX2) (cwX5_13 E.ht ⟨Nat.le_of_ble_eq_true rfl, Nat.le_of_ble_eq_true rfl⟩) (xPreV (ci := 2) E hR hS rfl (ck_e hu1)) rfl rfl hl.1 rfl (lv_room (Nat.le_of_ble_eq_true rfl)) dX5_size_3 ⟨Nat.le_trans (by omega) (Nat.le_refl 0), Nat.le_trans (by omega) (Nat.le_refl 0)⟩) hS (fun H locs hR hS => ?_)
  refine lv_aload_n E.hx E.hb dX5_size_6 rfl (lv_at hl 0 rfl) ?_
  refine lv_aload_n E.hx E.hb dX5_size_7 rfl (lv_at hl 1 rfl) ?_
  refine lv_aload_n E.hx E.hb dX5_size_8 rfl (lv_at hl 2 rfl) ?_
  obtain ⟨u4, hu4, hf⟩ := bd_e hf
  obtain ⟨⟨v6, X5⟩, hv6, hf⟩ := bd_e hf
  refine xrun_i (va_runSU (As := [.ref x1, .ref x2]) (rest := []) (xClassAt (ci := 5) E rfl) E.1 (tX4_size l hv6) (cwX5_18_X5 E.ht ⟨Nat.le_of_ble_eq_true rfl, Nat.le_of_ble_eq_true rfl⟩) (xPreVM (ci := 5) E M hR hS rfl (ck_e hu4)) rfl rfl hl.1 rfl (lv_room (Nat.le_of_ble_eq_true rfl)) dX5_size_9 ⟨Nat.le_trans (by omega) (Nat.le_refl 0), Nat.le_trans (by omega) (Nat.le_refl 0)⟩) hS (fun H locs hR hS => ?_)
  refine lv_ineg E.hx E.hb dX5_size_12 ?_
  obtain ⟨rfl, rfl⟩ := rt_e hf
  exact xret_i E (by omega) (by omega) hR hS dX5_size_13
theorem tX5_size (l : Launch) {D : va_G} {cA : Nat → ClassId} {A : Nat → Prop} {Zs : XZ} {X Xf : AH} {x0 : Nat} {x1 : Nat} {x2 : Nat} {r : Int32} (hf : fX5_size X x0 x1 x2 = some (r, Xf)) : Met l yX5_size (ws_ yX5_size cX5_size 3 (some .int)) rmX5_size (xPcM D cA A Zs X [.ref x0, .ref x1, .ref x2]) (xQi D cA A Zs r Xf) 0 0 A := by
  refine Met.ofW (cc := cX5_size) (maxL := 3) (ret := (some .int)) (by decide) rfl ?_
  intro p e s m args below meth c s₁ B hml hv
  obtain ⟨rfl, hR, hK, hM⟩ := hv
  have hts := atoms_spec (ws := (ws_ yX5_size cX5_size 3 (some .int))) B.pre
  rw [lg_entry_eq]
  exact wX5_size_0 (E := ⟨⟨B.exec, B.bytes, hml, findClass_of_methodNamed B.named, fun w h => hts w (List.mem_cons_of_mem _ h)⟩, hK, B.returns, B.notSynchronized⟩) hM hf _ _ _ 0 0 (Nat.le_of_ble_eq_true rfl) (Nat.le_of_ble_eq_true rfl) hR va_S.rf (lv_entry [.ref x0, .ref x1, .ref x2] (n := 3) (Nat.le_of_ble_eq_true rfl))
end
abbrev rmX7_size : Room := { frames := 3, cells := 0, slots := 0, locals := 55 }
theorem cwX7_13 {R : Room} {s : State} {args : Array Value} (ht : ∀ w ∈ lw_all, w.before args s = true) (hR : rmX2_begins.frames + 1 ≤ R.frames ∧ 8 + (2 + 11) + rmX2_begins.locals ≤ R.locals) : CallW R s args RX7 RX2 13 yX2_begins cX2_begins 2 none (ws_ yX2_begins cX2_begins 2 none) rmX2_begins 0 0 1 :=
  cwV 1 ht (lw_V q1186 q1133 q1134 q73 q1135) rfl rfl rfl (by decide +kernel) hR
theorem cwX7_18_X7 {R : Room} {s : State} {args : Array Value} (ht : ∀ w ∈ lw_all, w.before args s = true) (hR : rmX3_size.frames + 1 ≤ R.frames ∧ 8 + (3 + 11) + rmX3_size.locals ≤ R.locals) : va_CS R s args RX7 18 yX3_size cX3_size 3 (some .int) (ws_ yX3_size cX3_size 3 (some .int)) rmX3_size 0 0 2 :=
  va_cwSU (ws := (ws_ yX3_size cX3_size 3 (some .int))) 2 ht (xwsSU q1187 q1128 q260 q1127 q74 (lw_meth q1198)) rfl rfl rfl (by decide +kernel) hR
theorem cwX7_18_X8 {R : Room} {s : State} {args : Array Value} (ht : ∀ w ∈ lw_all, w.before args s = true) (hR : rmX3_size.frames + 1 ≤ R.frames ∧ 8 + (3 + 11) + rmX3_size.locals ≤ R.locals) : va_CS R s args RX7 18 yX3_size cX3_size 3 (some .int) (ws_ yX3_size cX3_size 3 (some .int)) rmX3_size 0 0 2 :=
  va_cwSU (ws := (ws_ yX3_size cX3_size 3 (some .int))) 2 ht (xwsSU q1187 q1128 q260 q1127 q74 (lw_meth q1198)) rfl rfl rfl (by decide +kernel) hR
section
variable {p : Program} {l : Launch} {e : Env} {s : State} {m : MethodId} {args : Array Value} {below : List Frame} {meth : Method} {c : Code} {D : va_G} {cA : Nat → ClassId} {A : Nat → Prop} {Zs : XZ} {Xf : AH} {r : Int32} {rl : Int64} {ra : Nat} {tv : Unit ⊕ Nat} {ti : Int32 ⊕ Nat} {tr : Nat ⊕ Nat} {q2 : Option Nat}
def fX7_size  (X : AH) (x0 : Nat) (x1 : Nat) (x2 : Nat) : Option (Int32 × AH) :=
  (ck X x1 2).bind fun _ =>
  (fX2_begins X x1 13).bind fun X2 =>
  (gC X2 x0).bind fun k4 =>
  if k4 = 7 then ((fX3_size X2 x0 x1 x2).bind fun (v9, X8) =>
  some ((v9 - 100), X8)) else (if k4 = 8 then ((fX3_size X2 x0 x1 x2).bind fun (v6, X5) =>
  some ((v6 - 100), X5)) else none)
theorem wX7_size_0 (E : xE p m c cX7_size 3 s args RX7 D cA A Zs meth (some .int)) {X : AH} {x0 : Nat} {x1 : Nat} {x2 : Nat} (hf : fX7_size X x0 x1 x2 = some (r, Xf)) : ∀ (H : Heap) (locs : List Loc) (ls : Array Slot) (cells slots : Nat), cells + 0 ≤ 0 → slots + 0 ≤ 0 → xR D cA A Zs X H → va_S A s.heap H locs → lv_has ls 3 [(0, .ref x0), (1, .ref x1), (2, .ref x2)] → W p l e rmX7_size s m args below meth c H locs cells slots (MQ below (xQi D cA A Zs r Xf) args s 0 0 A) (F0 m 0 ls []) := by
  intro H locs ls cells slots hc hs hR hS hl
  refine lv_aload_n E.hx E.hb dX7_size_0 rfl (lv_at hl 1 rfl) ?_
  refine lv_bipush (v := 13) E.hx E.hb dX7_size_1 (by decide) ?_
  obtain ⟨u1, hu1, hf⟩ := bd_e hf
  obtain ⟨X2, hX2, hf⟩ := bd_e hf
  refine xrun_v (va_runV (As := [.int 13]) (rest := []) E.1 (tX2_begins l hX2) (cwX7_13 E.ht ⟨Nat.le_of_ble_eq_true rfl, Nat.le_of_ble_eq_true rfl⟩) (xPreV (ci := 2) E hR hS rfl (ck_e hu1)) rfl rfl hl.1 rfl (lv_room (Nat.le_of_ble_eq_true rfl)) dX7_size_3 ⟨Nat.le_trans (by omega) (Nat.le_refl 0), Nat.le_trans (by omega) (Nat.le_refl 0)⟩) hS (fun H locs hR hS => ?_)
  refine lv_aload_n E.hx E.hb dX7_size_6 rfl (lv_at hl 0 rfl) ?_
  refine lv_aload_n E.hx E.hb dX7_size_7 rfl (lv_at hl 1 rfl) ?_
  refine lv_aload_n E.hx E.hb dX7_size_8 rfl (lv_at hl 2 rfl) ?_
  obtain ⟨k4, hk4, hf⟩ := bd_e hf
  by_cases c10 : k4 = 7
  · have hf := it_t hf c10
    obtain ⟨⟨v9, X8⟩, hv9, hf⟩ := bd_e hf
    refine xrun_i (va_runSU (As := [.ref x1, .ref x2]) (rest := []) (xClassAt (ci := 7) E rfl) E.1 (tX3_size l hv9) (cwX7_18_X7 E.ht ⟨Nat.le_of_ble_eq_true rfl, Nat.le_of_ble_eq_true rfl⟩) (xPreV (ci := 7) E hR hS rfl (hk4.trans (congrArg some c10))) rfl rfl hl.1 rfl (lv_room (Nat.le_of_ble_eq_true rfl)) dX7_size_9 ⟨Nat.le_trans (by omega) (Nat.le_refl 0), Nat.le_trans (by omega) (Nat.le_refl 0)⟩) hS (fun H locs hR hS => ?_)
    refine lv_bipush (v := 100) E.hx E.hb dX7_size_12 (by decide) ?_
    refine lv_isub E.hx E.hb dX7_size_14 ?_
    obtain ⟨rfl, rfl⟩ := rt_e hf
    exact xret_i E (by omega) (by omega) hR hS dX7_size_15
  · have hf := it_f hf c10
    by_cases c7 : k4 = 8
    · have hf := it_t hf c7
      obtain ⟨⟨v6, X5⟩, hv6, hf⟩ := bd_e hf
      refine xrun_i (va_runSU (As := [.ref x1, .ref x2]) (rest := []) (xClassAt (ci := 8) E rfl) E.1 (tX3_size l hv6) (cwX7_18_X8 E.ht ⟨Nat.le_of_ble_eq_true rfl, Nat.le_of_ble_eq_true rfl⟩) (xPreV (ci := 8) E hR hS rfl (hk4.trans (congrArg some c7))) rfl rfl hl.1 rfl (lv_room (Nat.le_of_ble_eq_true rfl)) dX7_size_9 ⟨Nat.le_trans (by omega) (Nat.le_refl 0), Nat.le_trans (by omega) (Nat.le_refl 0)⟩) hS (fun H locs hR hS => ?_)
      refine lv_bipush (v := 100) E.hx E.hb dX7_size_12 (by decide) ?_
      refine lv_isub E.hx E.hb dX7_size_14 ?_
      obtain ⟨rfl, rfl⟩ := rt_e hf
      exact xret_i E (by omega) (by omega) hR hS dX7_size_15
    · have hf := it_f hf c7
      have hf : none = some (r, Xf) := hf
      cases hf
theorem tX7_size (l : Launch) {D : va_G} {cA : Nat → ClassId} {A : Nat → Prop} {Zs : XZ} {X Xf : AH} {x0 : Nat} {x1 : Nat} {x2 : Nat} {r : Int32} (hf : fX7_size X x0 x1 x2 = some (r, Xf)) : Met l yX7_size (ws_ yX7_size cX7_size 3 (some .int)) rmX7_size (xPc D cA A Zs X [.ref x0, .ref x1, .ref x2]) (xQi D cA A Zs r Xf) 0 0 A := by
  refine Met.ofW (cc := cX7_size) (maxL := 3) (ret := (some .int)) (by decide) rfl ?_
  intro p e s m args below meth c s₁ B hml hv
  obtain ⟨rfl, hR, hK⟩ := hv
  have hts := atoms_spec (ws := (ws_ yX7_size cX7_size 3 (some .int))) B.pre
  rw [lg_entry_eq]
  exact wX7_size_0 (E := ⟨⟨B.exec, B.bytes, hml, findClass_of_methodNamed B.named, fun w h => hts w (List.mem_cons_of_mem _ h)⟩, hK, B.returns, B.notSynchronized⟩) hf _ _ _ 0 0 (Nat.le_of_ble_eq_true rfl) (Nat.le_of_ble_eq_true rfl) hR va_S.rf (lv_entry [.ref x0, .ref x1, .ref x2] (n := 3) (Nat.le_of_ble_eq_true rfl))
end
abbrev rmX8_size : Room := { frames := 4, cells := 0, slots := 0, locals := 77 }
theorem cwX8_13 {R : Room} {s : State} {args : Array Value} (ht : ∀ w ∈ lw_all, w.before args s = true) (hR : rmX2_begins.frames + 1 ≤ R.frames ∧ 8 + (2 + 11) + rmX2_begins.locals ≤ R.locals) : CallW R s args RX8 RX2 13 yX2_begins cX2_begins 2 none (ws_ yX2_begins cX2_begins 2 none) rmX2_begins 0 0 1 :=
  cwV 1 ht (lw_V q1196 q1133 q1134 q73 q1135) rfl rfl rfl (by decide +kernel) hR
theorem cwX8_18_X8 {R : Room} {s : State} {args : Array Value} (ht : ∀ w ∈ lw_all, w.before args s = true) (hR : rmX7_size.frames + 1 ≤ R.frames ∧ 8 + (3 + 11) + rmX7_size.locals ≤ R.locals) : va_CS R s args RX8 18 yX7_size cX7_size 3 (some .int) (ws_ yX7_size cX7_size 3 (some .int)) rmX7_size 0 0 2 :=
  va_cwSU (ws := (ws_ yX7_size cX7_size 3 (some .int))) 2 ht (xwsSU q1197 q1675 q268 q1184 q78 (lw_meth q1185)) rfl rfl rfl (by decide +kernel) hR
section
variable {p : Program} {l : Launch} {e : Env} {s : State} {m : MethodId} {args : Array Value} {below : List Frame} {meth : Method} {c : Code} {D : va_G} {cA : Nat → ClassId} {A : Nat → Prop} {Zs : XZ} {Xf : AH} {r : Int32} {rl : Int64} {ra : Nat} {tv : Unit ⊕ Nat} {ti : Int32 ⊕ Nat} {tr : Nat ⊕ Nat} {q2 : Option Nat}
def fX8_size  (X : AH) (x0 : Nat) (x1 : Nat) (x2 : Nat) : Option (Int32 × AH) :=
  (ck X x1 2).bind fun _ =>
  (fX2_begins X x1 14).bind fun X2 =>
  (ck X2 x0 8).bind fun _ =>
  (fX7_size X2 x0 x1 x2).bind fun (v6, X5) =>
  some ((2 * v6), X5)
theorem wX8_size_0 (E : xE p m c cX8_size 3 s args RX8 D cA A Zs meth (some .int)) {X : AH} {x0 : Nat} {x1 : Nat} {x2 : Nat} (hf : fX8_size X x0 x1 x2 = some (r, Xf)) : ∀ (H : Heap) (locs : List Loc) (ls : Array Slot) (cells slots : Nat), cells + 0 ≤ 0 → slots + 0 ≤ 0 → xR D cA A Zs X H → va_S A s.heap H locs → lv_has ls 3 [(0, .ref x0), (1, .ref x1), (2, .ref x2)] → W p l e rmX8_size s m args below meth c H locs cells slots (MQ below (xQi D cA A Zs r Xf) args s 0 0 A) (F0 m 0 ls []) := by
  intro H locs ls cells slots hc hs hR hS hl
  refine lv_aload_n E.hx E.hb dX8_size_0 rfl (lv_at hl 1 rfl) ?_
  refine lv_bipush (v := 14) E.hx E.hb dX8_size_1 (by decide) ?_
  obtain ⟨u1, hu1, hf⟩ := bd_e hf
  obtain ⟨X2, hX2, hf⟩ := bd_e hf
  refine xrun_v (va_runV (As := [.int 14]) (rest := []) E.1 (tX2_begins l hX2) (cwX8_13 E.ht ⟨Nat.le_of_ble_eq_true rfl, Nat.le_of_ble_eq_true rfl⟩) (xPreV (ci := 2) E hR hS rfl (ck_e hu1)) rfl rfl hl.1 rfl (lv_room (Nat.le_of_ble_eq_true rfl)) dX8_size_3 ⟨Nat.le_trans (by omega) (Nat.le_refl 0), Nat.le_trans (by omega) (Nat.le_refl 0)⟩) hS (fun H locs hR hS => ?_)
  refine lv_iconst (v := 2) E.hx E.hb dX8_size_6 (by decide) ?_
  refine lv_aload_n E.hx E.hb dX8_size_7 rfl (lv_at hl 0 rfl) ?_
  refine lv_aload_n E.hx E.hb dX8_size_8 rfl (lv_at hl 1 rfl) ?_
  refine lv_aload_n E.hx E.hb dX8_size_9 rfl (lv_at hl 2 rfl) ?_
  obtain ⟨u4, hu4, hf⟩ := bd_e hf
  obtain ⟨⟨v6, X5⟩, hv6, hf⟩ := bd_e hf
  refine xrun_i (va_runSU (As := [.ref x1, .ref x2]) (rest := [.int 2]) (xClassAt (ci := 8) E rfl) E.1 (tX7_size l hv6) (cwX8_18_X8 E.ht ⟨Nat.le_of_ble_eq_true rfl, Nat.le_of_ble_eq_true rfl⟩) (xPreV (ci := 8) E hR hS rfl (ck_e hu4)) rfl rfl hl.1 rfl (lv_room (Nat.le_of_ble_eq_true rfl)) dX8_size_10 ⟨Nat.le_trans (by omega) (Nat.le_refl 0), Nat.le_trans (by omega) (Nat.le_refl 0)⟩) hS (fun H locs hR hS => ?_)
  refine lv_imul E.hx E.hb dX8_size_13 ?_
  obtain ⟨rfl, rfl⟩ := rt_e hf
  exact xret_i E (by omega) (by omega) hR hS dX8_size_14
theorem tX8_size (l : Launch) {D : va_G} {cA : Nat → ClassId} {A : Nat → Prop} {Zs : XZ} {X Xf : AH} {x0 : Nat} {x1 : Nat} {x2 : Nat} {r : Int32} (hf : fX8_size X x0 x1 x2 = some (r, Xf)) : Met l yX8_size (ws_ yX8_size cX8_size 3 (some .int)) rmX8_size (xPc D cA A Zs X [.ref x0, .ref x1, .ref x2]) (xQi D cA A Zs r Xf) 0 0 A := by
  refine Met.ofW (cc := cX8_size) (maxL := 3) (ret := (some .int)) (by decide) rfl ?_
  intro p e s m args below meth c s₁ B hml hv
  obtain ⟨rfl, hR, hK⟩ := hv
  have hts := atoms_spec (ws := (ws_ yX8_size cX8_size 3 (some .int))) B.pre
  rw [lg_entry_eq]
  exact wX8_size_0 (E := ⟨⟨B.exec, B.bytes, hml, findClass_of_methodNamed B.named, fun w h => hts w (List.mem_cons_of_mem _ h)⟩, hK, B.returns, B.notSynchronized⟩) hf _ _ _ 0 0 (Nat.le_of_ble_eq_true rfl) (Nat.le_of_ble_eq_true rfl) hR va_S.rf (lv_entry [.ref x0, .ref x1, .ref x2] (n := 3) (Nat.le_of_ble_eq_true rfl))
end
abbrev rmX7_mark : Room := { frames := 5, cells := 0, slots := 0, locals := 99 }
theorem cwX7_25 {R : Room} {s : State} {args : Array Value} (ht : ∀ w ∈ lw_all, w.before args s = true) (hR : rmX7_size.frames + 1 ≤ R.frames ∧ 8 + (3 + 11) + rmX7_size.locals ≤ R.locals) : CallW R s args RX7 RX7 25 yX7_size cX7_size 3 (some .int) (ws_ yX7_size cX7_size 3 (some .int)) rmX7_size 0 0 2 :=
  cwV 2 ht (lw_V q1204 q1184 q1676 q78 q1185) rfl rfl rfl (by decide +kernel) hR
theorem cwX7_25_X8 {R : Room} {s : State} {args : Array Value} (ht : ∀ w ∈ lw_all, w.before args s = true) (hR : rmX8_size.frames + 1 ≤ R.frames ∧ 8 + (3 + 11) + rmX8_size.locals ≤ R.locals) : va_CU R s args RX7 "ChairRanks$Throne" "ChairRanks$Oak" 25 ⟨"ChairRanks$Oak", "size", "(LChairRanks$Trail;LChairRanks$Ministry;)I"⟩ yX8_size cX8_size 3 (some .int) (ws_ yX8_size cX8_size 3 (some .int)) rmX8_size 0 0 2 :=
  xCU (ws := (ws_ yX8_size cX8_size 3 (some .int))) ht (lw_meth q1195) rfl rfl rfl q1204 q1675 (va_Decl.of (ht _ q1184) (ht _ q1185)) q1677 q1194 q79 (by decide +kernel) hR
section
variable {p : Program} {l : Launch} {e : Env} {s : State} {m : MethodId} {args : Array Value} {below : List Frame} {meth : Method} {c : Code} {D : va_G} {cA : Nat → ClassId} {A : Nat → Prop} {Zs : XZ} {Xf : AH} {r : Int32} {rl : Int64} {ra : Nat} {tv : Unit ⊕ Nat} {ti : Int32 ⊕ Nat} {tr : Nat ⊕ Nat} {q2 : Option Nat}
def fX7_mark  (X : AH) (x0 : Nat) (x1 : Nat) (x2 : Nat) : Option (Int32 × AH) :=
  (ck X x1 2).bind fun _ =>
  (fX2_begins X x1 23).bind fun X2 =>
  (gC X2 x0).bind fun k4 =>
  if k4 = 7 then ((fX14_mark X2 x0 x1 x2).bind fun (v16, X15) =>
  (gC X15 x0).bind fun k17 =>
  if k17 = 7 then ((fX7_size X15 x0 x1 x2).bind fun (v22, X21) =>
  some ((v16 - v22), X21)) else (if k17 = 8 then ((fX8_size X15 x0 x1 x2).bind fun (v19, X18) =>
  some ((v16 - v19), X18)) else none)) else (if k4 = 8 then ((fX14_mark X2 x0 x1 x2).bind fun (v6, X5) =>
  (gC X5 x0).bind fun k7 =>
  if k7 = 7 then ((fX7_size X5 x0 x1 x2).bind fun (v12, X11) =>
  some ((v6 - v12), X11)) else (if k7 = 8 then ((fX8_size X5 x0 x1 x2).bind fun (v9, X8) =>
  some ((v6 - v9), X8)) else none)) else none)
theorem wX7_mark_0 (E : xE p m c cX7_mark 3 s args RX7 D cA A Zs meth (some .int)) (M : xM s) {X : AH} {x0 : Nat} {x1 : Nat} {x2 : Nat} (hf : fX7_mark X x0 x1 x2 = some (r, Xf)) : ∀ (H : Heap) (locs : List Loc) (ls : Array Slot) (cells slots : Nat), cells + 0 ≤ 0 → slots + 0 ≤ 0 → xR D cA A Zs X H → va_S A s.heap H locs → lv_has ls 3 [(0, .ref x0), (1, .ref x1), (2, .ref x2)] → W p l e rmX7_mark s m args below meth c H locs cells slots (MQ below (xQi D cA A Zs r Xf) args s 0 0 A) (F0 m 0 ls []) := by
  intro H locs ls cells slots hc hs hR hS hl
  refine lv_aload_n E.hx E.hb dX7_mark_0 rfl (lv_at hl 1 rfl) ?_
  refine lv_bipush (v := 23) E.hx E.hb dX7_mark_1 (by decide) ?_
  obtain ⟨u1, hu1, hf⟩ := bd_e hf
  obtain ⟨X2, hX2, hf⟩ := bd_e hf
  refine xrun_v (va_runV (As := [.int 23]) (rest := []) E.1 (tX2_begins l hX2) (cwX7_13 E.ht ⟨Nat.le_of_ble_eq_true rfl, Nat.le_of_ble_eq_true rfl⟩) (xPreV (ci := 2) E hR hS rfl (ck_e hu1)) rfl rfl hl.1 rfl (lv_room (Nat.le_of_ble_eq_true rfl)) dX7_mark_3 ⟨Nat.le_trans (by omega) (Nat.le_refl 0), Nat.le_trans (by omega) (Nat.le_refl 0)⟩) hS (fun H locs hR hS => ?_)
  refine lv_aload_n E.hx E.hb dX7_mark_6 rfl (lv_at hl 0 rfl) ?_
  refine lv_aload_n E.hx E.hb dX7_mark_7 rfl (lv_at hl 1 rfl) ?_
  refine lv_aload_n E.hx E.hb dX7_mark_8 rfl (lv_at hl 2 rfl) ?_
  obtain ⟨k4, hk4, hf⟩ := bd_e hf
  by_cases c24 : k4 = 7
  · have hf := it_t hf c24
    obtain ⟨⟨v16, X15⟩, hv16, hf⟩ := bd_e hf
    refine xrun_i (runSD (ci := 7) (rest := []) E M hR hS (by decide +kernel) q260 rfl (hk4.trans (congrArg some c24)) hv16 hl.1 (Nat.le_of_ble_eq_true rfl) dX7_mark_9 ⟨Nat.le_of_ble_eq_true rfl, Nat.le_of_ble_eq_true rfl⟩ ⟨Nat.le_trans (by omega) (Nat.le_refl 0), Nat.le_trans (by omega) (Nat.le_refl 0)⟩) hS (fun H locs hR hS => ?_)
    refine lv_aload_n E.hx E.hb dX7_mark_12 rfl (lv_at hl 0 rfl) ?_
    refine lv_aload_n E.hx E.hb dX7_mark_13 rfl (lv_at hl 1 rfl) ?_
    refine lv_aload_n E.hx E.hb dX7_mark_14 rfl (lv_at hl 2 rfl) ?_
    obtain ⟨k17, hk17, hf⟩ := bd_e hf
    by_cases c23 : k17 = 7
    · have hf := it_t hf c23
      obtain ⟨⟨v22, X21⟩, hv22, hf⟩ := bd_e hf
      refine xrun_i (va_runV (As := [.ref x1, .ref x2]) (rest := [.int v16]) E.1 (tX7_size l hv22) (cwX7_25 E.ht ⟨Nat.le_of_ble_eq_true rfl, Nat.le_of_ble_eq_true rfl⟩) (xPreV (ci := 7) E hR hS rfl (hk17.trans (congrArg some c23))) rfl rfl hl.1 rfl (lv_room (Nat.le_of_ble_eq_true rfl)) dX7_mark_15 ⟨Nat.le_trans (by omega) (Nat.le_refl 0), Nat.le_trans (by omega) (Nat.le_refl 0)⟩) hS (fun H locs hR hS => ?_)
      refine lv_isub E.hx E.hb dX7_mark_18 ?_
      obtain ⟨rfl, rfl⟩ := rt_e hf
      exact xret_i E (by omega) (by omega) hR hS dX7_mark_19
    · have hf := it_f hf c23
      by_cases c20 : k17 = 8
      · have hf := it_t hf c20
        obtain ⟨⟨v19, X18⟩, hv19, hf⟩ := bd_e hf
        refine xrun_i (va_runU (As := [.ref x1, .ref x2]) (rest := [.int v16]) E.1 (tX8_size l hv19) (cwX7_25_X8 E.ht ⟨Nat.le_of_ble_eq_true rfl, Nat.le_of_ble_eq_true rfl⟩) (xPreV (ci := 8) E hR hS rfl (hk17.trans (congrArg some c20))) rfl rfl hl.1 rfl (lv_room (Nat.le_of_ble_eq_true rfl)) dX7_mark_15 ⟨Nat.le_trans (by omega) (Nat.le_refl 0), Nat.le_trans (by omega) (Nat.le_refl 0)⟩) hS (fun H locs hR hS => ?_)
        refine lv_isub E.hx E.hb dX7_mark_18 ?_
        obtain ⟨rfl, rfl⟩ := rt_e hf
        exact xret_i E (by omega) (by omega) hR hS dX7_mark_19
      · have hf := it_f hf c20
        have hf : none = some (r, Xf) := hf
        cases hf
  · have hf := it_f hf c24
    by_cases c14 : k4 = 8
    · have hf := it_t hf c14
      obtain ⟨⟨v6, X5⟩, hv6, hf⟩ := bd_e hf
      refine xrun_i (runSD (ci := 8) (rest := []) E M hR hS (by decide +kernel) q260 rfl (hk4.trans (congrArg some c14)) hv6 hl.1 (Nat.le_of_ble_eq_true rfl) dX7_mark_9 ⟨Nat.le_of_ble_eq_true rfl, Nat.le_of_ble_eq_true rfl⟩ ⟨Nat.le_trans (by omega) (Nat.le_refl 0), Nat.le_trans (by omega) (Nat.le_refl 0)⟩) hS (fun H locs hR hS => ?_)
      refine lv_aload_n E.hx E.hb dX7_mark_12 rfl (lv_at hl 0 rfl) ?_
      refine lv_aload_n E.hx E.hb dX7_mark_13 rfl (lv_at hl 1 rfl) ?_
      refine lv_aload_n E.hx E.hb dX7_mark_14 rfl (lv_at hl 2 rfl) ?_
      obtain ⟨k7, hk7, hf⟩ := bd_e hf
      by_cases c13 : k7 = 7
      · have hf := it_t hf c13
        obtain ⟨⟨v12, X11⟩, hv12, hf⟩ := bd_e hf
        refine xrun_i (va_runV (As := [.ref x1, .ref x2]) (rest := [.int v6]) E.1 (tX7_size l hv12) (cwX7_25 E.ht ⟨Nat.le_of_ble_eq_true rfl, Nat.le_of_ble_eq_true rfl⟩) (xPreV (ci := 7) E hR hS rfl (hk7.trans (congrArg some c13))) rfl rfl hl.1 rfl (lv_room (Nat.le_of_ble_eq_true rfl)) dX7_mark_15 ⟨Nat.le_trans (by omega) (Nat.le_refl 0), Nat.le_trans (by omega) (Nat.le_refl 0)⟩) hS (fun H locs hR hS => ?_)
        refine lv_isub E.hx E.hb dX7_mark_18 ?_
        obtain ⟨rfl, rfl⟩ := rt_e hf
        exact xret_i E (by omega) (by omega) hR hS dX7_mark_19
      · have hf := it_f hf c13
        by_cases c10 : k7 = 8
        · have hf := it_t hf c10
          obtain ⟨⟨v9, X8⟩, hv9, hf⟩ := bd_e hf
          refine xrun_i (va_runU (As := [.ref x1, .ref x2]) (rest := [.int v6]) E.1 (tX8_size l hv9) (cwX7_25_X8 E.ht ⟨Nat.le_of_ble_eq_true rfl, Nat.le_of_ble_eq_true rfl⟩) (xPreV (ci := 8) E hR hS rfl (hk7.trans (congrArg some c10))) rfl rfl hl.1 rfl (lv_room (Nat.le_of_ble_eq_true rfl)) dX7_mark_15 ⟨Nat.le_trans (by omega) (Nat.le_refl 0), Nat.le_trans (by omega) (Nat.le_refl 0)⟩) hS (fun H locs hR hS => ?_)
          refine lv_isub E.hx E.hb dX7_mark_18 ?_
          obtain ⟨rfl, rfl⟩ := rt_e hf
          exact xret_i E (by omega) (by omega) hR hS dX7_mark_19
        · have hf := it_f hf c10
          have hf : none = some (r, Xf) := hf
          cases hf
    · have hf := it_f hf c14
      have hf : none = some (r, Xf) := hf
      cases hf
theorem tX7_mark (l : Launch) {D : va_G} {cA : Nat → ClassId} {A : Nat → Prop} {Zs : XZ} {X Xf : AH} {x0 : Nat} {x1 : Nat} {x2 : Nat} {r : Int32} (hf : fX7_mark X x0 x1 x2 = some (r, Xf)) : Met l yX7_mark (ws_ yX7_mark cX7_mark 3 (some .int)) rmX7_mark (xPcM D cA A Zs X [.ref x0, .ref x1, .ref x2]) (xQi D cA A Zs r Xf) 0 0 A := by
  refine Met.ofW (cc := cX7_mark) (maxL := 3) (ret := (some .int)) (by decide) rfl ?_
  intro p e s m args below meth c s₁ B hml hv
  obtain ⟨rfl, hR, hK, hM⟩ := hv
  have hts := atoms_spec (ws := (ws_ yX7_mark cX7_mark 3 (some .int))) B.pre
  rw [lg_entry_eq]
  exact wX7_mark_0 (E := ⟨⟨B.exec, B.bytes, hml, findClass_of_methodNamed B.named, fun w h => hts w (List.mem_cons_of_mem _ h)⟩, hK, B.returns, B.notSynchronized⟩) hM hf _ _ _ 0 0 (Nat.le_of_ble_eq_true rfl) (Nat.le_of_ble_eq_true rfl) hR va_S.rf (lv_entry [.ref x0, .ref x1, .ref x2] (n := 3) (Nat.le_of_ble_eq_true rfl))
end
abbrev rmX0_ask : Room := { frames := 7, cells := 2, slots := 18, locals := 143 }
theorem cwX0_367_X4 {R : Room} {s : State} {args : Array Value} (ht : ∀ w ∈ lw_all, w.before args s = true) (hR : rmX4_size.frames + 1 ≤ R.frames ∧ 8 + (3 + 11) + rmX4_size.locals ≤ R.locals) : va_CU R s args RX0 "ChairRanks$Plain" "ChairRanks$Chair" 367 ⟨"ChairRanks$Chair", "size", "(LChairRanks$Trail;LChairRanks$Ministry;)I"⟩ yX4_size cX4_size 3 (some .int) (ws_ yX4_size cX4_size 3 (some .int)) rmX4_size 0 0 2 :=
  xCU (ws := (ws_ yX4_size cX4_size 3 (some .int))) ht (lw_meth q1131) rfl rfl rfl q1126 q1128 (va_Decl.of (ht _ q1127) (ht _ q1198)) q1188 q1130 q75 (by decide +kernel) hR
theorem cwX0_367_X5 {R : Room} {s : State} {args : Array Value} (ht : ∀ w ∈ lw_all, w.before args s = true) (hR : rmX5_size.frames + 1 ≤ R.frames ∧ 8 + (3 + 11) + rmX5_size.locals ≤ R.locals) : va_CU R s args RX0 "ChairRanks$Rocker" "ChairRanks$Chair" 367 ⟨"ChairRanks$Chair", "size", "(LChairRanks$Trail;LChairRanks$Ministry;)I"⟩ yX5_size cX5_size 3 (some .int) (ws_ yX5_size cX5_size 3 (some .int)) rmX5_size 0 0 2 :=
  xCU (ws := (ws_ yX5_size cX5_size 3 (some .int))) ht (lw_meth q1191) rfl rfl rfl q1126 q1128 (va_Decl.of (ht _ q1127) (ht _ q1198)) q1189 q1190 q76 (by decide +kernel) hR
theorem cwX0_367_X6 {R : Room} {s : State} {args : Array Value} (ht : ∀ w ∈ lw_all, w.before args s = true) (hR : rmX4_size.frames + 1 ≤ R.frames ∧ 8 + (3 + 11) + rmX4_size.locals ≤ R.locals) : va_CU R s args RX0 "ChairRanks$Cushioned" "ChairRanks$Chair" 367 ⟨"ChairRanks$Chair", "size", "(LChairRanks$Trail;LChairRanks$Ministry;)I"⟩ yX4_size cX4_size 3 (some .int) (ws_ yX4_size cX4_size 3 (some .int)) rmX4_size 0 0 2 :=
  xCU (ws := (ws_ yX4_size cX4_size 3 (some .int))) ht (lw_meth q1131) rfl rfl rfl q1126 q1128 (va_Decl.of (ht _ q1127) (ht _ q1198)) q1129 q1130 q75 (by decide +kernel) hR
theorem cwX0_367_X7 {R : Room} {s : State} {args : Array Value} (ht : ∀ w ∈ lw_all, w.before args s = true) (hR : rmX7_size.frames + 1 ≤ R.frames ∧ 8 + (3 + 11) + rmX7_size.locals ≤ R.locals) : va_CU R s args RX0 "ChairRanks$Oak" "ChairRanks$Chair" 367 ⟨"ChairRanks$Chair", "size", "(LChairRanks$Trail;LChairRanks$Ministry;)I"⟩ yX7_size cX7_size 3 (some .int) (ws_ yX7_size cX7_size 3 (some .int)) rmX7_size 0 0 2 :=
  xCU (ws := (ws_ yX7_size cX7_size 3 (some .int))) ht (lw_meth q1185) rfl rfl rfl q1126 q1128 (va_Decl.of (ht _ q1127) (ht _ q1198)) q1183 q1184 q78 (by decide +kernel) hR
theorem cwX0_367_X8 {R : Room} {s : State} {args : Array Value} (ht : ∀ w ∈ lw_all, w.before args s = true) (hR : rmX8_size.frames + 1 ≤ R.frames ∧ 8 + (3 + 11) + rmX8_size.locals ≤ R.locals) : va_CU R s args RX0 "ChairRanks$Throne" "ChairRanks$Chair" 367 ⟨"ChairRanks$Chair", "size", "(LChairRanks$Trail;LChairRanks$Ministry;)I"⟩ yX8_size cX8_size 3 (some .int) (ws_ yX8_size cX8_size 3 (some .int)) rmX8_size 0 0 2 :=
  xCU (ws := (ws_ yX8_size cX8_size 3 (some .int))) ht (lw_meth q1195) rfl rfl rfl q1126 q1128 (va_Decl.of (ht _ q1127) (ht _ q1198)) q1193 q1194 q79 (by decide +kernel) hR
theorem cwX0_371_X4 {R : Room} {s : State} {args : Array Value} (ht : ∀ w ∈ lw_all, w.before args s = true) (M : xM s) (hR : rmX4_mark.frames + 1 ≤ R.frames ∧ 8 + (3 + 11) + rmX4_mark.locals ≤ R.locals) : va_CU R s args RX0 "ChairRanks$Plain" "ChairRanks$Marked" 371 mkC yX4_mark cX4_mark 3 (some .int) (ws_ yX4_mark cX4_mark 3 (some .int)) rmX4_mark 0 0 2 :=
  xCUM (ws := (ws_ yX4_mark cX4_mark 3 (some .int))) M ht (lw_meth q1151) rfl rfl rfl (by decide +kernel) q1205 q1138 q75 (by decide +kernel) hR
theorem cwX0_371_X5 {R : Room} {s : State} {args : Array Value} (ht : ∀ w ∈ lw_all, w.before args s = true) (M : xM s) (hR : rmX5_mark.frames + 1 ≤ R.frames ∧ 8 + (3 + 11) + rmX5_mark.locals ≤ R.locals) : va_CU R s args RX0 "ChairRanks$Rocker" "ChairRanks$Marked" 371 mkC yX5_mark cX5_mark 3 (some .int) (ws_ yX5_mark cX5_mark 3 (some .int)) rmX5_mark 0 0 2 :=
  xCUM (ws := (ws_ yX5_mark cX5_mark 3 (some .int))) M ht (lw_meth q1148) rfl rfl rfl (by decide +kernel) q1206 q1147 q76 (by decide +kernel) hR
theorem cwX0_371_X6 {R : Room} {s : State} {args : Array Value} (ht : ∀ w ∈ lw_all, w.before args s = true) (M : xM s) (hR : rmX6_mark.frames + 1 ≤ R.frames ∧ 8 + (3 + 11) + rmX6_mark.locals ≤ R.locals) : va_CU R s args RX0 "ChairRanks$Cushioned" "ChairRanks$Marked" 371 mkC yX6_mark cX6_mark 3 (some .int) (ws_ yX6_mark cX6_mark 3 (some .int)) rmX6_mark 0 0 2 :=
  xCUM (ws := (ws_ yX6_mark cX6_mark 3 (some .int))) M ht (lw_meth q1143) rfl rfl rfl (by decide +kernel) q1200 q1142 q77 (by decide +kernel) hR
theorem cwX0_371_X7 {R : Room} {s : State} {args : Array Value} (ht : ∀ w ∈ lw_all, w.before args s = true) (M : xM s) (hR : rmX7_mark.frames + 1 ≤ R.frames ∧ 8 + (3 + 11) + rmX7_mark.locals ≤ R.locals) : va_CU R s args RX0 "ChairRanks$Oak" "ChairRanks$Marked" 371 mkC yX7_mark cX7_mark 3 (some .int) (ws_ yX7_mark cX7_mark 3 (some .int)) rmX7_mark 0 0 2 :=
  xCUM (ws := (ws_ yX7_mark cX7_mark 3 (some .int))) M ht (lw_meth q1203) rfl rfl rfl (by decide +kernel) q1201 q1202 q78 (by decide +kernel) hR
theorem cwX0_371_X8 {R : Room} {s : State} {args : Array Value} (ht : ∀ w ∈ lw_all, w.before args s = true) (M : xM s) (hR : rmX7_mark.frames + 1 ≤ R.frames ∧ 8 + (3 + 11) + rmX7_mark.locals ≤ R.locals) : va_CU R s args RX0 "ChairRanks$Throne" "ChairRanks$Marked" 371 mkC yX7_mark cX7_mark 3 (some .int) (ws_ yX7_mark cX7_mark 3 (some .int)) rmX7_mark 0 0 2 :=
  xCUM (ws := (ws_ yX7_mark cX7_mark 3 (some .int))) M ht (lw_meth q1203) rfl rfl rfl (by decide +kernel) q1207 q1202 q78 (by decide +kernel) hR
theorem cwX0_55 {R : Room} {s : State} {args : Array Value} (ht : ∀ w ∈ lw_all, w.before args s = true) (hl : va_Nw (.methodLinkNest RX0 55 yX2_init "ChairRanks") s) (hR : rmX2_init.frames + 1 ≤ R.frames ∧ 8 + (1 + 11) + rmX2_init.locals ≤ R.locals) : va_CN R s args RX0 55 yX2_init "ChairRanks" cX2_init 1 none (ws_ yX2_init cX2_init 1 none) rmX2_init 1 16 0 ∧ yX2_init.name = "<init>" ∧ (Cond.instanceMethod yX2_init).before args s = true :=
  ⟨va_cnB 0 ht (lw_meth q211) rfl rfl rfl hl (ht _ q73) (by decide +kernel) hR, rfl, ht _ q210⟩
section
variable {p : Program} {l : Launch} {e : Env} {s : State} {m : MethodId} {args : Array Value} {below : List Frame} {meth : Method} {c : Code} {D : va_G} {cA : Nat → ClassId} {A : Nat → Prop} {Zs : XZ} {Xf : AH} {r : Int32} {rl : Int64} {ra : Nat} {tv : Unit ⊕ Nat} {ti : Int32 ⊕ Nat} {tr : Nat ⊕ Nat} {q2 : Option Nat}
def fX0_ask  (X : AH) (x0 : Nat) (x1 : Int32) (x2 : Int32) : Option (Int32 × AH) :=
  (ck X x0 0).bind fun _ =>
  (fX0_isChair X x0 x1).bind fun (v3, X2) =>
  if v3 = 0 then (some ((-1000001), X2)) else ((fX0_isHalf x2).bind fun v5 =>
  if v5 = 0 then (some ((-1000001), X2)) else ((some (xnw X2 (.inl (2, [.null, .int 0])))).bind fun X7 =>
  (fX2_init X7 X2.1).bind fun X8 =>
  (pF X8 x0 0 9 (.ref X2.1)).bind fun X10 =>
  (gR X10 x0 0 4).bind fun v11 =>
  (gR X10 v11 1 2).bind fun v12 =>
  (ck X10 v12 9).bind fun _ =>
  (fJ2_get X10 v12 x1).bind fun (v15, X14) =>
  (gCh X14 v15).bind fun v16 =>
  if x2 = 0 then ((gR X14 x0 0 9).bind fun v36 =>
  (gR X14 x0 0 4).bind fun v37 =>
  (gC X14 v15).bind fun k38 =>
  if k38 = 4 then ((fX4_size X14 v15 v36 v37).bind fun (v52, X51) =>
  some (v52, X51)) else (if k38 = 5 then ((fX5_size X14 v15 v36 v37).bind fun (v49, X48) =>
  some (v49, X48)) else (if k38 = 6 then ((fX4_size X14 v15 v36 v37).bind fun (v46, X45) =>
  some (v46, X45)) else (if k38 = 7 then ((fX7_size X14 v15 v36 v37).bind fun (v43, X42) =>
  some (v43, X42)) else (if k38 = 8 then ((fX8_size X14 v15 v36 v37).bind fun (v40, X39) =>
  some (v40, X39)) else none))))) else ((gR X14 x0 0 9).bind fun v18 =>
  (gR X14 x0 0 4).bind fun v19 =>
  (gC X14 v15).bind fun k20 =>
  if k20 = 4 then ((fX4_mark X14 v15 v18 v19).bind fun (v34, X33) =>
  some (v34, X33)) else (if k20 = 5 then ((fX5_mark X14 v15 v18 v19).bind fun (v31, X30) =>
  some (v31, X30)) else (if k20 = 6 then ((fX6_mark X14 v15 v18 v19).bind fun (v28, X27) =>
  some (v28, X27)) else (if k20 = 7 then ((fX7_mark X14 v15 v18 v19).bind fun (v25, X24) =>
  some (v25, X24)) else (if k20 = 8 then ((fX7_mark X14 v15 v18 v19).bind fun (v22, X21) =>
  some (v22, X21)) else none)))))))
theorem wX0_ask_0 (E : xE p m c cX0_ask 4 s args RX0 D cA A Zs meth (some .int)) (M : xM s) {X : AH} {x0 : Nat} {x1 : Int32} {x2 : Int32} (hf : fX0_ask X x0 x1 x2 = some (r, Xf)) : ∀ (H : Heap) (locs : List Loc) (ls : Array Slot) (cells slots : Nat), cells + 2 ≤ 2 → slots + 18 ≤ 18 → xR D cA A Zs X H → va_S A s.heap H locs → lv_has ls 4 [(0, .ref x0), (1, .int x1), (2, .int x2)] → W p l e rmX0_ask s m args below meth c H locs cells slots (MQ below (xQi D cA A Zs r Xf) args s 2 18 A) (F0 m 0 ls []) := by
  intro H locs ls cells slots hc hs hR hS hl
  refine lv_aload_n E.hx E.hb dX0_ask_0 rfl (lv_at hl 0 rfl) ?_
  refine lv_iload_n E.hx E.hb dX0_ask_1 rfl (lv_at hl 1 rfl) ?_
  obtain ⟨u1, hu1, hf⟩ := bd_e hf
  obtain ⟨⟨v3, X2⟩, hv3, hf⟩ := bd_e hf
  refine xrun_i (va_runV (As := [.int x1]) (rest := []) E.1 (tX0_isChair l hv3) (cwX0_196 E.ht ⟨Nat.le_of_ble_eq_true rfl, Nat.le_of_ble_eq_true rfl⟩) (xPreV (ci := 0) E hR hS rfl (ck_e hu1)) rfl rfl hl.1 rfl (lv_room (Nat.le_of_ble_eq_true rfl)) dX0_ask_2 ⟨Nat.le_trans (by omega) (Nat.le_refl 2), Nat.le_trans (by omega) (Nat.le_refl 18)⟩) hS (fun H locs hR hS => ?_)
  refine lv_if_eq (tgt := 15) E.hx E.hb dX0_ask_5 (by decide) (fun c4 => ?_) (fun c4 => ?_)
  · have hf := it_t hf c4
    refine lv_ldc (v := (-1000001)) E.hx E.hb E.ho (E.ht _ q319) dX0_ask_15 ?_
    obtain ⟨rfl, rfl⟩ := rt_e hf
    exact xret_i E (by omega) (by omega) hR hS dX0_ask_17
  · have hf := it_f hf c4
    refine lv_iload_n E.hx E.hb dX0_ask_8 rfl (lv_at hl 2 rfl) ?_
    obtain ⟨v5, hv5, hf⟩ := bd_e hf
    refine scall_i (rest := []) E.1 (tX0_isHalf l hv5) (cwX0_214 E.ht ⟨Nat.le_of_ble_eq_true rfl, Nat.le_of_ble_eq_true rfl⟩) rfl hl.1 rfl (Nat.le_of_ble_eq_true rfl) dX0_ask_9 ⟨Nat.le_trans (by omega) (Nat.le_refl 2), Nat.le_trans (by omega) (Nat.le_refl 18)⟩ ?_
    refine lv_if_ne (tgt := 18) E.hx E.hb dX0_ask_12 (by decide) (fun c6 => ?_) (fun c6 => ?_)
    · have hf := it_f hf c6
      refine lv_aload_n E.hx E.hb dX0_ask_18 rfl (lv_at hl 0 rfl) ?_
      obtain ⟨X7, hX7, hf⟩ := bd_e hf
      refine xnew (ci := 2) E hR hS in_X2 tyX2 tyX2_ok q207 q208 q73 rfl dfX2 (Nat.le_trans (by omega) (Nat.le_refl 2)) (Nat.le_trans (by omega) (Nat.le_refl 18)) dX0_ask_19 (fun H hR hS => ?_)
      rw [Option.some.inj hX7] at hR
      refine lv_dup E.hx E.hb dX0_ask_22 rfl ?_
      obtain ⟨X8, hX8, hf⟩ := bd_e hf
      refine xrun_v (va_runIN (As := []) (rest := [.ref X2.1, .ref x0]) E.1 (tX2_init l hX8) (cwX0_55 E.ht (E.2.1.2.2.2.1 ("ChairRanks", 55, ⟨"ChairRanks$Trail", "<init>", "()V"⟩, "ChairRanks") (by decide +kernel)) ⟨Nat.le_of_ble_eq_true rfl, Nat.le_of_ble_eq_true rfl⟩) (xPreS E hR hS) rfl rfl hl.1 rfl (lv_room (Nat.le_of_ble_eq_true rfl)) dX0_ask_23 ⟨Nat.le_trans (by omega) (Nat.le_refl 2), Nat.le_trans (by omega) (Nat.le_refl 18)⟩) hS (fun H locs hR hS => ?_)
      obtain ⟨X10, hX10, hf⟩ := bd_e hf
      refine xpX0_56 E hR hS hX10 dX0_ask_26 (fun H locs hR hS => ?_)
      refine lv_aload_n E.hx E.hb dX0_ask_29 rfl (lv_at hl 0 rfl) ?_
      obtain ⟨v11, hv11, hf⟩ := bd_e hf
      refine xgX0_39 E hR hv11 dX0_ask_30 ?_
      obtain ⟨v12, hv12, hf⟩ := bd_e hf
      refine xgX0_351 E hR hv12 dX0_ask_33 ?_
      refine lv_iload_n E.hx E.hb dX0_ask_36 rfl (lv_at hl 1 rfl) ?_
      obtain ⟨u13, hu13, hf⟩ := bd_e hf
      obtain ⟨⟨v15, X14⟩, hv15, hf⟩ := bd_e hf
      refine xrun5_r (va_runF (As := [.int x1]) (rest := []) (xClassAt (ci := 9) E rfl) E.1 (tJ2_get l hv15) (cwX0_355_J2 E.ht (E.2.1.2.2.2.2.2.2.1 ("java/util/ArrayList", ⟨"java/util/List", "get", "(I)Ljava/lang/Object;"⟩, ⟨"java/util/ArrayList", "get", "(I)Ljava/lang/Object;"⟩) (by decide +kernel)) ⟨Nat.le_of_ble_eq_true rfl, Nat.le_of_ble_eq_true rfl⟩) (xPreV (ci := 9) E hR hS rfl (ck_e hu13)) rfl rfl hl.1 rfl (lv_room (Nat.le_of_ble_eq_true rfl)) dX0_ask_37 ⟨Nat.le_trans (by omega) (Nat.le_refl 2), Nat.le_trans (by omega) (Nat.le_refl 18)⟩) hS (fun H locs hR hS => ?_)
      obtain ⟨v16, hv16, hf⟩ := bd_e hf
      refine xcastC E hR hv16 q222 dX0_ask_42 ?_
      refine lv_astore_n (lv' := [(3, .ref v15), (0, .ref x0), (1, .int x1), (2, .int x2)]) E.hx E.hb dX0_ask_45 rfl hl (by decide) rfl (fun ls hl => ?_)
      refine lv_iload_n E.hx E.hb dX0_ask_46 rfl (lv_at hl 3 rfl) ?_
      refine lv_if_ne (tgt := 65) E.hx E.hb dX0_ask_47 (by decide) (fun c17 => ?_) (fun c17 => ?_)
      · have hf := it_f hf c17
        refine lv_aload_n E.hx E.hb dX0_ask_65 rfl (lv_at hl 0 rfl) ?_
        refine lv_aload_n E.hx E.hb dX0_ask_66 rfl (lv_at hl 1 rfl) ?_
        obtain ⟨v18, hv18, hf⟩ := bd_e hf
        refine xgX0_56 E hR hv18 dX0_ask_67 ?_
        refine lv_aload_n E.hx E.hb dX0_ask_70 rfl (lv_at hl 1 rfl) ?_
        obtain ⟨v19, hv19, hf⟩ := bd_e hf
        refine xgX0_39 E hR hv19 dX0_ask_71 ?_
        obtain ⟨k20, hk20, hf⟩ := bd_e hf
        by_cases c35 : k20 = 4
        · have hf := it_t hf c35
          obtain ⟨⟨v34, X33⟩, hv34, hf⟩ := bd_e hf
          refine xrun_i (va_runU (As := [.ref v18, .ref v19]) (rest := []) E.1 (tX4_mark l hv34) (cwX0_371_X4 E.ht M ⟨Nat.le_of_ble_eq_true rfl, Nat.le_of_ble_eq_true rfl⟩) (xPreVM (ci := 4) E M hR hS rfl (hk20.trans (congrArg some c35))) rfl rfl hl.1 rfl (lv_room (Nat.le_of_ble_eq_true rfl)) dX0_ask_74 ⟨Nat.le_trans (by omega) (Nat.le_refl 2), Nat.le_trans (by omega) (Nat.le_refl 18)⟩) hS (fun H locs hR hS => ?_)
          obtain ⟨rfl, rfl⟩ := rt_e hf
          exact xret_i E (by omega) (by omega) hR hS dX0_ask_77
        · have hf := it_f hf c35
          by_cases c32 : k20 = 5
          · have hf := it_t hf c32
            obtain ⟨⟨v31, X30⟩, hv31, hf⟩ := bd_e hf
            refine xrun_i (va_runU (As := [.ref v18, .ref v19]) (rest := []) E.1 (tX5_mark l hv31) (cwX0_371_X5 E.ht M ⟨Nat.le_of_ble_eq_true rfl, Nat.le_of_ble_eq_true rfl⟩) (xPreVM (ci := 5) E M hR hS rfl (hk20.trans (congrArg some c32))) rfl rfl hl.1 rfl (lv_room (Nat.le_of_ble_eq_true rfl)) dX0_ask_74 ⟨Nat.le_trans (by omega) (Nat.le_refl 2), Nat.le_trans (by omega) (Nat.le_refl 18)⟩) hS (fun H locs hR hS => ?_)
            obtain ⟨rfl, rfl⟩ := rt_e hf
            exact xret_i E (by omega) (by omega) hR hS dX0_ask_77
          · have hf := it_f hf c32
            by_cases c29 : k20 = 6
            · have hf := it_t hf c29
              obtain ⟨⟨v28, X27⟩, hv28, hf⟩ := bd_e hf
              refine xrun_i (va_runU (As := [.ref v18, .ref v19]) (rest := []) E.1 (tX6_mark l hv28) (cwX0_371_X6 E.ht M ⟨Nat.le_of_ble_eq_true rfl, Nat.le_of_ble_eq_true rfl⟩) (xPreVM (ci := 6) E M hR hS rfl (hk20.trans (congrArg some c29))) rfl rfl hl.1 rfl (lv_room (Nat.le_of_ble_eq_true rfl)) dX0_ask_74 ⟨Nat.le_trans (by omega) (Nat.le_refl 2), Nat.le_trans (by omega) (Nat.le_refl 18)⟩) hS (fun H locs hR hS => ?_)
              obtain ⟨rfl, rfl⟩ := rt_e hf
              exact xret_i E (by omega) (by omega) hR hS dX0_ask_77
            · have hf := it_f hf c29
              by_cases c26 : k20 = 7
              · have hf := it_t hf c26
                obtain ⟨⟨v25, X24⟩, hv25, hf⟩ := bd_e hf
                refine xrun_i (va_runU (As := [.ref v18, .ref v19]) (rest := []) E.1 (tX7_mark l hv25) (cwX0_371_X7 E.ht M ⟨Nat.le_of_ble_eq_true rfl, Nat.le_of_ble_eq_true rfl⟩) (xPreVM (ci := 7) E M hR hS rfl (hk20.trans (congrArg some c26))) rfl rfl hl.1 rfl (lv_room (Nat.le_of_ble_eq_true rfl)) dX0_ask_74 ⟨Nat.le_trans (by omega) (Nat.le_refl 2), Nat.le_trans (by omega) (Nat.le_refl 18)⟩) hS (fun H locs hR hS => ?_)
                obtain ⟨rfl, rfl⟩ := rt_e hf
                exact xret_i E (by omega) (by omega) hR hS dX0_ask_77
              · have hf := it_f hf c26
                by_cases c23 : k20 = 8
                · have hf := it_t hf c23
                  obtain ⟨⟨v22, X21⟩, hv22, hf⟩ := bd_e hf
                  refine xrun_i (va_runU (As := [.ref v18, .ref v19]) (rest := []) E.1 (tX7_mark l hv22) (cwX0_371_X8 E.ht M ⟨Nat.le_of_ble_eq_true rfl, Nat.le_of_ble_eq_true rfl⟩) (xPreVM (ci := 8) E M hR hS rfl (hk20.trans (congrArg some c23))) rfl rfl hl.1 rfl (lv_room (Nat.le_of_ble_eq_true rfl)) dX0_ask_74 ⟨Nat.le_trans (by omega) (Nat.le_refl 2), Nat.le_trans (by omega) (Nat.le_refl 18)⟩) hS (fun H locs hR hS => ?_)
                  obtain ⟨rfl, rfl⟩ := rt_e hf
                  exact xret_i E (by omega) (by omega) hR hS dX0_ask_77
                · have hf := it_f hf c23
                  have hf : none = some (r, Xf) := hf
                  cases hf
      · have hf := it_t hf c17
        refine lv_aload_n E.hx E.hb dX0_ask_50 rfl (lv_at hl 0 rfl) ?_
        refine lv_aload_n E.hx E.hb dX0_ask_51 rfl (lv_at hl 1 rfl) ?_
        obtain ⟨v36, hv36, hf⟩ := bd_e hf
        refine xgX0_56 E hR hv36 dX0_ask_52 ?_
        refine lv_aload_n E.hx E.hb dX0_ask_55 rfl (lv_at hl 1 rfl) ?_
        obtain ⟨v37, hv37, hf⟩ := bd_e hf
        refine xgX0_39 E hR hv37 dX0_ask_56 ?_
        obtain ⟨k38, hk38, hf⟩ := bd_e hf
        by_cases c53 : k38 = 4
        · have hf := it_t hf c53
          obtain ⟨⟨v52, X51⟩, hv52, hf⟩ := bd_e hf
          refine xrun_i (va_runU (As := [.ref v36, .ref v37]) (rest := []) E.1 (tX4_size l hv52) (cwX0_367_X4 E.ht ⟨Nat.le_of_ble_eq_true rfl, Nat.le_of_ble_eq_true rfl⟩) (xPreVM (ci := 4) E M hR hS rfl (hk38.trans (congrArg some c53))) rfl rfl hl.1 rfl (lv_room (Nat.le_of_ble_eq_true rfl)) dX0_ask_59 ⟨Nat.le_trans (by omega) (Nat.le_refl 2), Nat.le_trans (by omega) (Nat.le_refl 18)⟩) hS (fun H locs hR hS => ?_)
          refine lv_goto (tgt := 77) E.hx E.hb dX0_ask_62 (by decide) ?_
          obtain ⟨rfl, rfl⟩ := rt_e hf
          exact xret_i E (by omega) (by omega) hR hS dX0_ask_77
        · have hf := it_f hf c53
          by_cases c50 : k38 = 5
          · have hf := it_t hf c50
            obtain ⟨⟨v49, X48⟩, hv49, hf⟩ := bd_e hf
            refine xrun_i (va_runU (As := [.ref v36, .ref v37]) (rest := []) E.1 (tX5_size l hv49) (cwX0_367_X5 E.ht ⟨Nat.le_of_ble_eq_true rfl, Nat.le_of_ble_eq_true rfl⟩) (xPreVM (ci := 5) E M hR hS rfl (hk38.trans (congrArg some c50))) rfl rfl hl.1 rfl (lv_room (Nat.le_of_ble_eq_true rfl)) dX0_ask_59 ⟨Nat.le_trans (by omega) (Nat.le_refl 2), Nat.le_trans (by omega) (Nat.le_refl 18)⟩) hS (fun H locs hR hS => ?_)
            refine lv_goto (tgt := 77) E.hx E.hb dX0_ask_62 (by decide) ?_
            obtain ⟨rfl, rfl⟩ := rt_e hf
            exact xret_i E (by omega) (by omega) hR hS dX0_ask_77
          · have hf := it_f hf c50
            by_cases c47 : k38 = 6
            · have hf := it_t hf c47
              obtain ⟨⟨v46, X45⟩, hv46, hf⟩ := bd_e hf
              refine xrun_i (va_runU (As := [.ref v36, .ref v37]) (rest := []) E.1 (tX4_size l hv46) (cwX0_367_X6 E.ht ⟨Nat.le_of_ble_eq_true rfl, Nat.le_of_ble_eq_true rfl⟩) (xPreVM (ci := 6) E M hR hS rfl (hk38.trans (congrArg some c47))) rfl rfl hl.1 rfl (lv_room (Nat.le_of_ble_eq_true rfl)) dX0_ask_59 ⟨Nat.le_trans (by omega) (Nat.le_refl 2), Nat.le_trans (by omega) (Nat.le_refl 18)⟩) hS (fun H locs hR hS => ?_)
              refine lv_goto (tgt := 77) E.hx E.hb dX0_ask_62 (by decide) ?_
              obtain ⟨rfl, rfl⟩ := rt_e hf
              exact xret_i E (by omega) (by omega) hR hS dX0_ask_77
            · have hf := it_f hf c47
              by_cases c44 : k38 = 7
              · have hf := it_t hf c44
                obtain ⟨⟨v43, X42⟩, hv43, hf⟩ := bd_e hf
                refine xrun_i (va_runU (As := [.ref v36, .ref v37]) (rest := []) E.1 (tX7_size l hv43) (cwX0_367_X7 E.ht ⟨Nat.le_of_ble_eq_true rfl, Nat.le_of_ble_eq_true rfl⟩) (xPreV (ci := 7) E hR hS rfl (hk38.trans (congrArg some c44))) rfl rfl hl.1 rfl (lv_room (Nat.le_of_ble_eq_true rfl)) dX0_ask_59 ⟨Nat.le_trans (by omega) (Nat.le_refl 2), Nat.le_trans (by omega) (Nat.le_refl 18)⟩) hS (fun H locs hR hS => ?_)
                refine lv_goto (tgt := 77) E.hx E.hb dX0_ask_62 (by decide) ?_
                obtain ⟨rfl, rfl⟩ := rt_e hf
                exact xret_i E (by omega) (by omega) hR hS dX0_ask_77
              · have hf := it_f hf c44
                by_cases c41 : k38 = 8
                · have hf := it_t hf c41
                  obtain ⟨⟨v40, X39⟩, hv40, hf⟩ := bd_e hf
                  refine xrun_i (va_runU (As := [.ref v36, .ref v37]) (rest := []) E.1 (tX8_size l hv40) (cwX0_367_X8 E.ht ⟨Nat.le_of_ble_eq_true rfl, Nat.le_of_ble_eq_true rfl⟩) (xPreV (ci := 8) E hR hS rfl (hk38.trans (congrArg some c41))) rfl rfl hl.1 rfl (lv_room (Nat.le_of_ble_eq_true rfl)) dX0_ask_59 ⟨Nat.le_trans (by omega) (Nat.le_refl 2), Nat.le_trans (by omega) (Nat.le_refl 18)⟩) hS (fun H locs hR hS => ?_)
                  refine lv_goto (tgt := 77) E.hx E.hb dX0_ask_62 (by decide) ?_
                  obtain ⟨rfl, rfl⟩ := rt_e hf
                  exact xret_i E (by omega) (by omega) hR hS dX0_ask_77
                · have hf := it_f hf c41
                  have hf : none = some (r, Xf) := hf
                  cases hf
    · have hf := it_t hf c6
      refine lv_ldc (v := (-1000001)) E.hx E.hb E.ho (E.ht _ q319) dX0_ask_15 ?_
      obtain ⟨rfl, rfl⟩ := rt_e hf
      exact xret_i E (by omega) (by omega) hR hS dX0_ask_17
theorem tX0_ask (l : Launch) {D : va_G} {cA : Nat → ClassId} {A : Nat → Prop} {Zs : XZ} {X Xf : AH} {x0 : Nat} {x1 : Int32} {x2 : Int32} {r : Int32} (hf : fX0_ask X x0 x1 x2 = some (r, Xf)) : Met l yX0_ask (ws_ yX0_ask cX0_ask 4 (some .int)) rmX0_ask (xPcM D cA A Zs X [.ref x0, .int x1, .int x2]) (xQi D cA A Zs r Xf) 2 18 A := by
  refine Met.ofW (cc := cX0_ask) (maxL := 4) (ret := (some .int)) (by decide) rfl ?_
  intro p e s m args below meth c s₁ B hml hv
  obtain ⟨rfl, hR, hK, hM⟩ := hv
  have hts := atoms_spec (ws := (ws_ yX0_ask cX0_ask 4 (some .int))) B.pre
  rw [lg_entry_eq]
  exact wX0_ask_0 (E := ⟨⟨B.exec, B.bytes, hml, findClass_of_methodNamed B.named, fun w h => hts w (List.mem_cons_of_mem _ h)⟩, hK, B.returns, B.notSynchronized⟩) hM hf _ _ _ 0 0 (Nat.le_of_ble_eq_true rfl) (Nat.le_of_ble_eq_true rfl) hR va_S.rf (lv_entry [.ref x0, .int x1, .int x2] (n := 4) (Nat.le_of_ble_eq_true rfl))
end
