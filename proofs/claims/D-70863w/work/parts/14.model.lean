set_option maxRecDepth 100000
section
variable {p : Program} {l : Launch} {e : Env} {s : State} {m : MethodId} {args : Array Value} {below : List Frame} {meth : Method} {c : Code} {G : va_G} {cI cZ : ClassId} {o : Nat} {σf : MS} {r : Int32} {rl : Int64}
theorem cwX9_260 {R : Room} {s : State} {args : Array Value} (ht : ∀ w ∈ lw_all, w.before args s = true) (hR : rmX9_plainMark.frames + 1 ≤ R.frames ∧ 8 + (2 + 11) + rmX9_plainMark.locals ≤ R.locals) : CallW R s args RX9 RX9 260 yX9_plainMark cX9_plainMark 2 (some .int) (ws_ yX9_plainMark cX9_plainMark 2 (some .int)) rmX9_plainMark 0 0 1 :=
  cwV 1 ht (lw_V q1647 q1649 qs64 q80 q1650) rfl rfl rfl (by decide +kernel) hR
theorem cwX9_263 {R : Room} {s : State} {args : Array Value} (ht : ∀ w ∈ lw_all, w.before args s = true) (hR : rmX9_sizeOfOak.frames + 1 ≤ R.frames ∧ 8 + (2 + 11) + rmX9_sizeOfOak.locals ≤ R.locals) : CallW R s args RX9 RX9 263 yX9_sizeOfOak cX9_sizeOfOak 2 (some .int) (ws_ yX9_sizeOfOak cX9_sizeOfOak 2 (some .int)) rmX9_sizeOfOak 0 0 1 :=
  cwV 1 ht (lw_V q1651 q1653 qs65 q80 q1654) rfl rfl rfl (by decide +kernel) hR
abbrev rmX9_markOf : Room := { frames := 5, cells := 0, slots := 0, locals := 97 }
def fX9_markOf  (σ : MS) (x1 : Int32) : Option (Int32 × MS) :=
  (rd (σ 4) 41 (5 + x1)).bind fun v1 =>
  if v1 = 2 then ((fX9_begin σ 24).bind fun σ15 =>
  (fX9_plainMark σ15 x1).bind fun (v17, σ16) =>
  some ((2 * v17), σ16)) else (if v1 = 3 then ((fX9_begin σ 22).bind fun σ12 =>
  (fX9_plainMark σ12 x1).bind fun (v14, σ13) =>
  some ((v14 - 1000), σ13)) else (if v1 = 1 then ((fX9_plainMark σ x1).bind fun (v11, σ10) =>
  some (v11, σ10)) else ((fX9_begin σ 23).bind fun σ5 =>
  (fX9_lent σ5 x1 20).bind fun (v7, σ6) =>
  (fX9_sizeOfOak σ6 x1).bind fun (v9, σ8) =>
  some ((v7 - v9), σ8))))
theorem wX9_markOf_0 (E : mE p m c cX9_markOf 4 s args G cI cZ meth (some .int)) {σ : MS} {x1 : Int32} (hf : fX9_markOf σ x1 = some (r, σf)) : ∀ (H : Heap) (locs : List Loc) (ls : Array Slot), mR G cI cZ o σ H → va_S (mA o) s.heap H locs → lv_has ls 4 [(0, .ref o), (1, .int x1)] → W p l e rmX9_markOf s m args below meth c H locs 0 0 (MQ below (mQi G cI cZ o r σf) args s 0 0 (mA o)) (F0 m 0 ls []) := by
  intro H locs ls hR hS hl
  refine lv_aload_n E.hx E.hb dX9_markOf_0 rfl (lv_at hl 0 rfl) ?_
  refine mg_st E hR dX9_markOf_1 ?_
  refine lv_iconst (v := 5) E.hx E.hb dX9_markOf_4 (by decide) ?_
  refine lv_iload_n E.hx E.hb dX9_markOf_5 rfl (lv_at hl 1 rfl) ?_
  refine lv_iadd E.hx E.hb dX9_markOf_6 ?_
  obtain ⟨v1, hv1, hf⟩ := bd_e hf
  refine ml_st E hR hv1 dX9_markOf_7 ?_
  refine lv_istore_n (lv' := [(2, .int v1), (0, .ref o), (1, .int x1)]) E.hx E.hb dX9_markOf_8 rfl hl (by decide) rfl (fun ls hl => ?_)
  refine lv_iload_n E.hx E.hb dX9_markOf_9 rfl (lv_at hl 0 rfl) ?_
  refine lv_iconst (v := 2) E.hx E.hb dX9_markOf_10 (by decide) ?_
  refine lv_icmp_ne (tgt := 28) E.hx E.hb dX9_markOf_11 (by decide) (fun c2 => ?_) (fun c2 => ?_)
  · have hf := it_f hf c2
    refine lv_iload_n E.hx E.hb dX9_markOf_28 rfl (lv_at hl 0 rfl) ?_
    refine lv_iconst (v := 3) E.hx E.hb dX9_markOf_29 (by decide) ?_
    refine lv_icmp_ne (tgt := 49) E.hx E.hb dX9_markOf_30 (by decide) (fun c3 => ?_) (fun c3 => ?_)
    · have hf := it_f hf c3
      refine lv_iload_n E.hx E.hb dX9_markOf_49 rfl (lv_at hl 0 rfl) ?_
      refine lv_iconst (v := 1) E.hx E.hb dX9_markOf_50 (by decide) ?_
      refine lv_icmp_ne (tgt := 60) E.hx E.hb dX9_markOf_51 (by decide) (fun c4 => ?_) (fun c4 => ?_)
      · have hf := it_f hf c4
        refine lv_aload_n E.hx E.hb dX9_markOf_60 rfl (lv_at hl 1 rfl) ?_
        refine lv_bipush (v := 23) E.hx E.hb dX9_markOf_61 (by decide) ?_
        obtain ⟨σ5, hσ5, hf⟩ := bd_e hf
        refine mcall_v (rest := []) E hR hS (tX9_begin l hσ5) (cwX9_251 E.ht ⟨Nat.le_of_ble_eq_true rfl, Nat.le_of_ble_eq_true rfl⟩) rfl hl.1 rfl (Nat.le_of_ble_eq_true rfl) dX9_markOf_63 ⟨Nat.le_refl 0, Nat.le_refl 0⟩ (fun H locs hR hS => ?_)
        refine lv_aload_n E.hx E.hb dX9_markOf_66 rfl (lv_at hl 1 rfl) ?_
        refine lv_iload_n E.hx E.hb dX9_markOf_67 rfl (lv_at hl 2 rfl) ?_
        refine lv_bipush (v := 20) E.hx E.hb dX9_markOf_68 (by decide) ?_
        obtain ⟨⟨v7, σ6⟩, hv7, hf⟩ := bd_e hf
        refine mcall_i (rest := []) E hR hS (tX9_lent l hv7) (cwX9_254 E.ht ⟨Nat.le_of_ble_eq_true rfl, Nat.le_of_ble_eq_true rfl⟩) rfl hl.1 rfl (Nat.le_of_ble_eq_true rfl) dX9_markOf_70 ⟨Nat.le_refl 0, Nat.le_refl 0⟩ (fun H locs hR hS => ?_)
        refine lv_istore_n (lv' := [(3, .int v7), (2, .int v1), (0, .ref o), (1, .int x1)]) E.hx E.hb dX9_markOf_73 rfl hl (by decide) rfl (fun ls hl => ?_)
        refine lv_iload_n E.hx E.hb dX9_markOf_74 rfl (lv_at hl 0 rfl) ?_
        refine lv_aload_n E.hx E.hb dX9_markOf_75 rfl (lv_at hl 2 rfl) ?_
        refine lv_iload_n E.hx E.hb dX9_markOf_76 rfl (lv_at hl 3 rfl) ?_
        obtain ⟨⟨v9, σ8⟩, hv9, hf⟩ := bd_e hf
        refine mcall_i (rest := [.int v7]) E hR hS (tX9_sizeOfOak l hv9) (cwX9_263 E.ht ⟨Nat.le_of_ble_eq_true rfl, Nat.le_of_ble_eq_true rfl⟩) rfl hl.1 rfl (Nat.le_of_ble_eq_true rfl) dX9_markOf_77 ⟨Nat.le_refl 0, Nat.le_refl 0⟩ (fun H locs hR hS => ?_)
        refine lv_isub E.hx E.hb dX9_markOf_80 ?_
        obtain ⟨rfl, rfl⟩ := rt_e hf
        exact mret_i E hR hS dX9_markOf_81
      · have hf := it_t hf c4
        refine lv_aload_n E.hx E.hb dX9_markOf_54 rfl (lv_at hl 1 rfl) ?_
        refine lv_iload_n E.hx E.hb dX9_markOf_55 rfl (lv_at hl 2 rfl) ?_
        obtain ⟨⟨v11, σ10⟩, hv11, hf⟩ := bd_e hf
        refine mcall_i (rest := []) E hR hS (tX9_plainMark l hv11) (cwX9_260 E.ht ⟨Nat.le_of_ble_eq_true rfl, Nat.le_of_ble_eq_true rfl⟩) rfl hl.1 rfl (Nat.le_of_ble_eq_true rfl) dX9_markOf_56 ⟨Nat.le_refl 0, Nat.le_refl 0⟩ (fun H locs hR hS => ?_)
        obtain ⟨rfl, rfl⟩ := rt_e hf
        exact mret_i E hR hS dX9_markOf_59
    · have hf := it_t hf c3
      refine lv_aload_n E.hx E.hb dX9_markOf_33 rfl (lv_at hl 1 rfl) ?_
      refine lv_bipush (v := 22) E.hx E.hb dX9_markOf_34 (by decide) ?_
      obtain ⟨σ12, hσ12, hf⟩ := bd_e hf
      refine mcall_v (rest := []) E hR hS (tX9_begin l hσ12) (cwX9_251 E.ht ⟨Nat.le_of_ble_eq_true rfl, Nat.le_of_ble_eq_true rfl⟩) rfl hl.1 rfl (Nat.le_of_ble_eq_true rfl) dX9_markOf_36 ⟨Nat.le_refl 0, Nat.le_refl 0⟩ (fun H locs hR hS => ?_)
      refine lv_aload_n E.hx E.hb dX9_markOf_39 rfl (lv_at hl 1 rfl) ?_
      refine lv_iload_n E.hx E.hb dX9_markOf_40 rfl (lv_at hl 2 rfl) ?_
      obtain ⟨⟨v14, σ13⟩, hv14, hf⟩ := bd_e hf
      refine mcall_i (rest := []) E hR hS (tX9_plainMark l hv14) (cwX9_260 E.ht ⟨Nat.le_of_ble_eq_true rfl, Nat.le_of_ble_eq_true rfl⟩) rfl hl.1 rfl (Nat.le_of_ble_eq_true rfl) dX9_markOf_41 ⟨Nat.le_refl 0, Nat.le_refl 0⟩ (fun H locs hR hS => ?_)
      refine lv_sipush (v := 1000) E.hx E.hb dX9_markOf_44 (by decide) ?_
      refine lv_isub E.hx E.hb dX9_markOf_47 ?_
      obtain ⟨rfl, rfl⟩ := rt_e hf
      exact mret_i E hR hS dX9_markOf_48
  · have hf := it_t hf c2
    refine lv_aload_n E.hx E.hb dX9_markOf_14 rfl (lv_at hl 1 rfl) ?_
    refine lv_bipush (v := 24) E.hx E.hb dX9_markOf_15 (by decide) ?_
    obtain ⟨σ15, hσ15, hf⟩ := bd_e hf
    refine mcall_v (rest := []) E hR hS (tX9_begin l hσ15) (cwX9_251 E.ht ⟨Nat.le_of_ble_eq_true rfl, Nat.le_of_ble_eq_true rfl⟩) rfl hl.1 rfl (Nat.le_of_ble_eq_true rfl) dX9_markOf_17 ⟨Nat.le_refl 0, Nat.le_refl 0⟩ (fun H locs hR hS => ?_)
    refine lv_iconst (v := 2) E.hx E.hb dX9_markOf_20 (by decide) ?_
    refine lv_aload_n E.hx E.hb dX9_markOf_21 rfl (lv_at hl 1 rfl) ?_
    refine lv_iload_n E.hx E.hb dX9_markOf_22 rfl (lv_at hl 2 rfl) ?_
    obtain ⟨⟨v17, σ16⟩, hv17, hf⟩ := bd_e hf
    refine mcall_i (rest := [.int 2]) E hR hS (tX9_plainMark l hv17) (cwX9_260 E.ht ⟨Nat.le_of_ble_eq_true rfl, Nat.le_of_ble_eq_true rfl⟩) rfl hl.1 rfl (Nat.le_of_ble_eq_true rfl) dX9_markOf_23 ⟨Nat.le_refl 0, Nat.le_refl 0⟩ (fun H locs hR hS => ?_)
    refine lv_imul E.hx E.hb dX9_markOf_26 ?_
    obtain ⟨rfl, rfl⟩ := rt_e hf
    exact mret_i E hR hS dX9_markOf_27
theorem tX9_markOf (l : Launch) {G : va_G} {cI cZ : ClassId} {o : Nat} {σ σf : MS} {x1 : Int32} {r : Int32} (hf : fX9_markOf σ x1 = some (r, σf)) : Met l yX9_markOf (ws_ yX9_markOf cX9_markOf 4 (some .int)) rmX9_markOf (mPc G cI cZ o σ [.ref o, .int x1]) (mQi G cI cZ o r σf) 0 0 (mA o) := by
  refine Met.ofW (cc := cX9_markOf) (maxL := 4) (ret := (some .int)) (by decide) rfl ?_
  intro p e s m args below meth c s₁ B hml hv
  obtain ⟨rfl, hR, hK⟩ := hv
  have hts := atoms_spec (ws := (ws_ yX9_markOf cX9_markOf 4 (some .int))) B.pre
  rw [lg_entry_eq]
  exact wX9_markOf_0 (E := ⟨⟨B.exec, B.bytes, hml, findClass_of_methodNamed B.named, fun w h => hts w (List.mem_cons_of_mem _ h)⟩, hK, B.returns, B.notSynchronized⟩) hf _ _ _ hR va_S.rf (lv_entry [.ref o, .int x1] (n := 4) (Nat.le_of_ble_eq_true rfl))

theorem cwX9_266 {R : Room} {s : State} {args : Array Value} (ht : ∀ w ∈ lw_all, w.before args s = true) (hR : rmX9_markOf.frames + 1 ≤ R.frames ∧ 8 + (4 + 11) + rmX9_markOf.locals ≤ R.locals) : CallW R s args RX9 RX9 266 yX9_markOf cX9_markOf 4 (some .int) (ws_ yX9_markOf cX9_markOf 4 (some .int)) rmX9_markOf 0 0 1 :=
  cwV 1 ht (lw_V q1643 q1645 qs63 q80 q1646) rfl rfl rfl (by decide +kernel) hR
abbrev rmX9_plainSize : Room := { frames := 6, cells := 0, slots := 0, locals := 120 }
def fX9_plainSize  (σ : MS) (x1 : Int32) : Option (Int32 × MS) :=
  (fX9_begin σ 11).bind fun σ1 =>
  (fX9_lent σ1 x1 10).bind fun (v3, σ2) =>
  (fX9_markOf σ2 x1).bind fun (v5, σ4) =>
  some ((v3 + v5), σ4)
theorem wX9_plainSize_0 (E : mE p m c cX9_plainSize 3 s args G cI cZ meth (some .int)) {σ : MS} {x1 : Int32} (hf : fX9_plainSize σ x1 = some (r, σf)) : ∀ (H : Heap) (locs : List Loc) (ls : Array Slot), mR G cI cZ o σ H → va_S (mA o) s.heap H locs → lv_has ls 3 [(0, .ref o), (1, .int x1)] → W p l e rmX9_plainSize s m args below meth c H locs 0 0 (MQ below (mQi G cI cZ o r σf) args s 0 0 (mA o)) (F0 m 0 ls []) := by
  intro H locs ls hR hS hl
  refine lv_aload_n E.hx E.hb dX9_plainSize_0 rfl (lv_at hl 0 rfl) ?_
  refine lv_bipush (v := 11) E.hx E.hb dX9_plainSize_1 (by decide) ?_
  obtain ⟨σ1, hσ1, hf⟩ := bd_e hf
  refine mcall_v (rest := []) E hR hS (tX9_begin l hσ1) (cwX9_251 E.ht ⟨Nat.le_of_ble_eq_true rfl, Nat.le_of_ble_eq_true rfl⟩) rfl hl.1 rfl (Nat.le_of_ble_eq_true rfl) dX9_plainSize_3 ⟨Nat.le_refl 0, Nat.le_refl 0⟩ (fun H locs hR hS => ?_)
  refine lv_aload_n E.hx E.hb dX9_plainSize_6 rfl (lv_at hl 0 rfl) ?_
  refine lv_iload_n E.hx E.hb dX9_plainSize_7 rfl (lv_at hl 1 rfl) ?_
  refine lv_bipush (v := 10) E.hx E.hb dX9_plainSize_8 (by decide) ?_
  obtain ⟨⟨v3, σ2⟩, hv3, hf⟩ := bd_e hf
  refine mcall_i (rest := []) E hR hS (tX9_lent l hv3) (cwX9_254 E.ht ⟨Nat.le_of_ble_eq_true rfl, Nat.le_of_ble_eq_true rfl⟩) rfl hl.1 rfl (Nat.le_of_ble_eq_true rfl) dX9_plainSize_10 ⟨Nat.le_refl 0, Nat.le_refl 0⟩ (fun H locs hR hS => ?_)
  refine lv_istore_n (lv' := [(2, .int v3), (0, .ref o), (1, .int x1)]) E.hx E.hb dX9_plainSize_13 rfl hl (by decide) rfl (fun ls hl => ?_)
  refine lv_iload_n E.hx E.hb dX9_plainSize_14 rfl (lv_at hl 0 rfl) ?_
  refine lv_aload_n E.hx E.hb dX9_plainSize_15 rfl (lv_at hl 1 rfl) ?_
  refine lv_iload_n E.hx E.hb dX9_plainSize_16 rfl (lv_at hl 2 rfl) ?_
  obtain ⟨⟨v5, σ4⟩, hv5, hf⟩ := bd_e hf
  refine mcall_i (rest := [.int v3]) E hR hS (tX9_markOf l hv5) (cwX9_266 E.ht ⟨Nat.le_of_ble_eq_true rfl, Nat.le_of_ble_eq_true rfl⟩) rfl hl.1 rfl (Nat.le_of_ble_eq_true rfl) dX9_plainSize_17 ⟨Nat.le_refl 0, Nat.le_refl 0⟩ (fun H locs hR hS => ?_)
  refine lv_iadd E.hx E.hb dX9_plainSize_20 ?_
  obtain ⟨rfl, rfl⟩ := rt_e hf
  exact mret_i E hR hS dX9_plainSize_21
theorem tX9_plainSize (l : Launch) {G : va_G} {cI cZ : ClassId} {o : Nat} {σ σf : MS} {x1 : Int32} {r : Int32} (hf : fX9_plainSize σ x1 = some (r, σf)) : Met l yX9_plainSize (ws_ yX9_plainSize cX9_plainSize 3 (some .int)) rmX9_plainSize (mPc G cI cZ o σ [.ref o, .int x1]) (mQi G cI cZ o r σf) 0 0 (mA o) := by
  refine Met.ofW (cc := cX9_plainSize) (maxL := 3) (ret := (some .int)) (by decide) rfl ?_
  intro p e s m args below meth c s₁ B hml hv
  obtain ⟨rfl, hR, hK⟩ := hv
  have hts := atoms_spec (ws := (ws_ yX9_plainSize cX9_plainSize 3 (some .int))) B.pre
  rw [lg_entry_eq]
  exact wX9_plainSize_0 (E := ⟨⟨B.exec, B.bytes, hml, findClass_of_methodNamed B.named, fun w h => hts w (List.mem_cons_of_mem _ h)⟩, hK, B.returns, B.notSynchronized⟩) hf _ _ _ hR va_S.rf (lv_entry [.ref o, .int x1] (n := 3) (Nat.le_of_ble_eq_true rfl))

theorem cwX9_269 {R : Room} {s : State} {args : Array Value} (ht : ∀ w ∈ lw_all, w.before args s = true) (hR : rmX9_plainSize.frames + 1 ≤ R.frames ∧ 8 + (3 + 11) + rmX9_plainSize.locals ≤ R.locals) : CallW R s args RX9 RX9 269 yX9_plainSize cX9_plainSize 3 (some .int) (ws_ yX9_plainSize cX9_plainSize 3 (some .int)) rmX9_plainSize 0 0 1 :=
  cwV 1 ht (lw_V q1635 q1637 qs61 q80 q1638) rfl rfl rfl (by decide +kernel) hR
abbrev rmX9_sizeOf : Room := { frames := 7, cells := 0, slots := 0, locals := 142 }
def fX9_sizeOf  (σ : MS) (x1 : Int32) : Option (Int32 × MS) :=
  (rd (σ 4) 41 (5 + x1)).bind fun v1 =>
  if v1 = 2 then ((fX9_begin σ 12).bind fun σ8 =>
  (fX9_plainSize σ8 x1).bind fun (v10, σ9) =>
  some ((-v10), σ9)) else (if v1 < 4 then ((fX9_plainSize σ x1).bind fun (v5, σ4) =>
  some (v5, σ4)) else ((fX9_sizeOfOak σ x1).bind fun (v7, σ6) =>
  some (v7, σ6)))
theorem wX9_sizeOf_0 (E : mE p m c cX9_sizeOf 3 s args G cI cZ meth (some .int)) {σ : MS} {x1 : Int32} (hf : fX9_sizeOf σ x1 = some (r, σf)) : ∀ (H : Heap) (locs : List Loc) (ls : Array Slot), mR G cI cZ o σ H → va_S (mA o) s.heap H locs → lv_has ls 3 [(0, .ref o), (1, .int x1)] → W p l e rmX9_sizeOf s m args below meth c H locs 0 0 (MQ below (mQi G cI cZ o r σf) args s 0 0 (mA o)) (F0 m 0 ls []) := by
  intro H locs ls hR hS hl
  refine lv_aload_n E.hx E.hb dX9_sizeOf_0 rfl (lv_at hl 0 rfl) ?_
  refine mg_st E hR dX9_sizeOf_1 ?_
  refine lv_iconst (v := 5) E.hx E.hb dX9_sizeOf_4 (by decide) ?_
  refine lv_iload_n E.hx E.hb dX9_sizeOf_5 rfl (lv_at hl 1 rfl) ?_
  refine lv_iadd E.hx E.hb dX9_sizeOf_6 ?_
  obtain ⟨v1, hv1, hf⟩ := bd_e hf
  refine ml_st E hR hv1 dX9_sizeOf_7 ?_
  refine lv_istore_n (lv' := [(2, .int v1), (0, .ref o), (1, .int x1)]) E.hx E.hb dX9_sizeOf_8 rfl hl (by decide) rfl (fun ls hl => ?_)
  refine lv_iload_n E.hx E.hb dX9_sizeOf_9 rfl (lv_at hl 0 rfl) ?_
  refine lv_iconst (v := 2) E.hx E.hb dX9_sizeOf_10 (by decide) ?_
  refine lv_icmp_ne (tgt := 27) E.hx E.hb dX9_sizeOf_11 (by decide) (fun c2 => ?_) (fun c2 => ?_)
  · have hf := it_f hf c2
    refine lv_iload_n E.hx E.hb dX9_sizeOf_27 rfl (lv_at hl 0 rfl) ?_
    refine lv_iconst (v := 4) E.hx E.hb dX9_sizeOf_28 (by decide) ?_
    refine lv_icmp_lt (tgt := 40) E.hx E.hb dX9_sizeOf_29 (by decide) (fun c3 => ?_) (fun c3 => ?_)
    · have hf := it_t hf c3
      refine lv_aload_n E.hx E.hb dX9_sizeOf_40 rfl (lv_at hl 1 rfl) ?_
      refine lv_iload_n E.hx E.hb dX9_sizeOf_41 rfl (lv_at hl 2 rfl) ?_
      obtain ⟨⟨v5, σ4⟩, hv5, hf⟩ := bd_e hf
      refine mcall_i (rest := []) E hR hS (tX9_plainSize l hv5) (cwX9_269 E.ht ⟨Nat.le_of_ble_eq_true rfl, Nat.le_of_ble_eq_true rfl⟩) rfl hl.1 rfl (Nat.le_of_ble_eq_true rfl) dX9_sizeOf_42 ⟨Nat.le_refl 0, Nat.le_refl 0⟩ (fun H locs hR hS => ?_)
      obtain ⟨rfl, rfl⟩ := rt_e hf
      exact mret_i E hR hS dX9_sizeOf_45
    · have hf := it_f hf c3
      refine lv_aload_n E.hx E.hb dX9_sizeOf_32 rfl (lv_at hl 1 rfl) ?_
      refine lv_iload_n E.hx E.hb dX9_sizeOf_33 rfl (lv_at hl 2 rfl) ?_
      obtain ⟨⟨v7, σ6⟩, hv7, hf⟩ := bd_e hf
      refine mcall_i (rest := []) E hR hS (tX9_sizeOfOak l hv7) (cwX9_263 E.ht ⟨Nat.le_of_ble_eq_true rfl, Nat.le_of_ble_eq_true rfl⟩) rfl hl.1 rfl (Nat.le_of_ble_eq_true rfl) dX9_sizeOf_34 ⟨Nat.le_refl 0, Nat.le_refl 0⟩ (fun H locs hR hS => ?_)
      refine lv_goto (tgt := 45) E.hx E.hb dX9_sizeOf_37 (by decide) ?_
      obtain ⟨rfl, rfl⟩ := rt_e hf
      exact mret_i E hR hS dX9_sizeOf_45
  · have hf := it_t hf c2
    refine lv_aload_n E.hx E.hb dX9_sizeOf_14 rfl (lv_at hl 1 rfl) ?_
    refine lv_bipush (v := 12) E.hx E.hb dX9_sizeOf_15 (by decide) ?_
    obtain ⟨σ8, hσ8, hf⟩ := bd_e hf
    refine mcall_v (rest := []) E hR hS (tX9_begin l hσ8) (cwX9_251 E.ht ⟨Nat.le_of_ble_eq_true rfl, Nat.le_of_ble_eq_true rfl⟩) rfl hl.1 rfl (Nat.le_of_ble_eq_true rfl) dX9_sizeOf_17 ⟨Nat.le_refl 0, Nat.le_refl 0⟩ (fun H locs hR hS => ?_)
    refine lv_aload_n E.hx E.hb dX9_sizeOf_20 rfl (lv_at hl 1 rfl) ?_
    refine lv_iload_n E.hx E.hb dX9_sizeOf_21 rfl (lv_at hl 2 rfl) ?_
    obtain ⟨⟨v10, σ9⟩, hv10, hf⟩ := bd_e hf
    refine mcall_i (rest := []) E hR hS (tX9_plainSize l hv10) (cwX9_269 E.ht ⟨Nat.le_of_ble_eq_true rfl, Nat.le_of_ble_eq_true rfl⟩) rfl hl.1 rfl (Nat.le_of_ble_eq_true rfl) dX9_sizeOf_22 ⟨Nat.le_refl 0, Nat.le_refl 0⟩ (fun H locs hR hS => ?_)
    refine lv_ineg E.hx E.hb dX9_sizeOf_25 ?_
    obtain ⟨rfl, rfl⟩ := rt_e hf
    exact mret_i E hR hS dX9_sizeOf_26
theorem tX9_sizeOf (l : Launch) {G : va_G} {cI cZ : ClassId} {o : Nat} {σ σf : MS} {x1 : Int32} {r : Int32} (hf : fX9_sizeOf σ x1 = some (r, σf)) : Met l yX9_sizeOf (ws_ yX9_sizeOf cX9_sizeOf 3 (some .int)) rmX9_sizeOf (mPc G cI cZ o σ [.ref o, .int x1]) (mQi G cI cZ o r σf) 0 0 (mA o) := by
  refine Met.ofW (cc := cX9_sizeOf) (maxL := 3) (ret := (some .int)) (by decide) rfl ?_
  intro p e s m args below meth c s₁ B hml hv
  obtain ⟨rfl, hR, hK⟩ := hv
  have hts := atoms_spec (ws := (ws_ yX9_sizeOf cX9_sizeOf 3 (some .int))) B.pre
  rw [lg_entry_eq]
  exact wX9_sizeOf_0 (E := ⟨⟨B.exec, B.bytes, hml, findClass_of_methodNamed B.named, fun w h => hts w (List.mem_cons_of_mem _ h)⟩, hK, B.returns, B.notSynchronized⟩) hf _ _ _ hR va_S.rf (lv_entry [.ref o, .int x1] (n := 3) (Nat.le_of_ble_eq_true rfl))

theorem cwX9_272 {R : Room} {s : State} {args : Array Value} (ht : ∀ w ∈ lw_all, w.before args s = true) (hR : rmX9_sizeOf.frames + 1 ≤ R.frames ∧ 8 + (3 + 11) + rmX9_sizeOf.locals ≤ R.locals) : CallW R s args RX9 RX9 272 yX9_sizeOf cX9_sizeOf 3 (some .int) (ws_ yX9_sizeOf cX9_sizeOf 3 (some .int)) rmX9_sizeOf 0 0 1 :=
  cwV 1 ht (lw_V q1627 q1629 qs59 q80 q1630) rfl rfl rfl (by decide +kernel) hR
abbrev rmX9_ask : Room := { frames := 8, cells := 0, slots := 0, locals := 164 }
def fX9_ask  (σ : MS) (x1 : Int32) (x2 : Int32) : Option (Int32 × MS) :=
  (fX9_isChair σ x1).bind fun (v2, σ1) =>
  if v2 = 0 then (some ((-1000001), σ1)) else ((fX9_in (x2.toInt64) 0 1).bind fun v4 =>
  if v4 = 0 then (some ((-1000001), σ1)) else ((some (up2 σ1 0 24 0)).bind fun σ6 =>
  if x2 = 0 then ((fX9_sizeOf σ6 x1).bind fun (v11, σ10) =>
  some (v11, σ10)) else ((fX9_markOf σ6 x1).bind fun (v9, σ8) =>
  some (v9, σ8))))
theorem wX9_ask_0 (E : mE p m c cX9_ask 3 s args G cI cZ meth (some .int)) {σ : MS} {x1 : Int32} {x2 : Int32} (hf : fX9_ask σ x1 x2 = some (r, σf)) : ∀ (H : Heap) (locs : List Loc) (ls : Array Slot), mR G cI cZ o σ H → va_S (mA o) s.heap H locs → lv_has ls 3 [(0, .ref o), (1, .int x1), (2, .int x2)] → W p l e rmX9_ask s m args below meth c H locs 0 0 (MQ below (mQi G cI cZ o r σf) args s 0 0 (mA o)) (F0 m 0 ls []) := by
  intro H locs ls hR hS hl
  refine lv_aload_n E.hx E.hb dX9_ask_0 rfl (lv_at hl 0 rfl) ?_
  refine lv_iload_n E.hx E.hb dX9_ask_1 rfl (lv_at hl 1 rfl) ?_
  obtain ⟨⟨v2, σ1⟩, hv2, hf⟩ := bd_e hf
  refine mcall_i (rest := []) E hR hS (tX9_isChair l hv2) (cwX9_178 E.ht ⟨Nat.le_of_ble_eq_true rfl, Nat.le_of_ble_eq_true rfl⟩) rfl hl.1 rfl (Nat.le_of_ble_eq_true rfl) dX9_ask_2 ⟨Nat.le_refl 0, Nat.le_refl 0⟩ (fun H locs hR hS => ?_)
  refine lv_if_eq (tgt := 18) E.hx E.hb dX9_ask_5 (by decide) (fun c3 => ?_) (fun c3 => ?_)
  · have hf := it_t hf c3
    refine lv_ldc (v := (-1000001)) E.hx E.hb E.ho (E.ht _ q1319) dX9_ask_18 ?_
    obtain ⟨rfl, rfl⟩ := rt_e hf
    exact mret_i E hR hS dX9_ask_20
  · have hf := it_f hf c3
    refine lv_iload_n E.hx E.hb dX9_ask_8 rfl (lv_at hl 2 rfl) ?_
    refine lv_i2l E.hx E.hb dX9_ask_9 rfl ?_
    refine lv_lconst (v := 0) E.hx E.hb dX9_ask_10 (by decide) ?_
    refine lv_lconst (v := 1) E.hx E.hb dX9_ask_11 (by decide) ?_
    obtain ⟨v4, hv4, hf⟩ := bd_e hf
    refine scall_i (rest := []) E.1 (tX9_in l hv4) (cwX9_57 E.ht ⟨Nat.le_of_ble_eq_true rfl, Nat.le_of_ble_eq_true rfl⟩) rfl hl.1 rfl (Nat.le_of_ble_eq_true rfl) dX9_ask_12 ⟨Nat.le_refl 0, Nat.le_refl 0⟩ ?_
    refine lv_if_ne (tgt := 21) E.hx E.hb dX9_ask_15 (by decide) (fun c5 => ?_) (fun c5 => ?_)
    · have hf := it_f hf c5
      refine lv_aload_n E.hx E.hb dX9_ask_21 rfl (lv_at hl 0 rfl) ?_
      refine lv_iconst (v := 0) E.hx E.hb dX9_ask_22 (by decide) ?_
      obtain ⟨σ6, hσ6, hf⟩ := bd_e hf
      refine mp_traced E hR hS dX9_ask_23 (fun H locs hR hS => ?_)
      rw [Option.some.inj hσ6] at hR
      refine lv_iload_n E.hx E.hb dX9_ask_26 rfl (lv_at hl 2 rfl) ?_
      refine lv_if_ne (tgt := 38) E.hx E.hb dX9_ask_27 (by decide) (fun c7 => ?_) (fun c7 => ?_)
      · have hf := it_f hf c7
        refine lv_aload_n E.hx E.hb dX9_ask_38 rfl (lv_at hl 0 rfl) ?_
        refine lv_iload_n E.hx E.hb dX9_ask_39 rfl (lv_at hl 1 rfl) ?_
        obtain ⟨⟨v9, σ8⟩, hv9, hf⟩ := bd_e hf
        refine mcall_i (rest := []) E hR hS (tX9_markOf l hv9) (cwX9_266 E.ht ⟨Nat.le_of_ble_eq_true rfl, Nat.le_of_ble_eq_true rfl⟩) rfl hl.1 rfl (Nat.le_of_ble_eq_true rfl) dX9_ask_40 ⟨Nat.le_refl 0, Nat.le_refl 0⟩ (fun H locs hR hS => ?_)
        obtain ⟨rfl, rfl⟩ := rt_e hf
        exact mret_i E hR hS dX9_ask_43
      · have hf := it_t hf c7
        refine lv_aload_n E.hx E.hb dX9_ask_30 rfl (lv_at hl 0 rfl) ?_
        refine lv_iload_n E.hx E.hb dX9_ask_31 rfl (lv_at hl 1 rfl) ?_
        obtain ⟨⟨v11, σ10⟩, hv11, hf⟩ := bd_e hf
        refine mcall_i (rest := []) E hR hS (tX9_sizeOf l hv11) (cwX9_272 E.ht ⟨Nat.le_of_ble_eq_true rfl, Nat.le_of_ble_eq_true rfl⟩) rfl hl.1 rfl (Nat.le_of_ble_eq_true rfl) dX9_ask_32 ⟨Nat.le_refl 0, Nat.le_refl 0⟩ (fun H locs hR hS => ?_)
        refine lv_goto (tgt := 43) E.hx E.hb dX9_ask_35 (by decide) ?_
        obtain ⟨rfl, rfl⟩ := rt_e hf
        exact mret_i E hR hS dX9_ask_43
    · have hf := it_t hf c5
      refine lv_ldc (v := (-1000001)) E.hx E.hb E.ho (E.ht _ q1319) dX9_ask_18 ?_
      obtain ⟨rfl, rfl⟩ := rt_e hf
      exact mret_i E hR hS dX9_ask_20
theorem tX9_ask (l : Launch) {G : va_G} {cI cZ : ClassId} {o : Nat} {σ σf : MS} {x1 : Int32} {x2 : Int32} {r : Int32} (hf : fX9_ask σ x1 x2 = some (r, σf)) : Met l yX9_ask (ws_ yX9_ask cX9_ask 3 (some .int)) rmX9_ask (mPc G cI cZ o σ [.ref o, .int x1, .int x2]) (mQi G cI cZ o r σf) 0 0 (mA o) := by
  refine Met.ofW (cc := cX9_ask) (maxL := 3) (ret := (some .int)) (by decide) rfl ?_
  intro p e s m args below meth c s₁ B hml hv
  obtain ⟨rfl, hR, hK⟩ := hv
  have hts := atoms_spec (ws := (ws_ yX9_ask cX9_ask 3 (some .int))) B.pre
  rw [lg_entry_eq]
  exact wX9_ask_0 (E := ⟨⟨B.exec, B.bytes, hml, findClass_of_methodNamed B.named, fun w h => hts w (List.mem_cons_of_mem _ h)⟩, hK, B.returns, B.notSynchronized⟩) hf _ _ _ hR va_S.rf (lv_entry [.ref o, .int x1, .int x2] (n := 3) (Nat.le_of_ble_eq_true rfl))

abbrev rmX9_trace : Room := { frames := 2, cells := 0, slots := 0, locals := 37 }
def fX9_trace  (σ : MS) (x1 : Int32) : Option (Int32 × MS) :=
  (fX9_in (x1.toInt64) 0 (((σ 0 24) - 1).toInt64)).bind fun v1 =>
  if v1 = 0 then (some ((-1000000), σ)) else ((rd (σ 13) 16 x1).bind fun v3 =>
  some (v3, σ))
theorem wX9_trace_0 (E : mE p m c cX9_trace 2 s args G cI cZ meth (some .int)) {σ : MS} {x1 : Int32} (hf : fX9_trace σ x1 = some (r, σf)) : ∀ (H : Heap) (locs : List Loc) (ls : Array Slot), mR G cI cZ o σ H → va_S (mA o) s.heap H locs → lv_has ls 2 [(0, .ref o), (1, .int x1)] → W p l e rmX9_trace s m args below meth c H locs 0 0 (MQ below (mQi G cI cZ o r σf) args s 0 0 (mA o)) (F0 m 0 ls []) := by
  intro H locs ls hR hS hl
  refine lv_iload_n E.hx E.hb dX9_trace_0 rfl (lv_at hl 1 rfl) ?_
  refine lv_i2l E.hx E.hb dX9_trace_1 rfl ?_
  refine lv_lconst (v := 0) E.hx E.hb dX9_trace_2 (by decide) ?_
  refine lv_aload_n E.hx E.hb dX9_trace_3 rfl (lv_at hl 0 rfl) ?_
  refine mg_traced E hR dX9_trace_4 ?_
  refine lv_iconst (v := 1) E.hx E.hb dX9_trace_7 (by decide) ?_
  refine lv_isub E.hx E.hb dX9_trace_8 ?_
  refine lv_i2l E.hx E.hb dX9_trace_9 rfl ?_
  obtain ⟨v1, hv1, hf⟩ := bd_e hf
  refine scall_i (rest := []) E.1 (tX9_in l hv1) (cwX9_57 E.ht ⟨Nat.le_of_ble_eq_true rfl, Nat.le_of_ble_eq_true rfl⟩) rfl hl.1 rfl (Nat.le_of_ble_eq_true rfl) dX9_trace_10 ⟨Nat.le_refl 0, Nat.le_refl 0⟩ ?_
  refine lv_if_eq (tgt := 25) E.hx E.hb dX9_trace_13 (by decide) (fun c2 => ?_) (fun c2 => ?_)
  · have hf := it_t hf c2
    refine lv_ldc (v := (-1000000)) E.hx E.hb E.ho (E.ht _ q1413) dX9_trace_25 ?_
    obtain ⟨rfl, rfl⟩ := rt_e hf
    exact mret_i E hR hS dX9_trace_27
  · have hf := it_f hf c2
    refine lv_aload_n E.hx E.hb dX9_trace_16 rfl (lv_at hl 0 rfl) ?_
    refine mg_trace E hR dX9_trace_17 ?_
    refine lv_iload_n E.hx E.hb dX9_trace_20 rfl (lv_at hl 1 rfl) ?_
    obtain ⟨v3, hv3, hf⟩ := bd_e hf
    refine ml_trace E hR hv3 dX9_trace_21 ?_
    refine lv_goto (tgt := 27) E.hx E.hb dX9_trace_22 (by decide) ?_
    obtain ⟨rfl, rfl⟩ := rt_e hf
    exact mret_i E hR hS dX9_trace_27
theorem tX9_trace (l : Launch) {G : va_G} {cI cZ : ClassId} {o : Nat} {σ σf : MS} {x1 : Int32} {r : Int32} (hf : fX9_trace σ x1 = some (r, σf)) : Met l yX9_trace (ws_ yX9_trace cX9_trace 2 (some .int)) rmX9_trace (mPc G cI cZ o σ [.ref o, .int x1]) (mQi G cI cZ o r σf) 0 0 (mA o) := by
  refine Met.ofW (cc := cX9_trace) (maxL := 2) (ret := (some .int)) (by decide) rfl ?_
  intro p e s m args below meth c s₁ B hml hv
  obtain ⟨rfl, hR, hK⟩ := hv
  have hts := atoms_spec (ws := (ws_ yX9_trace cX9_trace 2 (some .int))) B.pre
  rw [lg_entry_eq]
  exact wX9_trace_0 (E := ⟨⟨B.exec, B.bytes, hml, findClass_of_methodNamed B.named, fun w h => hts w (List.mem_cons_of_mem _ h)⟩, hK, B.returns, B.notSynchronized⟩) hf _ _ _ hR va_S.rf (lv_entry [.ref o, .int x1] (n := 2) (Nat.le_of_ble_eq_true rfl))

abbrev rmX9_count : Room := { frames := 2, cells := 0, slots := 0, locals := 35 }
def fX9_count_L4  : Nat → MS → Int32 → Int32 → Int32 → Option (Int32 × MS)
  | 0, _, _, _, _ => none
  | n + 1, σ, x1, x2, x3 =>
    if 8 ≤ x3 then (if x1 = 0 then (some (x2, σ)) else (if x1 = 1 then ((rd (σ 4) 41 2).bind fun v4 =>
    some (v4, σ)) else (if x1 = 2 then ((rd (σ 4) 41 3).bind fun v6 =>
    some (v6, σ)) else (if x1 = 3 then ((rd (σ 4) 41 4).bind fun v8 =>
    some (v8, σ)) else (if x1 = 4 then ((fX9_sumOf σ 11).bind fun (v11, σ10) =>
    some (v11, σ10)) else (if x1 = 5 then ((fX9_sumOf σ 35).bind fun (v14, σ13) =>
    some (v14, σ13)) else (if x1 = 6 then (some ((σ 0 19), σ)) else (if x1 = 7 then (some ((σ 0 8), σ)) else (some ((-1000001), σ)))))))))) else ((rd (σ 2) 8 x3).bind fun v17 =>
    if v17 < 0 then ((fX9_count_L4 n) σ x1 (x2 + 0) (x3 + 1)) else ((fX9_count_L4 n) σ x1 (x2 + 1) (x3 + 1)))
theorem wX9_count_L4 (E : mE p m c cX9_count 4 s args G cI cZ meth (some .int)) : ∀ (n : Nat) (σ : MS) (x1 : Int32) (x2 : Int32) (x3 : Int32), fX9_count_L4 n σ x1 x2 x3 = some (r, σf) → ∀ (H : Heap) (locs : List Loc) (ls : Array Slot), mR G cI cZ o σ H → va_S (mA o) s.heap H locs → lv_has ls 4 [(0, .ref o), (1, .int x1), (2, .int x2), (3, .int x3)] → W p l e rmX9_count s m args below meth c H locs 0 0 (MQ below (mQi G cI cZ o r σf) args s 0 0 (mA o)) (F0 m 4 ls []) := by
  intro n
  induction n with
  | zero =>
    intro σ x1 x2 x3 hf
    have hf : none = some (r, σf) := hf
    cases hf
  | succ n ih =>
    intro σ x1 x2 x3 hf H locs ls hR hS hl
    refine lv_iload_n E.hx E.hb dX9_count_4 rfl (lv_at hl 3 rfl) ?_
    refine lv_bipush (v := 8) E.hx E.hb dX9_count_5 (by decide) ?_
    refine lv_icmp_ge (tgt := 33) E.hx E.hb dX9_count_7 (by decide) (fun c1 => ?_) (fun c1 => ?_)
    · have hf := it_t hf c1
      refine lv_iload_n E.hx E.hb dX9_count_33 rfl (lv_at hl 1 rfl) ?_
      by_cases c2 : x1 = 0
      · have hf := it_t hf c2
        refine lv_tableIn (tgt := 80) (off := 46) E.hx E.hb dX9_count_34 (by rw [c2]; decide) (by rw [c2]; decide) (by rw [c2]; rfl) (by decide) ?_
        refine lv_iload_n E.hx E.hb dX9_count_80 rfl (lv_at hl 2 rfl) ?_
        obtain ⟨rfl, rfl⟩ := rt_e hf
        exact mret_i E hR hS dX9_count_81
      · have hf := it_f hf c2
        by_cases c3 : x1 = 1
        · have hf := it_t hf c3
          refine lv_tableIn (tgt := 82) (off := 48) E.hx E.hb dX9_count_34 (by rw [c3]; decide) (by rw [c3]; decide) (by rw [c3]; rfl) (by decide) ?_
          refine lv_aload_n E.hx E.hb dX9_count_82 rfl (lv_at hl 0 rfl) ?_
          refine mg_st E hR dX9_count_83 ?_
          refine lv_iconst (v := 2) E.hx E.hb dX9_count_86 (by decide) ?_
          obtain ⟨v4, hv4, hf⟩ := bd_e hf
          refine ml_st E hR hv4 dX9_count_87 ?_
          obtain ⟨rfl, rfl⟩ := rt_e hf
          exact mret_i E hR hS dX9_count_88
        · have hf := it_f hf c3
          by_cases c5 : x1 = 2
          · have hf := it_t hf c5
            refine lv_tableIn (tgt := 89) (off := 55) E.hx E.hb dX9_count_34 (by rw [c5]; decide) (by rw [c5]; decide) (by rw [c5]; rfl) (by decide) ?_
            refine lv_aload_n E.hx E.hb dX9_count_89 rfl (lv_at hl 0 rfl) ?_
            refine mg_st E hR dX9_count_90 ?_
            refine lv_iconst (v := 3) E.hx E.hb dX9_count_93 (by decide) ?_
            obtain ⟨v6, hv6, hf⟩ := bd_e hf
            refine ml_st E hR hv6 dX9_count_94 ?_
            obtain ⟨rfl, rfl⟩ := rt_e hf
            exact mret_i E hR hS dX9_count_95
          · have hf := it_f hf c5
            by_cases c7 : x1 = 3
            · have hf := it_t hf c7
              refine lv_tableIn (tgt := 96) (off := 62) E.hx E.hb dX9_count_34 (by rw [c7]; decide) (by rw [c7]; decide) (by rw [c7]; rfl) (by decide) ?_
              refine lv_aload_n E.hx E.hb dX9_count_96 rfl (lv_at hl 0 rfl) ?_
              refine mg_st E hR dX9_count_97 ?_
              refine lv_iconst (v := 4) E.hx E.hb dX9_count_100 (by decide) ?_
              obtain ⟨v8, hv8, hf⟩ := bd_e hf
              refine ml_st E hR hv8 dX9_count_101 ?_
              obtain ⟨rfl, rfl⟩ := rt_e hf
              exact mret_i E hR hS dX9_count_102
            · have hf := it_f hf c7
              by_cases c9 : x1 = 4
              · have hf := it_t hf c9
                refine lv_tableIn (tgt := 103) (off := 69) E.hx E.hb dX9_count_34 (by rw [c9]; decide) (by rw [c9]; decide) (by rw [c9]; rfl) (by decide) ?_
                refine lv_aload_n E.hx E.hb dX9_count_103 rfl (lv_at hl 0 rfl) ?_
                refine lv_bipush (v := 11) E.hx E.hb dX9_count_104 (by decide) ?_
                obtain ⟨⟨v11, σ10⟩, hv11, hf⟩ := bd_e hf
                refine mcall_i (rest := []) E hR hS (tX9_sumOf l hv11) (cwX9_209 E.ht ⟨Nat.le_of_ble_eq_true rfl, Nat.le_of_ble_eq_true rfl⟩) rfl hl.1 rfl (Nat.le_of_ble_eq_true rfl) dX9_count_106 ⟨Nat.le_refl 0, Nat.le_refl 0⟩ (fun H locs hR hS => ?_)
                obtain ⟨rfl, rfl⟩ := rt_e hf
                exact mret_i E hR hS dX9_count_109
              · have hf := it_f hf c9
                by_cases c12 : x1 = 5
                · have hf := it_t hf c12
                  refine lv_tableIn (tgt := 110) (off := 76) E.hx E.hb dX9_count_34 (by rw [c12]; decide) (by rw [c12]; decide) (by rw [c12]; rfl) (by decide) ?_
                  refine lv_aload_n E.hx E.hb dX9_count_110 rfl (lv_at hl 0 rfl) ?_
                  refine lv_bipush (v := 35) E.hx E.hb dX9_count_111 (by decide) ?_
                  obtain ⟨⟨v14, σ13⟩, hv14, hf⟩ := bd_e hf
                  refine mcall_i (rest := []) E hR hS (tX9_sumOf l hv14) (cwX9_209 E.ht ⟨Nat.le_of_ble_eq_true rfl, Nat.le_of_ble_eq_true rfl⟩) rfl hl.1 rfl (Nat.le_of_ble_eq_true rfl) dX9_count_113 ⟨Nat.le_refl 0, Nat.le_refl 0⟩ (fun H locs hR hS => ?_)
                  obtain ⟨rfl, rfl⟩ := rt_e hf
                  exact mret_i E hR hS dX9_count_116
                · have hf := it_f hf c12
                  by_cases c15 : x1 = 6
                  · have hf := it_t hf c15
                    refine lv_tableIn (tgt := 117) (off := 83) E.hx E.hb dX9_count_34 (by rw [c15]; decide) (by rw [c15]; decide) (by rw [c15]; rfl) (by decide) ?_
                    refine lv_aload_n E.hx E.hb dX9_count_117 rfl (lv_at hl 0 rfl) ?_
                    refine mg_actMany E hR dX9_count_118 ?_
                    obtain ⟨rfl, rfl⟩ := rt_e hf
                    exact mret_i E hR hS dX9_count_121
                  · have hf := it_f hf c15
                    by_cases c16 : x1 = 7
                    · have hf := it_t hf c16
                      refine lv_tableIn (tgt := 122) (off := 88) E.hx E.hb dX9_count_34 (by rw [c16]; decide) (by rw [c16]; decide) (by rw [c16]; rfl) (by decide) ?_
                      refine lv_aload_n E.hx E.hb dX9_count_122 rfl (lv_at hl 0 rfl) ?_
                      refine mg_bytes E hR dX9_count_123 ?_
                      obtain ⟨rfl, rfl⟩ := rt_e hf
                      exact mret_i E hR hS dX9_count_126
                    · have hf := it_f hf c16
                      have ec2 : ¬ x1.toInt = 0 := fun h => c2 (Int32.toInt_inj.mp h)
                      have ec3 : ¬ x1.toInt = 1 := fun h => c3 (Int32.toInt_inj.mp h)
                      have ec5 : ¬ x1.toInt = 2 := fun h => c5 (Int32.toInt_inj.mp h)
                      have ec7 : ¬ x1.toInt = 3 := fun h => c7 (Int32.toInt_inj.mp h)
                      have ec9 : ¬ x1.toInt = 4 := fun h => c9 (Int32.toInt_inj.mp h)
                      have ec12 : ¬ x1.toInt = 5 := fun h => c12 (Int32.toInt_inj.mp h)
                      have ec15 : ¬ x1.toInt = 6 := fun h => c15 (Int32.toInt_inj.mp h)
                      have ec16 : ¬ x1.toInt = 7 := fun h => c16 (Int32.toInt_inj.mp h)
                      refine lv_tableOut (tgt := 127) E.hx E.hb dX9_count_34 (by omega) (by decide) ?_
                      refine lv_ldc (v := (-1000001)) E.hx E.hb E.ho (E.ht _ q1319) dX9_count_127 ?_
                      obtain ⟨rfl, rfl⟩ := rt_e hf
                      exact mret_i E hR hS dX9_count_129
    · have hf := it_f hf c1
      refine lv_iload_n E.hx E.hb dX9_count_10 rfl (lv_at hl 2 rfl) ?_
      refine lv_aload_n E.hx E.hb dX9_count_11 rfl (lv_at hl 0 rfl) ?_
      refine mg_sizes E hR dX9_count_12 ?_
      refine lv_iload_n E.hx E.hb dX9_count_15 rfl (lv_at hl 3 rfl) ?_
      obtain ⟨v17, hv17, hf⟩ := bd_e hf
      refine ml_sizes E hR hv17 dX9_count_16 ?_
      refine lv_if_lt (tgt := 24) E.hx E.hb dX9_count_17 (by decide) (fun c18 => ?_) (fun c18 => ?_)
      · have hf := it_t hf c18
        refine lv_iconst (v := 0) E.hx E.hb dX9_count_24 (by decide) ?_
        refine lv_iadd E.hx E.hb dX9_count_25 ?_
        refine lv_istore_n (lv' := [(2, .int (x2 + 0)), (0, .ref o), (1, .int x1), (3, .int x3)]) E.hx E.hb dX9_count_26 rfl hl (by decide) rfl (fun ls hl => ?_)
        refine lv_iinc (v := (x3 + 1)) (lv' := [(3, .int (x3 + 1)), (2, .int (x2 + 0)), (0, .ref o), (1, .int x1)]) E.hx E.hb dX9_count_27 hl (k := 3) rfl rfl (by decide) rfl (fun ls hl => ?_)
        refine lv_goto (tgt := 4) E.hx E.hb dX9_count_30 (by decide) ?_
        exact ih σ _ _ _ hf _ _ _ hR hS (lv_sub hl [2, 3, 1, 0] rfl)
      · have hf := it_f hf c18
        refine lv_iconst (v := 1) E.hx E.hb dX9_count_20 (by decide) ?_
        refine lv_goto (tgt := 25) E.hx E.hb dX9_count_21 (by decide) ?_
        refine lv_iadd E.hx E.hb dX9_count_25 ?_
        refine lv_istore_n (lv' := [(2, .int (x2 + 1)), (0, .ref o), (1, .int x1), (3, .int x3)]) E.hx E.hb dX9_count_26 rfl hl (by decide) rfl (fun ls hl => ?_)
        refine lv_iinc (v := (x3 + 1)) (lv' := [(3, .int (x3 + 1)), (2, .int (x2 + 1)), (0, .ref o), (1, .int x1)]) E.hx E.hb dX9_count_27 hl (k := 3) rfl rfl (by decide) rfl (fun ls hl => ?_)
        refine lv_goto (tgt := 4) E.hx E.hb dX9_count_30 (by decide) ?_
        exact ih σ _ _ _ hf _ _ _ hR hS (lv_sub hl [2, 3, 1, 0] rfl)
def fX9_count  (σ : MS) (x1 : Int32) : Option (Int32 × MS) :=
  fX9_count_L4 2000 σ x1 0 0
theorem wX9_count_0 (E : mE p m c cX9_count 4 s args G cI cZ meth (some .int)) {σ : MS} {x1 : Int32} (hf : fX9_count σ x1 = some (r, σf)) : ∀ (H : Heap) (locs : List Loc) (ls : Array Slot), mR G cI cZ o σ H → va_S (mA o) s.heap H locs → lv_has ls 4 [(0, .ref o), (1, .int x1)] → W p l e rmX9_count s m args below meth c H locs 0 0 (MQ below (mQi G cI cZ o r σf) args s 0 0 (mA o)) (F0 m 0 ls []) := by
  intro H locs ls hR hS hl
  refine lv_iconst (v := 0) E.hx E.hb dX9_count_0 (by decide) ?_
  refine lv_istore_n (lv' := [(2, .int 0), (0, .ref o), (1, .int x1)]) E.hx E.hb dX9_count_1 rfl hl (by decide) rfl (fun ls hl => ?_)
  refine lv_iconst (v := 0) E.hx E.hb dX9_count_2 (by decide) ?_
  refine lv_istore_n (lv' := [(3, .int 0), (2, .int 0), (0, .ref o), (1, .int x1)]) E.hx E.hb dX9_count_3 rfl hl (by decide) rfl (fun ls hl => ?_)
  exact wX9_count_L4 E  2000 σ _ _ _ hf _ _ _ hR hS (lv_sub hl [2, 3, 1, 0] rfl)
theorem tX9_count (l : Launch) {G : va_G} {cI cZ : ClassId} {o : Nat} {σ σf : MS} {x1 : Int32} {r : Int32} (hf : fX9_count σ x1 = some (r, σf)) : Met l yX9_count (ws_ yX9_count cX9_count 4 (some .int)) rmX9_count (mPc G cI cZ o σ [.ref o, .int x1]) (mQi G cI cZ o r σf) 0 0 (mA o) := by
  refine Met.ofW (cc := cX9_count) (maxL := 4) (ret := (some .int)) (by decide) rfl ?_
  intro p e s m args below meth c s₁ B hml hv
  obtain ⟨rfl, hR, hK⟩ := hv
  have hts := atoms_spec (ws := (ws_ yX9_count cX9_count 4 (some .int))) B.pre
  rw [lg_entry_eq]
  exact wX9_count_0 (E := ⟨⟨B.exec, B.bytes, hml, findClass_of_methodNamed B.named, fun w h => hts w (List.mem_cons_of_mem _ h)⟩, hK, B.returns, B.notSynchronized⟩) hf _ _ _ hR va_S.rf (lv_entry [.ref o, .int x1] (n := 4) (Nat.le_of_ble_eq_true rfl))

abbrev rmX9_status : Room := { frames := 1, cells := 0, slots := 0, locals := 12 }
def fX9_status  (σ : MS)  : Option (Int32 × MS) :=
  some ((σ 0 3), σ)
theorem wX9_status_0 (E : mE p m c cX9_status 1 s args G cI cZ meth (some .int)) {σ : MS}  (hf : fX9_status σ = some (r, σf)) : ∀ (H : Heap) (locs : List Loc) (ls : Array Slot), mR G cI cZ o σ H → va_S (mA o) s.heap H locs → lv_has ls 1 [(0, .ref o)] → W p l e rmX9_status s m args below meth c H locs 0 0 (MQ below (mQi G cI cZ o r σf) args s 0 0 (mA o)) (F0 m 0 ls []) := by
  intro H locs ls hR hS hl
  refine lv_aload_n E.hx E.hb dX9_status_0 rfl (lv_at hl 0 rfl) ?_
  refine mg_status E hR dX9_status_1 ?_
  obtain ⟨rfl, rfl⟩ := rt_e hf
  exact mret_i E hR hS dX9_status_4
theorem tX9_status (l : Launch) {G : va_G} {cI cZ : ClassId} {o : Nat} {σ σf : MS}  {r : Int32} (hf : fX9_status σ  = some (r, σf)) : Met l yX9_status (ws_ yX9_status cX9_status 1 (some .int)) rmX9_status (mPc G cI cZ o σ [.ref o]) (mQi G cI cZ o r σf) 0 0 (mA o) := by
  refine Met.ofW (cc := cX9_status) (maxL := 1) (ret := (some .int)) (by decide) rfl ?_
  intro p e s m args below meth c s₁ B hml hv
  obtain ⟨rfl, hR, hK⟩ := hv
  have hts := atoms_spec (ws := (ws_ yX9_status cX9_status 1 (some .int))) B.pre
  rw [lg_entry_eq]
  exact wX9_status_0 (E := ⟨⟨B.exec, B.bytes, hml, findClass_of_methodNamed B.named, fun w h => hts w (List.mem_cons_of_mem _ h)⟩, hK, B.returns, B.notSynchronized⟩) hf _ _ _ hR va_S.rf (lv_entry [.ref o] (n := 1) (Nat.le_of_ble_eq_true rfl))
end
