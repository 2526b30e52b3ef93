set_option maxRecDepth 100000
theorem rt_e {α β : Type} {a b : α} {x y : β} (h : some (a, x) = some (b, y)) : a = b ∧ x = y := Prod.mk.inj (Option.some.inj h)
section
variable {p : Program} {l : Launch} {e : Env} {s : State} {m : MethodId} {args : Array Value} {below : List Frame} {meth : Method} {c : Code} {G : va_G} {cI cZ : ClassId} {o : Nat} {σf : MS} {r : Int32} {rl : Int64}
abbrev rmX9_find : Room := { frames := 1, cells := 0, slots := 0, locals := 12 }
def fX9_find  (σ : MS) (x1 : Int32) : Option (Int32 × MS) :=
  (some (up2 σ 0 3 x1)).bind fun σ1 =>
  some (((-1000010) - x1), σ1)
theorem wX9_find_0 (E : mE p m c cX9_find 2 s args G cI cZ meth (some .int)) {σ : MS} {x1 : Int32} (hf : fX9_find σ x1 = some (r, σf)) : ∀ (H : Heap) (locs : List Loc) (ls : Array Slot), mR G cI cZ o σ H → va_S (mA o) s.heap H locs → lv_has ls 2 [(0, .ref o), (1, .int x1)] → W p l e rmX9_find s m args below meth c H locs 0 0 (MQ below (mQi G cI cZ o r σf) args s 0 0 (mA o)) (F0 m 0 ls []) := by
  intro H locs ls hR hS hl
  refine lv_aload_n E.hx E.hb dX9_find_0 rfl (lv_at hl 0 rfl) ?_
  refine lv_iload_n E.hx E.hb dX9_find_1 rfl (lv_at hl 1 rfl) ?_
  obtain ⟨σ1, hσ1, hf⟩ := bd_e hf
  refine mp_status E hR hS dX9_find_2 (fun H locs hR hS => ?_)
  rw [Option.some.inj hσ1] at hR
  refine lv_ldc (v := (-1000010)) E.hx E.hb E.ho (E.ht _ q1324) dX9_find_5 ?_
  refine lv_iload_n E.hx E.hb dX9_find_7 rfl (lv_at hl 1 rfl) ?_
  refine lv_isub E.hx E.hb dX9_find_8 ?_
  obtain ⟨rfl, rfl⟩ := rt_e hf
  exact mret_i E hR hS dX9_find_9
theorem tX9_find (l : Launch) {G : va_G} {cI cZ : ClassId} {o : Nat} {σ σf : MS} {x1 : Int32} {r : Int32} (hf : fX9_find σ x1 = some (r, σf)) : Met l yX9_find (ws_ yX9_find cX9_find 2 (some .int)) rmX9_find (mPc G cI cZ o σ [.ref o, .int x1]) (mQi G cI cZ o r σf) 0 0 (mA o) := by
  refine Met.ofW (cc := cX9_find) (maxL := 2) (ret := (some .int)) (by decide) rfl ?_
  intro p e s m args below meth c s₁ B hml hv
  obtain ⟨rfl, hR, hK⟩ := hv
  have hts := atoms_spec (ws := (ws_ yX9_find cX9_find 2 (some .int))) B.pre
  rw [lg_entry_eq]
  exact wX9_find_0 (E := ⟨⟨B.exec, B.bytes, hml, findClass_of_methodNamed B.named, fun w h => hts w (List.mem_cons_of_mem _ h)⟩, hK, B.returns, B.notSynchronized⟩) hf _ _ _ hR va_S.rf (lv_entry [.ref o, .int x1] (n := 2) (Nat.le_of_ble_eq_true rfl))

abbrev rmX9_in : Room := { frames := 1, cells := 0, slots := 0, locals := 12 }
def fX9_in   (x0 : Int64) (x2 : Int64) (x4 : Int64) : Option Int32 :=
  if (lg_cmp x0 x2) < 0 then (some 0) else (if 0 < (lg_cmp x0 x4) then (some 0) else (some 1))
theorem wX9_in_0 (E : sE p m c cX9_in 6 s args RX9 meth (some .boolean))  {x0 : Int64} {x2 : Int64} {x4 : Int64} (hf : fX9_in x0 x2 x4 = some r) : ∀ (ls : Array Slot), lv_has ls 6 [(0, .long x0), (2, .long x2), (4, .long x4)] → W p l e rmX9_in s m args below meth c s.heap [] 0 0 (MQ below (sQi r) args s 0 0 (fun _ => False)) (F0 m 0 ls []) := by
  intro ls hl
  refine lv_lload_n E.hx E.hb dX9_in_0 rfl (lv_at hl 0 rfl) ?_
  refine lv_lload_n E.hx E.hb dX9_in_1 rfl (lv_at hl 1 rfl) ?_
  refine W.lcmp E.hx E.hb dX9_in_2 ?_
  refine lv_if_lt (tgt := 17) E.hx E.hb dX9_in_3 (by decide) (fun c1 => ?_) (fun c1 => ?_)
  · have hf := it_t hf c1
    refine lv_iconst (v := 0) E.hx E.hb dX9_in_17 (by decide) ?_
    cases hf
    exact sret_z E rfl dX9_in_18
  · have hf := it_f hf c1
    refine lv_lload_n E.hx E.hb dX9_in_6 rfl (lv_at hl 0 rfl) ?_
    refine lv_lload E.hx E.hb dX9_in_7 (lv_at hl 2 rfl) ?_
    refine W.lcmp E.hx E.hb dX9_in_9 ?_
    refine lv_if_gt (tgt := 17) E.hx E.hb dX9_in_10 (by decide) (fun c2 => ?_) (fun c2 => ?_)
    · have hf := it_t hf c2
      refine lv_iconst (v := 0) E.hx E.hb dX9_in_17 (by decide) ?_
      cases hf
      exact sret_z E rfl dX9_in_18
    · have hf := it_f hf c2
      refine lv_iconst (v := 1) E.hx E.hb dX9_in_13 (by decide) ?_
      refine lv_goto (tgt := 18) E.hx E.hb dX9_in_14 (by decide) ?_
      cases hf
      exact sret_z E rfl dX9_in_18
theorem tX9_in (l : Launch) {x0 : Int64} {x2 : Int64} {x4 : Int64} {r : Int32} (hf : fX9_in x0 x2 x4 = some r) : Met l yX9_in (ws_ yX9_in cX9_in 6 (some .boolean)) rmX9_in (sPc [.long x0, .long x2, .long x4]) (sQi r) 0 0 (fun _ => False) := by
  refine Met.ofW (cc := cX9_in) (maxL := 6) (ret := (some .boolean)) (by decide) rfl ?_
  intro p e s m args below meth c s₁ B hml hv
  obtain ⟨rfl, -⟩ := hv
  have hts := atoms_spec (ws := (ws_ yX9_in cX9_in 6 (some .boolean))) B.pre
  rw [lg_entry_eq]
  exact wX9_in_0 (E := ⟨⟨B.exec, B.bytes, hml, findClass_of_methodNamed B.named, fun w h => hts w (List.mem_cons_of_mem _ h)⟩, B.returns, B.notSynchronized⟩) hf _ (lv_entry [.long x0, .long x2, .long x4] (n := 6) (Nat.le_of_ble_eq_true rfl))

theorem cwX9_57 {R : Room} {s : State} {args : Array Value} (ht : ∀ w ∈ lw_all, w.before args s = true) (hR : rmX9_in.frames + 1 ≤ R.frames ∧ 8 + (6 + 11) + rmX9_in.locals ≤ R.locals) : CallB R s args RX9 57 yX9_in cX9_in 6 (some .boolean) (ws_ yX9_in cX9_in 6 (some .boolean)) rmX9_in 0 0 3 ∧ (Cond.static yX9_in).before args s = true :=
  va_cwS 3 ht (lw_S q1315 q1316 q80 q1317) rfl rfl rfl (by decide +kernel) hR
abbrev rmX9_isRow : Room := { frames := 2, cells := 0, slots := 0, locals := 37 }
def fX9_isRow   (x0 : Int32) : Option Int32 :=
  (fX9_in (x0.toInt64) 0 7).bind fun v1 =>
  bz v1
theorem wX9_isRow_0 (E : sE p m c cX9_isRow 1 s args RX9 meth (some .boolean))  {x0 : Int32} (hf : fX9_isRow x0 = some r) : ∀ (ls : Array Slot), lv_has ls 1 [(0, .int x0)] → W p l e rmX9_isRow s m args below meth c s.heap [] 0 0 (MQ below (sQi r) args s 0 0 (fun _ => False)) (F0 m 0 ls []) := by
  intro ls hl
  refine lv_iload_n E.hx E.hb dX9_isRow_0 rfl (lv_at hl 0 rfl) ?_
  refine lv_i2l E.hx E.hb dX9_isRow_1 rfl ?_
  refine lv_lconst (v := 0) E.hx E.hb dX9_isRow_2 (by decide) ?_
  refine lv_ldc2 (v := 7) E.hx E.hb E.ho (E.ht _ q1314) dX9_isRow_3 ?_
  obtain ⟨v1, hv1, hf⟩ := bd_e hf
  refine scall_i (rest := []) E.1 (tX9_in l hv1) (cwX9_57 E.ht ⟨Nat.le_of_ble_eq_true rfl, Nat.le_of_ble_eq_true rfl⟩) rfl hl.1 rfl (Nat.le_of_ble_eq_true rfl) dX9_isRow_6 ⟨Nat.le_refl 0, Nat.le_refl 0⟩ ?_
  obtain ⟨hz, rfl⟩ := bz_e hf
  exact sret_z E hz dX9_isRow_9
theorem tX9_isRow (l : Launch) {x0 : Int32} {r : Int32} (hf : fX9_isRow x0 = some r) : Met l yX9_isRow (ws_ yX9_isRow cX9_isRow 1 (some .boolean)) rmX9_isRow (sPc [.int x0]) (sQi r) 0 0 (fun _ => False) := by
  refine Met.ofW (cc := cX9_isRow) (maxL := 1) (ret := (some .boolean)) (by decide) rfl ?_
  intro p e s m args below meth c s₁ B hml hv
  obtain ⟨rfl, -⟩ := hv
  have hts := atoms_spec (ws := (ws_ yX9_isRow cX9_isRow 1 (some .boolean))) B.pre
  rw [lg_entry_eq]
  exact wX9_isRow_0 (E := ⟨⟨B.exec, B.bytes, hml, findClass_of_methodNamed B.named, fun w h => hts w (List.mem_cons_of_mem _ h)⟩, B.returns, B.notSynchronized⟩) hf _ (lv_entry [.int x0] (n := 1) (Nat.le_of_ble_eq_true rfl))

abbrev rmX9_well : Room := { frames := 1, cells := 0, slots := 0, locals := 12 }
def fX9_well  (σ : MS) (x1 : Int32) : Option (Int32 × MS) :=
  (some (up2 σ 0 3 0)).bind fun σ1 =>
  some (x1, σ1)
theorem wX9_well_0 (E : mE p m c cX9_well 2 s args G cI cZ meth (some .int)) {σ : MS} {x1 : Int32} (hf : fX9_well σ x1 = some (r, σf)) : ∀ (H : Heap) (locs : List Loc) (ls : Array Slot), mR G cI cZ o σ H → va_S (mA o) s.heap H locs → lv_has ls 2 [(0, .ref o), (1, .int x1)] → W p l e rmX9_well s m args below meth c H locs 0 0 (MQ below (mQi G cI cZ o r σf) args s 0 0 (mA o)) (F0 m 0 ls []) := by
  intro H locs ls hR hS hl
  refine lv_aload_n E.hx E.hb dX9_well_0 rfl (lv_at hl 0 rfl) ?_
  refine lv_iconst (v := 0) E.hx E.hb dX9_well_1 (by decide) ?_
  obtain ⟨σ1, hσ1, hf⟩ := bd_e hf
  refine mp_status E hR hS dX9_well_2 (fun H locs hR hS => ?_)
  rw [Option.some.inj hσ1] at hR
  refine lv_iload_n E.hx E.hb dX9_well_5 rfl (lv_at hl 1 rfl) ?_
  obtain ⟨rfl, rfl⟩ := rt_e hf
  exact mret_i E hR hS dX9_well_6
theorem tX9_well (l : Launch) {G : va_G} {cI cZ : ClassId} {o : Nat} {σ σf : MS} {x1 : Int32} {r : Int32} (hf : fX9_well σ x1 = some (r, σf)) : Met l yX9_well (ws_ yX9_well cX9_well 2 (some .int)) rmX9_well (mPc G cI cZ o σ [.ref o, .int x1]) (mQi G cI cZ o r σf) 0 0 (mA o) := by
  refine Met.ofW (cc := cX9_well) (maxL := 2) (ret := (some .int)) (by decide) rfl ?_
  intro p e s m args below meth c s₁ B hml hv
  obtain ⟨rfl, hR, hK⟩ := hv
  have hts := atoms_spec (ws := (ws_ yX9_well cX9_well 2 (some .int))) B.pre
  rw [lg_entry_eq]
  exact wX9_well_0 (E := ⟨⟨B.exec, B.bytes, hml, findClass_of_methodNamed B.named, fun w h => hts w (List.mem_cons_of_mem _ h)⟩, hK, B.returns, B.notSynchronized⟩) hf _ _ _ hR va_S.rf (lv_entry [.ref o, .int x1] (n := 2) (Nat.le_of_ble_eq_true rfl))

theorem cwX9_61 {R : Room} {s : State} {args : Array Value} (ht : ∀ w ∈ lw_all, w.before args s = true) (hR : rmX9_isRow.frames + 1 ≤ R.frames ∧ 8 + (1 + 11) + rmX9_isRow.locals ≤ R.locals) : CallB R s args RX9 61 yX9_isRow cX9_isRow 1 (some .boolean) (ws_ yX9_isRow cX9_isRow 1 (some .boolean)) rmX9_isRow 0 0 1 ∧ (Cond.static yX9_isRow).before args s = true :=
  va_cwS 1 ht (lw_S q1311 q1312 q80 q1313) rfl rfl rfl (by decide +kernel) hR
theorem cwX9_68 {R : Room} {s : State} {args : Array Value} (ht : ∀ w ∈ lw_all, w.before args s = true) (hR : rmX9_find.frames + 1 ≤ R.frames ∧ 8 + (2 + 11) + rmX9_find.locals ≤ R.locals) : CallW R s args RX9 RX9 68 yX9_find cX9_find 2 (some .int) (ws_ yX9_find cX9_find 2 (some .int)) rmX9_find 0 0 1 :=
  cwV 1 ht (lw_V q1320 q1322 qs32 q80 q1323) rfl rfl rfl (by decide +kernel) hR
theorem cwX9_72 {R : Room} {s : State} {args : Array Value} (ht : ∀ w ∈ lw_all, w.before args s = true) (hR : rmX9_well.frames + 1 ≤ R.frames ∧ 8 + (2 + 11) + rmX9_well.locals ≤ R.locals) : CallW R s args RX9 RX9 72 yX9_well cX9_well 2 (some .int) (ws_ yX9_well cX9_well 2 (some .int)) rmX9_well 0 0 1 :=
  cwV 1 ht (lw_V q1325 q1327 qs33 q80 q1328) rfl rfl rfl (by decide +kernel) hR
abbrev rmX9_row : Room := { frames := 3, cells := 0, slots := 0, locals := 57 }
def fX9_row_L55  : Nat → MS → Int32 → Int32 → Int32 → Option (Int32 × MS)
  | 0, _, _, _, _ => none
  | n + 1, σ, x1, x3, x4 =>
    if 40 ≤ x4 then ((fX9_well σ x3).bind fun (v3, σ2) =>
    some (v3, σ2)) else ((mwr σ 3 320 ((40 * x1) + x4) 0).bind fun σ4 =>
    (fX9_row_L55 n) σ4 x1 x3 (x4 + 1))
theorem wX9_row_L55 (E : mE p m c cX9_row 5 s args G cI cZ meth (some .int)) : ∀ (n : Nat) (σ : MS) (x1 : Int32) (x3 : Int32) (x4 : Int32), fX9_row_L55 n σ x1 x3 x4 = some (r, σf) → ∀ (H : Heap) (locs : List Loc) (ls : Array Slot), mR G cI cZ o σ H → va_S (mA o) s.heap H locs → lv_has ls 5 [(0, .ref o), (1, .int x1), (3, .int x3), (4, .int x4)] → W p l e rmX9_row s m args below meth c H locs 0 0 (MQ below (mQi G cI cZ o r σf) args s 0 0 (mA o)) (F0 m 55 ls []) := by
  intro n
  induction n with
  | zero =>
    intro σ x1 x3 x4 hf
    have hf : none = some (r, σf) := hf
    cases hf
  | succ n ih =>
    intro σ x1 x3 x4 hf H locs ls hR hS hl
    refine lv_iload E.hx E.hb dX9_row_55 (lv_at hl 3 rfl) ?_
    refine lv_bipush (v := 40) E.hx E.hb dX9_row_57 (by decide) ?_
    refine lv_icmp_ge (tgt := 81) E.hx E.hb dX9_row_59 (by decide) (fun c1 => ?_) (fun c1 => ?_)
    · have hf := it_t hf c1
      refine lv_aload_n E.hx E.hb dX9_row_81 rfl (lv_at hl 0 rfl) ?_
      refine lv_iload_n E.hx E.hb dX9_row_82 rfl (lv_at hl 2 rfl) ?_
      obtain ⟨⟨v3, σ2⟩, hv3, hf⟩ := bd_e hf
      refine mcall_i (rest := []) E hR hS (tX9_well l hv3) (cwX9_72 E.ht ⟨Nat.le_of_ble_eq_true rfl, Nat.le_of_ble_eq_true rfl⟩) rfl hl.1 rfl (Nat.le_of_ble_eq_true rfl) dX9_row_83 ⟨Nat.le_refl 0, Nat.le_refl 0⟩ (fun H locs hR hS => ?_)
      obtain ⟨rfl, rfl⟩ := rt_e hf
      exact mret_i E hR hS dX9_row_86
    · have hf := it_f hf c1
      refine lv_aload_n E.hx E.hb dX9_row_62 rfl (lv_at hl 0 rfl) ?_
      refine mg_items E hR dX9_row_63 ?_
      refine lv_bipush (v := 40) E.hx E.hb dX9_row_66 (by decide) ?_
      refine lv_iload_n E.hx E.hb dX9_row_68 rfl (lv_at hl 1 rfl) ?_
      refine lv_imul E.hx E.hb dX9_row_69 ?_
      refine lv_iload E.hx E.hb dX9_row_70 (lv_at hl 3 rfl) ?_
      refine lv_iadd E.hx E.hb dX9_row_72 ?_
      refine lv_iconst (v := 0) E.hx E.hb dX9_row_73 (by decide) ?_
      obtain ⟨σ4, hσ4, hf⟩ := bd_e hf
      refine ms_items E hR hS hσ4 dX9_row_74 (fun H locs hR hS => ?_)
      refine lv_iinc (v := (x4 + 1)) (lv' := [(4, .int (x4 + 1)), (0, .ref o), (1, .int x1), (3, .int x3)]) E.hx E.hb dX9_row_75 hl (k := 3) rfl rfl (by decide) rfl (fun ls hl => ?_)
      refine lv_goto (tgt := 55) E.hx E.hb dX9_row_78 (by decide) ?_
      exact ih σ4 _ _ _ hf _ _ _ hR hS (lv_sub hl [1, 2, 3, 0] rfl)
def fX9_row  (σ : MS) (x1 : Int32) (x2 : Int32) (x3 : Int32) : Option (Int32 × MS) :=
  (fX9_isRow x1).bind fun v1 =>
  if v1 = 0 then (some ((-1000001), σ)) else ((fX9_in (x2.toInt64) 0 2).bind fun v3 =>
  if v3 = 0 then (some ((-1000001), σ)) else (if x3 ≤ 40 then (if 0 ≤ x3 then ((mwr σ 1 8 x1 x2).bind fun σ7 =>
  (mwr σ7 2 8 x1 x3).bind fun σ8 =>
  fX9_row_L55 2000 σ8 x1 x3 0) else ((fX9_find σ 4).bind fun (v10, σ9) =>
  some (v10, σ9))) else (some ((-1000001), σ))))
theorem wX9_row_0 (E : mE p m c cX9_row 5 s args G cI cZ meth (some .int)) {σ : MS} {x1 : Int32} {x2 : Int32} {x3 : Int32} (hf : fX9_row σ x1 x2 x3 = some (r, σf)) : ∀ (H : Heap) (locs : List Loc) (ls : Array Slot), mR G cI cZ o σ H → va_S (mA o) s.heap H locs → lv_has ls 5 [(0, .ref o), (1, .int x1), (2, .int x2), (3, .int x3)] → W p l e rmX9_row s m args below meth c H locs 0 0 (MQ below (mQi G cI cZ o r σf) args s 0 0 (mA o)) (F0 m 0 ls []) := by
  intro H locs ls hR hS hl
  refine lv_iload_n E.hx E.hb dX9_row_0 rfl (lv_at hl 1 rfl) ?_
  obtain ⟨v1, hv1, hf⟩ := bd_e hf
  refine scall_i (rest := []) E.1 (tX9_isRow l hv1) (cwX9_61 E.ht ⟨Nat.le_of_ble_eq_true rfl, Nat.le_of_ble_eq_true rfl⟩) rfl hl.1 rfl (Nat.le_of_ble_eq_true rfl) dX9_row_1 ⟨Nat.le_refl 0, Nat.le_refl 0⟩ ?_
  refine lv_if_eq (tgt := 25) E.hx E.hb dX9_row_4 (by decide) (fun c2 => ?_) (fun c2 => ?_)
  · have hf := it_t hf c2
    refine lv_ldc (v := (-1000001)) E.hx E.hb E.ho (E.ht _ q1319) dX9_row_25 ?_
    obtain ⟨rfl, rfl⟩ := rt_e hf
    exact mret_i E hR hS dX9_row_27
  · have hf := it_f hf c2
    refine lv_iload_n E.hx E.hb dX9_row_7 rfl (lv_at hl 2 rfl) ?_
    refine lv_i2l E.hx E.hb dX9_row_8 rfl ?_
    refine lv_lconst (v := 0) E.hx E.hb dX9_row_9 (by decide) ?_
    refine lv_ldc2 (v := 2) E.hx E.hb E.ho (E.ht _ q1318) dX9_row_10 ?_
    obtain ⟨v3, hv3, hf⟩ := bd_e hf
    refine scall_i (rest := []) E.1 (tX9_in l hv3) (cwX9_57 E.ht ⟨Nat.le_of_ble_eq_true rfl, Nat.le_of_ble_eq_true rfl⟩) rfl hl.1 rfl (Nat.le_of_ble_eq_true rfl) dX9_row_13 ⟨Nat.le_refl 0, Nat.le_refl 0⟩ ?_
    refine lv_if_eq (tgt := 25) E.hx E.hb dX9_row_16 (by decide) (fun c4 => ?_) (fun c4 => ?_)
    · have hf := it_t hf c4
      refine lv_ldc (v := (-1000001)) E.hx E.hb E.ho (E.ht _ q1319) dX9_row_25 ?_
      obtain ⟨rfl, rfl⟩ := rt_e hf
      exact mret_i E hR hS dX9_row_27
    · have hf := it_f hf c4
      refine lv_iload_n E.hx E.hb dX9_row_19 rfl (lv_at hl 3 rfl) ?_
      refine lv_bipush (v := 40) E.hx E.hb dX9_row_20 (by decide) ?_
      refine lv_icmp_le (tgt := 28) E.hx E.hb dX9_row_22 (by decide) (fun c5 => ?_) (fun c5 => ?_)
      · have hf := it_t hf c5
        refine lv_iload_n E.hx E.hb dX9_row_28 rfl (lv_at hl 3 rfl) ?_
        refine lv_if_ge (tgt := 38) E.hx E.hb dX9_row_29 (by decide) (fun c6 => ?_) (fun c6 => ?_)
        · have hf := it_t hf c6
          refine lv_aload_n E.hx E.hb dX9_row_38 rfl (lv_at hl 0 rfl) ?_
          refine mg_lanes E hR dX9_row_39 ?_
          refine lv_iload_n E.hx E.hb dX9_row_42 rfl (lv_at hl 1 rfl) ?_
          refine lv_iload_n E.hx E.hb dX9_row_43 rfl (lv_at hl 2 rfl) ?_
          obtain ⟨σ7, hσ7, hf⟩ := bd_e hf
          refine ms_lanes E hR hS hσ7 dX9_row_44 (fun H locs hR hS => ?_)
          refine lv_aload_n E.hx E.hb dX9_row_45 rfl (lv_at hl 0 rfl) ?_
          refine mg_sizes E hR dX9_row_46 ?_
          refine lv_iload_n E.hx E.hb dX9_row_49 rfl (lv_at hl 1 rfl) ?_
          refine lv_iload_n E.hx E.hb dX9_row_50 rfl (lv_at hl 3 rfl) ?_
          obtain ⟨σ8, hσ8, hf⟩ := bd_e hf
          refine ms_sizes E hR hS hσ8 dX9_row_51 (fun H locs hR hS => ?_)
          refine lv_iconst (v := 0) E.hx E.hb dX9_row_52 (by decide) ?_
          refine lv_istore (lv' := [(4, .int 0), (0, .ref o), (1, .int x1), (2, .int x2), (3, .int x3)]) E.hx E.hb dX9_row_53 hl (by decide) rfl (fun ls hl => ?_)
          exact wX9_row_L55 E  2000 σ8 _ _ _ hf _ _ _ hR hS (lv_sub hl [1, 2, 4, 0] rfl)
        · have hf := it_f hf c6
          refine lv_aload_n E.hx E.hb dX9_row_32 rfl (lv_at hl 0 rfl) ?_
          refine lv_iconst (v := 4) E.hx E.hb dX9_row_33 (by decide) ?_
          obtain ⟨⟨v10, σ9⟩, hv10, hf⟩ := bd_e hf
          refine mcall_i (rest := []) E hR hS (tX9_find l hv10) (cwX9_68 E.ht ⟨Nat.le_of_ble_eq_true rfl, Nat.le_of_ble_eq_true rfl⟩) rfl hl.1 rfl (Nat.le_of_ble_eq_true rfl) dX9_row_34 ⟨Nat.le_refl 0, Nat.le_refl 0⟩ (fun H locs hR hS => ?_)
          obtain ⟨rfl, rfl⟩ := rt_e hf
          exact mret_i E hR hS dX9_row_37
      · have hf := it_f hf c5
        refine lv_ldc (v := (-1000001)) E.hx E.hb E.ho (E.ht _ q1319) dX9_row_25 ?_
        obtain ⟨rfl, rfl⟩ := rt_e hf
        exact mret_i E hR hS dX9_row_27
theorem tX9_row (l : Launch) {G : va_G} {cI cZ : ClassId} {o : Nat} {σ σf : MS} {x1 : Int32} {x2 : Int32} {x3 : Int32} {r : Int32} (hf : fX9_row σ x1 x2 x3 = some (r, σf)) : Met l yX9_row (ws_ yX9_row cX9_row 5 (some .int)) rmX9_row (mPc G cI cZ o σ [.ref o, .int x1, .int x2, .int x3]) (mQi G cI cZ o r σf) 0 0 (mA o) := by
  refine Met.ofW (cc := cX9_row) (maxL := 5) (ret := (some .int)) (by decide) rfl ?_
  intro p e s m args below meth c s₁ B hml hv
  obtain ⟨rfl, hR, hK⟩ := hv
  have hts := atoms_spec (ws := (ws_ yX9_row cX9_row 5 (some .int))) B.pre
  rw [lg_entry_eq]
  exact wX9_row_0 (E := ⟨⟨B.exec, B.bytes, hml, findClass_of_methodNamed B.named, fun w h => hts w (List.mem_cons_of_mem _ h)⟩, hK, B.returns, B.notSynchronized⟩) hf _ _ _ hR va_S.rf (lv_entry [.ref o, .int x1, .int x2, .int x3] (n := 5) (Nat.le_of_ble_eq_true rfl))

abbrev rmX9_asLane : Room := { frames := 1, cells := 0, slots := 0, locals := 12 }
def fX9_asLane   (x0 : Int32) (x1 : Int32) : Option Int32 :=
  if x0 = 0 then (some ((x1 <<< (24 &&& 31)) >>> (24 &&& 31))) else (if x0 = 1 then (some ((x1 <<< (16 &&& 31)) >>> (16 &&& 31))) else (some x1))
theorem wX9_asLane_0 (E : sE p m c cX9_asLane 2 s args RX9 meth (some .int))  {x0 : Int32} {x1 : Int32} (hf : fX9_asLane x0 x1 = some r) : ∀ (ls : Array Slot), lv_has ls 2 [(0, .int x0), (1, .int x1)] → W p l e rmX9_asLane s m args below meth c s.heap [] 0 0 (MQ below (sQi r) args s 0 0 (fun _ => False)) (F0 m 0 ls []) := by
  intro ls hl
  refine lv_iload_n E.hx E.hb dX9_asLane_0 rfl (lv_at hl 0 rfl) ?_
  refine lv_if_ne (tgt := 14) E.hx E.hb dX9_asLane_1 (by decide) (fun c1 => ?_) (fun c1 => ?_)
  · have hf := it_f hf c1
    refine lv_iload_n E.hx E.hb dX9_asLane_14 rfl (lv_at hl 0 rfl) ?_
    refine lv_iconst (v := 1) E.hx E.hb dX9_asLane_15 (by decide) ?_
    refine lv_icmp_ne (tgt := 29) E.hx E.hb dX9_asLane_16 (by decide) (fun c2 => ?_) (fun c2 => ?_)
    · have hf := it_f hf c2
      refine lv_iload_n E.hx E.hb dX9_asLane_29 rfl (lv_at hl 1 rfl) ?_
      obtain rfl := Option.some.inj hf
      exact sret_i E dX9_asLane_30
    · have hf := it_t hf c2
      refine lv_iload_n E.hx E.hb dX9_asLane_19 rfl (lv_at hl 1 rfl) ?_
      refine lv_bipush (v := 16) E.hx E.hb dX9_asLane_20 (by decide) ?_
      refine lv_ishl E.hx E.hb dX9_asLane_22 ?_
      refine lv_bipush (v := 16) E.hx E.hb dX9_asLane_23 (by decide) ?_
      refine lv_ishr E.hx E.hb dX9_asLane_25 ?_
      refine lv_goto (tgt := 30) E.hx E.hb dX9_asLane_26 (by decide) ?_
      obtain rfl := Option.some.inj hf
      exact sret_i E dX9_asLane_30
  · have hf := it_t hf c1
    refine lv_iload_n E.hx E.hb dX9_asLane_4 rfl (lv_at hl 1 rfl) ?_
    refine lv_bipush (v := 24) E.hx E.hb dX9_asLane_5 (by decide) ?_
    refine lv_ishl E.hx E.hb dX9_asLane_7 ?_
    refine lv_bipush (v := 24) E.hx E.hb dX9_asLane_8 (by decide) ?_
    refine lv_ishr E.hx E.hb dX9_asLane_10 ?_
    refine lv_goto (tgt := 30) E.hx E.hb dX9_asLane_11 (by decide) ?_
    obtain rfl := Option.some.inj hf
    exact sret_i E dX9_asLane_30
theorem tX9_asLane (l : Launch) {x0 : Int32} {x1 : Int32} {r : Int32} (hf : fX9_asLane x0 x1 = some r) : Met l yX9_asLane (ws_ yX9_asLane cX9_asLane 2 (some .int)) rmX9_asLane (sPc [.int x0, .int x1]) (sQi r) 0 0 (fun _ => False) := by
  refine Met.ofW (cc := cX9_asLane) (maxL := 2) (ret := (some .int)) (by decide) rfl ?_
  intro p e s m args below meth c s₁ B hml hv
  obtain ⟨rfl, -⟩ := hv
  have hts := atoms_spec (ws := (ws_ yX9_asLane cX9_asLane 2 (some .int))) B.pre
  rw [lg_entry_eq]
  exact wX9_asLane_0 (E := ⟨⟨B.exec, B.bytes, hml, findClass_of_methodNamed B.named, fun w h => hts w (List.mem_cons_of_mem _ h)⟩, B.returns, B.notSynchronized⟩) hf _ (lv_entry [.int x0, .int x1] (n := 2) (Nat.le_of_ble_eq_true rfl))

theorem cwX9_75 {R : Room} {s : State} {args : Array Value} (ht : ∀ w ∈ lw_all, w.before args s = true) (hR : rmX9_asLane.frames + 1 ≤ R.frames ∧ 8 + (2 + 11) + rmX9_asLane.locals ≤ R.locals) : CallB R s args RX9 75 yX9_asLane cX9_asLane 2 (some .int) (ws_ yX9_asLane cX9_asLane 2 (some .int)) rmX9_asLane 0 0 2 ∧ (Cond.static yX9_asLane).before args s = true :=
  va_cwS 2 ht (lw_S q1333 q1334 q80 q1335) rfl rfl rfl (by decide +kernel) hR
abbrev rmX9_set : Room := { frames := 3, cells := 0, slots := 0, locals := 57 }
def fX9_set  (σ : MS) (x1 : Int32) (x2 : Int32) (x3 : Int32) : Option (Int32 × MS) :=
  (fX9_isRow x1).bind fun v1 =>
  if v1 = 0 then (some ((-1000001), σ)) else ((rd (σ 2) 8 x1).bind fun v3 =>
  if 0 ≤ v3 then ((rd (σ 2) 8 x1).bind fun v5 =>
  (fX9_in (x2.toInt64) 0 ((v5 - 1).toInt64)).bind fun v6 =>
  if v6 = 0 then ((fX9_find σ 2).bind fun (v15, σ14) =>
  some (v15, σ14)) else ((rd (σ 1) 8 x1).bind fun v8 =>
  (fX9_asLane v8 x3).bind fun v9 =>
  (mwr σ 3 320 ((40 * x1) + x2) v9).bind fun σ10 =>
  (rd (σ10 3) 320 ((40 * x1) + x2)).bind fun v11 =>
  (fX9_well σ10 v11).bind fun (v13, σ12) =>
  some (v13, σ12))) else ((fX9_find σ 1).bind fun (v17, σ16) =>
  some (v17, σ16)))
theorem wX9_set_0 (E : mE p m c cX9_set 4 s args G cI cZ meth (some .int)) {σ : MS} {x1 : Int32} {x2 : Int32} {x3 : Int32} (hf : fX9_set σ x1 x2 x3 = some (r, σf)) : ∀ (H : Heap) (locs : List Loc) (ls : Array Slot), mR G cI cZ o σ H → va_S (mA o) s.heap H locs → lv_has ls 4 [(0, .ref o), (1, .int x1), (2, .int x2), (3, .int x3)] → W p l e rmX9_set s m args below meth c H locs 0 0 (MQ below (mQi G cI cZ o r σf) args s 0 0 (mA o)) (F0 m 0 ls []) := by
  intro H locs ls hR hS hl
  refine lv_iload_n E.hx E.hb dX9_set_0 rfl (lv_at hl 1 rfl) ?_
  obtain ⟨v1, hv1, hf⟩ := bd_e hf
  refine scall_i (rest := []) E.1 (tX9_isRow l hv1) (cwX9_61 E.ht ⟨Nat.le_of_ble_eq_true rfl, Nat.le_of_ble_eq_true rfl⟩) rfl hl.1 rfl (Nat.le_of_ble_eq_true rfl) dX9_set_1 ⟨Nat.le_refl 0, Nat.le_refl 0⟩ ?_
  refine lv_if_ne (tgt := 10) E.hx E.hb dX9_set_4 (by decide) (fun c2 => ?_) (fun c2 => ?_)
  · have hf := it_f hf c2
    refine lv_aload_n E.hx E.hb dX9_set_10 rfl (lv_at hl 0 rfl) ?_
    refine mg_sizes E hR dX9_set_11 ?_
    refine lv_iload_n E.hx E.hb dX9_set_14 rfl (lv_at hl 1 rfl) ?_
    obtain ⟨v3, hv3, hf⟩ := bd_e hf
    refine ml_sizes E hR hv3 dX9_set_15 ?_
    refine lv_if_ge (tgt := 25) E.hx E.hb dX9_set_16 (by decide) (fun c4 => ?_) (fun c4 => ?_)
    · have hf := it_t hf c4
      refine lv_iload_n E.hx E.hb dX9_set_25 rfl (lv_at hl 2 rfl) ?_
      refine lv_i2l E.hx E.hb dX9_set_26 rfl ?_
      refine lv_lconst (v := 0) E.hx E.hb dX9_set_27 (by decide) ?_
      refine lv_aload_n E.hx E.hb dX9_set_28 rfl (lv_at hl 0 rfl) ?_
      refine mg_sizes E hR dX9_set_29 ?_
      refine lv_iload_n E.hx E.hb dX9_set_32 rfl (lv_at hl 1 rfl) ?_
      obtain ⟨v5, hv5, hf⟩ := bd_e hf
      refine ml_sizes E hR hv5 dX9_set_33 ?_
      refine lv_iconst (v := 1) E.hx E.hb dX9_set_34 (by decide) ?_
      refine lv_isub E.hx E.hb dX9_set_35 ?_
      refine lv_i2l E.hx E.hb dX9_set_36 rfl ?_
      obtain ⟨v6, hv6, hf⟩ := bd_e hf
      refine scall_i (rest := []) E.1 (tX9_in l hv6) (cwX9_57 E.ht ⟨Nat.le_of_ble_eq_true rfl, Nat.le_of_ble_eq_true rfl⟩) rfl hl.1 rfl (Nat.le_of_ble_eq_true rfl) dX9_set_37 ⟨Nat.le_refl 0, Nat.le_refl 0⟩ ?_
      refine lv_if_ne (tgt := 49) E.hx E.hb dX9_set_40 (by decide) (fun c7 => ?_) (fun c7 => ?_)
      · have hf := it_f hf c7
        refine lv_aload_n E.hx E.hb dX9_set_49 rfl (lv_at hl 0 rfl) ?_
        refine mg_items E hR dX9_set_50 ?_
        refine lv_bipush (v := 40) E.hx E.hb dX9_set_53 (by decide) ?_
        refine lv_iload_n E.hx E.hb dX9_set_55 rfl (lv_at hl 1 rfl) ?_
        refine lv_imul E.hx E.hb dX9_set_56 ?_
        refine lv_iload_n E.hx E.hb dX9_set_57 rfl (lv_at hl 2 rfl) ?_
        refine lv_iadd E.hx E.hb dX9_set_58 ?_
        refine lv_aload_n E.hx E.hb dX9_set_59 rfl (lv_at hl 0 rfl) ?_
        refine mg_lanes E hR dX9_set_60 ?_
        refine lv_iload_n E.hx E.hb dX9_set_63 rfl (lv_at hl 1 rfl) ?_
        obtain ⟨v8, hv8, hf⟩ := bd_e hf
        refine ml_lanes E hR hv8 dX9_set_64 ?_
        refine lv_iload_n E.hx E.hb dX9_set_65 rfl (lv_at hl 3 rfl) ?_
        obtain ⟨v9, hv9, hf⟩ := bd_e hf
        refine scall_i (rest := [.int ((40 * x1) + x2), .ref (o + 3)]) E.1 (tX9_asLane l hv9) (cwX9_75 E.ht ⟨Nat.le_of_ble_eq_true rfl, Nat.le_of_ble_eq_true rfl⟩) rfl hl.1 rfl (Nat.le_of_ble_eq_true rfl) dX9_set_66 ⟨Nat.le_refl 0, Nat.le_refl 0⟩ ?_
        obtain ⟨σ10, hσ10, hf⟩ := bd_e hf
        refine ms_items E hR hS hσ10 dX9_set_69 (fun H locs hR hS => ?_)
        refine lv_aload_n E.hx E.hb dX9_set_70 rfl (lv_at hl 0 rfl) ?_
        refine lv_aload_n E.hx E.hb dX9_set_71 rfl (lv_at hl 0 rfl) ?_
        refine mg_items E hR dX9_set_72 ?_
        refine lv_bipush (v := 40) E.hx E.hb dX9_set_75 (by decide) ?_
        refine lv_iload_n E.hx E.hb dX9_set_77 rfl (lv_at hl 1 rfl) ?_
        refine lv_imul E.hx E.hb dX9_set_78 ?_
        refine lv_iload_n E.hx E.hb dX9_set_79 rfl (lv_at hl 2 rfl) ?_
        refine lv_iadd E.hx E.hb dX9_set_80 ?_
        obtain ⟨v11, hv11, hf⟩ := bd_e hf
        refine ml_items E hR hv11 dX9_set_81 ?_
        obtain ⟨⟨v13, σ12⟩, hv13, hf⟩ := bd_e hf
        refine mcall_i (rest := []) E hR hS (tX9_well l hv13) (cwX9_72 E.ht ⟨Nat.le_of_ble_eq_true rfl, Nat.le_of_ble_eq_true rfl⟩) rfl hl.1 rfl (Nat.le_of_ble_eq_true rfl) dX9_set_82 ⟨Nat.le_refl 0, Nat.le_refl 0⟩ (fun H locs hR hS => ?_)
        obtain ⟨rfl, rfl⟩ := rt_e hf
        exact mret_i E hR hS dX9_set_85
      · have hf := it_t hf c7
        refine lv_aload_n E.hx E.hb dX9_set_43 rfl (lv_at hl 0 rfl) ?_
        refine lv_iconst (v := 2) E.hx E.hb dX9_set_44 (by decide) ?_
        obtain ⟨⟨v15, σ14⟩, hv15, hf⟩ := bd_e hf
        refine mcall_i (rest := []) E hR hS (tX9_find l hv15) (cwX9_68 E.ht ⟨Nat.le_of_ble_eq_true rfl, Nat.le_of_ble_eq_true rfl⟩) rfl hl.1 rfl (Nat.le_of_ble_eq_true rfl) dX9_set_45 ⟨Nat.le_refl 0, Nat.le_refl 0⟩ (fun H locs hR hS => ?_)
        obtain ⟨rfl, rfl⟩ := rt_e hf
        exact mret_i E hR hS dX9_set_48
    · have hf := it_f hf c4
      refine lv_aload_n E.hx E.hb dX9_set_19 rfl (lv_at hl 0 rfl) ?_
      refine lv_iconst (v := 1) E.hx E.hb dX9_set_20 (by decide) ?_
      obtain ⟨⟨v17, σ16⟩, hv17, hf⟩ := bd_e hf
      refine mcall_i (rest := []) E hR hS (tX9_find l hv17) (cwX9_68 E.ht ⟨Nat.le_of_ble_eq_true rfl, Nat.le_of_ble_eq_true rfl⟩) rfl hl.1 rfl (Nat.le_of_ble_eq_true rfl) dX9_set_21 ⟨Nat.le_refl 0, Nat.le_refl 0⟩ (fun H locs hR hS => ?_)
      obtain ⟨rfl, rfl⟩ := rt_e hf
      exact mret_i E hR hS dX9_set_24
  · have hf := it_t hf c2
    refine lv_ldc (v := (-1000001)) E.hx E.hb E.ho (E.ht _ q1319) dX9_set_7 ?_
    obtain ⟨rfl, rfl⟩ := rt_e hf
    exact mret_i E hR hS dX9_set_9
theorem tX9_set (l : Launch) {G : va_G} {cI cZ : ClassId} {o : Nat} {σ σf : MS} {x1 : Int32} {x2 : Int32} {x3 : Int32} {r : Int32} (hf : fX9_set σ x1 x2 x3 = some (r, σf)) : Met l yX9_set (ws_ yX9_set cX9_set 4 (some .int)) rmX9_set (mPc G cI cZ o σ [.ref o, .int x1, .int x2, .int x3]) (mQi G cI cZ o r σf) 0 0 (mA o) := by
  refine Met.ofW (cc := cX9_set) (maxL := 4) (ret := (some .int)) (by decide) rfl ?_
  intro p e s m args below meth c s₁ B hml hv
  obtain ⟨rfl, hR, hK⟩ := hv
  have hts := atoms_spec (ws := (ws_ yX9_set cX9_set 4 (some .int))) B.pre
  rw [lg_entry_eq]
  exact wX9_set_0 (E := ⟨⟨B.exec, B.bytes, hml, findClass_of_methodNamed B.named, fun w h => hts w (List.mem_cons_of_mem _ h)⟩, hK, B.returns, B.notSynchronized⟩) hf _ _ _ hR va_S.rf (lv_entry [.ref o, .int x1, .int x2, .int x3] (n := 4) (Nat.le_of_ble_eq_true rfl))

abbrev rmX9_copy : Room := { frames := 3, cells := 0, slots := 0, locals := 57 }
def fX9_copy_b35  (σ : MS)  : Option (Int32 × MS) :=
  (fX9_find σ 1).bind fun (v2, σ1) =>
  some (v2, σ1)
theorem wX9_copy_b35 (E : mE p m c cX9_copy 7 s args G cI cZ meth (some .int)) {σ : MS}  (hf : fX9_copy_b35 σ = some (r, σf)) : ∀ (H : Heap) (locs : List Loc) (ls : Array Slot), mR G cI cZ o σ H → va_S (mA o) s.heap H locs → lv_has ls 7 [(0, .ref o)] → W p l e rmX9_copy s m args below meth c H locs 0 0 (MQ below (mQi G cI cZ o r σf) args s 0 0 (mA o)) (F0 m 35 ls []) := by
  intro H locs ls hR hS hl
  refine lv_aload_n E.hx E.hb dX9_copy_35 rfl (lv_at hl 0 rfl) ?_
  refine lv_iconst (v := 1) E.hx E.hb dX9_copy_36 (by decide) ?_
  obtain ⟨⟨v2, σ1⟩, hv2, hf⟩ := bd_e hf
  refine mcall_i (rest := []) E hR hS (tX9_find l hv2) (cwX9_68 E.ht ⟨Nat.le_of_ble_eq_true rfl, Nat.le_of_ble_eq_true rfl⟩) rfl hl.1 rfl (Nat.le_of_ble_eq_true rfl) dX9_copy_37 ⟨Nat.le_refl 0, Nat.le_refl 0⟩ (fun H locs hR hS => ?_)
  obtain ⟨rfl, rfl⟩ := rt_e hf
  exact mret_i E hR hS dX9_copy_40
def fX9_copy_b108  (σ : MS)  : Option (Int32 × MS) :=
  (fX9_find σ 2).bind fun (v2, σ1) =>
  some (v2, σ1)
theorem wX9_copy_b108 (E : mE p m c cX9_copy 7 s args G cI cZ meth (some .int)) {σ : MS}  (hf : fX9_copy_b108 σ = some (r, σf)) : ∀ (H : Heap) (locs : List Loc) (ls : Array Slot), mR G cI cZ o σ H → va_S (mA o) s.heap H locs → lv_has ls 7 [(0, .ref o)] → W p l e rmX9_copy s m args below meth c H locs 0 0 (MQ below (mQi G cI cZ o r σf) args s 0 0 (mA o)) (F0 m 108 ls []) := by
  intro H locs ls hR hS hl
  refine lv_aload_n E.hx E.hb dX9_copy_108 rfl (lv_at hl 0 rfl) ?_
  refine lv_iconst (v := 2) E.hx E.hb dX9_copy_109 (by decide) ?_
  obtain ⟨⟨v2, σ1⟩, hv2, hf⟩ := bd_e hf
  refine mcall_i (rest := []) E hR hS (tX9_find l hv2) (cwX9_68 E.ht ⟨Nat.le_of_ble_eq_true rfl, Nat.le_of_ble_eq_true rfl⟩) rfl hl.1 rfl (Nat.le_of_ble_eq_true rfl) dX9_copy_110 ⟨Nat.le_refl 0, Nat.le_refl 0⟩ (fun H locs hR hS => ?_)
  obtain ⟨rfl, rfl⟩ := rt_e hf
  exact mret_i E hR hS dX9_copy_113
def fX9_copy_L154  : Nat → MS → Int32 → Int32 → Int32 → Int32 → Option (Int32 × MS)
  | 0, _, _, _, _, _ => none
  | n + 1, σ, x3, x4, x5, x6 =>
    if x5 ≤ x6 then ((fX9_well σ x5).bind fun (v3, σ2) =>
    some (v3, σ2)) else ((rd (σ 5) 40 x6).bind fun v4 =>
    (mwr σ 3 320 (((40 * x3) + x4) + x6) v4).bind fun σ5 =>
    (fX9_copy_L154 n) σ5 x3 x4 x5 (x6 + 1))
theorem wX9_copy_L154 (E : mE p m c cX9_copy 7 s args G cI cZ meth (some .int)) : ∀ (n : Nat) (σ : MS) (x3 : Int32) (x4 : Int32) (x5 : Int32) (x6 : Int32), fX9_copy_L154 n σ x3 x4 x5 x6 = some (r, σf) → ∀ (H : Heap) (locs : List Loc) (ls : Array Slot), mR G cI cZ o σ H → va_S (mA o) s.heap H locs → lv_has ls 7 [(0, .ref o), (3, .int x3), (4, .int x4), (5, .int x5), (6, .int x6)] → W p l e rmX9_copy s m args below meth c H locs 0 0 (MQ below (mQi G cI cZ o r σf) args s 0 0 (mA o)) (F0 m 154 ls []) := by
  intro n
  induction n with
  | zero =>
    intro σ x3 x4 x5 x6 hf
    have hf : none = some (r, σf) := hf
    cases hf
  | succ n ih =>
    intro σ x3 x4 x5 x6 hf H locs ls hR hS hl
    refine lv_iload E.hx E.hb dX9_copy_154 (lv_at hl 4 rfl) ?_
    refine lv_iload E.hx E.hb dX9_copy_156 (lv_at hl 3 rfl) ?_
    refine lv_icmp_ge (tgt := 189) E.hx E.hb dX9_copy_158 (by decide) (fun c1 => ?_) (fun c1 => ?_)
    · have hf := it_t hf c1
      refine lv_aload_n E.hx E.hb dX9_copy_189 rfl (lv_at hl 0 rfl) ?_
      refine lv_iload E.hx E.hb dX9_copy_190 (lv_at hl 3 rfl) ?_
      obtain ⟨⟨v3, σ2⟩, hv3, hf⟩ := bd_e hf
      refine mcall_i (rest := []) E hR hS (tX9_well l hv3) (cwX9_72 E.ht ⟨Nat.le_of_ble_eq_true rfl, Nat.le_of_ble_eq_true rfl⟩) rfl hl.1 rfl (Nat.le_of_ble_eq_true rfl) dX9_copy_192 ⟨Nat.le_refl 0, Nat.le_refl 0⟩ (fun H locs hR hS => ?_)
      obtain ⟨rfl, rfl⟩ := rt_e hf
      exact mret_i E hR hS dX9_copy_195
    · have hf := it_f hf c1
      refine lv_aload_n E.hx E.hb dX9_copy_161 rfl (lv_at hl 0 rfl) ?_
      refine mg_items E hR dX9_copy_162 ?_
      refine lv_bipush (v := 40) E.hx E.hb dX9_copy_165 (by decide) ?_
      refine lv_iload_n E.hx E.hb dX9_copy_167 rfl (lv_at hl 1 rfl) ?_
      refine lv_imul E.hx E.hb dX9_copy_168 ?_
      refine lv_iload E.hx E.hb dX9_copy_169 (lv_at hl 2 rfl) ?_
      refine lv_iadd E.hx E.hb dX9_copy_171 ?_
      refine lv_iload E.hx E.hb dX9_copy_172 (lv_at hl 4 rfl) ?_
      refine lv_iadd E.hx E.hb dX9_copy_174 ?_
      refine lv_aload_n E.hx E.hb dX9_copy_175 rfl (lv_at hl 0 rfl) ?_
      refine mg_moved E hR dX9_copy_176 ?_
      refine lv_iload E.hx E.hb dX9_copy_179 (lv_at hl 4 rfl) ?_
      obtain ⟨v4, hv4, hf⟩ := bd_e hf
      refine ml_moved E hR hv4 dX9_copy_181 ?_
      obtain ⟨σ5, hσ5, hf⟩ := bd_e hf
      refine ms_items E hR hS hσ5 dX9_copy_182 (fun H locs hR hS => ?_)
      refine lv_iinc (v := (x6 + 1)) (lv' := [(6, .int (x6 + 1)), (0, .ref o), (3, .int x3), (4, .int x4), (5, .int x5)]) E.hx E.hb dX9_copy_183 hl (k := 4) rfl rfl (by decide) rfl (fun ls hl => ?_)
      refine lv_goto (tgt := 154) E.hx E.hb dX9_copy_186 (by decide) ?_
      exact ih σ5 _ _ _ _ hf _ _ _ hR hS (lv_sub hl [1, 2, 3, 4, 0] rfl)
def fX9_copy_L117  : Nat → MS → Int32 → Int32 → Int32 → Int32 → Int32 → Int32 → Option (Int32 × MS)
  | 0, _, _, _, _, _, _, _ => none
  | n + 1, σ, x1, x2, x3, x4, x5, x6 =>
    if x5 ≤ x6 then (fX9_copy_L154 2000 σ x3 x4 x5 0) else ((rd (σ 3) 320 (((40 * x1) + x2) + x6)).bind fun v2 =>
    (mwr σ 5 40 x6 v2).bind fun σ3 =>
    (fX9_copy_L117 n) σ3 x1 x2 x3 x4 x5 (x6 + 1))
theorem wX9_copy_L117 (E : mE p m c cX9_copy 7 s args G cI cZ meth (some .int)) : ∀ (n : Nat) (σ : MS) (x1 : Int32) (x2 : Int32) (x3 : Int32) (x4 : Int32) (x5 : Int32) (x6 : Int32), fX9_copy_L117 n σ x1 x2 x3 x4 x5 x6 = some (r, σf) → ∀ (H : Heap) (locs : List Loc) (ls : Array Slot), mR G cI cZ o σ H → va_S (mA o) s.heap H locs → lv_has ls 7 [(0, .ref o), (1, .int x1), (2, .int x2), (3, .int x3), (4, .int x4), (5, .int x5), (6, .int x6)] → W p l e rmX9_copy s m args below meth c H locs 0 0 (MQ below (mQi G cI cZ o r σf) args s 0 0 (mA o)) (F0 m 117 ls []) := by
  intro n
  induction n with
  | zero =>
    intro σ x1 x2 x3 x4 x5 x6 hf
    have hf : none = some (r, σf) := hf
    cases hf
  | succ n ih =>
    intro σ x1 x2 x3 x4 x5 x6 hf H locs ls hR hS hl
    refine lv_iload E.hx E.hb dX9_copy_117 (lv_at hl 6 rfl) ?_
    refine lv_iload E.hx E.hb dX9_copy_119 (lv_at hl 5 rfl) ?_
    refine lv_icmp_ge (tgt := 151) E.hx E.hb dX9_copy_121 (by decide) (fun c1 => ?_) (fun c1 => ?_)
    · have hf := it_t hf c1
      refine lv_iconst (v := 0) E.hx E.hb dX9_copy_151 (by decide) ?_
      refine lv_istore (lv' := [(6, .int 0), (0, .ref o), (1, .int x1), (2, .int x2), (3, .int x3), (4, .int x4), (5, .int x5)]) E.hx E.hb dX9_copy_152 hl (by decide) rfl (fun ls hl => ?_)
      exact wX9_copy_L154 E  2000 σ _ _ _ _ hf _ _ _ hR hS (lv_sub hl [1, 4, 5, 6, 0] rfl)
    · have hf := it_f hf c1
      refine lv_aload_n E.hx E.hb dX9_copy_124 rfl (lv_at hl 0 rfl) ?_
      refine mg_moved E hR dX9_copy_125 ?_
      refine lv_iload E.hx E.hb dX9_copy_128 (lv_at hl 6 rfl) ?_
      refine lv_aload_n E.hx E.hb dX9_copy_130 rfl (lv_at hl 0 rfl) ?_
      refine mg_items E hR dX9_copy_131 ?_
      refine lv_bipush (v := 40) E.hx E.hb dX9_copy_134 (by decide) ?_
      refine lv_iload_n E.hx E.hb dX9_copy_136 rfl (lv_at hl 1 rfl) ?_
      refine lv_imul E.hx E.hb dX9_copy_137 ?_
      refine lv_iload_n E.hx E.hb dX9_copy_138 rfl (lv_at hl 2 rfl) ?_
      refine lv_iadd E.hx E.hb dX9_copy_139 ?_
      refine lv_iload E.hx E.hb dX9_copy_140 (lv_at hl 6 rfl) ?_
      refine lv_iadd E.hx E.hb dX9_copy_142 ?_
      obtain ⟨v2, hv2, hf⟩ := bd_e hf
      refine ml_items E hR hv2 dX9_copy_143 ?_
      obtain ⟨σ3, hσ3, hf⟩ := bd_e hf
      refine ms_moved E hR hS hσ3 dX9_copy_144 (fun H locs hR hS => ?_)
      refine lv_iinc (v := (x6 + 1)) (lv' := [(6, .int (x6 + 1)), (0, .ref o), (1, .int x1), (2, .int x2), (3, .int x3), (4, .int x4), (5, .int x5)]) E.hx E.hb dX9_copy_145 hl (k := 6) rfl rfl (by decide) rfl (fun ls hl => ?_)
      refine lv_goto (tgt := 117) E.hx E.hb dX9_copy_148 (by decide) ?_
      exact ih σ3 _ _ _ _ _ _ hf _ _ _ hR hS (lv_sub hl [1, 2, 3, 4, 5, 6, 0] rfl)
def fX9_copy  (σ : MS) (x1 : Int32) (x2 : Int32) (x3 : Int32) (x4 : Int32) (x5 : Int32) : Option (Int32 × MS) :=
  (fX9_isRow x1).bind fun v1 =>
  if v1 = 0 then (some ((-1000001), σ)) else ((fX9_isRow x3).bind fun v3 =>
  if v3 = 0 then (some ((-1000001), σ)) else ((rd (σ 2) 8 x1).bind fun v5 =>
  if v5 < 0 then (fX9_copy_b35 σ) else ((rd (σ 2) 8 x3).bind fun v7 =>
  if 0 ≤ v7 then ((rd (σ 1) 8 x1).bind fun v9 =>
  (rd (σ 1) 8 x3).bind fun v10 =>
  if v9 = v10 then (if x5 < 0 then (fX9_copy_b108 σ) else ((rd (σ 2) 8 x1).bind fun v13 =>
  (fX9_in (x2.toInt64) 0 ((v13.toInt64) - (x5.toInt64))).bind fun v14 =>
  if v14 = 0 then (fX9_copy_b108 σ) else ((rd (σ 2) 8 x3).bind fun v16 =>
  (fX9_in (x4.toInt64) 0 ((v16.toInt64) - (x5.toInt64))).bind fun v17 =>
  if v17 = 0 then (fX9_copy_b108 σ) else (fX9_copy_L117 2000 σ x1 x2 x3 x4 x5 0)))) else ((fX9_find σ 5).bind fun (v20, σ19) =>
  some (v20, σ19))) else (fX9_copy_b35 σ))))
theorem wX9_copy_0 (E : mE p m c cX9_copy 7 s args G cI cZ meth (some .int)) {σ : MS} {x1 : Int32} {x2 : Int32} {x3 : Int32} {x4 : Int32} {x5 : Int32} (hf : fX9_copy σ x1 x2 x3 x4 x5 = some (r, σf)) : ∀ (H : Heap) (locs : List Loc) (ls : Array Slot), mR G cI cZ o σ H → va_S (mA o) s.heap H locs → lv_has ls 7 [(0, .ref o), (1, .int x1), (2, .int x2), (3, .int x3), (4, .int x4), (5, .int x5)] → W p l e rmX9_copy s m args below meth c H locs 0 0 (MQ below (mQi G cI cZ o r σf) args s 0 0 (mA o)) (F0 m 0 ls []) := by
  intro H locs ls hR hS hl
  refine lv_iload_n E.hx E.hb dX9_copy_0 rfl (lv_at hl 1 rfl) ?_
  obtain ⟨v1, hv1, hf⟩ := bd_e hf
  refine scall_i (rest := []) E.1 (tX9_isRow l hv1) (cwX9_61 E.ht ⟨Nat.le_of_ble_eq_true rfl, Nat.le_of_ble_eq_true rfl⟩) rfl hl.1 rfl (Nat.le_of_ble_eq_true rfl) dX9_copy_1 ⟨Nat.le_refl 0, Nat.le_refl 0⟩ ?_
  refine lv_if_eq (tgt := 14) E.hx E.hb dX9_copy_4 (by decide) (fun c2 => ?_) (fun c2 => ?_)
  · have hf := it_t hf c2
    refine lv_ldc (v := (-1000001)) E.hx E.hb E.ho (E.ht _ q1319) dX9_copy_14 ?_
    obtain ⟨rfl, rfl⟩ := rt_e hf
    exact mret_i E hR hS dX9_copy_16
  · have hf := it_f hf c2
    refine lv_iload_n E.hx E.hb dX9_copy_7 rfl (lv_at hl 3 rfl) ?_
    obtain ⟨v3, hv3, hf⟩ := bd_e hf
    refine scall_i (rest := []) E.1 (tX9_isRow l hv3) (cwX9_61 E.ht ⟨Nat.le_of_ble_eq_true rfl, Nat.le_of_ble_eq_true rfl⟩) rfl hl.1 rfl (Nat.le_of_ble_eq_true rfl) dX9_copy_8 ⟨Nat.le_refl 0, Nat.le_refl 0⟩ ?_
    refine lv_if_ne (tgt := 17) E.hx E.hb dX9_copy_11 (by decide) (fun c4 => ?_) (fun c4 => ?_)
    · have hf := it_f hf c4
      refine lv_aload_n E.hx E.hb dX9_copy_17 rfl (lv_at hl 0 rfl) ?_
      refine mg_sizes E hR dX9_copy_18 ?_
      refine lv_iload_n E.hx E.hb dX9_copy_21 rfl (lv_at hl 1 rfl) ?_
      obtain ⟨v5, hv5, hf⟩ := bd_e hf
      refine ml_sizes E hR hv5 dX9_copy_22 ?_
      refine lv_if_lt (tgt := 35) E.hx E.hb dX9_copy_23 (by decide) (fun c6 => ?_) (fun c6 => ?_)
      · have hf := it_t hf c6
        exact wX9_copy_b35 E  hf _ _ _ hR hS (lv_sub hl [0] rfl)
      · have hf := it_f hf c6
        refine lv_aload_n E.hx E.hb dX9_copy_26 rfl (lv_at hl 0 rfl) ?_
        refine mg_sizes E hR dX9_copy_27 ?_
        refine lv_iload_n E.hx E.hb dX9_copy_30 rfl (lv_at hl 3 rfl) ?_
        obtain ⟨v7, hv7, hf⟩ := bd_e hf
        refine ml_sizes E hR hv7 dX9_copy_31 ?_
        refine lv_if_ge (tgt := 41) E.hx E.hb dX9_copy_32 (by decide) (fun c8 => ?_) (fun c8 => ?_)
        · have hf := it_t hf c8
          refine lv_aload_n E.hx E.hb dX9_copy_41 rfl (lv_at hl 0 rfl) ?_
          refine mg_lanes E hR dX9_copy_42 ?_
          refine lv_iload_n E.hx E.hb dX9_copy_45 rfl (lv_at hl 1 rfl) ?_
          obtain ⟨v9, hv9, hf⟩ := bd_e hf
          refine ml_lanes E hR hv9 dX9_copy_46 ?_
          refine lv_aload_n E.hx E.hb dX9_copy_47 rfl (lv_at hl 0 rfl) ?_
          refine mg_lanes E hR dX9_copy_48 ?_
          refine lv_iload_n E.hx E.hb dX9_copy_51 rfl (lv_at hl 3 rfl) ?_
          obtain ⟨v10, hv10, hf⟩ := bd_e hf
          refine ml_lanes E hR hv10 dX9_copy_52 ?_
          refine lv_icmp_eq (tgt := 62) E.hx E.hb dX9_copy_53 (by decide) (fun c11 => ?_) (fun c11 => ?_)
          · have hf := it_t hf c11
            refine lv_iload E.hx E.hb dX9_copy_62 (lv_at hl 5 rfl) ?_
            refine lv_if_lt (tgt := 108) E.hx E.hb dX9_copy_64 (by decide) (fun c12 => ?_) (fun c12 => ?_)
            · have hf := it_t hf c12
              exact wX9_copy_b108 E  hf _ _ _ hR hS (lv_sub hl [0] rfl)
            · have hf := it_f hf c12
              refine lv_iload_n E.hx E.hb dX9_copy_67 rfl (lv_at hl 2 rfl) ?_
              refine lv_i2l E.hx E.hb dX9_copy_68 rfl ?_
              refine lv_lconst (v := 0) E.hx E.hb dX9_copy_69 (by decide) ?_
              refine lv_aload_n E.hx E.hb dX9_copy_70 rfl (lv_at hl 0 rfl) ?_
              refine mg_sizes E hR dX9_copy_71 ?_
              refine lv_iload_n E.hx E.hb dX9_copy_74 rfl (lv_at hl 1 rfl) ?_
              obtain ⟨v13, hv13, hf⟩ := bd_e hf
              refine ml_sizes E hR hv13 dX9_copy_75 ?_
              refine lv_i2l E.hx E.hb dX9_copy_76 rfl ?_
              refine lv_iload E.hx E.hb dX9_copy_77 (lv_at hl 5 rfl) ?_
              refine lv_i2l E.hx E.hb dX9_copy_79 rfl ?_
              refine lv_lsub E.hx E.hb dX9_copy_80 ?_
              obtain ⟨v14, hv14, hf⟩ := bd_e hf
              refine scall_i (rest := []) E.1 (tX9_in l hv14) (cwX9_57 E.ht ⟨Nat.le_of_ble_eq_true rfl, Nat.le_of_ble_eq_true rfl⟩) rfl hl.1 rfl (Nat.le_of_ble_eq_true rfl) dX9_copy_81 ⟨Nat.le_refl 0, Nat.le_refl 0⟩ ?_
              refine lv_if_eq (tgt := 108) E.hx E.hb dX9_copy_84 (by decide) (fun c15 => ?_) (fun c15 => ?_)
              · have hf := it_t hf c15
                exact wX9_copy_b108 E  hf _ _ _ hR hS (lv_sub hl [0] rfl)
              · have hf := it_f hf c15
                refine lv_iload E.hx E.hb dX9_copy_87 (lv_at hl 4 rfl) ?_
                refine lv_i2l E.hx E.hb dX9_copy_89 rfl ?_
                refine lv_lconst (v := 0) E.hx E.hb dX9_copy_90 (by decide) ?_
                refine lv_aload_n E.hx E.hb dX9_copy_91 rfl (lv_at hl 0 rfl) ?_
                refine mg_sizes E hR dX9_copy_92 ?_
                refine lv_iload_n E.hx E.hb dX9_copy_95 rfl (lv_at hl 3 rfl) ?_
                obtain ⟨v16, hv16, hf⟩ := bd_e hf
                refine ml_sizes E hR hv16 dX9_copy_96 ?_
                refine lv_i2l E.hx E.hb dX9_copy_97 rfl ?_
                refine lv_iload E.hx E.hb dX9_copy_98 (lv_at hl 5 rfl) ?_
                refine lv_i2l E.hx E.hb dX9_copy_100 rfl ?_
                refine lv_lsub E.hx E.hb dX9_copy_101 ?_
                obtain ⟨v17, hv17, hf⟩ := bd_e hf
                refine scall_i (rest := []) E.1 (tX9_in l hv17) (cwX9_57 E.ht ⟨Nat.le_of_ble_eq_true rfl, Nat.le_of_ble_eq_true rfl⟩) rfl hl.1 rfl (Nat.le_of_ble_eq_true rfl) dX9_copy_102 ⟨Nat.le_refl 0, Nat.le_refl 0⟩ ?_
                refine lv_if_ne (tgt := 114) E.hx E.hb dX9_copy_105 (by decide) (fun c18 => ?_) (fun c18 => ?_)
                · have hf := it_f hf c18
                  refine lv_iconst (v := 0) E.hx E.hb dX9_copy_114 (by decide) ?_
                  refine lv_istore (lv' := [(6, .int 0), (0, .ref o), (1, .int x1), (2, .int x2), (3, .int x3), (4, .int x4), (5, .int x5)]) E.hx E.hb dX9_copy_115 hl (by decide) rfl (fun ls hl => ?_)
                  exact wX9_copy_L117 E  2000 σ _ _ _ _ _ _ hf _ _ _ hR hS (lv_sub hl [1, 2, 3, 4, 5, 6, 0] rfl)
                · have hf := it_t hf c18
                  exact wX9_copy_b108 E  hf _ _ _ hR hS (lv_sub hl [0] rfl)
          · have hf := it_f hf c11
            refine lv_aload_n E.hx E.hb dX9_copy_56 rfl (lv_at hl 0 rfl) ?_
            refine lv_iconst (v := 5) E.hx E.hb dX9_copy_57 (by decide) ?_
            obtain ⟨⟨v20, σ19⟩, hv20, hf⟩ := bd_e hf
            refine mcall_i (rest := []) E hR hS (tX9_find l hv20) (cwX9_68 E.ht ⟨Nat.le_of_ble_eq_true rfl, Nat.le_of_ble_eq_true rfl⟩) rfl hl.1 rfl (Nat.le_of_ble_eq_true rfl) dX9_copy_58 ⟨Nat.le_refl 0, Nat.le_refl 0⟩ (fun H locs hR hS => ?_)
            obtain ⟨rfl, rfl⟩ := rt_e hf
            exact mret_i E hR hS dX9_copy_61
        · have hf := it_f hf c8
          exact wX9_copy_b35 E  hf _ _ _ hR hS (lv_sub hl [0] rfl)
    · have hf := it_t hf c4
      refine lv_ldc (v := (-1000001)) E.hx E.hb E.ho (E.ht _ q1319) dX9_copy_14 ?_
      obtain ⟨rfl, rfl⟩ := rt_e hf
      exact mret_i E hR hS dX9_copy_16
theorem tX9_copy (l : Launch) {G : va_G} {cI cZ : ClassId} {o : Nat} {σ σf : MS} {x1 : Int32} {x2 : Int32} {x3 : Int32} {x4 : Int32} {x5 : Int32} {r : Int32} (hf : fX9_copy σ x1 x2 x3 x4 x5 = some (r, σf)) : Met l yX9_copy (ws_ yX9_copy cX9_copy 7 (some .int)) rmX9_copy (mPc G cI cZ o σ [.ref o, .int x1, .int x2, .int x3, .int x4, .int x5]) (mQi G cI cZ o r σf) 0 0 (mA o) := by
  refine Met.ofW (cc := cX9_copy) (maxL := 7) (ret := (some .int)) (by decide) rfl ?_
  intro p e s m args below meth c s₁ B hml hv
  obtain ⟨rfl, hR, hK⟩ := hv
  have hts := atoms_spec (ws := (ws_ yX9_copy cX9_copy 7 (some .int))) B.pre
  rw [lg_entry_eq]
  exact wX9_copy_0 (E := ⟨⟨B.exec, B.bytes, hml, findClass_of_methodNamed B.named, fun w h => hts w (List.mem_cons_of_mem _ h)⟩, hK, B.returns, B.notSynchronized⟩) hf _ _ _ hR va_S.rf (lv_entry [.ref o, .int x1, .int x2, .int x3, .int x4, .int x5] (n := 7) (Nat.le_of_ble_eq_true rfl))

abbrev rmX9_drop : Room := { frames := 3, cells := 0, slots := 0, locals := 57 }
def fX9_drop  (σ : MS) (x1 : Int32) : Option (Int32 × MS) :=
  (fX9_isRow x1).bind fun v1 =>
  if v1 = 0 then (some ((-1000001), σ)) else ((rd (σ 2) 8 x1).bind fun v3 =>
  if 0 ≤ v3 then ((rd (σ 2) 8 x1).bind fun v5 =>
  (mwr σ 2 8 x1 (-1)).bind fun σ6 =>
  (fX9_well σ6 v5).bind fun (v8, σ7) =>
  some (v8, σ7)) else ((fX9_find σ 1).bind fun (v10, σ9) =>
  some (v10, σ9)))
theorem wX9_drop_0 (E : mE p m c cX9_drop 3 s args G cI cZ meth (some .int)) {σ : MS} {x1 : Int32} (hf : fX9_drop σ x1 = some (r, σf)) : ∀ (H : Heap) (locs : List Loc) (ls : Array Slot), mR G cI cZ o σ H → va_S (mA o) s.heap H locs → lv_has ls 3 [(0, .ref o), (1, .int x1)] → W p l e rmX9_drop s m args below meth c H locs 0 0 (MQ below (mQi G cI cZ o r σf) args s 0 0 (mA o)) (F0 m 0 ls []) := by
  intro H locs ls hR hS hl
  refine lv_iload_n E.hx E.hb dX9_drop_0 rfl (lv_at hl 1 rfl) ?_
  obtain ⟨v1, hv1, hf⟩ := bd_e hf
  refine scall_i (rest := []) E.1 (tX9_isRow l hv1) (cwX9_61 E.ht ⟨Nat.le_of_ble_eq_true rfl, Nat.le_of_ble_eq_true rfl⟩) rfl hl.1 rfl (Nat.le_of_ble_eq_true rfl) dX9_drop_1 ⟨Nat.le_refl 0, Nat.le_refl 0⟩ ?_
  refine lv_if_ne (tgt := 10) E.hx E.hb dX9_drop_4 (by decide) (fun c2 => ?_) (fun c2 => ?_)
  · have hf := it_f hf c2
    refine lv_aload_n E.hx E.hb dX9_drop_10 rfl (lv_at hl 0 rfl) ?_
    refine mg_sizes E hR dX9_drop_11 ?_
    refine lv_iload_n E.hx E.hb dX9_drop_14 rfl (lv_at hl 1 rfl) ?_
    obtain ⟨v3, hv3, hf⟩ := bd_e hf
    refine ml_sizes E hR hv3 dX9_drop_15 ?_
    refine lv_if_ge (tgt := 25) E.hx E.hb dX9_drop_16 (by decide) (fun c4 => ?_) (fun c4 => ?_)
    · have hf := it_t hf c4
      refine lv_aload_n E.hx E.hb dX9_drop_25 rfl (lv_at hl 0 rfl) ?_
      refine mg_sizes E hR dX9_drop_26 ?_
      refine lv_iload_n E.hx E.hb dX9_drop_29 rfl (lv_at hl 1 rfl) ?_
      obtain ⟨v5, hv5, hf⟩ := bd_e hf
      refine ml_sizes E hR hv5 dX9_drop_30 ?_
      refine lv_istore_n (lv' := [(2, .int v5), (0, .ref o), (1, .int x1)]) E.hx E.hb dX9_drop_31 rfl hl (by decide) rfl (fun ls hl => ?_)
      refine lv_aload_n E.hx E.hb dX9_drop_32 rfl (lv_at hl 1 rfl) ?_
      refine mg_sizes E hR dX9_drop_33 ?_
      refine lv_iload_n E.hx E.hb dX9_drop_36 rfl (lv_at hl 2 rfl) ?_
      refine lv_iconst (v := (-1)) E.hx E.hb dX9_drop_37 (by decide) ?_
      obtain ⟨σ6, hσ6, hf⟩ := bd_e hf
      refine ms_sizes E hR hS hσ6 dX9_drop_38 (fun H locs hR hS => ?_)
      refine lv_aload_n E.hx E.hb dX9_drop_39 rfl (lv_at hl 1 rfl) ?_
      refine lv_iload_n E.hx E.hb dX9_drop_40 rfl (lv_at hl 0 rfl) ?_
      obtain ⟨⟨v8, σ7⟩, hv8, hf⟩ := bd_e hf
      refine mcall_i (rest := []) E hR hS (tX9_well l hv8) (cwX9_72 E.ht ⟨Nat.le_of_ble_eq_true rfl, Nat.le_of_ble_eq_true rfl⟩) rfl hl.1 rfl (Nat.le_of_ble_eq_true rfl) dX9_drop_41 ⟨Nat.le_refl 0, Nat.le_refl 0⟩ (fun H locs hR hS => ?_)
      obtain ⟨rfl, rfl⟩ := rt_e hf
      exact mret_i E hR hS dX9_drop_44
    · have hf := it_f hf c4
      refine lv_aload_n E.hx E.hb dX9_drop_19 rfl (lv_at hl 0 rfl) ?_
      refine lv_iconst (v := 1) E.hx E.hb dX9_drop_20 (by decide) ?_
      obtain ⟨⟨v10, σ9⟩, hv10, hf⟩ := bd_e hf
      refine mcall_i (rest := []) E hR hS (tX9_find l hv10) (cwX9_68 E.ht ⟨Nat.le_of_ble_eq_true rfl, Nat.le_of_ble_eq_true rfl⟩) rfl hl.1 rfl (Nat.le_of_ble_eq_true rfl) dX9_drop_21 ⟨Nat.le_refl 0, Nat.le_refl 0⟩ (fun H locs hR hS => ?_)
      obtain ⟨rfl, rfl⟩ := rt_e hf
      exact mret_i E hR hS dX9_drop_24
  · have hf := it_t hf c2
    refine lv_ldc (v := (-1000001)) E.hx E.hb E.ho (E.ht _ q1319) dX9_drop_7 ?_
    obtain ⟨rfl, rfl⟩ := rt_e hf
    exact mret_i E hR hS dX9_drop_9
theorem tX9_drop (l : Launch) {G : va_G} {cI cZ : ClassId} {o : Nat} {σ σf : MS} {x1 : Int32} {r : Int32} (hf : fX9_drop σ x1 = some (r, σf)) : Met l yX9_drop (ws_ yX9_drop cX9_drop 3 (some .int)) rmX9_drop (mPc G cI cZ o σ [.ref o, .int x1]) (mQi G cI cZ o r σf) 0 0 (mA o) := by
  refine Met.ofW (cc := cX9_drop) (maxL := 3) (ret := (some .int)) (by decide) rfl ?_
  intro p e s m args below meth c s₁ B hml hv
  obtain ⟨rfl, hR, hK⟩ := hv
  have hts := atoms_spec (ws := (ws_ yX9_drop cX9_drop 3 (some .int))) B.pre
  rw [lg_entry_eq]
  exact wX9_drop_0 (E := ⟨⟨B.exec, B.bytes, hml, findClass_of_methodNamed B.named, fun w h => hts w (List.mem_cons_of_mem _ h)⟩, hK, B.returns, B.notSynchronized⟩) hf _ _ _ hR va_S.rf (lv_entry [.ref o, .int x1] (n := 3) (Nat.le_of_ble_eq_true rfl))

abbrev rmX9_feed : Room := { frames := 2, cells := 0, slots := 0, locals := 37 }
def fX9_feed  (σ : MS) (x1 : Int32) : Option (Int32 × MS) :=
  (fX9_in (x1.toInt64) 0 255).bind fun v1 =>
  if v1 = 0 then (some ((-1000001), σ)) else (if (σ 0 8) = 120 then (some ((-1000003), σ)) else ((mwr σ 6 120 (σ 0 8) x1).bind fun σ4 =>
  (some (up2 σ4 0 8 ((σ4 0 8) + 1))).bind fun σ5 =>
  some ((σ5 0 8), σ5)))
theorem wX9_feed_0 (E : mE p m c cX9_feed 2 s args G cI cZ meth (some .int)) {σ : MS} {x1 : Int32} (hf : fX9_feed σ x1 = some (r, σf)) : ∀ (H : Heap) (locs : List Loc) (ls : Array Slot), mR G cI cZ o σ H → va_S (mA o) s.heap H locs → lv_has ls 2 [(0, .ref o), (1, .int x1)] → W p l e rmX9_feed s m args below meth c H locs 0 0 (MQ below (mQi G cI cZ o r σf) args s 0 0 (mA o)) (F0 m 0 ls []) := by
  intro H locs ls hR hS hl
  refine lv_iload_n E.hx E.hb dX9_feed_0 rfl (lv_at hl 1 rfl) ?_
  refine lv_i2l E.hx E.hb dX9_feed_1 rfl ?_
  refine lv_lconst (v := 0) E.hx E.hb dX9_feed_2 (by decide) ?_
  refine lv_ldc2 (v := 255) E.hx E.hb E.ho (E.ht _ q1348) dX9_feed_3 ?_
  obtain ⟨v1, hv1, hf⟩ := bd_e hf
  refine scall_i (rest := []) E.1 (tX9_in l hv1) (cwX9_57 E.ht ⟨Nat.le_of_ble_eq_true rfl, Nat.le_of_ble_eq_true rfl⟩) rfl hl.1 rfl (Nat.le_of_ble_eq_true rfl) dX9_feed_6 ⟨Nat.le_refl 0, Nat.le_refl 0⟩ ?_
  refine lv_if_ne (tgt := 15) E.hx E.hb dX9_feed_9 (by decide) (fun c2 => ?_) (fun c2 => ?_)
  · have hf := it_f hf c2
    refine lv_aload_n E.hx E.hb dX9_feed_15 rfl (lv_at hl 0 rfl) ?_
    refine mg_bytes E hR dX9_feed_16 ?_
    refine lv_bipush (v := 120) E.hx E.hb dX9_feed_19 (by decide) ?_
    refine lv_icmp_ne (tgt := 27) E.hx E.hb dX9_feed_21 (by decide) (fun c3 => ?_) (fun c3 => ?_)
    · have hf := it_f hf c3
      refine lv_aload_n E.hx E.hb dX9_feed_27 rfl (lv_at hl 0 rfl) ?_
      refine mg_tape E hR dX9_feed_28 ?_
      refine lv_aload_n E.hx E.hb dX9_feed_31 rfl (lv_at hl 0 rfl) ?_
      refine mg_bytes E hR dX9_feed_32 ?_
      refine lv_iload_n E.hx E.hb dX9_feed_35 rfl (lv_at hl 1 rfl) ?_
      obtain ⟨σ4, hσ4, hf⟩ := bd_e hf
      refine ms_tape E hR hS hσ4 dX9_feed_36 (fun H locs hR hS => ?_)
      refine lv_aload_n E.hx E.hb dX9_feed_37 rfl (lv_at hl 0 rfl) ?_
      refine lv_dup E.hx E.hb dX9_feed_38 rfl ?_
      refine mg_bytes E hR dX9_feed_39 ?_
      refine lv_iconst (v := 1) E.hx E.hb dX9_feed_42 (by decide) ?_
      refine lv_iadd E.hx E.hb dX9_feed_43 ?_
      obtain ⟨σ5, hσ5, hf⟩ := bd_e hf
      refine mp_bytes E hR hS dX9_feed_44 (fun H locs hR hS => ?_)
      rw [Option.some.inj hσ5] at hR
      refine lv_aload_n E.hx E.hb dX9_feed_47 rfl (lv_at hl 0 rfl) ?_
      refine mg_bytes E hR dX9_feed_48 ?_
      obtain ⟨rfl, rfl⟩ := rt_e hf
      exact mret_i E hR hS dX9_feed_51
    · have hf := it_t hf c3
      refine lv_ldc (v := (-1000003)) E.hx E.hb E.ho (E.ht _ q1349) dX9_feed_24 ?_
      obtain ⟨rfl, rfl⟩ := rt_e hf
      exact mret_i E hR hS dX9_feed_26
  · have hf := it_t hf c2
    refine lv_ldc (v := (-1000001)) E.hx E.hb E.ho (E.ht _ q1319) dX9_feed_12 ?_
    obtain ⟨rfl, rfl⟩ := rt_e hf
    exact mret_i E hR hS dX9_feed_14
theorem tX9_feed (l : Launch) {G : va_G} {cI cZ : ClassId} {o : Nat} {σ σf : MS} {x1 : Int32} {r : Int32} (hf : fX9_feed σ x1 = some (r, σf)) : Met l yX9_feed (ws_ yX9_feed cX9_feed 2 (some .int)) rmX9_feed (mPc G cI cZ o σ [.ref o, .int x1]) (mQi G cI cZ o r σf) 0 0 (mA o) := by
  refine Met.ofW (cc := cX9_feed) (maxL := 2) (ret := (some .int)) (by decide) rfl ?_
  intro p e s m args below meth c s₁ B hml hv
  obtain ⟨rfl, hR, hK⟩ := hv
  have hts := atoms_spec (ws := (ws_ yX9_feed cX9_feed 2 (some .int))) B.pre
  rw [lg_entry_eq]
  exact wX9_feed_0 (E := ⟨⟨B.exec, B.bytes, hml, findClass_of_methodNamed B.named, fun w h => hts w (List.mem_cons_of_mem _ h)⟩, hK, B.returns, B.notSynchronized⟩) hf _ _ _ hR va_S.rf (lv_entry [.ref o, .int x1] (n := 2) (Nat.le_of_ble_eq_true rfl))

abbrev rmX9_nextToken : Room := { frames := 2, cells := 0, slots := 0, locals := 37 }
def fX9_nextToken_b103 (k33 : MS → Option MS) (σ : MS) (s1 : Int32) : Option MS :=
  (some (up2 σ 0 12 s1)).bind fun σ1 =>
  (some (up2 σ1 0 10 ((σ1 0 10) + 1))).bind fun σ2 =>
  k33 σ2
theorem wX9_nextToken_b103 (E : mE p m c cX9_nextToken 1 s args G cI cZ meth none) {k33 : MS → Option MS} (hk33 : ∀ (σ : MS) , k33 σ  = some σf → ∀ (H : Heap) (locs : List Loc) (ls : Array Slot), mR G cI cZ o σ H → va_S (mA o) s.heap H locs → lv_has ls 1 [(0, .ref o)] → W p l e rmX9_nextToken s m args below meth c H locs 0 0 (MQ below (mQv G cI cZ o σf) args s 0 0 (mA o)) (F0 m 33 ls [])) {σ : MS} {s1 : Int32} (hf : fX9_nextToken_b103 k33 σ s1 = some σf) : ∀ (H : Heap) (locs : List Loc) (ls : Array Slot), mR G cI cZ o σ H → va_S (mA o) s.heap H locs → lv_has ls 1 [(0, .ref o)] → W p l e rmX9_nextToken s m args below meth c H locs 0 0 (MQ below (mQv G cI cZ o σf) args s 0 0 (mA o)) (F0 m 103 ls [.int s1, .ref o]) := by
  intro H locs ls hR hS hl
  obtain ⟨σ1, hσ1, hf⟩ := bd_e hf
  refine mp_value E hR hS dX9_nextToken_103 (fun H locs hR hS => ?_)
  rw [Option.some.inj hσ1] at hR
  refine lv_aload_n E.hx E.hb dX9_nextToken_106 rfl (lv_at hl 0 rfl) ?_
  refine lv_dup E.hx E.hb dX9_nextToken_107 rfl ?_
  refine mg_place E hR dX9_nextToken_108 ?_
  refine lv_iconst (v := 1) E.hx E.hb dX9_nextToken_111 (by decide) ?_
  refine lv_iadd E.hx E.hb dX9_nextToken_112 ?_
  obtain ⟨σ2, hσ2, hf⟩ := bd_e hf
  refine mp_place E hR hS dX9_nextToken_113 (fun H locs hR hS => ?_)
  rw [Option.some.inj hσ2] at hR
  refine lv_goto (tgt := 33) E.hx E.hb dX9_nextToken_116 (by decide) ?_
  exact hk33 σ2 hf _ _ _ hR hS (lv_sub hl [0] rfl)
def fX9_nextToken_b149  (σ : MS) (s1 : Int32) : Option MS :=
  (some (up2 σ 0 11 s1)).bind fun σ1 =>
  some σ1
theorem wX9_nextToken_b149 (E : mE p m c cX9_nextToken 1 s args G cI cZ meth none) {σ : MS} {s1 : Int32} (hf : fX9_nextToken_b149 σ s1 = some σf) : ∀ (H : Heap) (locs : List Loc) (ls : Array Slot), mR G cI cZ o σ H → va_S (mA o) s.heap H locs → lv_has ls 1 [] → W p l e rmX9_nextToken s m args below meth c H locs 0 0 (MQ below (mQv G cI cZ o σf) args s 0 0 (mA o)) (F0 m 149 ls [.int s1, .ref o]) := by
  intro H locs ls hR hS hl
  obtain ⟨σ1, hσ1, hf⟩ := bd_e hf
  refine mp_token E hR hS dX9_nextToken_149 (fun H locs hR hS => ?_)
  rw [Option.some.inj hσ1] at hR
  refine lv_goto (tgt := 229) E.hx E.hb dX9_nextToken_152 (by decide) ?_
  obtain rfl := Option.some.inj hf
  exact mret_v E hR hS dX9_nextToken_229
def fX9_nextToken_b216  (σ : MS) (s1 : Int32) : Option MS :=
  (some (up2 σ 0 11 s1)).bind fun σ1 =>
  (some (up2 σ1 0 10 ((σ1 0 10) + 1))).bind fun σ2 =>
  some σ2
theorem wX9_nextToken_b216 (E : mE p m c cX9_nextToken 1 s args G cI cZ meth none) {σ : MS} {s1 : Int32} (hf : fX9_nextToken_b216 σ s1 = some σf) : ∀ (H : Heap) (locs : List Loc) (ls : Array Slot), mR G cI cZ o σ H → va_S (mA o) s.heap H locs → lv_has ls 1 [(0, .ref o)] → W p l e rmX9_nextToken s m args below meth c H locs 0 0 (MQ below (mQv G cI cZ o σf) args s 0 0 (mA o)) (F0 m 216 ls [.int s1, .ref o]) := by
  intro H locs ls hR hS hl
  obtain ⟨σ1, hσ1, hf⟩ := bd_e hf
  refine mp_token E hR hS dX9_nextToken_216 (fun H locs hR hS => ?_)
  rw [Option.some.inj hσ1] at hR
  refine lv_aload_n E.hx E.hb dX9_nextToken_219 rfl (lv_at hl 0 rfl) ?_
  refine lv_dup E.hx E.hb dX9_nextToken_220 rfl ?_
  refine mg_place E hR dX9_nextToken_221 ?_
  refine lv_iconst (v := 1) E.hx E.hb dX9_nextToken_224 (by decide) ?_
  refine lv_iadd E.hx E.hb dX9_nextToken_225 ?_
  obtain ⟨σ2, hσ2, hf⟩ := bd_e hf
  refine mp_place E hR hS dX9_nextToken_226 (fun H locs hR hS => ?_)
  rw [Option.some.inj hσ2] at hR
  obtain rfl := Option.some.inj hf
  exact mret_v E hR hS dX9_nextToken_229
def fX9_nextToken_b119  (σ : MS)  : Option MS :=
  if (σ 0 10) ≤ (σ 0 13) then (if (σ 0 11) = 0 then ((rd (σ 6) 120 (σ 0 10)).bind fun v3 =>
  (some (up2 σ 0 12 v3)).bind fun σ4 =>
  (fX9_in ((σ4 0 12).toInt64) 97 122).bind fun v5 =>
  if v5 = 0 then (if (σ4 0 12) = 44 then (fX9_nextToken_b216 σ4 1) else (if (σ4 0 12) = 59 then (fX9_nextToken_b216 σ4 1) else (fX9_nextToken_b216 σ4 0))) else (fX9_nextToken_b216 σ4 1)) else (some σ)) else (if ((σ 0 10) - (σ 0 13)) ≤ 2 then (fX9_nextToken_b149 σ 2) else (fX9_nextToken_b149 σ 0))
theorem wX9_nextToken_b119 (E : mE p m c cX9_nextToken 1 s args G cI cZ meth none) {σ : MS}  (hf : fX9_nextToken_b119 σ = some σf) : ∀ (H : Heap) (locs : List Loc) (ls : Array Slot), mR G cI cZ o σ H → va_S (mA o) s.heap H locs → lv_has ls 1 [(0, .ref o)] → W p l e rmX9_nextToken s m args below meth c H locs 0 0 (MQ below (mQv G cI cZ o σf) args s 0 0 (mA o)) (F0 m 119 ls []) := by
  intro H locs ls hR hS hl
  refine lv_aload_n E.hx E.hb dX9_nextToken_119 rfl (lv_at hl 0 rfl) ?_
  refine mg_place E hR dX9_nextToken_120 ?_
  refine lv_aload_n E.hx E.hb dX9_nextToken_123 rfl (lv_at hl 0 rfl) ?_
  refine mg_begins E hR dX9_nextToken_124 ?_
  refine lv_icmp_le (tgt := 155) E.hx E.hb dX9_nextToken_127 (by decide) (fun c1 => ?_) (fun c1 => ?_)
  · have hf := it_t hf c1
    refine lv_aload_n E.hx E.hb dX9_nextToken_155 rfl (lv_at hl 0 rfl) ?_
    refine mg_token E hR dX9_nextToken_156 ?_
    refine lv_if_ne (tgt := 229) E.hx E.hb dX9_nextToken_159 (by decide) (fun c2 => ?_) (fun c2 => ?_)
    · have hf := it_f hf c2
      obtain rfl := Option.some.inj hf
      exact mret_v E hR hS dX9_nextToken_229
    · have hf := it_t hf c2
      refine lv_aload_n E.hx E.hb dX9_nextToken_162 rfl (lv_at hl 0 rfl) ?_
      refine lv_aload_n E.hx E.hb dX9_nextToken_163 rfl (lv_at hl 0 rfl) ?_
      refine mg_tape E hR dX9_nextToken_164 ?_
      refine lv_aload_n E.hx E.hb dX9_nextToken_167 rfl (lv_at hl 0 rfl) ?_
      refine mg_place E hR dX9_nextToken_168 ?_
      obtain ⟨v3, hv3, hf⟩ := bd_e hf
      refine ml_tape E hR hv3 dX9_nextToken_171 ?_
      obtain ⟨σ4, hσ4, hf⟩ := bd_e hf
      refine mp_value E hR hS dX9_nextToken_172 (fun H locs hR hS => ?_)
      rw [Option.some.inj hσ4] at hR
      refine lv_aload_n E.hx E.hb dX9_nextToken_175 rfl (lv_at hl 0 rfl) ?_
      refine lv_aload_n E.hx E.hb dX9_nextToken_176 rfl (lv_at hl 0 rfl) ?_
      refine mg_value E hR dX9_nextToken_177 ?_
      refine lv_i2l E.hx E.hb dX9_nextToken_180 rfl ?_
      refine lv_ldc2 (v := 97) E.hx E.hb E.ho (E.ht _ q1364) dX9_nextToken_181 ?_
      refine lv_ldc2 (v := 122) E.hx E.hb E.ho (E.ht _ q1365) dX9_nextToken_184 ?_
      obtain ⟨v5, hv5, hf⟩ := bd_e hf
      refine scall_i (rest := [.ref o]) E.1 (tX9_in l hv5) (cwX9_57 E.ht ⟨Nat.le_of_ble_eq_true rfl, Nat.le_of_ble_eq_true rfl⟩) rfl hl.1 rfl (Nat.le_of_ble_eq_true rfl) dX9_nextToken_187 ⟨Nat.le_refl 0, Nat.le_refl 0⟩ ?_
      refine lv_if_ne (tgt := 211) E.hx E.hb dX9_nextToken_190 (by decide) (fun c6 => ?_) (fun c6 => ?_)
      · have hf := it_f hf c6
        refine lv_iconst (v := 1) E.hx E.hb dX9_nextToken_211 (by decide) ?_
        refine lv_goto (tgt := 216) E.hx E.hb dX9_nextToken_212 (by decide) ?_
        exact wX9_nextToken_b216 E  hf _ _ _ hR hS (lv_sub hl [0] rfl)
      · have hf := it_t hf c6
        refine lv_aload_n E.hx E.hb dX9_nextToken_193 rfl (lv_at hl 0 rfl) ?_
        refine mg_value E hR dX9_nextToken_194 ?_
        refine lv_bipush (v := 44) E.hx E.hb dX9_nextToken_197 (by decide) ?_
        refine lv_icmp_eq (tgt := 211) E.hx E.hb dX9_nextToken_199 (by decide) (fun c7 => ?_) (fun c7 => ?_)
        · have hf := it_t hf c7
          refine lv_iconst (v := 1) E.hx E.hb dX9_nextToken_211 (by decide) ?_
          refine lv_goto (tgt := 216) E.hx E.hb dX9_nextToken_212 (by decide) ?_
          exact wX9_nextToken_b216 E  hf _ _ _ hR hS (lv_sub hl [0] rfl)
        · have hf := it_f hf c7
          refine lv_aload_n E.hx E.hb dX9_nextToken_202 rfl (lv_at hl 0 rfl) ?_
          refine mg_value E hR dX9_nextToken_203 ?_
          refine lv_bipush (v := 59) E.hx E.hb dX9_nextToken_206 (by decide) ?_
          refine lv_icmp_ne (tgt := 215) E.hx E.hb dX9_nextToken_208 (by decide) (fun c8 => ?_) (fun c8 => ?_)
          · have hf := it_f hf c8
            refine lv_iconst (v := 0) E.hx E.hb dX9_nextToken_215 (by decide) ?_
            exact wX9_nextToken_b216 E  hf _ _ _ hR hS (lv_sub hl [0] rfl)
          · have hf := it_t hf c8
            refine lv_iconst (v := 1) E.hx E.hb dX9_nextToken_211 (by decide) ?_
            refine lv_goto (tgt := 216) E.hx E.hb dX9_nextToken_212 (by decide) ?_
            exact wX9_nextToken_b216 E  hf _ _ _ hR hS (lv_sub hl [0] rfl)
  · have hf := it_f hf c1
    refine lv_aload_n E.hx E.hb dX9_nextToken_130 rfl (lv_at hl 0 rfl) ?_
    refine lv_aload_n E.hx E.hb dX9_nextToken_131 rfl (lv_at hl 0 rfl) ?_
    refine mg_place E hR dX9_nextToken_132 ?_
    refine lv_aload_n E.hx E.hb dX9_nextToken_135 rfl (lv_at hl 0 rfl) ?_
    refine mg_begins E hR dX9_nextToken_136 ?_
    refine lv_isub E.hx E.hb dX9_nextToken_139 ?_
    refine lv_iconst (v := 2) E.hx E.hb dX9_nextToken_140 (by decide) ?_
    refine lv_icmp_le (tgt := 148) E.hx E.hb dX9_nextToken_141 (by decide) (fun c9 => ?_) (fun c9 => ?_)
    · have hf := it_t hf c9
      refine lv_iconst (v := 2) E.hx E.hb dX9_nextToken_148 (by decide) ?_
      exact wX9_nextToken_b149 E  hf _ _ _ hR hS (lv_sub hl [] rfl)
    · have hf := it_f hf c9
      refine lv_iconst (v := 0) E.hx E.hb dX9_nextToken_144 (by decide) ?_
      refine lv_goto (tgt := 149) E.hx E.hb dX9_nextToken_145 (by decide) ?_
      exact wX9_nextToken_b149 E  hf _ _ _ hR hS (lv_sub hl [] rfl)
def fX9_nextToken_L33  : Nat → MS → Option MS
  | 0, _ => none
  | n + 1, σ =>
    if (σ 0 8) ≤ (σ 0 10) then (fX9_nextToken_b119 σ) else ((rd (σ 6) 120 (σ 0 10)).bind fun v2 =>
    (fX9_in (v2.toInt64) 48 57).bind fun v3 =>
    if v3 = 0 then (fX9_nextToken_b119 σ) else (if (σ 0 12) ≤ 99 then ((rd (σ 6) 120 (σ 0 10)).bind fun v6 =>
    fX9_nextToken_b103 (fX9_nextToken_L33 n) σ (((10 * (σ 0 12)) + v6) - 48)) else (fX9_nextToken_b103 (fX9_nextToken_L33 n) σ (σ 0 12))))
theorem wX9_nextToken_L33 (E : mE p m c cX9_nextToken 1 s args G cI cZ meth none) : ∀ (n : Nat) (σ : MS) , fX9_nextToken_L33 n σ = some σf → ∀ (H : Heap) (locs : List Loc) (ls : Array Slot), mR G cI cZ o σ H → va_S (mA o) s.heap H locs → lv_has ls 1 [(0, .ref o)] → W p l e rmX9_nextToken s m args below meth c H locs 0 0 (MQ below (mQv G cI cZ o σf) args s 0 0 (mA o)) (F0 m 33 ls []) := by
  intro n
  induction n with
  | zero =>
    intro σ hf
    have hf : none = some σf := hf
    cases hf
  | succ n ih =>
    intro σ hf H locs ls hR hS hl
    refine lv_aload_n E.hx E.hb dX9_nextToken_33 rfl (lv_at hl 0 rfl) ?_
    refine mg_place E hR dX9_nextToken_34 ?_
    refine lv_aload_n E.hx E.hb dX9_nextToken_37 rfl (lv_at hl 0 rfl) ?_
    refine mg_bytes E hR dX9_nextToken_38 ?_
    refine lv_icmp_ge (tgt := 119) E.hx E.hb dX9_nextToken_41 (by decide) (fun c1 => ?_) (fun c1 => ?_)
    · have hf := it_t hf c1
      exact wX9_nextToken_b119 E  hf _ _ _ hR hS (lv_sub hl [0] rfl)
    · have hf := it_f hf c1
      refine lv_aload_n E.hx E.hb dX9_nextToken_44 rfl (lv_at hl 0 rfl) ?_
      refine mg_tape E hR dX9_nextToken_45 ?_
      refine lv_aload_n E.hx E.hb dX9_nextToken_48 rfl (lv_at hl 0 rfl) ?_
      refine mg_place E hR dX9_nextToken_49 ?_
      obtain ⟨v2, hv2, hf⟩ := bd_e hf
      refine ml_tape E hR hv2 dX9_nextToken_52 ?_
      refine lv_i2l E.hx E.hb dX9_nextToken_53 rfl ?_
      refine lv_ldc2 (v := 48) E.hx E.hb E.ho (E.ht _ q1362) dX9_nextToken_54 ?_
      refine lv_ldc2 (v := 57) E.hx E.hb E.ho (E.ht _ q1363) dX9_nextToken_57 ?_
      obtain ⟨v3, hv3, hf⟩ := bd_e hf
      refine scall_i (rest := []) E.1 (tX9_in l hv3) (cwX9_57 E.ht ⟨Nat.le_of_ble_eq_true rfl, Nat.le_of_ble_eq_true rfl⟩) rfl hl.1 rfl (Nat.le_of_ble_eq_true rfl) dX9_nextToken_60 ⟨Nat.le_refl 0, Nat.le_refl 0⟩ ?_
      refine lv_if_eq (tgt := 119) E.hx E.hb dX9_nextToken_63 (by decide) (fun c4 => ?_) (fun c4 => ?_)
      · have hf := it_t hf c4
        exact wX9_nextToken_b119 E  hf _ _ _ hR hS (lv_sub hl [0] rfl)
      · have hf := it_f hf c4
        refine lv_aload_n E.hx E.hb dX9_nextToken_66 rfl (lv_at hl 0 rfl) ?_
        refine lv_aload_n E.hx E.hb dX9_nextToken_67 rfl (lv_at hl 0 rfl) ?_
        refine mg_value E hR dX9_nextToken_68 ?_
        refine lv_bipush (v := 99) E.hx E.hb dX9_nextToken_71 (by decide) ?_
        refine lv_icmp_le (tgt := 83) E.hx E.hb dX9_nextToken_73 (by decide) (fun c5 => ?_) (fun c5 => ?_)
        · have hf := it_t hf c5
          refine lv_bipush (v := 10) E.hx E.hb dX9_nextToken_83 (by decide) ?_
          refine lv_aload_n E.hx E.hb dX9_nextToken_85 rfl (lv_at hl 0 rfl) ?_
          refine mg_value E hR dX9_nextToken_86 ?_
          refine lv_imul E.hx E.hb dX9_nextToken_89 ?_
          refine lv_aload_n E.hx E.hb dX9_nextToken_90 rfl (lv_at hl 0 rfl) ?_
          refine mg_tape E hR dX9_nextToken_91 ?_
          refine lv_aload_n E.hx E.hb dX9_nextToken_94 rfl (lv_at hl 0 rfl) ?_
          refine mg_place E hR dX9_nextToken_95 ?_
          obtain ⟨v6, hv6, hf⟩ := bd_e hf
          refine ml_tape E hR hv6 dX9_nextToken_98 ?_
          refine lv_iadd E.hx E.hb dX9_nextToken_99 ?_
          refine lv_bipush (v := 48) E.hx E.hb dX9_nextToken_100 (by decide) ?_
          refine lv_isub E.hx E.hb dX9_nextToken_102 ?_
          exact wX9_nextToken_b103 E ih hf _ _ _ hR hS (lv_sub hl [0] rfl)
        · have hf := it_f hf c5
          refine lv_aload_n E.hx E.hb dX9_nextToken_76 rfl (lv_at hl 0 rfl) ?_
          refine mg_value E hR dX9_nextToken_77 ?_
          refine lv_goto (tgt := 103) E.hx E.hb dX9_nextToken_80 (by decide) ?_
          exact wX9_nextToken_b103 E ih hf _ _ _ hR hS (lv_sub hl [0] rfl)
def fX9_nextToken_b25  (σ : MS) (s1 : Int32) : Option MS :=
  (some (up2 σ 0 11 s1)).bind fun σ1 =>
  (some (up2 σ1 0 12 0)).bind fun σ2 =>
  fX9_nextToken_L33 2000 σ2
theorem wX9_nextToken_b25 (E : mE p m c cX9_nextToken 1 s args G cI cZ meth none) {σ : MS} {s1 : Int32} (hf : fX9_nextToken_b25 σ s1 = some σf) : ∀ (H : Heap) (locs : List Loc) (ls : Array Slot), mR G cI cZ o σ H → va_S (mA o) s.heap H locs → lv_has ls 1 [(0, .ref o)] → W p l e rmX9_nextToken s m args below meth c H locs 0 0 (MQ below (mQv G cI cZ o σf) args s 0 0 (mA o)) (F0 m 25 ls [.int s1, .ref o]) := by
  intro H locs ls hR hS hl
  obtain ⟨σ1, hσ1, hf⟩ := bd_e hf
  refine mp_token E hR hS dX9_nextToken_25 (fun H locs hR hS => ?_)
  rw [Option.some.inj hσ1] at hR
  refine lv_aload_n E.hx E.hb dX9_nextToken_28 rfl (lv_at hl 0 rfl) ?_
  refine lv_iconst (v := 0) E.hx E.hb dX9_nextToken_29 (by decide) ?_
  obtain ⟨σ2, hσ2, hf⟩ := bd_e hf
  refine mp_value E hR hS dX9_nextToken_30 (fun H locs hR hS => ?_)
  rw [Option.some.inj hσ2] at hR
  exact wX9_nextToken_L33 E  2000 σ2 hf _ _ _ hR hS (lv_sub hl [0] rfl)
def fX9_nextToken  (σ : MS)  : Option MS :=
  (some (up2 σ 0 13 (σ 0 10))).bind fun σ1 =>
  if (σ1 0 10) = (σ1 0 8) then (fX9_nextToken_b25 σ1 3) else (fX9_nextToken_b25 σ1 0)
theorem wX9_nextToken_0 (E : mE p m c cX9_nextToken 1 s args G cI cZ meth none) {σ : MS}  (hf : fX9_nextToken σ = some σf) : ∀ (H : Heap) (locs : List Loc) (ls : Array Slot), mR G cI cZ o σ H → va_S (mA o) s.heap H locs → lv_has ls 1 [(0, .ref o)] → W p l e rmX9_nextToken s m args below meth c H locs 0 0 (MQ below (mQv G cI cZ o σf) args s 0 0 (mA o)) (F0 m 0 ls []) := by
  intro H locs ls hR hS hl
  refine lv_aload_n E.hx E.hb dX9_nextToken_0 rfl (lv_at hl 0 rfl) ?_
  refine lv_aload_n E.hx E.hb dX9_nextToken_1 rfl (lv_at hl 0 rfl) ?_
  refine mg_place E hR dX9_nextToken_2 ?_
  obtain ⟨σ1, hσ1, hf⟩ := bd_e hf
  refine mp_begins E hR hS dX9_nextToken_5 (fun H locs hR hS => ?_)
  rw [Option.some.inj hσ1] at hR
  refine lv_aload_n E.hx E.hb dX9_nextToken_8 rfl (lv_at hl 0 rfl) ?_
  refine lv_aload_n E.hx E.hb dX9_nextToken_9 rfl (lv_at hl 0 rfl) ?_
  refine mg_place E hR dX9_nextToken_10 ?_
  refine lv_aload_n E.hx E.hb dX9_nextToken_13 rfl (lv_at hl 0 rfl) ?_
  refine mg_bytes E hR dX9_nextToken_14 ?_
  refine lv_icmp_ne (tgt := 24) E.hx E.hb dX9_nextToken_17 (by decide) (fun c2 => ?_) (fun c2 => ?_)
  · have hf := it_f hf c2
    refine lv_iconst (v := 0) E.hx E.hb dX9_nextToken_24 (by decide) ?_
    exact wX9_nextToken_b25 E  hf _ _ _ hR hS (lv_sub hl [0] rfl)
  · have hf := it_t hf c2
    refine lv_iconst (v := 3) E.hx E.hb dX9_nextToken_20 (by decide) ?_
    refine lv_goto (tgt := 25) E.hx E.hb dX9_nextToken_21 (by decide) ?_
    exact wX9_nextToken_b25 E  hf _ _ _ hR hS (lv_sub hl [0] rfl)
theorem tX9_nextToken (l : Launch) {G : va_G} {cI cZ : ClassId} {o : Nat} {σ σf : MS}   (hf : fX9_nextToken σ  = some σf) : Met l yX9_nextToken (ws_ yX9_nextToken cX9_nextToken 1 none) rmX9_nextToken (mPc G cI cZ o σ [.ref o]) (mQv G cI cZ o σf) 0 0 (mA o) := by
  refine Met.ofW (cc := cX9_nextToken) (maxL := 1) (ret := none) (by decide) rfl ?_
  intro p e s m args below meth c s₁ B hml hv
  obtain ⟨rfl, hR, hK⟩ := hv
  have hts := atoms_spec (ws := (ws_ yX9_nextToken cX9_nextToken 1 none)) B.pre
  rw [lg_entry_eq]
  exact wX9_nextToken_0 (E := ⟨⟨B.exec, B.bytes, hml, findClass_of_methodNamed B.named, fun w h => hts w (List.mem_cons_of_mem _ h)⟩, hK, B.returns, B.notSynchronized⟩) hf _ _ _ hR va_S.rf (lv_entry [.ref o] (n := 1) (Nat.le_of_ble_eq_true rfl))

abbrev rmX9_faults : Room := { frames := 1, cells := 0, slots := 0, locals := 12 }
def fX9_faults  (σ : MS) (x1 : Int32) : Option (Int32 × MS) :=
  (some (up2 σ 0 14 x1)).bind fun σ1 =>
  some (0, σ1)
theorem wX9_faults_0 (E : mE p m c cX9_faults 2 s args G cI cZ meth (some .boolean)) {σ : MS} {x1 : Int32} (hf : fX9_faults σ x1 = some (r, σf)) : ∀ (H : Heap) (locs : List Loc) (ls : Array Slot), mR G cI cZ o σ H → va_S (mA o) s.heap H locs → lv_has ls 2 [(0, .ref o), (1, .int x1)] → W p l e rmX9_faults s m args below meth c H locs 0 0 (MQ below (mQi G cI cZ o r σf) args s 0 0 (mA o)) (F0 m 0 ls []) := by
  intro H locs ls hR hS hl
  refine lv_aload_n E.hx E.hb dX9_faults_0 rfl (lv_at hl 0 rfl) ?_
  refine lv_iload_n E.hx E.hb dX9_faults_1 rfl (lv_at hl 1 rfl) ?_
  obtain ⟨σ1, hσ1, hf⟩ := bd_e hf
  refine mp_wrong E hR hS dX9_faults_2 (fun H locs hR hS => ?_)
  rw [Option.some.inj hσ1] at hR
  refine lv_iconst (v := 0) E.hx E.hb dX9_faults_5 (by decide) ?_
  obtain ⟨rfl, rfl⟩ := rt_e hf
  exact mret_z E rfl hR hS dX9_faults_6
theorem tX9_faults (l : Launch) {G : va_G} {cI cZ : ClassId} {o : Nat} {σ σf : MS} {x1 : Int32} {r : Int32} (hf : fX9_faults σ x1 = some (r, σf)) : Met l yX9_faults (ws_ yX9_faults cX9_faults 2 (some .boolean)) rmX9_faults (mPc G cI cZ o σ [.ref o, .int x1]) (mQi G cI cZ o r σf) 0 0 (mA o) := by
  refine Met.ofW (cc := cX9_faults) (maxL := 2) (ret := (some .boolean)) (by decide) rfl ?_
  intro p e s m args below meth c s₁ B hml hv
  obtain ⟨rfl, hR, hK⟩ := hv
  have hts := atoms_spec (ws := (ws_ yX9_faults cX9_faults 2 (some .boolean))) B.pre
  rw [lg_entry_eq]
  exact wX9_faults_0 (E := ⟨⟨B.exec, B.bytes, hml, findClass_of_methodNamed B.named, fun w h => hts w (List.mem_cons_of_mem _ h)⟩, hK, B.returns, B.notSynchronized⟩) hf _ _ _ hR va_S.rf (lv_entry [.ref o, .int x1] (n := 2) (Nat.le_of_ble_eq_true rfl))

abbrev rmX9_isLetter : Room := { frames := 1, cells := 0, slots := 0, locals := 12 }
def fX9_isLetter  (σ : MS) (x1 : Int32) : Option (Int32 × MS) :=
  if (σ 0 11) = 1 then (if (σ 0 12) = x1 then (some (1, σ)) else (some (0, σ))) else (some (0, σ))
theorem wX9_isLetter_0 (E : mE p m c cX9_isLetter 2 s args G cI cZ meth (some .boolean)) {σ : MS} {x1 : Int32} (hf : fX9_isLetter σ x1 = some (r, σf)) : ∀ (H : Heap) (locs : List Loc) (ls : Array Slot), mR G cI cZ o σ H → va_S (mA o) s.heap H locs → lv_has ls 2 [(0, .ref o), (1, .int x1)] → W p l e rmX9_isLetter s m args below meth c H locs 0 0 (MQ below (mQi G cI cZ o r σf) args s 0 0 (mA o)) (F0 m 0 ls []) := by
  intro H locs ls hR hS hl
  refine lv_aload_n E.hx E.hb dX9_isLetter_0 rfl (lv_at hl 0 rfl) ?_
  refine mg_token E hR dX9_isLetter_1 ?_
  refine lv_iconst (v := 1) E.hx E.hb dX9_isLetter_4 (by decide) ?_
  refine lv_icmp_ne (tgt := 20) E.hx E.hb dX9_isLetter_5 (by decide) (fun c1 => ?_) (fun c1 => ?_)
  · have hf := it_f hf c1
    refine lv_iconst (v := 0) E.hx E.hb dX9_isLetter_20 (by decide) ?_
    obtain ⟨rfl, rfl⟩ := rt_e hf
    exact mret_z E rfl hR hS dX9_isLetter_21
  · have hf := it_t hf c1
    refine lv_aload_n E.hx E.hb dX9_isLetter_8 rfl (lv_at hl 0 rfl) ?_
    refine mg_value E hR dX9_isLetter_9 ?_
    refine lv_iload_n E.hx E.hb dX9_isLetter_12 rfl (lv_at hl 1 rfl) ?_
    refine lv_icmp_ne (tgt := 20) E.hx E.hb dX9_isLetter_13 (by decide) (fun c2 => ?_) (fun c2 => ?_)
    · have hf := it_f hf c2
      refine lv_iconst (v := 0) E.hx E.hb dX9_isLetter_20 (by decide) ?_
      obtain ⟨rfl, rfl⟩ := rt_e hf
      exact mret_z E rfl hR hS dX9_isLetter_21
    · have hf := it_t hf c2
      refine lv_iconst (v := 1) E.hx E.hb dX9_isLetter_16 (by decide) ?_
      refine lv_goto (tgt := 21) E.hx E.hb dX9_isLetter_17 (by decide) ?_
      obtain ⟨rfl, rfl⟩ := rt_e hf
      exact mret_z E rfl hR hS dX9_isLetter_21
theorem tX9_isLetter (l : Launch) {G : va_G} {cI cZ : ClassId} {o : Nat} {σ σf : MS} {x1 : Int32} {r : Int32} (hf : fX9_isLetter σ x1 = some (r, σf)) : Met l yX9_isLetter (ws_ yX9_isLetter cX9_isLetter 2 (some .boolean)) rmX9_isLetter (mPc G cI cZ o σ [.ref o, .int x1]) (mQi G cI cZ o r σf) 0 0 (mA o) := by
  refine Met.ofW (cc := cX9_isLetter) (maxL := 2) (ret := (some .boolean)) (by decide) rfl ?_
  intro p e s m args below meth c s₁ B hml hv
  obtain ⟨rfl, hR, hK⟩ := hv
  have hts := atoms_spec (ws := (ws_ yX9_isLetter cX9_isLetter 2 (some .boolean))) B.pre
  rw [lg_entry_eq]
  exact wX9_isLetter_0 (E := ⟨⟨B.exec, B.bytes, hml, findClass_of_methodNamed B.named, fun w h => hts w (List.mem_cons_of_mem _ h)⟩, hK, B.returns, B.notSynchronized⟩) hf _ _ _ hR va_S.rf (lv_entry [.ref o, .int x1] (n := 2) (Nat.le_of_ble_eq_true rfl))

theorem cwX9_108 {R : Room} {s : State} {args : Array Value} (ht : ∀ w ∈ lw_all, w.before args s = true) (hR : rmX9_isLetter.frames + 1 ≤ R.frames ∧ 8 + (2 + 11) + rmX9_isLetter.locals ≤ R.locals) : CallW R s args RX9 RX9 108 yX9_isLetter cX9_isLetter 2 (some .boolean) (ws_ yX9_isLetter cX9_isLetter 2 (some .boolean)) rmX9_isLetter 0 0 1 :=
  cwV 1 ht (lw_V q1370 q1372 qs37 q80 q1373) rfl rfl rfl (by decide +kernel) hR
theorem cwX9_111 {R : Room} {s : State} {args : Array Value} (ht : ∀ w ∈ lw_all, w.before args s = true) (hR : rmX9_faults.frames + 1 ≤ R.frames ∧ 8 + (2 + 11) + rmX9_faults.locals ≤ R.locals) : CallW R s args RX9 RX9 111 yX9_faults cX9_faults 2 (some .boolean) (ws_ yX9_faults cX9_faults 2 (some .boolean)) rmX9_faults 0 0 1 :=
  cwV 1 ht (lw_V q1374 q1376 qs38 q80 q1377) rfl rfl rfl (by decide +kernel) hR
theorem cwX9_114 {R : Room} {s : State} {args : Array Value} (ht : ∀ w ∈ lw_all, w.before args s = true) (hR : rmX9_nextToken.frames + 1 ≤ R.frames ∧ 8 + (1 + 11) + rmX9_nextToken.locals ≤ R.locals) : CallW R s args RX9 RX9 114 yX9_nextToken cX9_nextToken 1 none (ws_ yX9_nextToken cX9_nextToken 1 none) rmX9_nextToken 0 0 0 :=
  cwV 0 ht (lw_V q1358 q1360 qs35 q80 q1361) rfl rfl rfl (by decide +kernel) hR
abbrev rmX9_takes : Room := { frames := 3, cells := 0, slots := 0, locals := 57 }
def fX9_takes  (σ : MS) (x1 : Int32) : Option (Int32 × MS) :=
  (fX9_isLetter σ x1).bind fun (v2, σ1) =>
  if v2 = 0 then ((fX9_faults σ1 1).bind fun (v6, σ5) =>
  (bz v6).bind fun v7 =>
  some (v7, σ5)) else ((fX9_nextToken σ1).bind fun σ4 =>
  some (1, σ4))
theorem wX9_takes_0 (E : mE p m c cX9_takes 2 s args G cI cZ meth (some .boolean)) {σ : MS} {x1 : Int32} (hf : fX9_takes σ x1 = some (r, σf)) : ∀ (H : Heap) (locs : List Loc) (ls : Array Slot), mR G cI cZ o σ H → va_S (mA o) s.heap H locs → lv_has ls 2 [(0, .ref o), (1, .int x1)] → W p l e rmX9_takes s m args below meth c H locs 0 0 (MQ below (mQi G cI cZ o r σf) args s 0 0 (mA o)) (F0 m 0 ls []) := by
  intro H locs ls hR hS hl
  refine lv_aload_n E.hx E.hb dX9_takes_0 rfl (lv_at hl 0 rfl) ?_
  refine lv_iload_n E.hx E.hb dX9_takes_1 rfl (lv_at hl 1 rfl) ?_
  obtain ⟨⟨v2, σ1⟩, hv2, hf⟩ := bd_e hf
  refine mcall_i (rest := []) E hR hS (tX9_isLetter l hv2) (cwX9_108 E.ht ⟨Nat.le_of_ble_eq_true rfl, Nat.le_of_ble_eq_true rfl⟩) rfl hl.1 rfl (Nat.le_of_ble_eq_true rfl) dX9_takes_2 ⟨Nat.le_refl 0, Nat.le_refl 0⟩ (fun H locs hR hS => ?_)
  refine lv_if_ne (tgt := 14) E.hx E.hb dX9_takes_5 (by decide) (fun c3 => ?_) (fun c3 => ?_)
  · have hf := it_f hf c3
    refine lv_aload_n E.hx E.hb dX9_takes_14 rfl (lv_at hl 0 rfl) ?_
    obtain ⟨σ4, hσ4, hf⟩ := bd_e hf
    refine mcall_v (rest := []) E hR hS (tX9_nextToken l hσ4) (cwX9_114 E.ht ⟨Nat.le_of_ble_eq_true rfl, Nat.le_of_ble_eq_true rfl⟩) rfl hl.1 rfl (Nat.le_of_ble_eq_true rfl) dX9_takes_15 ⟨Nat.le_refl 0, Nat.le_refl 0⟩ (fun H locs hR hS => ?_)
    refine lv_iconst (v := 1) E.hx E.hb dX9_takes_18 (by decide) ?_
    obtain ⟨rfl, rfl⟩ := rt_e hf
    exact mret_z E rfl hR hS dX9_takes_19
  · have hf := it_t hf c3
    refine lv_aload_n E.hx E.hb dX9_takes_8 rfl (lv_at hl 0 rfl) ?_
    refine lv_iconst (v := 1) E.hx E.hb dX9_takes_9 (by decide) ?_
    obtain ⟨⟨v6, σ5⟩, hv6, hf⟩ := bd_e hf
    refine mcall_i (rest := []) E hR hS (tX9_faults l hv6) (cwX9_111 E.ht ⟨Nat.le_of_ble_eq_true rfl, Nat.le_of_ble_eq_true rfl⟩) rfl hl.1 rfl (Nat.le_of_ble_eq_true rfl) dX9_takes_10 ⟨Nat.le_refl 0, Nat.le_refl 0⟩ (fun H locs hR hS => ?_)
    obtain ⟨v7, hv7, hf⟩ := bd_e hf
    obtain ⟨hz, rfl⟩ := bz_e hv7
    obtain ⟨rfl, rfl⟩ := rt_e hf
    exact mret_z E hz hR hS dX9_takes_13
theorem tX9_takes (l : Launch) {G : va_G} {cI cZ : ClassId} {o : Nat} {σ σf : MS} {x1 : Int32} {r : Int32} (hf : fX9_takes σ x1 = some (r, σf)) : Met l yX9_takes (ws_ yX9_takes cX9_takes 2 (some .boolean)) rmX9_takes (mPc G cI cZ o σ [.ref o, .int x1]) (mQi G cI cZ o r σf) 0 0 (mA o) := by
  refine Met.ofW (cc := cX9_takes) (maxL := 2) (ret := (some .boolean)) (by decide) rfl ?_
  intro p e s m args below meth c s₁ B hml hv
  obtain ⟨rfl, hR, hK⟩ := hv
  have hts := atoms_spec (ws := (ws_ yX9_takes cX9_takes 2 (some .boolean))) B.pre
  rw [lg_entry_eq]
  exact wX9_takes_0 (E := ⟨⟨B.exec, B.bytes, hml, findClass_of_methodNamed B.named, fun w h => hts w (List.mem_cons_of_mem _ h)⟩, hK, B.returns, B.notSynchronized⟩) hf _ _ _ hR va_S.rf (lv_entry [.ref o, .int x1] (n := 2) (Nat.le_of_ble_eq_true rfl))

theorem cwX9_117 {R : Room} {s : State} {args : Array Value} (ht : ∀ w ∈ lw_all, w.before args s = true) (hR : rmX9_takes.frames + 1 ≤ R.frames ∧ 8 + (2 + 11) + rmX9_takes.locals ≤ R.locals) : CallW R s args RX9 RX9 117 yX9_takes cX9_takes 2 (some .boolean) (ws_ yX9_takes cX9_takes 2 (some .boolean)) rmX9_takes 0 0 1 :=
  cwV 1 ht (lw_V q1366 q1368 qs36 q80 q1369) rfl rfl rfl (by decide +kernel) hR
abbrev rmX9_takesNumber : Room := { frames := 4, cells := 0, slots := 0, locals := 78 }
def fX9_takesNumber_b37  (σ : MS) (s1 : Int32) : Option (Int32 × MS) :=
  (fX9_faults σ s1).bind fun (v2, σ1) =>
  (bz v2).bind fun v3 =>
  some (v3, σ1)
theorem wX9_takesNumber_b37 (E : mE p m c cX9_takesNumber 5 s args G cI cZ meth (some .boolean)) {σ : MS} {s1 : Int32} (hf : fX9_takesNumber_b37 σ s1 = some (r, σf)) : ∀ (H : Heap) (locs : List Loc) (ls : Array Slot), mR G cI cZ o σ H → va_S (mA o) s.heap H locs → lv_has ls 5 [] → W p l e rmX9_takesNumber s m args below meth c H locs 0 0 (MQ below (mQi G cI cZ o r σf) args s 0 0 (mA o)) (F0 m 37 ls [.int s1, .ref o]) := by
  intro H locs ls hR hS hl
  obtain ⟨⟨v2, σ1⟩, hv2, hf⟩ := bd_e hf
  refine mcall_i (rest := []) E hR hS (tX9_faults l hv2) (cwX9_111 E.ht ⟨Nat.le_of_ble_eq_true rfl, Nat.le_of_ble_eq_true rfl⟩) rfl hl.1 rfl (Nat.le_of_ble_eq_true rfl) dX9_takesNumber_37 ⟨Nat.le_refl 0, Nat.le_refl 0⟩ (fun H locs hR hS => ?_)
  obtain ⟨v3, hv3, hf⟩ := bd_e hf
  obtain ⟨hz, rfl⟩ := bz_e hv3
  obtain ⟨rfl, rfl⟩ := rt_e hf
  exact mret_z E hz hR hS dX9_takesNumber_40
def fX9_takesNumber_b23  (σ : MS)  : Option (Int32 × MS) :=
  if (σ 0 11) = 2 then (fX9_takesNumber_b37 σ 2) else (fX9_takesNumber_b37 σ 1)
theorem wX9_takesNumber_b23 (E : mE p m c cX9_takesNumber 5 s args G cI cZ meth (some .boolean)) {σ : MS}  (hf : fX9_takesNumber_b23 σ = some (r, σf)) : ∀ (H : Heap) (locs : List Loc) (ls : Array Slot), mR G cI cZ o σ H → va_S (mA o) s.heap H locs → lv_has ls 5 [(0, .ref o)] → W p l e rmX9_takesNumber s m args below meth c H locs 0 0 (MQ below (mQi G cI cZ o r σf) args s 0 0 (mA o)) (F0 m 23 ls []) := by
  intro H locs ls hR hS hl
  refine lv_aload_n E.hx E.hb dX9_takesNumber_23 rfl (lv_at hl 0 rfl) ?_
  refine lv_aload_n E.hx E.hb dX9_takesNumber_24 rfl (lv_at hl 0 rfl) ?_
  refine mg_token E hR dX9_takesNumber_25 ?_
  refine lv_iconst (v := 2) E.hx E.hb dX9_takesNumber_28 (by decide) ?_
  refine lv_icmp_ne (tgt := 36) E.hx E.hb dX9_takesNumber_29 (by decide) (fun c1 => ?_) (fun c1 => ?_)
  · have hf := it_f hf c1
    refine lv_iconst (v := 1) E.hx E.hb dX9_takesNumber_36 (by decide) ?_
    exact wX9_takesNumber_b37 E  hf _ _ _ hR hS (lv_sub hl [] rfl)
  · have hf := it_t hf c1
    refine lv_iconst (v := 2) E.hx E.hb dX9_takesNumber_32 (by decide) ?_
    refine lv_goto (tgt := 37) E.hx E.hb dX9_takesNumber_33 (by decide) ?_
    exact wX9_takesNumber_b37 E  hf _ _ _ hR hS (lv_sub hl [] rfl)
def fX9_takesNumber  (σ : MS) (x1 : Int32) (x2 : Int32) (x3 : Int32) (x4 : Int32) : Option (Int32 × MS) :=
  if (σ 0 11) = 2 then ((fX9_in ((σ 0 12).toInt64) (x1.toInt64) (x2.toInt64)).bind fun v2 =>
  if v2 = 0 then (fX9_takesNumber_b23 σ) else ((mwr σ 7 41 x3 (σ 0 12)).bind fun σ4 =>
  (fX9_nextToken σ4).bind fun σ5 =>
  (fX9_takes σ5 x4).bind fun (v7, σ6) =>
  (bz v7).bind fun v8 =>
  some (v8, σ6))) else (fX9_takesNumber_b23 σ)
theorem wX9_takesNumber_0 (E : mE p m c cX9_takesNumber 5 s args G cI cZ meth (some .boolean)) {σ : MS} {x1 : Int32} {x2 : Int32} {x3 : Int32} {x4 : Int32} (hf : fX9_takesNumber σ x1 x2 x3 x4 = some (r, σf)) : ∀ (H : Heap) (locs : List Loc) (ls : Array Slot), mR G cI cZ o σ H → va_S (mA o) s.heap H locs → lv_has ls 5 [(0, .ref o), (1, .int x1), (2, .int x2), (3, .int x3), (4, .int x4)] → W p l e rmX9_takesNumber s m args below meth c H locs 0 0 (MQ below (mQi G cI cZ o r σf) args s 0 0 (mA o)) (F0 m 0 ls []) := by
  intro H locs ls hR hS hl
  refine lv_aload_n E.hx E.hb dX9_takesNumber_0 rfl (lv_at hl 0 rfl) ?_
  refine mg_token E hR dX9_takesNumber_1 ?_
  refine lv_iconst (v := 2) E.hx E.hb dX9_takesNumber_4 (by decide) ?_
  refine lv_icmp_ne (tgt := 23) E.hx E.hb dX9_takesNumber_5 (by decide) (fun c1 => ?_) (fun c1 => ?_)
  · have hf := it_f hf c1
    exact wX9_takesNumber_b23 E  hf _ _ _ hR hS (lv_sub hl [0] rfl)
  · have hf := it_t hf c1
    refine lv_aload_n E.hx E.hb dX9_takesNumber_8 rfl (lv_at hl 0 rfl) ?_
    refine mg_value E hR dX9_takesNumber_9 ?_
    refine lv_i2l E.hx E.hb dX9_takesNumber_12 rfl ?_
    refine lv_iload_n E.hx E.hb dX9_takesNumber_13 rfl (lv_at hl 1 rfl) ?_
    refine lv_i2l E.hx E.hb dX9_takesNumber_14 rfl ?_
    refine lv_iload_n E.hx E.hb dX9_takesNumber_15 rfl (lv_at hl 2 rfl) ?_
    refine lv_i2l E.hx E.hb dX9_takesNumber_16 rfl ?_
    obtain ⟨v2, hv2, hf⟩ := bd_e hf
    refine scall_i (rest := []) E.1 (tX9_in l hv2) (cwX9_57 E.ht ⟨Nat.le_of_ble_eq_true rfl, Nat.le_of_ble_eq_true rfl⟩) rfl hl.1 rfl (Nat.le_of_ble_eq_true rfl) dX9_takesNumber_17 ⟨Nat.le_refl 0, Nat.le_refl 0⟩ ?_
    refine lv_if_ne (tgt := 41) E.hx E.hb dX9_takesNumber_20 (by decide) (fun c3 => ?_) (fun c3 => ?_)
    · have hf := it_f hf c3
      refine lv_aload_n E.hx E.hb dX9_takesNumber_41 rfl (lv_at hl 0 rfl) ?_
      refine mg_read E hR dX9_takesNumber_42 ?_
      refine lv_iload_n E.hx E.hb dX9_takesNumber_45 rfl (lv_at hl 3 rfl) ?_
      refine lv_aload_n E.hx E.hb dX9_takesNumber_46 rfl (lv_at hl 0 rfl) ?_
      refine mg_value E hR dX9_takesNumber_47 ?_
      obtain ⟨σ4, hσ4, hf⟩ := bd_e hf
      refine ms_read E hR hS hσ4 dX9_takesNumber_50 (fun H locs hR hS => ?_)
      refine lv_aload_n E.hx E.hb dX9_takesNumber_51 rfl (lv_at hl 0 rfl) ?_
      obtain ⟨σ5, hσ5, hf⟩ := bd_e hf
      refine mcall_v (rest := []) E hR hS (tX9_nextToken l hσ5) (cwX9_114 E.ht ⟨Nat.le_of_ble_eq_true rfl, Nat.le_of_ble_eq_true rfl⟩) rfl hl.1 rfl (Nat.le_of_ble_eq_true rfl) dX9_takesNumber_52 ⟨Nat.le_refl 0, Nat.le_refl 0⟩ (fun H locs hR hS => ?_)
      refine lv_aload_n E.hx E.hb dX9_takesNumber_55 rfl (lv_at hl 0 rfl) ?_
      refine lv_iload E.hx E.hb dX9_takesNumber_56 (lv_at hl 4 rfl) ?_
      obtain ⟨⟨v7, σ6⟩, hv7, hf⟩ := bd_e hf
      refine mcall_i (rest := []) E hR hS (tX9_takes l hv7) (cwX9_117 E.ht ⟨Nat.le_of_ble_eq_true rfl, Nat.le_of_ble_eq_true rfl⟩) rfl hl.1 rfl (Nat.le_of_ble_eq_true rfl) dX9_takesNumber_58 ⟨Nat.le_refl 0, Nat.le_refl 0⟩ (fun H locs hR hS => ?_)
      obtain ⟨v8, hv8, hf⟩ := bd_e hf
      obtain ⟨hz, rfl⟩ := bz_e hv8
      obtain ⟨rfl, rfl⟩ := rt_e hf
      exact mret_z E hz hR hS dX9_takesNumber_61
    · have hf := it_t hf c3
      exact wX9_takesNumber_b23 E  hf _ _ _ hR hS (lv_sub hl [0] rfl)
theorem tX9_takesNumber (l : Launch) {G : va_G} {cI cZ : ClassId} {o : Nat} {σ σf : MS} {x1 : Int32} {x2 : Int32} {x3 : Int32} {x4 : Int32} {r : Int32} (hf : fX9_takesNumber σ x1 x2 x3 x4 = some (r, σf)) : Met l yX9_takesNumber (ws_ yX9_takesNumber cX9_takesNumber 5 (some .boolean)) rmX9_takesNumber (mPc G cI cZ o σ [.ref o, .int x1, .int x2, .int x3, .int x4]) (mQi G cI cZ o r σf) 0 0 (mA o) := by
  refine Met.ofW (cc := cX9_takesNumber) (maxL := 5) (ret := (some .boolean)) (by decide) rfl ?_
  intro p e s m args below meth c s₁ B hml hv
  obtain ⟨rfl, hR, hK⟩ := hv
  have hts := atoms_spec (ws := (ws_ yX9_takesNumber cX9_takesNumber 5 (some .boolean))) B.pre
  rw [lg_entry_eq]
  exact wX9_takesNumber_0 (E := ⟨⟨B.exec, B.bytes, hml, findClass_of_methodNamed B.named, fun w h => hts w (List.mem_cons_of_mem _ h)⟩, hK, B.returns, B.notSynchronized⟩) hf _ _ _ hR va_S.rf (lv_entry [.ref o, .int x1, .int x2, .int x3, .int x4] (n := 5) (Nat.le_of_ble_eq_true rfl))

theorem cwX9_120 {R : Room} {s : State} {args : Array Value} (ht : ∀ w ∈ lw_all, w.before args s = true) (hR : rmX9_takesNumber.frames + 1 ≤ R.frames ∧ 8 + (5 + 11) + rmX9_takesNumber.locals ≤ R.locals) : CallW R s args RX9 RX9 120 yX9_takesNumber cX9_takesNumber 5 (some .boolean) (ws_ yX9_takesNumber cX9_takesNumber 5 (some .boolean)) rmX9_takesNumber 0 0 4 :=
  cwV 4 ht (lw_V q1378 q1380 qs39 q80 q1381) rfl rfl rfl (by decide +kernel) hR
abbrev rmX9_readChair : Room := { frames := 5, cells := 0, slots := 0, locals := 102 }
def fX9_readChair_b94  (σ : MS) (s1 : Int32) : Option (Int32 × MS) :=
  (fX9_faults σ s1).bind fun (v2, σ1) =>
  (bz v2).bind fun v3 =>
  some (v3, σ1)
theorem wX9_readChair_b94 (E : mE p m c cX9_readChair 3 s args G cI cZ meth (some .boolean)) {σ : MS} {s1 : Int32} (hf : fX9_readChair_b94 σ s1 = some (r, σf)) : ∀ (H : Heap) (locs : List Loc) (ls : Array Slot), mR G cI cZ o σ H → va_S (mA o) s.heap H locs → lv_has ls 3 [] → W p l e rmX9_readChair s m args below meth c H locs 0 0 (MQ below (mQi G cI cZ o r σf) args s 0 0 (mA o)) (F0 m 94 ls [.int s1, .ref o]) := by
  intro H locs ls hR hS hl
  obtain ⟨⟨v2, σ1⟩, hv2, hf⟩ := bd_e hf
  refine mcall_i (rest := []) E hR hS (tX9_faults l hv2) (cwX9_111 E.ht ⟨Nat.le_of_ble_eq_true rfl, Nat.le_of_ble_eq_true rfl⟩) rfl hl.1 rfl (Nat.le_of_ble_eq_true rfl) dX9_readChair_94 ⟨Nat.le_refl 0, Nat.le_refl 0⟩ (fun H locs hR hS => ?_)
  obtain ⟨v3, hv3, hf⟩ := bd_e hf
  obtain ⟨hz, rfl⟩ := bz_e hv3
  obtain ⟨rfl, rfl⟩ := rt_e hf
  exact mret_z E hz hR hS dX9_readChair_97
def fX9_readChair_b84  (σ : MS) (x1 : Int32) : Option (Int32 × MS) :=
  if x1 = 0 then (fX9_readChair_b94 σ 1) else (fX9_readChair_b94 σ 3)
theorem wX9_readChair_b84 (E : mE p m c cX9_readChair 3 s args G cI cZ meth (some .boolean)) {σ : MS} {x1 : Int32} (hf : fX9_readChair_b84 σ x1 = some (r, σf)) : ∀ (H : Heap) (locs : List Loc) (ls : Array Slot), mR G cI cZ o σ H → va_S (mA o) s.heap H locs → lv_has ls 3 [(0, .ref o), (1, .int x1)] → W p l e rmX9_readChair s m args below meth c H locs 0 0 (MQ below (mQi G cI cZ o r σf) args s 0 0 (mA o)) (F0 m 84 ls []) := by
  intro H locs ls hR hS hl
  refine lv_aload_n E.hx E.hb dX9_readChair_84 rfl (lv_at hl 0 rfl) ?_
  refine lv_iload_n E.hx E.hb dX9_readChair_85 rfl (lv_at hl 1 rfl) ?_
  refine lv_if_ne (tgt := 93) E.hx E.hb dX9_readChair_86 (by decide) (fun c1 => ?_) (fun c1 => ?_)
  · have hf := it_f hf c1
    refine lv_iconst (v := 3) E.hx E.hb dX9_readChair_93 (by decide) ?_
    exact wX9_readChair_b94 E  hf _ _ _ hR hS (lv_sub hl [] rfl)
  · have hf := it_t hf c1
    refine lv_iconst (v := 1) E.hx E.hb dX9_readChair_89 (by decide) ?_
    refine lv_goto (tgt := 94) E.hx E.hb dX9_readChair_90 (by decide) ?_
    exact wX9_readChair_b94 E  hf _ _ _ hR hS (lv_sub hl [] rfl)
def fX9_readChair_b66  (σ : MS) (s0 : Int32) : Option (Int32 × MS) :=
  (rd (σ 7) 41 2).bind fun v1 =>
  if s0 = 0 then (fX9_readChair_b84 σ s0) else (if v1 = 6 then (fX9_readChair_b84 σ s0) else ((fX9_nextToken σ).bind fun σ4 =>
  (mwr σ4 7 41 (5 + v1) s0).bind fun σ5 =>
  (rd (σ5 7) 41 2).bind fun v6 =>
  (mwr σ5 7 41 2 (v6 + 1)).bind fun σ7 =>
  (fX9_takesNumber σ7 0 60 (11 + v1) 44).bind fun (v9, σ8) =>
  if v9 = 0 then (some (0, σ8)) else ((fX9_takesNumber σ8 0 9 (17 + v1) 44).bind fun (v12, σ11) =>
  if v12 = 0 then (some (0, σ11)) else ((fX9_takesNumber σ11 0 3 (23 + v1) 59).bind fun (v15, σ14) =>
  if v15 = 0 then (some (0, σ14)) else (some (1, σ14))))))
theorem wX9_readChair_b66 (E : mE p m c cX9_readChair 3 s args G cI cZ meth (some .boolean)) {σ : MS} {s0 : Int32} (hf : fX9_readChair_b66 σ s0 = some (r, σf)) : ∀ (H : Heap) (locs : List Loc) (ls : Array Slot), mR G cI cZ o σ H → va_S (mA o) s.heap H locs → lv_has ls 3 [(0, .ref o)] → W p l e rmX9_readChair s m args below meth c H locs 0 0 (MQ below (mQi G cI cZ o r σf) args s 0 0 (mA o)) (F0 m 66 ls [.int s0]) := by
  intro H locs ls hR hS hl
  refine lv_istore_n (lv' := [(1, .int s0), (0, .ref o)]) E.hx E.hb dX9_readChair_66 rfl hl (by decide) rfl (fun ls hl => ?_)
  refine lv_aload_n E.hx E.hb dX9_readChair_67 rfl (lv_at hl 1 rfl) ?_
  refine mg_read E hR dX9_readChair_68 ?_
  refine lv_iconst (v := 2) E.hx E.hb dX9_readChair_71 (by decide) ?_
  obtain ⟨v1, hv1, hf⟩ := bd_e hf
  refine ml_read E hR hv1 dX9_readChair_72 ?_
  refine lv_istore_n (lv' := [(2, .int v1), (1, .int s0), (0, .ref o)]) E.hx E.hb dX9_readChair_73 rfl hl (by decide) rfl (fun ls hl => ?_)
  refine lv_iload_n E.hx E.hb dX9_readChair_74 rfl (lv_at hl 1 rfl) ?_
  refine lv_if_eq (tgt := 84) E.hx E.hb dX9_readChair_75 (by decide) (fun c2 => ?_) (fun c2 => ?_)
  · have hf := it_t hf c2
    exact wX9_readChair_b84 E  hf _ _ _ hR hS (lv_sub hl [2, 1] rfl)
  · have hf := it_f hf c2
    refine lv_iload_n E.hx E.hb dX9_readChair_78 rfl (lv_at hl 0 rfl) ?_
    refine lv_bipush (v := 6) E.hx E.hb dX9_readChair_79 (by decide) ?_
    refine lv_icmp_ne (tgt := 98) E.hx E.hb dX9_readChair_81 (by decide) (fun c3 => ?_) (fun c3 => ?_)
    · have hf := it_f hf c3
      refine lv_aload_n E.hx E.hb dX9_readChair_98 rfl (lv_at hl 2 rfl) ?_
      obtain ⟨σ4, hσ4, hf⟩ := bd_e hf
      refine mcall_v (rest := []) E hR hS (tX9_nextToken l hσ4) (cwX9_114 E.ht ⟨Nat.le_of_ble_eq_true rfl, Nat.le_of_ble_eq_true rfl⟩) rfl hl.1 rfl (Nat.le_of_ble_eq_true rfl) dX9_readChair_99 ⟨Nat.le_refl 0, Nat.le_refl 0⟩ (fun H locs hR hS => ?_)
      refine lv_aload_n E.hx E.hb dX9_readChair_102 rfl (lv_at hl 2 rfl) ?_
      refine mg_read E hR dX9_readChair_103 ?_
      refine lv_iconst (v := 5) E.hx E.hb dX9_readChair_106 (by decide) ?_
      refine lv_iload_n E.hx E.hb dX9_readChair_107 rfl (lv_at hl 0 rfl) ?_
      refine lv_iadd E.hx E.hb dX9_readChair_108 ?_
      refine lv_iload_n E.hx E.hb dX9_readChair_109 rfl (lv_at hl 1 rfl) ?_
      obtain ⟨σ5, hσ5, hf⟩ := bd_e hf
      refine ms_read E hR hS hσ5 dX9_readChair_110 (fun H locs hR hS => ?_)
      refine lv_aload_n E.hx E.hb dX9_readChair_111 rfl (lv_at hl 2 rfl) ?_
      refine mg_read E hR dX9_readChair_112 ?_
      refine lv_iconst (v := 2) E.hx E.hb dX9_readChair_115 (by decide) ?_
      refine lv_dup2_11 E.hx E.hb dX9_readChair_116 rfl rfl ?_
      obtain ⟨v6, hv6, hf⟩ := bd_e hf
      refine ml_read E hR hv6 dX9_readChair_117 ?_
      refine lv_iconst (v := 1) E.hx E.hb dX9_readChair_118 (by decide) ?_
      refine lv_iadd E.hx E.hb dX9_readChair_119 ?_
      obtain ⟨σ7, hσ7, hf⟩ := bd_e hf
      refine ms_read E hR hS hσ7 dX9_readChair_120 (fun H locs hR hS => ?_)
      refine lv_aload_n E.hx E.hb dX9_readChair_121 rfl (lv_at hl 2 rfl) ?_
      refine lv_iconst (v := 0) E.hx E.hb dX9_readChair_122 (by decide) ?_
      refine lv_bipush (v := 60) E.hx E.hb dX9_readChair_123 (by decide) ?_
      refine lv_bipush (v := 11) E.hx E.hb dX9_readChair_125 (by decide) ?_
      refine lv_iload_n E.hx E.hb dX9_readChair_127 rfl (lv_at hl 0 rfl) ?_
      refine lv_iadd E.hx E.hb dX9_readChair_128 ?_
      refine lv_bipush (v := 44) E.hx E.hb dX9_readChair_129 (by decide) ?_
      obtain ⟨⟨v9, σ8⟩, hv9, hf⟩ := bd_e hf
      refine mcall_i (rest := []) E hR hS (tX9_takesNumber l hv9) (cwX9_120 E.ht ⟨Nat.le_of_ble_eq_true rfl, Nat.le_of_ble_eq_true rfl⟩) rfl hl.1 rfl (Nat.le_of_ble_eq_true rfl) dX9_readChair_131 ⟨Nat.le_refl 0, Nat.le_refl 0⟩ (fun H locs hR hS => ?_)
      refine lv_if_eq (tgt := 172) E.hx E.hb dX9_readChair_134 (by decide) (fun c10 => ?_) (fun c10 => ?_)
      · have hf := it_t hf c10
        refine lv_iconst (v := 0) E.hx E.hb dX9_readChair_172 (by decide) ?_
        obtain ⟨rfl, rfl⟩ := rt_e hf
        exact mret_z E rfl hR hS dX9_readChair_173
      · have hf := it_f hf c10
        refine lv_aload_n E.hx E.hb dX9_readChair_137 rfl (lv_at hl 2 rfl) ?_
        refine lv_iconst (v := 0) E.hx E.hb dX9_readChair_138 (by decide) ?_
        refine lv_bipush (v := 9) E.hx E.hb dX9_readChair_139 (by decide) ?_
        refine lv_bipush (v := 17) E.hx E.hb dX9_readChair_141 (by decide) ?_
        refine lv_iload_n E.hx E.hb dX9_readChair_143 rfl (lv_at hl 0 rfl) ?_
        refine lv_iadd E.hx E.hb dX9_readChair_144 ?_
        refine lv_bipush (v := 44) E.hx E.hb dX9_readChair_145 (by decide) ?_
        obtain ⟨⟨v12, σ11⟩, hv12, hf⟩ := bd_e hf
        refine mcall_i (rest := []) E hR hS (tX9_takesNumber l hv12) (cwX9_120 E.ht ⟨Nat.le_of_ble_eq_true rfl, Nat.le_of_ble_eq_true rfl⟩) rfl hl.1 rfl (Nat.le_of_ble_eq_true rfl) dX9_readChair_147 ⟨Nat.le_refl 0, Nat.le_refl 0⟩ (fun H locs hR hS => ?_)
        refine lv_if_eq (tgt := 172) E.hx E.hb dX9_readChair_150 (by decide) (fun c13 => ?_) (fun c13 => ?_)
        · have hf := it_t hf c13
          refine lv_iconst (v := 0) E.hx E.hb dX9_readChair_172 (by decide) ?_
          obtain ⟨rfl, rfl⟩ := rt_e hf
          exact mret_z E rfl hR hS dX9_readChair_173
        · have hf := it_f hf c13
          refine lv_aload_n E.hx E.hb dX9_readChair_153 rfl (lv_at hl 2 rfl) ?_
          refine lv_iconst (v := 0) E.hx E.hb dX9_readChair_154 (by decide) ?_
          refine lv_iconst (v := 3) E.hx E.hb dX9_readChair_155 (by decide) ?_
          refine lv_bipush (v := 23) E.hx E.hb dX9_readChair_156 (by decide) ?_
          refine lv_iload_n E.hx E.hb dX9_readChair_158 rfl (lv_at hl 0 rfl) ?_
          refine lv_iadd E.hx E.hb dX9_readChair_159 ?_
          refine lv_bipush (v := 59) E.hx E.hb dX9_readChair_160 (by decide) ?_
          obtain ⟨⟨v15, σ14⟩, hv15, hf⟩ := bd_e hf
          refine mcall_i (rest := []) E hR hS (tX9_takesNumber l hv15) (cwX9_120 E.ht ⟨Nat.le_of_ble_eq_true rfl, Nat.le_of_ble_eq_true rfl⟩) rfl hl.1 rfl (Nat.le_of_ble_eq_true rfl) dX9_readChair_162 ⟨Nat.le_refl 0, Nat.le_refl 0⟩ (fun H locs hR hS => ?_)
          refine lv_if_eq (tgt := 172) E.hx E.hb dX9_readChair_165 (by decide) (fun c16 => ?_) (fun c16 => ?_)
          · have hf := it_t hf c16
            refine lv_iconst (v := 0) E.hx E.hb dX9_readChair_172 (by decide) ?_
            obtain ⟨rfl, rfl⟩ := rt_e hf
            exact mret_z E rfl hR hS dX9_readChair_173
          · have hf := it_f hf c16
            refine lv_iconst (v := 1) E.hx E.hb dX9_readChair_168 (by decide) ?_
            refine lv_goto (tgt := 173) E.hx E.hb dX9_readChair_169 (by decide) ?_
            obtain ⟨rfl, rfl⟩ := rt_e hf
            exact mret_z E rfl hR hS dX9_readChair_173
    · have hf := it_t hf c3
      exact wX9_readChair_b84 E  hf _ _ _ hR hS (lv_sub hl [2, 1] rfl)
def fX9_readChair  (σ : MS)  : Option (Int32 × MS) :=
  (fX9_isLetter σ 112).bind fun (v2, σ1) =>
  if v2 = 0 then ((fX9_isLetter σ1 114).bind fun (v5, σ4) =>
  if v5 = 0 then ((fX9_isLetter σ4 99).bind fun (v8, σ7) =>
  if v8 = 0 then ((fX9_isLetter σ7 111).bind fun (v11, σ10) =>
  if v11 = 0 then ((fX9_isLetter σ10 116).bind fun (v14, σ13) =>
  if v14 = 0 then (fX9_readChair_b66 σ13 0) else (fX9_readChair_b66 σ13 5)) else (fX9_readChair_b66 σ10 4)) else (fX9_readChair_b66 σ7 3)) else (fX9_readChair_b66 σ4 2)) else (fX9_readChair_b66 σ1 1)
theorem wX9_readChair_0 (E : mE p m c cX9_readChair 3 s args G cI cZ meth (some .boolean)) {σ : MS}  (hf : fX9_readChair σ = some (r, σf)) : ∀ (H : Heap) (locs : List Loc) (ls : Array Slot), mR G cI cZ o σ H → va_S (mA o) s.heap H locs → lv_has ls 3 [(0, .ref o)] → W p l e rmX9_readChair s m args below meth c H locs 0 0 (MQ below (mQi G cI cZ o r σf) args s 0 0 (mA o)) (F0 m 0 ls []) := by
  intro H locs ls hR hS hl
  refine lv_aload_n E.hx E.hb dX9_readChair_0 rfl (lv_at hl 0 rfl) ?_
  refine lv_bipush (v := 112) E.hx E.hb dX9_readChair_1 (by decide) ?_
  obtain ⟨⟨v2, σ1⟩, hv2, hf⟩ := bd_e hf
  refine mcall_i (rest := []) E hR hS (tX9_isLetter l hv2) (cwX9_108 E.ht ⟨Nat.le_of_ble_eq_true rfl, Nat.le_of_ble_eq_true rfl⟩) rfl hl.1 rfl (Nat.le_of_ble_eq_true rfl) dX9_readChair_3 ⟨Nat.le_refl 0, Nat.le_refl 0⟩ (fun H locs hR hS => ?_)
  refine lv_if_eq (tgt := 13) E.hx E.hb dX9_readChair_6 (by decide) (fun c3 => ?_) (fun c3 => ?_)
  · have hf := it_t hf c3
    refine lv_aload_n E.hx E.hb dX9_readChair_13 rfl (lv_at hl 0 rfl) ?_
    refine lv_bipush (v := 114) E.hx E.hb dX9_readChair_14 (by decide) ?_
    obtain ⟨⟨v5, σ4⟩, hv5, hf⟩ := bd_e hf
    refine mcall_i (rest := []) E hR hS (tX9_isLetter l hv5) (cwX9_108 E.ht ⟨Nat.le_of_ble_eq_true rfl, Nat.le_of_ble_eq_true rfl⟩) rfl hl.1 rfl (Nat.le_of_ble_eq_true rfl) dX9_readChair_16 ⟨Nat.le_refl 0, Nat.le_refl 0⟩ (fun H locs hR hS => ?_)
    refine lv_if_eq (tgt := 26) E.hx E.hb dX9_readChair_19 (by decide) (fun c6 => ?_) (fun c6 => ?_)
    · have hf := it_t hf c6
      refine lv_aload_n E.hx E.hb dX9_readChair_26 rfl (lv_at hl 0 rfl) ?_
      refine lv_bipush (v := 99) E.hx E.hb dX9_readChair_27 (by decide) ?_
      obtain ⟨⟨v8, σ7⟩, hv8, hf⟩ := bd_e hf
      refine mcall_i (rest := []) E hR hS (tX9_isLetter l hv8) (cwX9_108 E.ht ⟨Nat.le_of_ble_eq_true rfl, Nat.le_of_ble_eq_true rfl⟩) rfl hl.1 rfl (Nat.le_of_ble_eq_true rfl) dX9_readChair_29 ⟨Nat.le_refl 0, Nat.le_refl 0⟩ (fun H locs hR hS => ?_)
      refine lv_if_eq (tgt := 39) E.hx E.hb dX9_readChair_32 (by decide) (fun c9 => ?_) (fun c9 => ?_)
      · have hf := it_t hf c9
        refine lv_aload_n E.hx E.hb dX9_readChair_39 rfl (lv_at hl 0 rfl) ?_
        refine lv_bipush (v := 111) E.hx E.hb dX9_readChair_40 (by decide) ?_
        obtain ⟨⟨v11, σ10⟩, hv11, hf⟩ := bd_e hf
        refine mcall_i (rest := []) E hR hS (tX9_isLetter l hv11) (cwX9_108 E.ht ⟨Nat.le_of_ble_eq_true rfl, Nat.le_of_ble_eq_true rfl⟩) rfl hl.1 rfl (Nat.le_of_ble_eq_true rfl) dX9_readChair_42 ⟨Nat.le_refl 0, Nat.le_refl 0⟩ (fun H locs hR hS => ?_)
        refine lv_if_eq (tgt := 52) E.hx E.hb dX9_readChair_45 (by decide) (fun c12 => ?_) (fun c12 => ?_)
        · have hf := it_t hf c12
          refine lv_aload_n E.hx E.hb dX9_readChair_52 rfl (lv_at hl 0 rfl) ?_
          refine lv_bipush (v := 116) E.hx E.hb dX9_readChair_53 (by decide) ?_
          obtain ⟨⟨v14, σ13⟩, hv14, hf⟩ := bd_e hf
          refine mcall_i (rest := []) E hR hS (tX9_isLetter l hv14) (cwX9_108 E.ht ⟨Nat.le_of_ble_eq_true rfl, Nat.le_of_ble_eq_true rfl⟩) rfl hl.1 rfl (Nat.le_of_ble_eq_true rfl) dX9_readChair_55 ⟨Nat.le_refl 0, Nat.le_refl 0⟩ (fun H locs hR hS => ?_)
          refine lv_if_eq (tgt := 65) E.hx E.hb dX9_readChair_58 (by decide) (fun c15 => ?_) (fun c15 => ?_)
          · have hf := it_t hf c15
            refine lv_iconst (v := 0) E.hx E.hb dX9_readChair_65 (by decide) ?_
            exact wX9_readChair_b66 E  hf _ _ _ hR hS (lv_sub hl [0] rfl)
          · have hf := it_f hf c15
            refine lv_iconst (v := 5) E.hx E.hb dX9_readChair_61 (by decide) ?_
            refine lv_goto (tgt := 66) E.hx E.hb dX9_readChair_62 (by decide) ?_
            exact wX9_readChair_b66 E  hf _ _ _ hR hS (lv_sub hl [0] rfl)
        · have hf := it_f hf c12
          refine lv_iconst (v := 4) E.hx E.hb dX9_readChair_48 (by decide) ?_
          refine lv_goto (tgt := 66) E.hx E.hb dX9_readChair_49 (by decide) ?_
          exact wX9_readChair_b66 E  hf _ _ _ hR hS (lv_sub hl [0] rfl)
      · have hf := it_f hf c9
        refine lv_iconst (v := 3) E.hx E.hb dX9_readChair_35 (by decide) ?_
        refine lv_goto (tgt := 66) E.hx E.hb dX9_readChair_36 (by decide) ?_
        exact wX9_readChair_b66 E  hf _ _ _ hR hS (lv_sub hl [0] rfl)
    · have hf := it_f hf c6
      refine lv_iconst (v := 2) E.hx E.hb dX9_readChair_22 (by decide) ?_
      refine lv_goto (tgt := 66) E.hx E.hb dX9_readChair_23 (by decide) ?_
      exact wX9_readChair_b66 E  hf _ _ _ hR hS (lv_sub hl [0] rfl)
  · have hf := it_f hf c3
    refine lv_iconst (v := 1) E.hx E.hb dX9_readChair_9 (by decide) ?_
    refine lv_goto (tgt := 66) E.hx E.hb dX9_readChair_10 (by decide) ?_
    exact wX9_readChair_b66 E  hf _ _ _ hR hS (lv_sub hl [0] rfl)
theorem tX9_readChair (l : Launch) {G : va_G} {cI cZ : ClassId} {o : Nat} {σ σf : MS}  {r : Int32} (hf : fX9_readChair σ  = some (r, σf)) : Met l yX9_readChair (ws_ yX9_readChair cX9_readChair 3 (some .boolean)) rmX9_readChair (mPc G cI cZ o σ [.ref o]) (mQi G cI cZ o r σf) 0 0 (mA o) := by
  refine Met.ofW (cc := cX9_readChair) (maxL := 3) (ret := (some .boolean)) (by decide) rfl ?_
  intro p e s m args below meth c s₁ B hml hv
  obtain ⟨rfl, hR, hK⟩ := hv
  have hts := atoms_spec (ws := (ws_ yX9_readChair cX9_readChair 3 (some .boolean))) B.pre
  rw [lg_entry_eq]
  exact wX9_readChair_0 (E := ⟨⟨B.exec, B.bytes, hml, findClass_of_methodNamed B.named, fun w h => hts w (List.mem_cons_of_mem _ h)⟩, hK, B.returns, B.notSynchronized⟩) hf _ _ _ hR va_S.rf (lv_entry [.ref o] (n := 3) (Nat.le_of_ble_eq_true rfl))

theorem cwX9_124 {R : Room} {s : State} {args : Array Value} (ht : ∀ w ∈ lw_all, w.before args s = true) (hR : rmX9_readChair.frames + 1 ≤ R.frames ∧ 8 + (3 + 11) + rmX9_readChair.locals ≤ R.locals) : CallW R s args RX9 RX9 124 yX9_readChair cX9_readChair 3 (some .boolean) (ws_ yX9_readChair cX9_readChair 3 (some .boolean)) rmX9_readChair 0 0 0 :=
  cwV 0 ht (lw_V q1382 q1384 qs40 q80 q1385) rfl rfl rfl (by decide +kernel) hR
abbrev rmX9_readMinistry : Room := { frames := 6, cells := 0, slots := 0, locals := 124 }
def fX9_readMinistry_b89 (k68 : MS → Int32 → Option (Int32 × MS)) (σ : MS)  : Option (Int32 × MS) :=
  (fX9_readChair σ).bind fun (v2, σ1) =>
  k68 σ1 v2
theorem wX9_readMinistry_b89 (E : mE p m c cX9_readMinistry 2 s args G cI cZ meth (some .boolean)) {k68 : MS → Int32 → Option (Int32 × MS)} (hk68 : ∀ (σ : MS) (x1 : Int32), k68 σ x1 = some (r, σf) → ∀ (H : Heap) (locs : List Loc) (ls : Array Slot), mR G cI cZ o σ H → va_S (mA o) s.heap H locs → lv_has ls 2 [(0, .ref o), (1, .int x1)] → W p l e rmX9_readMinistry s m args below meth c H locs 0 0 (MQ below (mQi G cI cZ o r σf) args s 0 0 (mA o)) (F0 m 68 ls [])) {σ : MS}  (hf : fX9_readMinistry_b89 k68 σ = some (r, σf)) : ∀ (H : Heap) (locs : List Loc) (ls : Array Slot), mR G cI cZ o σ H → va_S (mA o) s.heap H locs → lv_has ls 2 [(0, .ref o)] → W p l e rmX9_readMinistry s m args below meth c H locs 0 0 (MQ below (mQi G cI cZ o r σf) args s 0 0 (mA o)) (F0 m 89 ls []) := by
  intro H locs ls hR hS hl
  refine lv_aload_n E.hx E.hb dX9_readMinistry_89 rfl (lv_at hl 0 rfl) ?_
  obtain ⟨⟨v2, σ1⟩, hv2, hf⟩ := bd_e hf
  refine mcall_i (rest := []) E hR hS (tX9_readChair l hv2) (cwX9_124 E.ht ⟨Nat.le_of_ble_eq_true rfl, Nat.le_of_ble_eq_true rfl⟩) rfl hl.1 rfl (Nat.le_of_ble_eq_true rfl) dX9_readMinistry_90 ⟨Nat.le_refl 0, Nat.le_refl 0⟩ (fun H locs hR hS => ?_)
  refine lv_istore_n (lv' := [(1, .int v2), (0, .ref o)]) E.hx E.hb dX9_readMinistry_93 rfl hl (by decide) rfl (fun ls hl => ?_)
  refine lv_goto (tgt := 68) E.hx E.hb dX9_readMinistry_94 (by decide) ?_
  exact hk68 σ1 _ hf _ _ _ hR hS (lv_sub hl [1, 0] rfl)
def fX9_readMinistry_L68  : Nat → MS → Int32 → Option (Int32 × MS)
  | 0, _, _ => none
  | n + 1, σ, x1 =>
    if x1 = 0 then ((bz x1).bind fun v2 =>
    some (v2, σ)) else (if (σ 0 11) = 3 then ((rd (σ 7) 41 2).bind fun v4 =>
    if v4 = 0 then (fX9_readMinistry_b89 (fX9_readMinistry_L68 n) σ) else ((bz x1).bind fun v6 =>
    some (v6, σ))) else (fX9_readMinistry_b89 (fX9_readMinistry_L68 n) σ))
theorem wX9_readMinistry_L68 (E : mE p m c cX9_readMinistry 2 s args G cI cZ meth (some .boolean)) : ∀ (n : Nat) (σ : MS) (x1 : Int32), fX9_readMinistry_L68 n σ x1 = some (r, σf) → ∀ (H : Heap) (locs : List Loc) (ls : Array Slot), mR G cI cZ o σ H → va_S (mA o) s.heap H locs → lv_has ls 2 [(0, .ref o), (1, .int x1)] → W p l e rmX9_readMinistry s m args below meth c H locs 0 0 (MQ below (mQi G cI cZ o r σf) args s 0 0 (mA o)) (F0 m 68 ls []) := by
  intro n
  induction n with
  | zero =>
    intro σ x1 hf
    have hf : none = some (r, σf) := hf
    cases hf
  | succ n ih =>
    intro σ x1 hf H locs ls hR hS hl
    refine lv_iload_n E.hx E.hb dX9_readMinistry_68 rfl (lv_at hl 1 rfl) ?_
    refine lv_if_eq (tgt := 97) E.hx E.hb dX9_readMinistry_69 (by decide) (fun c1 => ?_) (fun c1 => ?_)
    · have hf := it_t hf c1
      refine lv_iload_n E.hx E.hb dX9_readMinistry_97 rfl (lv_at hl 1 rfl) ?_
      obtain ⟨v2, hv2, hf⟩ := bd_e hf
      obtain ⟨hz, rfl⟩ := bz_e hv2
      obtain ⟨rfl, rfl⟩ := rt_e hf
      exact mret_z E hz hR hS dX9_readMinistry_98
    · have hf := it_f hf c1
      refine lv_aload_n E.hx E.hb dX9_readMinistry_72 rfl (lv_at hl 0 rfl) ?_
      refine mg_token E hR dX9_readMinistry_73 ?_
      refine lv_iconst (v := 3) E.hx E.hb dX9_readMinistry_76 (by decide) ?_
      refine lv_icmp_ne (tgt := 89) E.hx E.hb dX9_readMinistry_77 (by decide) (fun c3 => ?_) (fun c3 => ?_)
      · have hf := it_f hf c3
        exact wX9_readMinistry_b89 E ih hf _ _ _ hR hS (lv_sub hl [0] rfl)
      · have hf := it_t hf c3
        refine lv_aload_n E.hx E.hb dX9_readMinistry_80 rfl (lv_at hl 0 rfl) ?_
        refine mg_read E hR dX9_readMinistry_81 ?_
        refine lv_iconst (v := 2) E.hx E.hb dX9_readMinistry_84 (by decide) ?_
        obtain ⟨v4, hv4, hf⟩ := bd_e hf
        refine ml_read E hR hv4 dX9_readMinistry_85 ?_
        refine lv_if_ne (tgt := 97) E.hx E.hb dX9_readMinistry_86 (by decide) (fun c5 => ?_) (fun c5 => ?_)
        · have hf := it_f hf c5
          refine lv_iload_n E.hx E.hb dX9_readMinistry_97 rfl (lv_at hl 1 rfl) ?_
          obtain ⟨v6, hv6, hf⟩ := bd_e hf
          obtain ⟨hz, rfl⟩ := bz_e hv6
          obtain ⟨rfl, rfl⟩ := rt_e hf
          exact mret_z E hz hR hS dX9_readMinistry_98
        · have hf := it_t hf c5
          exact wX9_readMinistry_b89 E ih hf _ _ _ hR hS (lv_sub hl [0] rfl)
def fX9_readMinistry_L7  : Nat → MS → Int32 → Option (Int32 × MS)
  | 0, _, _ => none
  | n + 1, σ, x1 =>
    if 41 ≤ x1 then ((fX9_nextToken σ).bind fun σ2 =>
    (fX9_takes σ2 109).bind fun (v4, σ3) =>
    if v4 = 0 then (some (0, σ3)) else ((fX9_takesNumber σ3 0 5 0 44).bind fun (v7, σ6) =>
    if v7 = 0 then (some (0, σ6)) else ((fX9_takesNumber σ6 1 9 1 59).bind fun (v10, σ9) =>
    if v10 = 0 then (some (0, σ9)) else (fX9_readMinistry_L68 2000 σ9 1)))) else ((mwr σ 7 41 x1 0).bind fun σ12 =>
    (fX9_readMinistry_L7 n) σ12 (x1 + 1))
theorem wX9_readMinistry_L7 (E : mE p m c cX9_readMinistry 2 s args G cI cZ meth (some .boolean)) : ∀ (n : Nat) (σ : MS) (x1 : Int32), fX9_readMinistry_L7 n σ x1 = some (r, σf) → ∀ (H : Heap) (locs : List Loc) (ls : Array Slot), mR G cI cZ o σ H → va_S (mA o) s.heap H locs → lv_has ls 2 [(0, .ref o), (1, .int x1)] → W p l e rmX9_readMinistry s m args below meth c H locs 0 0 (MQ below (mQi G cI cZ o r σf) args s 0 0 (mA o)) (F0 m 7 ls []) := by
  intro n
  induction n with
  | zero =>
    intro σ x1 hf
    have hf : none = some (r, σf) := hf
    cases hf
  | succ n ih =>
    intro σ x1 hf H locs ls hR hS hl
    refine lv_iload_n E.hx E.hb dX9_readMinistry_7 rfl (lv_at hl 1 rfl) ?_
    refine lv_bipush (v := 41) E.hx E.hb dX9_readMinistry_8 (by decide) ?_
    refine lv_icmp_ge (tgt := 26) E.hx E.hb dX9_readMinistry_10 (by decide) (fun c1 => ?_) (fun c1 => ?_)
    · have hf := it_t hf c1
      refine lv_aload_n E.hx E.hb dX9_readMinistry_26 rfl (lv_at hl 0 rfl) ?_
      obtain ⟨σ2, hσ2, hf⟩ := bd_e hf
      refine mcall_v (rest := []) E hR hS (tX9_nextToken l hσ2) (cwX9_114 E.ht ⟨Nat.le_of_ble_eq_true rfl, Nat.le_of_ble_eq_true rfl⟩) rfl hl.1 rfl (Nat.le_of_ble_eq_true rfl) dX9_readMinistry_27 ⟨Nat.le_refl 0, Nat.le_refl 0⟩ (fun H locs hR hS => ?_)
      refine lv_aload_n E.hx E.hb dX9_readMinistry_30 rfl (lv_at hl 0 rfl) ?_
      refine lv_bipush (v := 109) E.hx E.hb dX9_readMinistry_31 (by decide) ?_
      obtain ⟨⟨v4, σ3⟩, hv4, hf⟩ := bd_e hf
      refine mcall_i (rest := []) E hR hS (tX9_takes l hv4) (cwX9_117 E.ht ⟨Nat.le_of_ble_eq_true rfl, Nat.le_of_ble_eq_true rfl⟩) rfl hl.1 rfl (Nat.le_of_ble_eq_true rfl) dX9_readMinistry_33 ⟨Nat.le_refl 0, Nat.le_refl 0⟩ (fun H locs hR hS => ?_)
      refine lv_if_eq (tgt := 64) E.hx E.hb dX9_readMinistry_36 (by decide) (fun c5 => ?_) (fun c5 => ?_)
      · have hf := it_t hf c5
        refine lv_iconst (v := 0) E.hx E.hb dX9_readMinistry_64 (by decide) ?_
        obtain ⟨rfl, rfl⟩ := rt_e hf
        exact mret_z E rfl hR hS dX9_readMinistry_65
      · have hf := it_f hf c5
        refine lv_aload_n E.hx E.hb dX9_readMinistry_39 rfl (lv_at hl 0 rfl) ?_
        refine lv_iconst (v := 0) E.hx E.hb dX9_readMinistry_40 (by decide) ?_
        refine lv_iconst (v := 5) E.hx E.hb dX9_readMinistry_41 (by decide) ?_
        refine lv_iconst (v := 0) E.hx E.hb dX9_readMinistry_42 (by decide) ?_
        refine lv_bipush (v := 44) E.hx E.hb dX9_readMinistry_43 (by decide) ?_
        obtain ⟨⟨v7, σ6⟩, hv7, hf⟩ := bd_e hf
        refine mcall_i (rest := []) E hR hS (tX9_takesNumber l hv7) (cwX9_120 E.ht ⟨Nat.le_of_ble_eq_true rfl, Nat.le_of_ble_eq_true rfl⟩) rfl hl.1 rfl (Nat.le_of_ble_eq_true rfl) dX9_readMinistry_45 ⟨Nat.le_refl 0, Nat.le_refl 0⟩ (fun H locs hR hS => ?_)
        refine lv_if_eq (tgt := 64) E.hx E.hb dX9_readMinistry_48 (by decide) (fun c8 => ?_) (fun c8 => ?_)
        · have hf := it_t hf c8
          refine lv_iconst (v := 0) E.hx E.hb dX9_readMinistry_64 (by decide) ?_
          obtain ⟨rfl, rfl⟩ := rt_e hf
          exact mret_z E rfl hR hS dX9_readMinistry_65
        · have hf := it_f hf c8
          refine lv_aload_n E.hx E.hb dX9_readMinistry_51 rfl (lv_at hl 0 rfl) ?_
          refine lv_iconst (v := 1) E.hx E.hb dX9_readMinistry_52 (by decide) ?_
          refine lv_bipush (v := 9) E.hx E.hb dX9_readMinistry_53 (by decide) ?_
          refine lv_iconst (v := 1) E.hx E.hb dX9_readMinistry_55 (by decide) ?_
          refine lv_bipush (v := 59) E.hx E.hb dX9_readMinistry_56 (by decide) ?_
          obtain ⟨⟨v10, σ9⟩, hv10, hf⟩ := bd_e hf
          refine mcall_i (rest := []) E hR hS (tX9_takesNumber l hv10) (cwX9_120 E.ht ⟨Nat.le_of_ble_eq_true rfl, Nat.le_of_ble_eq_true rfl⟩) rfl hl.1 rfl (Nat.le_of_ble_eq_true rfl) dX9_readMinistry_58 ⟨Nat.le_refl 0, Nat.le_refl 0⟩ (fun H locs hR hS => ?_)
          refine lv_if_ne (tgt := 66) E.hx E.hb dX9_readMinistry_61 (by decide) (fun c11 => ?_) (fun c11 => ?_)
          · have hf := it_f hf c11
            refine lv_iconst (v := 1) E.hx E.hb dX9_readMinistry_66 (by decide) ?_
            refine lv_istore_n (lv' := [(1, .int 1), (0, .ref o)]) E.hx E.hb dX9_readMinistry_67 rfl hl (by decide) rfl (fun ls hl => ?_)
            exact wX9_readMinistry_L68 E  2000 σ9 _ hf _ _ _ hR hS (lv_sub hl [1, 0] rfl)
          · have hf := it_t hf c11
            refine lv_iconst (v := 0) E.hx E.hb dX9_readMinistry_64 (by decide) ?_
            obtain ⟨rfl, rfl⟩ := rt_e hf
            exact mret_z E rfl hR hS dX9_readMinistry_65
    · have hf := it_f hf c1
      refine lv_aload_n E.hx E.hb dX9_readMinistry_13 rfl (lv_at hl 0 rfl) ?_
      refine mg_read E hR dX9_readMinistry_14 ?_
      refine lv_iload_n E.hx E.hb dX9_readMinistry_17 rfl (lv_at hl 1 rfl) ?_
      refine lv_iconst (v := 0) E.hx E.hb dX9_readMinistry_18 (by decide) ?_
      obtain ⟨σ12, hσ12, hf⟩ := bd_e hf
      refine ms_read E hR hS hσ12 dX9_readMinistry_19 (fun H locs hR hS => ?_)
      refine lv_iinc (v := (x1 + 1)) (lv' := [(1, .int (x1 + 1)), (0, .ref o)]) E.hx E.hb dX9_readMinistry_20 hl (k := 1) rfl rfl (by decide) rfl (fun ls hl => ?_)
      refine lv_goto (tgt := 7) E.hx E.hb dX9_readMinistry_23 (by decide) ?_
      exact ih σ12 _ hf _ _ _ hR hS (lv_sub hl [1, 0] rfl)
def fX9_readMinistry  (σ : MS)  : Option (Int32 × MS) :=
  (some (up2 σ 0 10 0)).bind fun σ1 =>
  fX9_readMinistry_L7 2000 σ1 0
theorem wX9_readMinistry_0 (E : mE p m c cX9_readMinistry 2 s args G cI cZ meth (some .boolean)) {σ : MS}  (hf : fX9_readMinistry σ = some (r, σf)) : ∀ (H : Heap) (locs : List Loc) (ls : Array Slot), mR G cI cZ o σ H → va_S (mA o) s.heap H locs → lv_has ls 2 [(0, .ref o)] → W p l e rmX9_readMinistry s m args below meth c H locs 0 0 (MQ below (mQi G cI cZ o r σf) args s 0 0 (mA o)) (F0 m 0 ls []) := by
  intro H locs ls hR hS hl
  refine lv_aload_n E.hx E.hb dX9_readMinistry_0 rfl (lv_at hl 0 rfl) ?_
  refine lv_iconst (v := 0) E.hx E.hb dX9_readMinistry_1 (by decide) ?_
  obtain ⟨σ1, hσ1, hf⟩ := bd_e hf
  refine mp_place E hR hS dX9_readMinistry_2 (fun H locs hR hS => ?_)
  rw [Option.some.inj hσ1] at hR
  refine lv_iconst (v := 0) E.hx E.hb dX9_readMinistry_5 (by decide) ?_
  refine lv_istore_n (lv' := [(1, .int 0), (0, .ref o)]) E.hx E.hb dX9_readMinistry_6 rfl hl (by decide) rfl (fun ls hl => ?_)
  exact wX9_readMinistry_L7 E  2000 σ1 _ hf _ _ _ hR hS (lv_sub hl [1, 0] rfl)
theorem tX9_readMinistry (l : Launch) {G : va_G} {cI cZ : ClassId} {o : Nat} {σ σf : MS}  {r : Int32} (hf : fX9_readMinistry σ  = some (r, σf)) : Met l yX9_readMinistry (ws_ yX9_readMinistry cX9_readMinistry 2 (some .boolean)) rmX9_readMinistry (mPc G cI cZ o σ [.ref o]) (mQi G cI cZ o r σf) 0 0 (mA o) := by
  refine Met.ofW (cc := cX9_readMinistry) (maxL := 2) (ret := (some .boolean)) (by decide) rfl ?_
  intro p e s m args below meth c s₁ B hml hv
  obtain ⟨rfl, hR, hK⟩ := hv
  have hts := atoms_spec (ws := (ws_ yX9_readMinistry cX9_readMinistry 2 (some .boolean))) B.pre
  rw [lg_entry_eq]
  exact wX9_readMinistry_0 (E := ⟨⟨B.exec, B.bytes, hml, findClass_of_methodNamed B.named, fun w h => hts w (List.mem_cons_of_mem _ h)⟩, hK, B.returns, B.notSynchronized⟩) hf _ _ _ hR va_S.rf (lv_entry [.ref o] (n := 2) (Nat.le_of_ble_eq_true rfl))

theorem cwX9_128 {R : Room} {s : State} {args : Array Value} (ht : ∀ w ∈ lw_all, w.before args s = true) (hR : rmX9_readMinistry.frames + 1 ≤ R.frames ∧ 8 + (2 + 11) + rmX9_readMinistry.locals ≤ R.locals) : CallW R s args RX9 RX9 128 yX9_readMinistry cX9_readMinistry 2 (some .boolean) (ws_ yX9_readMinistry cX9_readMinistry 2 (some .boolean)) rmX9_readMinistry 0 0 0 :=
  cwV 0 ht (lw_V q1354 q1356 qs34 q80 q1357) rfl rfl rfl (by decide +kernel) hR
abbrev rmX9_ministry : Room := { frames := 7, cells := 0, slots := 0, locals := 145 }
def fX9_ministry_L32  : Nat → MS → Int32 → Option (Int32 × MS)
  | 0, _, _ => none
  | n + 1, σ, x2 =>
    if 41 ≤ x2 then ((some (up2 σ 0 4 1)).bind fun σ2 =>
    (some (up2 σ2 0 19 0)).bind fun σ3 =>
    (rd (σ3 4) 41 2).bind fun v4 =>
    some (v4, σ3)) else ((rd (σ 7) 41 x2).bind fun v5 =>
    (mwr σ 4 41 x2 v5).bind fun σ6 =>
    (fX9_ministry_L32 n) σ6 (x2 + 1))
theorem wX9_ministry_L32 (E : mE p m c cX9_ministry 3 s args G cI cZ meth (some .int)) : ∀ (n : Nat) (σ : MS) (x2 : Int32), fX9_ministry_L32 n σ x2 = some (r, σf) → ∀ (H : Heap) (locs : List Loc) (ls : Array Slot), mR G cI cZ o σ H → va_S (mA o) s.heap H locs → lv_has ls 3 [(0, .ref o), (2, .int x2)] → W p l e rmX9_ministry s m args below meth c H locs 0 0 (MQ below (mQi G cI cZ o r σf) args s 0 0 (mA o)) (F0 m 32 ls []) := by
  intro n
  induction n with
  | zero =>
    intro σ x2 hf
    have hf : none = some (r, σf) := hf
    cases hf
  | succ n ih =>
    intro σ x2 hf H locs ls hR hS hl
    refine lv_iload_n E.hx E.hb dX9_ministry_32 rfl (lv_at hl 1 rfl) ?_
    refine lv_bipush (v := 41) E.hx E.hb dX9_ministry_33 (by decide) ?_
    refine lv_icmp_ge (tgt := 56) E.hx E.hb dX9_ministry_35 (by decide) (fun c1 => ?_) (fun c1 => ?_)
    · have hf := it_t hf c1
      refine lv_aload_n E.hx E.hb dX9_ministry_56 rfl (lv_at hl 0 rfl) ?_
      refine lv_iconst (v := 1) E.hx E.hb dX9_ministry_57 (by decide) ?_
      obtain ⟨σ2, hσ2, hf⟩ := bd_e hf
      refine mp_isThere E hR hS dX9_ministry_58 (fun H locs hR hS => ?_)
      rw [Option.some.inj hσ2] at hR
      refine lv_aload_n E.hx E.hb dX9_ministry_61 rfl (lv_at hl 0 rfl) ?_
      refine lv_iconst (v := 0) E.hx E.hb dX9_ministry_62 (by decide) ?_
      obtain ⟨σ3, hσ3, hf⟩ := bd_e hf
      refine mp_actMany E hR hS dX9_ministry_63 (fun H locs hR hS => ?_)
      rw [Option.some.inj hσ3] at hR
      refine lv_aload_n E.hx E.hb dX9_ministry_66 rfl (lv_at hl 0 rfl) ?_
      refine mg_st E hR dX9_ministry_67 ?_
      refine lv_iconst (v := 2) E.hx E.hb dX9_ministry_70 (by decide) ?_
      obtain ⟨v4, hv4, hf⟩ := bd_e hf
      refine ml_st E hR hv4 dX9_ministry_71 ?_
      obtain ⟨rfl, rfl⟩ := rt_e hf
      exact mret_i E hR hS dX9_ministry_72
    · have hf := it_f hf c1
      refine lv_aload_n E.hx E.hb dX9_ministry_38 rfl (lv_at hl 0 rfl) ?_
      refine mg_st E hR dX9_ministry_39 ?_
      refine lv_iload_n E.hx E.hb dX9_ministry_42 rfl (lv_at hl 1 rfl) ?_
      refine lv_aload_n E.hx E.hb dX9_ministry_43 rfl (lv_at hl 0 rfl) ?_
      refine mg_read E hR dX9_ministry_44 ?_
      refine lv_iload_n E.hx E.hb dX9_ministry_47 rfl (lv_at hl 1 rfl) ?_
      obtain ⟨v5, hv5, hf⟩ := bd_e hf
      refine ml_read E hR hv5 dX9_ministry_48 ?_
      obtain ⟨σ6, hσ6, hf⟩ := bd_e hf
      refine ms_st E hR hS hσ6 dX9_ministry_49 (fun H locs hR hS => ?_)
      refine lv_iinc (v := (x2 + 1)) (lv' := [(2, .int (x2 + 1)), (0, .ref o)]) E.hx E.hb dX9_ministry_50 hl (k := 1) rfl rfl (by decide) rfl (fun ls hl => ?_)
      refine lv_goto (tgt := 32) E.hx E.hb dX9_ministry_53 (by decide) ?_
      exact ih σ6 _ hf _ _ _ hR hS (lv_sub hl [1, 0] rfl)
def fX9_ministry  (σ : MS)  : Option (Int32 × MS) :=
  (fX9_readMinistry σ).bind fun (v2, σ1) =>
  (some (up2 σ1 0 8 0)).bind fun σ3 =>
  if v2 = 0 then ((some (up2 σ3 0 9 (σ3 0 14))).bind fun σ5 =>
  some (((-1000100) - (σ5 0 13)), σ5)) else (fX9_ministry_L32 2000 σ3 0)
theorem wX9_ministry_0 (E : mE p m c cX9_ministry 3 s args G cI cZ meth (some .int)) {σ : MS}  (hf : fX9_ministry σ = some (r, σf)) : ∀ (H : Heap) (locs : List Loc) (ls : Array Slot), mR G cI cZ o σ H → va_S (mA o) s.heap H locs → lv_has ls 3 [(0, .ref o)] → W p l e rmX9_ministry s m args below meth c H locs 0 0 (MQ below (mQi G cI cZ o r σf) args s 0 0 (mA o)) (F0 m 0 ls []) := by
  intro H locs ls hR hS hl
  refine lv_aload_n E.hx E.hb dX9_ministry_0 rfl (lv_at hl 0 rfl) ?_
  obtain ⟨⟨v2, σ1⟩, hv2, hf⟩ := bd_e hf
  refine mcall_i (rest := []) E hR hS (tX9_readMinistry l hv2) (cwX9_128 E.ht ⟨Nat.le_of_ble_eq_true rfl, Nat.le_of_ble_eq_true rfl⟩) rfl hl.1 rfl (Nat.le_of_ble_eq_true rfl) dX9_ministry_1 ⟨Nat.le_refl 0, Nat.le_refl 0⟩ (fun H locs hR hS => ?_)
  refine lv_istore_n (lv' := [(1, .int v2), (0, .ref o)]) E.hx E.hb dX9_ministry_4 rfl hl (by decide) rfl (fun ls hl => ?_)
  refine lv_aload_n E.hx E.hb dX9_ministry_5 rfl (lv_at hl 1 rfl) ?_
  refine lv_iconst (v := 0) E.hx E.hb dX9_ministry_6 (by decide) ?_
  obtain ⟨σ3, hσ3, hf⟩ := bd_e hf
  refine mp_bytes E hR hS dX9_ministry_7 (fun H locs hR hS => ?_)
  rw [Option.some.inj hσ3] at hR
  refine lv_iload_n E.hx E.hb dX9_ministry_10 rfl (lv_at hl 0 rfl) ?_
  refine lv_if_ne (tgt := 30) E.hx E.hb dX9_ministry_11 (by decide) (fun c4 => ?_) (fun c4 => ?_)
  · have hf := it_f hf c4
    refine lv_iconst (v := 0) E.hx E.hb dX9_ministry_30 (by decide) ?_
    refine lv_istore_n (lv' := [(2, .int 0), (1, .int v2), (0, .ref o)]) E.hx E.hb dX9_ministry_31 rfl hl (by decide) rfl (fun ls hl => ?_)
    exact wX9_ministry_L32 E  2000 σ3 _ hf _ _ _ hR hS (lv_sub hl [2, 0] rfl)
  · have hf := it_t hf c4
    refine lv_aload_n E.hx E.hb dX9_ministry_14 rfl (lv_at hl 1 rfl) ?_
    refine lv_aload_n E.hx E.hb dX9_ministry_15 rfl (lv_at hl 1 rfl) ?_
    refine mg_wrong E hR dX9_ministry_16 ?_
    obtain ⟨σ5, hσ5, hf⟩ := bd_e hf
    refine mp_latest E hR hS dX9_ministry_19 (fun H locs hR hS => ?_)
    rw [Option.some.inj hσ5] at hR
    refine lv_ldc (v := (-1000100)) E.hx E.hb E.ho (E.ht _ q1386) dX9_ministry_22 ?_
    refine lv_aload_n E.hx E.hb dX9_ministry_24 rfl (lv_at hl 1 rfl) ?_
    refine mg_begins E hR dX9_ministry_25 ?_
    refine lv_isub E.hx E.hb dX9_ministry_28 ?_
    obtain ⟨rfl, rfl⟩ := rt_e hf
    exact mret_i E hR hS dX9_ministry_29
theorem tX9_ministry (l : Launch) {G : va_G} {cI cZ : ClassId} {o : Nat} {σ σf : MS}  {r : Int32} (hf : fX9_ministry σ  = some (r, σf)) : Met l yX9_ministry (ws_ yX9_ministry cX9_ministry 3 (some .int)) rmX9_ministry (mPc G cI cZ o σ [.ref o]) (mQi G cI cZ o r σf) 0 0 (mA o) := by
  refine Met.ofW (cc := cX9_ministry) (maxL := 3) (ret := (some .int)) (by decide) rfl ?_
  intro p e s m args below meth c s₁ B hml hv
  obtain ⟨rfl, hR, hK⟩ := hv
  have hts := atoms_spec (ws := (ws_ yX9_ministry cX9_ministry 3 (some .int))) B.pre
  rw [lg_entry_eq]
  exact wX9_ministry_0 (E := ⟨⟨B.exec, B.bytes, hml, findClass_of_methodNamed B.named, fun w h => hts w (List.mem_cons_of_mem _ h)⟩, hK, B.returns, B.notSynchronized⟩) hf _ _ _ hR va_S.rf (lv_entry [.ref o] (n := 3) (Nat.le_of_ble_eq_true rfl))

abbrev rmX9_fault : Room := { frames := 1, cells := 0, slots := 0, locals := 12 }
def fX9_fault  (σ : MS)  : Option (Int32 × MS) :=
  some ((σ 0 9), σ)
theorem wX9_fault_0 (E : mE p m c cX9_fault 1 s args G cI cZ meth (some .int)) {σ : MS}  (hf : fX9_fault σ = some (r, σf)) : ∀ (H : Heap) (locs : List Loc) (ls : Array Slot), mR G cI cZ o σ H → va_S (mA o) s.heap H locs → lv_has ls 1 [(0, .ref o)] → W p l e rmX9_fault s m args below meth c H locs 0 0 (MQ below (mQi G cI cZ o r σf) args s 0 0 (mA o)) (F0 m 0 ls []) := by
  intro H locs ls hR hS hl
  refine lv_aload_n E.hx E.hb dX9_fault_0 rfl (lv_at hl 0 rfl) ?_
  refine mg_latest E hR dX9_fault_1 ?_
  obtain ⟨rfl, rfl⟩ := rt_e hf
  exact mret_i E hR hS dX9_fault_4
theorem tX9_fault (l : Launch) {G : va_G} {cI cZ : ClassId} {o : Nat} {σ σf : MS}  {r : Int32} (hf : fX9_fault σ  = some (r, σf)) : Met l yX9_fault (ws_ yX9_fault cX9_fault 1 (some .int)) rmX9_fault (mPc G cI cZ o σ [.ref o]) (mQi G cI cZ o r σf) 0 0 (mA o) := by
  refine Met.ofW (cc := cX9_fault) (maxL := 1) (ret := (some .int)) (by decide) rfl ?_
  intro p e s m args below meth c s₁ B hml hv
  obtain ⟨rfl, hR, hK⟩ := hv
  have hts := atoms_spec (ws := (ws_ yX9_fault cX9_fault 1 (some .int))) B.pre
  rw [lg_entry_eq]
  exact wX9_fault_0 (E := ⟨⟨B.exec, B.bytes, hml, findClass_of_methodNamed B.named, fun w h => hts w (List.mem_cons_of_mem _ h)⟩, hK, B.returns, B.notSynchronized⟩) hf _ _ _ hR va_S.rf (lv_entry [.ref o] (n := 1) (Nat.le_of_ble_eq_true rfl))

abbrev rmX9_undo : Room := { frames := 1, cells := 0, slots := 0, locals := 12 }
def fX9_undo_L22  : Nat → MS → Int32 → Option (Int32 × MS)
  | 0, _, _ => none
  | n + 1, σ, x1 =>
    if 41 ≤ x1 then (some ((σ 0 19), σ)) else ((rd (σ 9) 984 ((41 * (σ 0 19)) + x1)).bind fun v2 =>
    (mwr σ 4 41 x1 v2).bind fun σ3 =>
    (fX9_undo_L22 n) σ3 (x1 + 1))
theorem wX9_undo_L22 (E : mE p m c cX9_undo 2 s args G cI cZ meth (some .int)) : ∀ (n : Nat) (σ : MS) (x1 : Int32), fX9_undo_L22 n σ x1 = some (r, σf) → ∀ (H : Heap) (locs : List Loc) (ls : Array Slot), mR G cI cZ o σ H → va_S (mA o) s.heap H locs → lv_has ls 2 [(0, .ref o), (1, .int x1)] → W p l e rmX9_undo s m args below meth c H locs 0 0 (MQ below (mQi G cI cZ o r σf) args s 0 0 (mA o)) (F0 m 22 ls []) := by
  intro n
  induction n with
  | zero =>
    intro σ x1 hf
    have hf : none = some (r, σf) := hf
    cases hf
  | succ n ih =>
    intro σ x1 hf H locs ls hR hS hl
    refine lv_iload_n E.hx E.hb dX9_undo_22 rfl (lv_at hl 1 rfl) ?_
    refine lv_bipush (v := 41) E.hx E.hb dX9_undo_23 (by decide) ?_
    refine lv_icmp_ge (tgt := 54) E.hx E.hb dX9_undo_25 (by decide) (fun c1 => ?_) (fun c1 => ?_)
    · have hf := it_t hf c1
      refine lv_aload_n E.hx E.hb dX9_undo_54 rfl (lv_at hl 0 rfl) ?_
      refine mg_actMany E hR dX9_undo_55 ?_
      obtain ⟨rfl, rfl⟩ := rt_e hf
      exact mret_i E hR hS dX9_undo_58
    · have hf := it_f hf c1
      refine lv_aload_n E.hx E.hb dX9_undo_28 rfl (lv_at hl 0 rfl) ?_
      refine mg_st E hR dX9_undo_29 ?_
      refine lv_iload_n E.hx E.hb dX9_undo_32 rfl (lv_at hl 1 rfl) ?_
      refine lv_aload_n E.hx E.hb dX9_undo_33 rfl (lv_at hl 0 rfl) ?_
      refine mg_acts E hR dX9_undo_34 ?_
      refine lv_bipush (v := 41) E.hx E.hb dX9_undo_37 (by decide) ?_
      refine lv_aload_n E.hx E.hb dX9_undo_39 rfl (lv_at hl 0 rfl) ?_
      refine mg_actMany E hR dX9_undo_40 ?_
      refine lv_imul E.hx E.hb dX9_undo_43 ?_
      refine lv_iload_n E.hx E.hb dX9_undo_44 rfl (lv_at hl 1 rfl) ?_
      refine lv_iadd E.hx E.hb dX9_undo_45 ?_
      obtain ⟨v2, hv2, hf⟩ := bd_e hf
      refine ml_acts E hR hv2 dX9_undo_46 ?_
      obtain ⟨σ3, hσ3, hf⟩ := bd_e hf
      refine ms_st E hR hS hσ3 dX9_undo_47 (fun H locs hR hS => ?_)
      refine lv_iinc (v := (x1 + 1)) (lv' := [(1, .int (x1 + 1)), (0, .ref o)]) E.hx E.hb dX9_undo_48 hl (k := 1) rfl rfl (by decide) rfl (fun ls hl => ?_)
      refine lv_goto (tgt := 22) E.hx E.hb dX9_undo_51 (by decide) ?_
      exact ih σ3 _ hf _ _ _ hR hS (lv_sub hl [1, 0] rfl)
def fX9_undo  (σ : MS)  : Option (Int32 × MS) :=
  if (σ 0 19) = 0 then (some ((-1000002), σ)) else ((some (up2 σ 0 19 ((σ 0 19) - 1))).bind fun σ2 =>
  fX9_undo_L22 2000 σ2 0)
theorem wX9_undo_0 (E : mE p m c cX9_undo 2 s args G cI cZ meth (some .int)) {σ : MS}  (hf : fX9_undo σ = some (r, σf)) : ∀ (H : Heap) (locs : List Loc) (ls : Array Slot), mR G cI cZ o σ H → va_S (mA o) s.heap H locs → lv_has ls 2 [(0, .ref o)] → W p l e rmX9_undo s m args below meth c H locs 0 0 (MQ below (mQi G cI cZ o r σf) args s 0 0 (mA o)) (F0 m 0 ls []) := by
  intro H locs ls hR hS hl
  refine lv_aload_n E.hx E.hb dX9_undo_0 rfl (lv_at hl 0 rfl) ?_
  refine mg_actMany E hR dX9_undo_1 ?_
  refine lv_if_ne (tgt := 10) E.hx E.hb dX9_undo_4 (by decide) (fun c1 => ?_) (fun c1 => ?_)
  · have hf := it_f hf c1
    refine lv_aload_n E.hx E.hb dX9_undo_10 rfl (lv_at hl 0 rfl) ?_
    refine lv_dup E.hx E.hb dX9_undo_11 rfl ?_
    refine mg_actMany E hR dX9_undo_12 ?_
    refine lv_iconst (v := 1) E.hx E.hb dX9_undo_15 (by decide) ?_
    refine lv_isub E.hx E.hb dX9_undo_16 ?_
    obtain ⟨σ2, hσ2, hf⟩ := bd_e hf
    refine mp_actMany E hR hS dX9_undo_17 (fun H locs hR hS => ?_)
    rw [Option.some.inj hσ2] at hR
    refine lv_iconst (v := 0) E.hx E.hb dX9_undo_20 (by decide) ?_
    refine lv_istore_n (lv' := [(1, .int 0), (0, .ref o)]) E.hx E.hb dX9_undo_21 rfl hl (by decide) rfl (fun ls hl => ?_)
    exact wX9_undo_L22 E  2000 σ2 _ hf _ _ _ hR hS (lv_sub hl [1, 0] rfl)
  · have hf := it_t hf c1
    refine lv_ldc (v := (-1000002)) E.hx E.hb E.ho (E.ht _ q1395) dX9_undo_7 ?_
    obtain ⟨rfl, rfl⟩ := rt_e hf
    exact mret_i E hR hS dX9_undo_9
theorem tX9_undo (l : Launch) {G : va_G} {cI cZ : ClassId} {o : Nat} {σ σf : MS}  {r : Int32} (hf : fX9_undo σ  = some (r, σf)) : Met l yX9_undo (ws_ yX9_undo cX9_undo 2 (some .int)) rmX9_undo (mPc G cI cZ o σ [.ref o]) (mQi G cI cZ o r σf) 0 0 (mA o) := by
  refine Met.ofW (cc := cX9_undo) (maxL := 2) (ret := (some .int)) (by decide) rfl ?_
  intro p e s m args below meth c s₁ B hml hv
  obtain ⟨rfl, hR, hK⟩ := hv
  have hts := atoms_spec (ws := (ws_ yX9_undo cX9_undo 2 (some .int))) B.pre
  rw [lg_entry_eq]
  exact wX9_undo_0 (E := ⟨⟨B.exec, B.bytes, hml, findClass_of_methodNamed B.named, fun w h => hts w (List.mem_cons_of_mem _ h)⟩, hK, B.returns, B.notSynchronized⟩) hf _ _ _ hR va_S.rf (lv_entry [.ref o] (n := 2) (Nat.le_of_ble_eq_true rfl))

abbrev rmX9_highBy : Room := { frames := 1, cells := 0, slots := 0, locals := 12 }
def fX9_highBy   (x0 : Int32) (x1 : Int32) (x2 : Int32) : Option Int32 :=
  if x0 = 2 then (some (((x1 + x2) / 2) * 2)) else (if x0 = 3 then (some (x1 + (2 * x2))) else (if x0 = 4 then (some x1) else (if x0 = 5 then (if x1 ≤ 0 then (some 0) else (some (x1 + 5))) else (some (x1 + x2)))))
theorem wX9_highBy_0 (E : sE p m c cX9_highBy 3 s args RX9 meth (some .int))  {x0 : Int32} {x1 : Int32} {x2 : Int32} (hf : fX9_highBy x0 x1 x2 = some r) : ∀ (ls : Array Slot), lv_has ls 3 [(0, .int x0), (1, .int x1), (2, .int x2)] → W p l e rmX9_highBy s m args below meth c s.heap [] 0 0 (MQ below (sQi r) args s 0 0 (fun _ => False)) (F0 m 0 ls []) := by
  intro ls hl
  refine lv_iload_n E.hx E.hb dX9_highBy_0 rfl (lv_at hl 0 rfl) ?_
  by_cases c1 : x0 = 2
  · have hf := it_t hf c1
    refine lv_tableIn (tgt := 32) (off := 31) E.hx E.hb dX9_highBy_1 (by rw [c1]; decide) (by rw [c1]; decide) (by rw [c1]; rfl) (by decide) ?_
    refine lv_iload_n E.hx E.hb dX9_highBy_32 rfl (lv_at hl 1 rfl) ?_
    refine lv_iload_n E.hx E.hb dX9_highBy_33 rfl (lv_at hl 2 rfl) ?_
    refine lv_iadd E.hx E.hb dX9_highBy_34 ?_
    refine lv_iconst (v := 2) E.hx E.hb dX9_highBy_35 (by decide) ?_
    refine lv_idiv E.hx E.hb dX9_highBy_36 (by decide) ?_
    refine lv_iconst (v := 2) E.hx E.hb dX9_highBy_37 (by decide) ?_
    refine lv_imul E.hx E.hb dX9_highBy_38 ?_
    obtain rfl := Option.some.inj hf
    exact sret_i E dX9_highBy_39
  · have hf := it_f hf c1
    by_cases c2 : x0 = 3
    · have hf := it_t hf c2
      refine lv_tableIn (tgt := 40) (off := 39) E.hx E.hb dX9_highBy_1 (by rw [c2]; decide) (by rw [c2]; decide) (by rw [c2]; rfl) (by decide) ?_
      refine lv_iload_n E.hx E.hb dX9_highBy_40 rfl (lv_at hl 1 rfl) ?_
      refine lv_iconst (v := 2) E.hx E.hb dX9_highBy_41 (by decide) ?_
      refine lv_iload_n E.hx E.hb dX9_highBy_42 rfl (lv_at hl 2 rfl) ?_
      refine lv_imul E.hx E.hb dX9_highBy_43 ?_
      refine lv_iadd E.hx E.hb dX9_highBy_44 ?_
      obtain rfl := Option.some.inj hf
      exact sret_i E dX9_highBy_45
    · have hf := it_f hf c2
      by_cases c3 : x0 = 4
      · have hf := it_t hf c3
        refine lv_tableIn (tgt := 46) (off := 45) E.hx E.hb dX9_highBy_1 (by rw [c3]; decide) (by rw [c3]; decide) (by rw [c3]; rfl) (by decide) ?_
        refine lv_iload_n E.hx E.hb dX9_highBy_46 rfl (lv_at hl 1 rfl) ?_
        obtain rfl := Option.some.inj hf
        exact sret_i E dX9_highBy_47
      · have hf := it_f hf c3
        by_cases c4 : x0 = 5
        · have hf := it_t hf c4
          refine lv_tableIn (tgt := 48) (off := 47) E.hx E.hb dX9_highBy_1 (by rw [c4]; decide) (by rw [c4]; decide) (by rw [c4]; rfl) (by decide) ?_
          refine lv_iload_n E.hx E.hb dX9_highBy_48 rfl (lv_at hl 1 rfl) ?_
          refine lv_if_le (tgt := 58) E.hx E.hb dX9_highBy_49 (by decide) (fun c5 => ?_) (fun c5 => ?_)
          · have hf := it_t hf c5
            refine lv_iconst (v := 0) E.hx E.hb dX9_highBy_58 (by decide) ?_
            obtain rfl := Option.some.inj hf
            exact sret_i E dX9_highBy_59
          · have hf := it_f hf c5
            refine lv_iload_n E.hx E.hb dX9_highBy_52 rfl (lv_at hl 1 rfl) ?_
            refine lv_iconst (v := 5) E.hx E.hb dX9_highBy_53 (by decide) ?_
            refine lv_iadd E.hx E.hb dX9_highBy_54 ?_
            refine lv_goto (tgt := 59) E.hx E.hb dX9_highBy_55 (by decide) ?_
            obtain rfl := Option.some.inj hf
            exact sret_i E dX9_highBy_59
        · have hf := it_f hf c4
          have ec1 : ¬ x0.toInt = 2 := fun h => c1 (Int32.toInt_inj.mp h)
          have ec2 : ¬ x0.toInt = 3 := fun h => c2 (Int32.toInt_inj.mp h)
          have ec3 : ¬ x0.toInt = 4 := fun h => c3 (Int32.toInt_inj.mp h)
          have ec4 : ¬ x0.toInt = 5 := fun h => c4 (Int32.toInt_inj.mp h)
          refine lv_tableOut (tgt := 60) E.hx E.hb dX9_highBy_1 (by omega) (by decide) ?_
          refine lv_iload_n E.hx E.hb dX9_highBy_60 rfl (lv_at hl 1 rfl) ?_
          refine lv_iload_n E.hx E.hb dX9_highBy_61 rfl (lv_at hl 2 rfl) ?_
          refine lv_iadd E.hx E.hb dX9_highBy_62 ?_
          obtain rfl := Option.some.inj hf
          exact sret_i E dX9_highBy_63
theorem tX9_highBy (l : Launch) {x0 : Int32} {x1 : Int32} {x2 : Int32} {r : Int32} (hf : fX9_highBy x0 x1 x2 = some r) : Met l yX9_highBy (ws_ yX9_highBy cX9_highBy 3 (some .int)) rmX9_highBy (sPc [.int x0, .int x1, .int x2]) (sQi r) 0 0 (fun _ => False) := by
  refine Met.ofW (cc := cX9_highBy) (maxL := 3) (ret := (some .int)) (by decide) rfl ?_
  intro p e s m args below meth c s₁ B hml hv
  obtain ⟨rfl, -⟩ := hv
  have hts := atoms_spec (ws := (ws_ yX9_highBy cX9_highBy 3 (some .int))) B.pre
  rw [lg_entry_eq]
  exact wX9_highBy_0 (E := ⟨⟨B.exec, B.bytes, hml, findClass_of_methodNamed B.named, fun w h => hts w (List.mem_cons_of_mem _ h)⟩, B.returns, B.notSynchronized⟩) hf _ (lv_entry [.int x0, .int x1, .int x2] (n := 3) (Nat.le_of_ble_eq_true rfl))

theorem cwX9_142 {R : Room} {s : State} {args : Array Value} (ht : ∀ w ∈ lw_all, w.before args s = true) (hR : rmX9_highBy.frames + 1 ≤ R.frames ∧ 8 + (3 + 11) + rmX9_highBy.locals ≤ R.locals) : CallB R s args RX9 142 yX9_highBy cX9_highBy 3 (some .int) (ws_ yX9_highBy cX9_highBy 3 (some .int)) rmX9_highBy 0 0 3 ∧ (Cond.static yX9_highBy).before args s = true :=
  va_cwS 3 ht (lw_S q1422 q1423 q80 q1424) rfl rfl rfl (by decide +kernel) hR
abbrev rmX9_highOf : Room := { frames := 2, cells := 0, slots := 0, locals := 34 }
def fX9_highOf  (σ : MS) (x1 : Int32) : Option (Int32 × MS) :=
  (rd (σ 4) 41 (5 + x1)).bind fun v1 =>
  (rd (σ 4) 41 (11 + x1)).bind fun v2 =>
  (rd (σ 4) 41 (29 + x1)).bind fun v3 =>
  (fX9_highBy v1 v2 v3).bind fun v4 =>
  some (v4, σ)
theorem wX9_highOf_0 (E : mE p m c cX9_highOf 2 s args G cI cZ meth (some .int)) {σ : MS} {x1 : Int32} (hf : fX9_highOf σ x1 = some (r, σf)) : ∀ (H : Heap) (locs : List Loc) (ls : Array Slot), mR G cI cZ o σ H → va_S (mA o) s.heap H locs → lv_has ls 2 [(0, .ref o), (1, .int x1)] → W p l e rmX9_highOf s m args below meth c H locs 0 0 (MQ below (mQi G cI cZ o r σf) args s 0 0 (mA o)) (F0 m 0 ls []) := by
  intro H locs ls hR hS hl
  refine lv_aload_n E.hx E.hb dX9_highOf_0 rfl (lv_at hl 0 rfl) ?_
  refine mg_st E hR dX9_highOf_1 ?_
  refine lv_iconst (v := 5) E.hx E.hb dX9_highOf_4 (by decide) ?_
  refine lv_iload_n E.hx E.hb dX9_highOf_5 rfl (lv_at hl 1 rfl) ?_
  refine lv_iadd E.hx E.hb dX9_highOf_6 ?_
  obtain ⟨v1, hv1, hf⟩ := bd_e hf
  refine ml_st E hR hv1 dX9_highOf_7 ?_
  refine lv_aload_n E.hx E.hb dX9_highOf_8 rfl (lv_at hl 0 rfl) ?_
  refine mg_st E hR dX9_highOf_9 ?_
  refine lv_bipush (v := 11) E.hx E.hb dX9_highOf_12 (by decide) ?_
  refine lv_iload_n E.hx E.hb dX9_highOf_14 rfl (lv_at hl 1 rfl) ?_
  refine lv_iadd E.hx E.hb dX9_highOf_15 ?_
  obtain ⟨v2, hv2, hf⟩ := bd_e hf
  refine ml_st E hR hv2 dX9_highOf_16 ?_
  refine lv_aload_n E.hx E.hb dX9_highOf_17 rfl (lv_at hl 0 rfl) ?_
  refine mg_st E hR dX9_highOf_18 ?_
  refine lv_bipush (v := 29) E.hx E.hb dX9_highOf_21 (by decide) ?_
  refine lv_iload_n E.hx E.hb dX9_highOf_23 rfl (lv_at hl 1 rfl) ?_
  refine lv_iadd E.hx E.hb dX9_highOf_24 ?_
  obtain ⟨v3, hv3, hf⟩ := bd_e hf
  refine ml_st E hR hv3 dX9_highOf_25 ?_
  obtain ⟨v4, hv4, hf⟩ := bd_e hf
  refine scall_i (rest := []) E.1 (tX9_highBy l hv4) (cwX9_142 E.ht ⟨Nat.le_of_ble_eq_true rfl, Nat.le_of_ble_eq_true rfl⟩) rfl hl.1 rfl (Nat.le_of_ble_eq_true rfl) dX9_highOf_26 ⟨Nat.le_refl 0, Nat.le_refl 0⟩ ?_
  obtain ⟨rfl, rfl⟩ := rt_e hf
  exact mret_i E hR hS dX9_highOf_29
theorem tX9_highOf (l : Launch) {G : va_G} {cI cZ : ClassId} {o : Nat} {σ σf : MS} {x1 : Int32} {r : Int32} (hf : fX9_highOf σ x1 = some (r, σf)) : Met l yX9_highOf (ws_ yX9_highOf cX9_highOf 2 (some .int)) rmX9_highOf (mPc G cI cZ o σ [.ref o, .int x1]) (mQi G cI cZ o r σf) 0 0 (mA o) := by
  refine Met.ofW (cc := cX9_highOf) (maxL := 2) (ret := (some .int)) (by decide) rfl ?_
  intro p e s m args below meth c s₁ B hml hv
  obtain ⟨rfl, hR, hK⟩ := hv
  have hts := atoms_spec (ws := (ws_ yX9_highOf cX9_highOf 2 (some .int))) B.pre
  rw [lg_entry_eq]
  exact wX9_highOf_0 (E := ⟨⟨B.exec, B.bytes, hml, findClass_of_methodNamed B.named, fun w h => hts w (List.mem_cons_of_mem _ h)⟩, hK, B.returns, B.notSynchronized⟩) hf _ _ _ hR va_S.rf (lv_entry [.ref o, .int x1] (n := 2) (Nat.le_of_ble_eq_true rfl))

theorem cwX9_146 {R : Room} {s : State} {args : Array Value} (ht : ∀ w ∈ lw_all, w.before args s = true) (hR : rmX9_highOf.frames + 1 ≤ R.frames ∧ 8 + (2 + 11) + rmX9_highOf.locals ≤ R.locals) : CallW R s args RX9 RX9 146 yX9_highOf cX9_highOf 2 (some .int) (ws_ yX9_highOf cX9_highOf 2 (some .int)) rmX9_highOf 0 0 1 :=
  cwV 1 ht (lw_V q1418 q1420 qs45 q80 q1421) rfl rfl rfl (by decide +kernel) hR
abbrev rmX9_rankOf : Room := { frames := 3, cells := 0, slots := 0, locals := 55 }
def fX9_rankOf_L4  : Nat → MS → Int32 → Int32 → Int32 → Option (Int32 × MS)
  | 0, _, _, _, _ => none
  | n + 1, σ, x1, x2, x3 =>
    (rd (σ 4) 41 2).bind fun v1 =>
    if v1 ≤ x3 then (some (x2, σ)) else ((fX9_highOf σ x3).bind fun (v4, σ3) =>
    (fX9_highOf σ3 x1).bind fun (v6, σ5) =>
    if v6 < v4 then ((fX9_rankOf_L4 n) σ5 x1 (x2 + 1) (x3 + 1)) else ((fX9_highOf σ5 x3).bind fun (v9, σ8) =>
    (fX9_highOf σ8 x1).bind fun (v11, σ10) =>
    if v9 = v11 then (if x1 ≤ x3 then ((fX9_rankOf_L4 n) σ10 x1 (x2 + 0) (x3 + 1)) else ((fX9_rankOf_L4 n) σ10 x1 (x2 + 1) (x3 + 1))) else ((fX9_rankOf_L4 n) σ10 x1 (x2 + 0) (x3 + 1))))
theorem wX9_rankOf_L4 (E : mE p m c cX9_rankOf 4 s args G cI cZ meth (some .int)) : ∀ (n : Nat) (σ : MS) (x1 : Int32) (x2 : Int32) (x3 : Int32), fX9_rankOf_L4 n σ x1 x2 x3 = some (r, σf) → ∀ (H : Heap) (locs : List Loc) (ls : Array Slot), mR G cI cZ o σ H → va_S (mA o) s.heap H locs → lv_has ls 4 [(0, .ref o), (1, .int x1), (2, .int x2), (3, .int x3)] → W p l e rmX9_rankOf s m args below meth c H locs 0 0 (MQ below (mQi G cI cZ o r σf) args s 0 0 (mA o)) (F0 m 4 ls []) := by
  intro n
  induction n with
  | zero =>
    intro σ x1 x2 x3 hf
    have hf : none = some (r, σf) := hf
    cases hf
  | succ n ih =>
    intro σ x1 x2 x3 hf H locs ls hR hS hl
    refine lv_iload_n E.hx E.hb dX9_rankOf_4 rfl (lv_at hl 3 rfl) ?_
    refine lv_aload_n E.hx E.hb dX9_rankOf_5 rfl (lv_at hl 0 rfl) ?_
    refine mg_st E hR dX9_rankOf_6 ?_
    refine lv_iconst (v := 2) E.hx E.hb dX9_rankOf_9 (by decide) ?_
    obtain ⟨v1, hv1, hf⟩ := bd_e hf
    refine ml_st E hR hv1 dX9_rankOf_10 ?_
    refine lv_icmp_ge (tgt := 59) E.hx E.hb dX9_rankOf_11 (by decide) (fun c2 => ?_) (fun c2 => ?_)
    · have hf := it_t hf c2
      refine lv_iload_n E.hx E.hb dX9_rankOf_59 rfl (lv_at hl 2 rfl) ?_
      obtain ⟨rfl, rfl⟩ := rt_e hf
      exact mret_i E hR hS dX9_rankOf_60
    · have hf := it_f hf c2
      refine lv_iload_n E.hx E.hb dX9_rankOf_14 rfl (lv_at hl 2 rfl) ?_
      refine lv_aload_n E.hx E.hb dX9_rankOf_15 rfl (lv_at hl 0 rfl) ?_
      refine lv_iload_n E.hx E.hb dX9_rankOf_16 rfl (lv_at hl 3 rfl) ?_
      obtain ⟨⟨v4, σ3⟩, hv4, hf⟩ := bd_e hf
      refine mcall_i (rest := [.int x2]) E hR hS (tX9_highOf l hv4) (cwX9_146 E.ht ⟨Nat.le_of_ble_eq_true rfl, Nat.le_of_ble_eq_true rfl⟩) rfl hl.1 rfl (Nat.le_of_ble_eq_true rfl) dX9_rankOf_17 ⟨Nat.le_refl 0, Nat.le_refl 0⟩ (fun H locs hR hS => ?_)
      refine lv_aload_n E.hx E.hb dX9_rankOf_20 rfl (lv_at hl 0 rfl) ?_
      refine lv_iload_n E.hx E.hb dX9_rankOf_21 rfl (lv_at hl 1 rfl) ?_
      obtain ⟨⟨v6, σ5⟩, hv6, hf⟩ := bd_e hf
      refine mcall_i (rest := [.int v4, .int x2]) E hR hS (tX9_highOf l hv6) (cwX9_146 E.ht ⟨Nat.le_of_ble_eq_true rfl, Nat.le_of_ble_eq_true rfl⟩) rfl hl.1 rfl (Nat.le_of_ble_eq_true rfl) dX9_rankOf_22 ⟨Nat.le_refl 0, Nat.le_refl 0⟩ (fun H locs hR hS => ?_)
      refine lv_icmp_gt (tgt := 46) E.hx E.hb dX9_rankOf_25 (by decide) (fun c7 => ?_) (fun c7 => ?_)
      · have hf := it_t hf c7
        refine lv_iconst (v := 1) E.hx E.hb dX9_rankOf_46 (by decide) ?_
        refine lv_goto (tgt := 51) E.hx E.hb dX9_rankOf_47 (by decide) ?_
        refine lv_iadd E.hx E.hb dX9_rankOf_51 ?_
        refine lv_istore_n (lv' := [(2, .int (x2 + 1)), (0, .ref o), (1, .int x1), (3, .int x3)]) E.hx E.hb dX9_rankOf_52 rfl hl (by decide) rfl (fun ls hl => ?_)
        refine lv_iinc (v := (x3 + 1)) (lv' := [(3, .int (x3 + 1)), (2, .int (x2 + 1)), (0, .ref o), (1, .int x1)]) E.hx E.hb dX9_rankOf_53 hl (k := 3) rfl rfl (by decide) rfl (fun ls hl => ?_)
        refine lv_goto (tgt := 4) E.hx E.hb dX9_rankOf_56 (by decide) ?_
        exact ih σ5 _ _ _ hf _ _ _ hR hS (lv_sub hl [2, 3, 1, 0] rfl)
      · have hf := it_f hf c7
        refine lv_aload_n E.hx E.hb dX9_rankOf_28 rfl (lv_at hl 0 rfl) ?_
        refine lv_iload_n E.hx E.hb dX9_rankOf_29 rfl (lv_at hl 3 rfl) ?_
        obtain ⟨⟨v9, σ8⟩, hv9, hf⟩ := bd_e hf
        refine mcall_i (rest := [.int x2]) E hR hS (tX9_highOf l hv9) (cwX9_146 E.ht ⟨Nat.le_of_ble_eq_true rfl, Nat.le_of_ble_eq_true rfl⟩) rfl hl.1 rfl (Nat.le_of_ble_eq_true rfl) dX9_rankOf_30 ⟨Nat.le_refl 0, Nat.le_refl 0⟩ (fun H locs hR hS => ?_)
        refine lv_aload_n E.hx E.hb dX9_rankOf_33 rfl (lv_at hl 0 rfl) ?_
        refine lv_iload_n E.hx E.hb dX9_rankOf_34 rfl (lv_at hl 1 rfl) ?_
        obtain ⟨⟨v11, σ10⟩, hv11, hf⟩ := bd_e hf
        refine mcall_i (rest := [.int v9, .int x2]) E hR hS (tX9_highOf l hv11) (cwX9_146 E.ht ⟨Nat.le_of_ble_eq_true rfl, Nat.le_of_ble_eq_true rfl⟩) rfl hl.1 rfl (Nat.le_of_ble_eq_true rfl) dX9_rankOf_35 ⟨Nat.le_refl 0, Nat.le_refl 0⟩ (fun H locs hR hS => ?_)
        refine lv_icmp_ne (tgt := 50) E.hx E.hb dX9_rankOf_38 (by decide) (fun c12 => ?_) (fun c12 => ?_)
        · have hf := it_f hf c12
          refine lv_iconst (v := 0) E.hx E.hb dX9_rankOf_50 (by decide) ?_
          refine lv_iadd E.hx E.hb dX9_rankOf_51 ?_
          refine lv_istore_n (lv' := [(2, .int (x2 + 0)), (0, .ref o), (1, .int x1), (3, .int x3)]) E.hx E.hb dX9_rankOf_52 rfl hl (by decide) rfl (fun ls hl => ?_)
          refine lv_iinc (v := (x3 + 1)) (lv' := [(3, .int (x3 + 1)), (2, .int (x2 + 0)), (0, .ref o), (1, .int x1)]) E.hx E.hb dX9_rankOf_53 hl (k := 3) rfl rfl (by decide) rfl (fun ls hl => ?_)
          refine lv_goto (tgt := 4) E.hx E.hb dX9_rankOf_56 (by decide) ?_
          exact ih σ10 _ _ _ hf _ _ _ hR hS (lv_sub hl [2, 3, 1, 0] rfl)
        · have hf := it_t hf c12
          refine lv_iload_n E.hx E.hb dX9_rankOf_41 rfl (lv_at hl 3 rfl) ?_
          refine lv_iload_n E.hx E.hb dX9_rankOf_42 rfl (lv_at hl 1 rfl) ?_
          refine lv_icmp_ge (tgt := 50) E.hx E.hb dX9_rankOf_43 (by decide) (fun c13 => ?_) (fun c13 => ?_)
          · have hf := it_t hf c13
            refine lv_iconst (v := 0) E.hx E.hb dX9_rankOf_50 (by decide) ?_
            refine lv_iadd E.hx E.hb dX9_rankOf_51 ?_
            refine lv_istore_n (lv' := [(2, .int (x2 + 0)), (0, .ref o), (1, .int x1), (3, .int x3)]) E.hx E.hb dX9_rankOf_52 rfl hl (by decide) rfl (fun ls hl => ?_)
            refine lv_iinc (v := (x3 + 1)) (lv' := [(3, .int (x3 + 1)), (2, .int (x2 + 0)), (0, .ref o), (1, .int x1)]) E.hx E.hb dX9_rankOf_53 hl (k := 3) rfl rfl (by decide) rfl (fun ls hl => ?_)
            refine lv_goto (tgt := 4) E.hx E.hb dX9_rankOf_56 (by decide) ?_
            exact ih σ10 _ _ _ hf _ _ _ hR hS (lv_sub hl [2, 3, 1, 0] rfl)
          · have hf := it_f hf c13
            refine lv_iconst (v := 1) E.hx E.hb dX9_rankOf_46 (by decide) ?_
            refine lv_goto (tgt := 51) E.hx E.hb dX9_rankOf_47 (by decide) ?_
            refine lv_iadd E.hx E.hb dX9_rankOf_51 ?_
            refine lv_istore_n (lv' := [(2, .int (x2 + 1)), (0, .ref o), (1, .int x1), (3, .int x3)]) E.hx E.hb dX9_rankOf_52 rfl hl (by decide) rfl (fun ls hl => ?_)
            refine lv_iinc (v := (x3 + 1)) (lv' := [(3, .int (x3 + 1)), (2, .int (x2 + 1)), (0, .ref o), (1, .int x1)]) E.hx E.hb dX9_rankOf_53 hl (k := 3) rfl rfl (by decide) rfl (fun ls hl => ?_)
            refine lv_goto (tgt := 4) E.hx E.hb dX9_rankOf_56 (by decide) ?_
            exact ih σ10 _ _ _ hf _ _ _ hR hS (lv_sub hl [2, 3, 1, 0] rfl)
def fX9_rankOf  (σ : MS) (x1 : Int32) : Option (Int32 × MS) :=
  fX9_rankOf_L4 2000 σ x1 0 0
theorem wX9_rankOf_0 (E : mE p m c cX9_rankOf 4 s args G cI cZ meth (some .int)) {σ : MS} {x1 : Int32} (hf : fX9_rankOf σ x1 = some (r, σf)) : ∀ (H : Heap) (locs : List Loc) (ls : Array Slot), mR G cI cZ o σ H → va_S (mA o) s.heap H locs → lv_has ls 4 [(0, .ref o), (1, .int x1)] → W p l e rmX9_rankOf s m args below meth c H locs 0 0 (MQ below (mQi G cI cZ o r σf) args s 0 0 (mA o)) (F0 m 0 ls []) := by
  intro H locs ls hR hS hl
  refine lv_iconst (v := 0) E.hx E.hb dX9_rankOf_0 (by decide) ?_
  refine lv_istore_n (lv' := [(2, .int 0), (0, .ref o), (1, .int x1)]) E.hx E.hb dX9_rankOf_1 rfl hl (by decide) rfl (fun ls hl => ?_)
  refine lv_iconst (v := 0) E.hx E.hb dX9_rankOf_2 (by decide) ?_
  refine lv_istore_n (lv' := [(3, .int 0), (2, .int 0), (0, .ref o), (1, .int x1)]) E.hx E.hb dX9_rankOf_3 rfl hl (by decide) rfl (fun ls hl => ?_)
  exact wX9_rankOf_L4 E  2000 σ _ _ _ hf _ _ _ hR hS (lv_sub hl [2, 3, 1, 0] rfl)
theorem tX9_rankOf (l : Launch) {G : va_G} {cI cZ : ClassId} {o : Nat} {σ σf : MS} {x1 : Int32} {r : Int32} (hf : fX9_rankOf σ x1 = some (r, σf)) : Met l yX9_rankOf (ws_ yX9_rankOf cX9_rankOf 4 (some .int)) rmX9_rankOf (mPc G cI cZ o σ [.ref o, .int x1]) (mQi G cI cZ o r σf) 0 0 (mA o) := by
  refine Met.ofW (cc := cX9_rankOf) (maxL := 4) (ret := (some .int)) (by decide) rfl ?_
  intro p e s m args below meth c s₁ B hml hv
  obtain ⟨rfl, hR, hK⟩ := hv
  have hts := atoms_spec (ws := (ws_ yX9_rankOf cX9_rankOf 4 (some .int))) B.pre
  rw [lg_entry_eq]
  exact wX9_rankOf_0 (E := ⟨⟨B.exec, B.bytes, hml, findClass_of_methodNamed B.named, fun w h => hts w (List.mem_cons_of_mem _ h)⟩, hK, B.returns, B.notSynchronized⟩) hf _ _ _ hR va_S.rf (lv_entry [.ref o, .int x1] (n := 4) (Nat.le_of_ble_eq_true rfl))
end
