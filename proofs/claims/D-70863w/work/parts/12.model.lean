set_option maxRecDepth 100000
section
variable {p : Program} {l : Launch} {e : Env} {s : State} {m : MethodId} {args : Array Value} {below : List Frame} {meth : Method} {c : Code} {G : va_G} {cI cZ : ClassId} {o : Nat} {σf : MS} {r : Int32} {rl : Int64}
abbrev rmX9_floor : Room := { frames := 7, cells := 0, slots := 0, locals := 146 }
def fX9_floor_b62  (σ : MS) (s0 : Int32) (x2 : Int32) : Option (Int32 × MS) :=
  (fX9_takeBack σ).bind fun σ1 =>
  if s0 = 0 then (some ((-1000000), σ1)) else (some (x2, σ1))
theorem wX9_floor_b62 (E : mE p m c cX9_floor 4 s args G cI cZ meth (some .int)) {σ : MS} {s0 : Int32} {x2 : Int32} (hf : fX9_floor_b62 σ s0 x2 = some (r, σf)) : ∀ (H : Heap) (locs : List Loc) (ls : Array Slot), mR G cI cZ o σ H → va_S (mA o) s.heap H locs → lv_has ls 4 [(0, .ref o), (2, .int x2)] → W p l e rmX9_floor s m args below meth c H locs 0 0 (MQ below (mQi G cI cZ o r σf) args s 0 0 (mA o)) (F0 m 62 ls [.int s0]) := by
  intro H locs ls hR hS hl
  refine lv_istore_n (lv' := [(3, .int s0), (0, .ref o), (2, .int x2)]) E.hx E.hb dX9_floor_62 rfl hl (by decide) rfl (fun ls hl => ?_)
  refine lv_aload_n E.hx E.hb dX9_floor_63 rfl (lv_at hl 1 rfl) ?_
  obtain ⟨σ1, hσ1, hf⟩ := bd_e hf
  refine mcall_v (rest := []) E hR hS (tX9_takeBack l hσ1) (cwX9_199 E.ht ⟨Nat.le_of_ble_eq_true rfl, Nat.le_of_ble_eq_true rfl⟩) rfl hl.1 rfl (Nat.le_of_ble_eq_true rfl) dX9_floor_64 ⟨Nat.le_refl 0, Nat.le_refl 0⟩ (fun H locs hR hS => ?_)
  refine lv_iload_n E.hx E.hb dX9_floor_67 rfl (lv_at hl 0 rfl) ?_
  refine lv_if_eq (tgt := 75) E.hx E.hb dX9_floor_68 (by decide) (fun c2 => ?_) (fun c2 => ?_)
  · have hf := it_t hf c2
    refine lv_ldc (v := (-1000000)) E.hx E.hb E.ho (E.ht _ q1413) dX9_floor_75 ?_
    obtain ⟨rfl, rfl⟩ := rt_e hf
    exact mret_i E hR hS dX9_floor_77
  · have hf := it_f hf c2
    refine lv_iload_n E.hx E.hb dX9_floor_71 rfl (lv_at hl 2 rfl) ?_
    refine lv_goto (tgt := 77) E.hx E.hb dX9_floor_72 (by decide) ?_
    obtain ⟨rfl, rfl⟩ := rt_e hf
    exact mret_i E hR hS dX9_floor_77
def fX9_floor_b45  (σ : MS) (x1 : Int32) (x2 : Int32) : Option (Int32 × MS) :=
  (rd (σ 4) 41 (11 + x1)).bind fun v1 =>
  if v1 = 0 then (fX9_floor_b62 σ 1 x2) else (fX9_floor_b62 σ 0 x2)
theorem wX9_floor_b45 (E : mE p m c cX9_floor 4 s args G cI cZ meth (some .int)) {σ : MS} {x1 : Int32} {x2 : Int32} (hf : fX9_floor_b45 σ x1 x2 = some (r, σf)) : ∀ (H : Heap) (locs : List Loc) (ls : Array Slot), mR G cI cZ o σ H → va_S (mA o) s.heap H locs → lv_has ls 4 [(0, .ref o), (1, .int x1), (2, .int x2)] → W p l e rmX9_floor s m args below meth c H locs 0 0 (MQ below (mQi G cI cZ o r σf) args s 0 0 (mA o)) (F0 m 45 ls []) := by
  intro H locs ls hR hS hl
  refine lv_aload_n E.hx E.hb dX9_floor_45 rfl (lv_at hl 0 rfl) ?_
  refine mg_st E hR dX9_floor_46 ?_
  refine lv_bipush (v := 11) E.hx E.hb dX9_floor_49 (by decide) ?_
  refine lv_iload_n E.hx E.hb dX9_floor_51 rfl (lv_at hl 1 rfl) ?_
  refine lv_iadd E.hx E.hb dX9_floor_52 ?_
  obtain ⟨v1, hv1, hf⟩ := bd_e hf
  refine ml_st E hR hv1 dX9_floor_53 ?_
  refine lv_if_ne (tgt := 61) E.hx E.hb dX9_floor_54 (by decide) (fun c2 => ?_) (fun c2 => ?_)
  · have hf := it_f hf c2
    refine lv_iconst (v := 0) E.hx E.hb dX9_floor_61 (by decide) ?_
    exact wX9_floor_b62 E  hf _ _ _ hR hS (lv_sub hl [0, 2] rfl)
  · have hf := it_t hf c2
    refine lv_iconst (v := 1) E.hx E.hb dX9_floor_57 (by decide) ?_
    refine lv_goto (tgt := 62) E.hx E.hb dX9_floor_58 (by decide) ?_
    exact wX9_floor_b62 E  hf _ _ _ hR hS (lv_sub hl [0, 2] rfl)
def fX9_floor_L17  : Nat → MS → Int32 → Int32 → Option (Int32 × MS)
  | 0, _, _, _ => none
  | n + 1, σ, x1, x2 =>
    (rd (σ 4) 41 (11 + x1)).bind fun v1 =>
    if v1 ≤ 0 then (fX9_floor_b45 σ x1 x2) else (if 60 ≤ x2 then (fX9_floor_b45 σ x1 x2) else ((fX9_oneNight σ).bind fun σ4 =>
    (fX9_floor_L17 n) σ4 x1 (x2 + 1)))
theorem wX9_floor_L17 (E : mE p m c cX9_floor 4 s args G cI cZ meth (some .int)) : ∀ (n : Nat) (σ : MS) (x1 : Int32) (x2 : Int32), fX9_floor_L17 n σ x1 x2 = some (r, σf) → ∀ (H : Heap) (locs : List Loc) (ls : Array Slot), mR G cI cZ o σ H → va_S (mA o) s.heap H locs → lv_has ls 4 [(0, .ref o), (1, .int x1), (2, .int x2)] → W p l e rmX9_floor s m args below meth c H locs 0 0 (MQ below (mQi G cI cZ o r σf) args s 0 0 (mA o)) (F0 m 17 ls []) := by
  intro n
  induction n with
  | zero =>
    intro σ x1 x2 hf
    have hf : none = some (r, σf) := hf
    cases hf
  | succ n ih =>
    intro σ x1 x2 hf H locs ls hR hS hl
    refine lv_aload_n E.hx E.hb dX9_floor_17 rfl (lv_at hl 0 rfl) ?_
    refine mg_st E hR dX9_floor_18 ?_
    refine lv_bipush (v := 11) E.hx E.hb dX9_floor_21 (by decide) ?_
    refine lv_iload_n E.hx E.hb dX9_floor_23 rfl (lv_at hl 1 rfl) ?_
    refine lv_iadd E.hx E.hb dX9_floor_24 ?_
    obtain ⟨v1, hv1, hf⟩ := bd_e hf
    refine ml_st E hR hv1 dX9_floor_25 ?_
    refine lv_if_le (tgt := 45) E.hx E.hb dX9_floor_26 (by decide) (fun c2 => ?_) (fun c2 => ?_)
    · have hf := it_t hf c2
      exact wX9_floor_b45 E  hf _ _ _ hR hS (lv_sub hl [0, 1, 2] rfl)
    · have hf := it_f hf c2
      refine lv_iload_n E.hx E.hb dX9_floor_29 rfl (lv_at hl 2 rfl) ?_
      refine lv_bipush (v := 60) E.hx E.hb dX9_floor_30 (by decide) ?_
      refine lv_icmp_ge (tgt := 45) E.hx E.hb dX9_floor_32 (by decide) (fun c3 => ?_) (fun c3 => ?_)
      · have hf := it_t hf c3
        exact wX9_floor_b45 E  hf _ _ _ hR hS (lv_sub hl [0, 1, 2] rfl)
      · have hf := it_f hf c3
        refine lv_aload_n E.hx E.hb dX9_floor_35 rfl (lv_at hl 0 rfl) ?_
        obtain ⟨σ4, hσ4, hf⟩ := bd_e hf
        refine mcall_v (rest := []) E hR hS (tX9_oneNight l hσ4) (cwX9_175 E.ht ⟨Nat.le_of_ble_eq_true rfl, Nat.le_of_ble_eq_true rfl⟩) rfl hl.1 rfl (Nat.le_of_ble_eq_true rfl) dX9_floor_36 ⟨Nat.le_refl 0, Nat.le_refl 0⟩ (fun H locs hR hS => ?_)
        refine lv_iinc (v := (x2 + 1)) (lv' := [(2, .int (x2 + 1)), (0, .ref o), (1, .int x1)]) E.hx E.hb dX9_floor_39 hl (k := 2) rfl rfl (by decide) rfl (fun ls hl => ?_)
        refine lv_goto (tgt := 17) E.hx E.hb dX9_floor_42 (by decide) ?_
        exact ih σ4 _ _ hf _ _ _ hR hS (lv_sub hl [1, 2, 0] rfl)
def fX9_floor  (σ : MS) (x1 : Int32) : Option (Int32 × MS) :=
  (fX9_isChair σ x1).bind fun (v2, σ1) =>
  if v2 = 0 then (some ((-1000001), σ1)) else ((fX9_putAside σ1).bind fun σ4 =>
  fX9_floor_L17 2000 σ4 x1 0)
theorem wX9_floor_0 (E : mE p m c cX9_floor 4 s args G cI cZ meth (some .int)) {σ : MS} {x1 : Int32} (hf : fX9_floor σ x1 = some (r, σf)) : ∀ (H : Heap) (locs : List Loc) (ls : Array Slot), mR G cI cZ o σ H → va_S (mA o) s.heap H locs → lv_has ls 4 [(0, .ref o), (1, .int x1)] → W p l e rmX9_floor s m args below meth c H locs 0 0 (MQ below (mQi G cI cZ o r σf) args s 0 0 (mA o)) (F0 m 0 ls []) := by
  intro H locs ls hR hS hl
  refine lv_aload_n E.hx E.hb dX9_floor_0 rfl (lv_at hl 0 rfl) ?_
  refine lv_iload_n E.hx E.hb dX9_floor_1 rfl (lv_at hl 1 rfl) ?_
  obtain ⟨⟨v2, σ1⟩, hv2, hf⟩ := bd_e hf
  refine mcall_i (rest := []) E hR hS (tX9_isChair l hv2) (cwX9_178 E.ht ⟨Nat.le_of_ble_eq_true rfl, Nat.le_of_ble_eq_true rfl⟩) rfl hl.1 rfl (Nat.le_of_ble_eq_true rfl) dX9_floor_2 ⟨Nat.le_refl 0, Nat.le_refl 0⟩ (fun H locs hR hS => ?_)
  refine lv_if_ne (tgt := 11) E.hx E.hb dX9_floor_5 (by decide) (fun c3 => ?_) (fun c3 => ?_)
  · have hf := it_f hf c3
    refine lv_aload_n E.hx E.hb dX9_floor_11 rfl (lv_at hl 0 rfl) ?_
    obtain ⟨σ4, hσ4, hf⟩ := bd_e hf
    refine mcall_v (rest := []) E hR hS (tX9_putAside l hσ4) (cwX9_204 E.ht ⟨Nat.le_of_ble_eq_true rfl, Nat.le_of_ble_eq_true rfl⟩) rfl hl.1 rfl (Nat.le_of_ble_eq_true rfl) dX9_floor_12 ⟨Nat.le_refl 0, Nat.le_refl 0⟩ (fun H locs hR hS => ?_)
    refine lv_iconst (v := 0) E.hx E.hb dX9_floor_15 (by decide) ?_
    refine lv_istore_n (lv' := [(2, .int 0), (0, .ref o), (1, .int x1)]) E.hx E.hb dX9_floor_16 rfl hl (by decide) rfl (fun ls hl => ?_)
    exact wX9_floor_L17 E  2000 σ4 _ _ hf _ _ _ hR hS (lv_sub hl [1, 2, 0] rfl)
  · have hf := it_t hf c3
    refine lv_ldc (v := (-1000001)) E.hx E.hb E.ho (E.ht _ q1319) dX9_floor_8 ?_
    obtain ⟨rfl, rfl⟩ := rt_e hf
    exact mret_i E hR hS dX9_floor_10
theorem tX9_floor (l : Launch) {G : va_G} {cI cZ : ClassId} {o : Nat} {σ σf : MS} {x1 : Int32} {r : Int32} (hf : fX9_floor σ x1 = some (r, σf)) : Met l yX9_floor (ws_ yX9_floor cX9_floor 4 (some .int)) rmX9_floor (mPc G cI cZ o σ [.ref o, .int x1]) (mQi G cI cZ o r σf) 0 0 (mA o) := by
  refine Met.ofW (cc := cX9_floor) (maxL := 4) (ret := (some .int)) (by decide) rfl ?_
  intro p e s m args below meth c s₁ B hml hv
  obtain ⟨rfl, hR, hK⟩ := hv
  have hts := atoms_spec (ws := (ws_ yX9_floor cX9_floor 4 (some .int))) B.pre
  rw [lg_entry_eq]
  exact wX9_floor_0 (E := ⟨⟨B.exec, B.bytes, hml, findClass_of_methodNamed B.named, fun w h => hts w (List.mem_cons_of_mem _ h)⟩, hK, B.returns, B.notSynchronized⟩) hf _ _ _ hR va_S.rf (lv_entry [.ref o, .int x1] (n := 4) (Nat.le_of_ble_eq_true rfl))

abbrev rmX9_rises : Room := { frames := 7, cells := 0, slots := 0, locals := 146 }
def fX9_rises_b68  (σ : MS) (s0 : Int32) (x3 : Int32) : Option (Int32 × MS) :=
  (fX9_takeBack σ).bind fun σ1 =>
  if s0 = 0 then (some ((-1000000), σ1)) else (some (x3, σ1))
theorem wX9_rises_b68 (E : mE p m c cX9_rises 5 s args G cI cZ meth (some .int)) {σ : MS} {s0 : Int32} {x3 : Int32} (hf : fX9_rises_b68 σ s0 x3 = some (r, σf)) : ∀ (H : Heap) (locs : List Loc) (ls : Array Slot), mR G cI cZ o σ H → va_S (mA o) s.heap H locs → lv_has ls 5 [(0, .ref o), (3, .int x3)] → W p l e rmX9_rises s m args below meth c H locs 0 0 (MQ below (mQi G cI cZ o r σf) args s 0 0 (mA o)) (F0 m 68 ls [.int s0]) := by
  intro H locs ls hR hS hl
  refine lv_istore (lv' := [(4, .int s0), (0, .ref o), (3, .int x3)]) E.hx E.hb dX9_rises_68 hl (by decide) rfl (fun ls hl => ?_)
  refine lv_aload_n E.hx E.hb dX9_rises_70 rfl (lv_at hl 1 rfl) ?_
  obtain ⟨σ1, hσ1, hf⟩ := bd_e hf
  refine mcall_v (rest := []) E hR hS (tX9_takeBack l hσ1) (cwX9_199 E.ht ⟨Nat.le_of_ble_eq_true rfl, Nat.le_of_ble_eq_true rfl⟩) rfl hl.1 rfl (Nat.le_of_ble_eq_true rfl) dX9_rises_71 ⟨Nat.le_refl 0, Nat.le_refl 0⟩ (fun H locs hR hS => ?_)
  refine lv_iload E.hx E.hb dX9_rises_74 (lv_at hl 0 rfl) ?_
  refine lv_if_eq (tgt := 83) E.hx E.hb dX9_rises_76 (by decide) (fun c2 => ?_) (fun c2 => ?_)
  · have hf := it_t hf c2
    refine lv_ldc (v := (-1000000)) E.hx E.hb E.ho (E.ht _ q1413) dX9_rises_83 ?_
    obtain ⟨rfl, rfl⟩ := rt_e hf
    exact mret_i E hR hS dX9_rises_85
  · have hf := it_f hf c2
    refine lv_iload_n E.hx E.hb dX9_rises_79 rfl (lv_at hl 2 rfl) ?_
    refine lv_goto (tgt := 85) E.hx E.hb dX9_rises_80 (by decide) ?_
    obtain ⟨rfl, rfl⟩ := rt_e hf
    exact mret_i E hR hS dX9_rises_85
def fX9_rises_b54  (σ : MS) (x1 : Int32) (x2 : Int32) (x3 : Int32) : Option (Int32 × MS) :=
  (fX9_rankOf σ x1).bind fun (v2, σ1) =>
  if x2 < v2 then (fX9_rises_b68 σ1 0 x3) else (fX9_rises_b68 σ1 1 x3)
theorem wX9_rises_b54 (E : mE p m c cX9_rises 5 s args G cI cZ meth (some .int)) {σ : MS} {x1 : Int32} {x2 : Int32} {x3 : Int32} (hf : fX9_rises_b54 σ x1 x2 x3 = some (r, σf)) : ∀ (H : Heap) (locs : List Loc) (ls : Array Slot), mR G cI cZ o σ H → va_S (mA o) s.heap H locs → lv_has ls 5 [(0, .ref o), (1, .int x1), (2, .int x2), (3, .int x3)] → W p l e rmX9_rises s m args below meth c H locs 0 0 (MQ below (mQi G cI cZ o r σf) args s 0 0 (mA o)) (F0 m 54 ls []) := by
  intro H locs ls hR hS hl
  refine lv_aload_n E.hx E.hb dX9_rises_54 rfl (lv_at hl 0 rfl) ?_
  refine lv_iload_n E.hx E.hb dX9_rises_55 rfl (lv_at hl 1 rfl) ?_
  obtain ⟨⟨v2, σ1⟩, hv2, hf⟩ := bd_e hf
  refine mcall_i (rest := []) E hR hS (tX9_rankOf l hv2) (cwX9_150 E.ht ⟨Nat.le_of_ble_eq_true rfl, Nat.le_of_ble_eq_true rfl⟩) rfl hl.1 rfl (Nat.le_of_ble_eq_true rfl) dX9_rises_56 ⟨Nat.le_refl 0, Nat.le_refl 0⟩ (fun H locs hR hS => ?_)
  refine lv_iload_n E.hx E.hb dX9_rises_59 rfl (lv_at hl 2 rfl) ?_
  refine lv_icmp_gt (tgt := 67) E.hx E.hb dX9_rises_60 (by decide) (fun c3 => ?_) (fun c3 => ?_)
  · have hf := it_t hf c3
    refine lv_iconst (v := 0) E.hx E.hb dX9_rises_67 (by decide) ?_
    exact wX9_rises_b68 E  hf _ _ _ hR hS (lv_sub hl [0, 3] rfl)
  · have hf := it_f hf c3
    refine lv_iconst (v := 1) E.hx E.hb dX9_rises_63 (by decide) ?_
    refine lv_goto (tgt := 68) E.hx E.hb dX9_rises_64 (by decide) ?_
    exact wX9_rises_b68 E  hf _ _ _ hR hS (lv_sub hl [0, 3] rfl)
def fX9_rises_L29  : Nat → MS → Int32 → Int32 → Int32 → Option (Int32 × MS)
  | 0, _, _, _, _ => none
  | n + 1, σ, x1, x2, x3 =>
    (fX9_rankOf σ x1).bind fun (v2, σ1) =>
    if v2 ≤ x2 then (fX9_rises_b54 σ1 x1 x2 x3) else (if 60 ≤ x3 then (fX9_rises_b54 σ1 x1 x2 x3) else ((fX9_oneNight σ1).bind fun σ5 =>
    (fX9_rises_L29 n) σ5 x1 x2 (x3 + 1)))
theorem wX9_rises_L29 (E : mE p m c cX9_rises 5 s args G cI cZ meth (some .int)) : ∀ (n : Nat) (σ : MS) (x1 : Int32) (x2 : Int32) (x3 : Int32), fX9_rises_L29 n σ x1 x2 x3 = some (r, σf) → ∀ (H : Heap) (locs : List Loc) (ls : Array Slot), mR G cI cZ o σ H → va_S (mA o) s.heap H locs → lv_has ls 5 [(0, .ref o), (1, .int x1), (2, .int x2), (3, .int x3)] → W p l e rmX9_rises s m args below meth c H locs 0 0 (MQ below (mQi G cI cZ o r σf) args s 0 0 (mA o)) (F0 m 29 ls []) := by
  intro n
  induction n with
  | zero =>
    intro σ x1 x2 x3 hf
    have hf : none = some (r, σf) := hf
    cases hf
  | succ n ih =>
    intro σ x1 x2 x3 hf H locs ls hR hS hl
    refine lv_aload_n E.hx E.hb dX9_rises_29 rfl (lv_at hl 0 rfl) ?_
    refine lv_iload_n E.hx E.hb dX9_rises_30 rfl (lv_at hl 1 rfl) ?_
    obtain ⟨⟨v2, σ1⟩, hv2, hf⟩ := bd_e hf
    refine mcall_i (rest := []) E hR hS (tX9_rankOf l hv2) (cwX9_150 E.ht ⟨Nat.le_of_ble_eq_true rfl, Nat.le_of_ble_eq_true rfl⟩) rfl hl.1 rfl (Nat.le_of_ble_eq_true rfl) dX9_rises_31 ⟨Nat.le_refl 0, Nat.le_refl 0⟩ (fun H locs hR hS => ?_)
    refine lv_iload_n E.hx E.hb dX9_rises_34 rfl (lv_at hl 2 rfl) ?_
    refine lv_icmp_le (tgt := 54) E.hx E.hb dX9_rises_35 (by decide) (fun c3 => ?_) (fun c3 => ?_)
    · have hf := it_t hf c3
      exact wX9_rises_b54 E  hf _ _ _ hR hS (lv_sub hl [0, 1, 2, 3] rfl)
    · have hf := it_f hf c3
      refine lv_iload_n E.hx E.hb dX9_rises_38 rfl (lv_at hl 3 rfl) ?_
      refine lv_bipush (v := 60) E.hx E.hb dX9_rises_39 (by decide) ?_
      refine lv_icmp_ge (tgt := 54) E.hx E.hb dX9_rises_41 (by decide) (fun c4 => ?_) (fun c4 => ?_)
      · have hf := it_t hf c4
        exact wX9_rises_b54 E  hf _ _ _ hR hS (lv_sub hl [0, 1, 2, 3] rfl)
      · have hf := it_f hf c4
        refine lv_aload_n E.hx E.hb dX9_rises_44 rfl (lv_at hl 0 rfl) ?_
        obtain ⟨σ5, hσ5, hf⟩ := bd_e hf
        refine mcall_v (rest := []) E hR hS (tX9_oneNight l hσ5) (cwX9_175 E.ht ⟨Nat.le_of_ble_eq_true rfl, Nat.le_of_ble_eq_true rfl⟩) rfl hl.1 rfl (Nat.le_of_ble_eq_true rfl) dX9_rises_45 ⟨Nat.le_refl 0, Nat.le_refl 0⟩ (fun H locs hR hS => ?_)
        refine lv_iinc (v := (x3 + 1)) (lv' := [(3, .int (x3 + 1)), (0, .ref o), (1, .int x1), (2, .int x2)]) E.hx E.hb dX9_rises_48 hl (k := 3) rfl rfl (by decide) rfl (fun ls hl => ?_)
        refine lv_goto (tgt := 29) E.hx E.hb dX9_rises_51 (by decide) ?_
        exact ih σ5 _ _ _ hf _ _ _ hR hS (lv_sub hl [1, 2, 3, 0] rfl)
def fX9_rises  (σ : MS) (x1 : Int32) (x2 : Int32) : Option (Int32 × MS) :=
  (fX9_isChair σ x1).bind fun (v2, σ1) =>
  if v2 = 0 then (some ((-1000001), σ1)) else ((fX9_in (x2.toInt64) 0 5).bind fun v4 =>
  if v4 = 0 then (some ((-1000001), σ1)) else ((fX9_putAside σ1).bind fun σ6 =>
  fX9_rises_L29 2000 σ6 x1 x2 0))
theorem wX9_rises_0 (E : mE p m c cX9_rises 5 s args G cI cZ meth (some .int)) {σ : MS} {x1 : Int32} {x2 : Int32} (hf : fX9_rises σ x1 x2 = some (r, σf)) : ∀ (H : Heap) (locs : List Loc) (ls : Array Slot), mR G cI cZ o σ H → va_S (mA o) s.heap H locs → lv_has ls 5 [(0, .ref o), (1, .int x1), (2, .int x2)] → W p l e rmX9_rises s m args below meth c H locs 0 0 (MQ below (mQi G cI cZ o r σf) args s 0 0 (mA o)) (F0 m 0 ls []) := by
  intro H locs ls hR hS hl
  refine lv_aload_n E.hx E.hb dX9_rises_0 rfl (lv_at hl 0 rfl) ?_
  refine lv_iload_n E.hx E.hb dX9_rises_1 rfl (lv_at hl 1 rfl) ?_
  obtain ⟨⟨v2, σ1⟩, hv2, hf⟩ := bd_e hf
  refine mcall_i (rest := []) E hR hS (tX9_isChair l hv2) (cwX9_178 E.ht ⟨Nat.le_of_ble_eq_true rfl, Nat.le_of_ble_eq_true rfl⟩) rfl hl.1 rfl (Nat.le_of_ble_eq_true rfl) dX9_rises_2 ⟨Nat.le_refl 0, Nat.le_refl 0⟩ (fun H locs hR hS => ?_)
  refine lv_if_eq (tgt := 20) E.hx E.hb dX9_rises_5 (by decide) (fun c3 => ?_) (fun c3 => ?_)
  · have hf := it_t hf c3
    refine lv_ldc (v := (-1000001)) E.hx E.hb E.ho (E.ht _ q1319) dX9_rises_20 ?_
    obtain ⟨rfl, rfl⟩ := rt_e hf
    exact mret_i E hR hS dX9_rises_22
  · have hf := it_f hf c3
    refine lv_iload_n E.hx E.hb dX9_rises_8 rfl (lv_at hl 2 rfl) ?_
    refine lv_i2l E.hx E.hb dX9_rises_9 rfl ?_
    refine lv_lconst (v := 0) E.hx E.hb dX9_rises_10 (by decide) ?_
    refine lv_ldc2 (v := 5) E.hx E.hb E.ho (E.ht _ q1510) dX9_rises_11 ?_
    obtain ⟨v4, hv4, hf⟩ := bd_e hf
    refine scall_i (rest := []) E.1 (tX9_in l hv4) (cwX9_57 E.ht ⟨Nat.le_of_ble_eq_true rfl, Nat.le_of_ble_eq_true rfl⟩) rfl hl.1 rfl (Nat.le_of_ble_eq_true rfl) dX9_rises_14 ⟨Nat.le_refl 0, Nat.le_refl 0⟩ ?_
    refine lv_if_ne (tgt := 23) E.hx E.hb dX9_rises_17 (by decide) (fun c5 => ?_) (fun c5 => ?_)
    · have hf := it_f hf c5
      refine lv_aload_n E.hx E.hb dX9_rises_23 rfl (lv_at hl 0 rfl) ?_
      obtain ⟨σ6, hσ6, hf⟩ := bd_e hf
      refine mcall_v (rest := []) E hR hS (tX9_putAside l hσ6) (cwX9_204 E.ht ⟨Nat.le_of_ble_eq_true rfl, Nat.le_of_ble_eq_true rfl⟩) rfl hl.1 rfl (Nat.le_of_ble_eq_true rfl) dX9_rises_24 ⟨Nat.le_refl 0, Nat.le_refl 0⟩ (fun H locs hR hS => ?_)
      refine lv_iconst (v := 0) E.hx E.hb dX9_rises_27 (by decide) ?_
      refine lv_istore_n (lv' := [(3, .int 0), (0, .ref o), (1, .int x1), (2, .int x2)]) E.hx E.hb dX9_rises_28 rfl hl (by decide) rfl (fun ls hl => ?_)
      exact wX9_rises_L29 E  2000 σ6 _ _ _ hf _ _ _ hR hS (lv_sub hl [1, 2, 3, 0] rfl)
    · have hf := it_t hf c5
      refine lv_ldc (v := (-1000001)) E.hx E.hb E.ho (E.ht _ q1319) dX9_rises_20 ?_
      obtain ⟨rfl, rfl⟩ := rt_e hf
      exact mret_i E hR hS dX9_rises_22
theorem tX9_rises (l : Launch) {G : va_G} {cI cZ : ClassId} {o : Nat} {σ σf : MS} {x1 : Int32} {x2 : Int32} {r : Int32} (hf : fX9_rises σ x1 x2 = some (r, σf)) : Met l yX9_rises (ws_ yX9_rises cX9_rises 5 (some .int)) rmX9_rises (mPc G cI cZ o σ [.ref o, .int x1, .int x2]) (mQi G cI cZ o r σf) 0 0 (mA o) := by
  refine Met.ofW (cc := cX9_rises) (maxL := 5) (ret := (some .int)) (by decide) rfl ?_
  intro p e s m args below meth c s₁ B hml hv
  obtain ⟨rfl, hR, hK⟩ := hv
  have hts := atoms_spec (ws := (ws_ yX9_rises cX9_rises 5 (some .int))) B.pre
  rw [lg_entry_eq]
  exact wX9_rises_0 (E := ⟨⟨B.exec, B.bytes, hml, findClass_of_methodNamed B.named, fun w h => hts w (List.mem_cons_of_mem _ h)⟩, hK, B.returns, B.notSynchronized⟩) hf _ _ _ hR va_S.rf (lv_entry [.ref o, .int x1, .int x2] (n := 5) (Nat.le_of_ble_eq_true rfl))

abbrev rmX9_sumOf : Room := { frames := 1, cells := 0, slots := 0, locals := 12 }
def fX9_sumOf_L4  : Nat → MS → Int32 → Int32 → Int32 → Option (Int32 × MS)
  | 0, _, _, _, _ => none
  | n + 1, σ, x1, x2, x3 =>
    (rd (σ 4) 41 2).bind fun v1 =>
    if v1 ≤ x3 then (some (x2, σ)) else ((rd (σ 4) 41 (x1 + x3)).bind fun v3 =>
    (fX9_sumOf_L4 n) σ x1 (x2 + v3) (x3 + 1))
theorem wX9_sumOf_L4 (E : mE p m c cX9_sumOf 4 s args G cI cZ meth (some .int)) : ∀ (n : Nat) (σ : MS) (x1 : Int32) (x2 : Int32) (x3 : Int32), fX9_sumOf_L4 n σ x1 x2 x3 = some (r, σf) → ∀ (H : Heap) (locs : List Loc) (ls : Array Slot), mR G cI cZ o σ H → va_S (mA o) s.heap H locs → lv_has ls 4 [(0, .ref o), (1, .int x1), (2, .int x2), (3, .int x3)] → W p l e rmX9_sumOf s m args below meth c H locs 0 0 (MQ below (mQi G cI cZ o r σf) args s 0 0 (mA o)) (F0 m 4 ls []) := by
  intro n
  induction n with
  | zero =>
    intro σ x1 x2 x3 hf
    have hf : none = some (r, σf) := hf
    cases hf
  | succ n ih =>
    intro σ x1 x2 x3 hf H locs ls hR hS hl
    refine lv_iload_n E.hx E.hb dX9_sumOf_4 rfl (lv_at hl 3 rfl) ?_
    refine lv_aload_n E.hx E.hb dX9_sumOf_5 rfl (lv_at hl 0 rfl) ?_
    refine mg_st E hR dX9_sumOf_6 ?_
    refine lv_iconst (v := 2) E.hx E.hb dX9_sumOf_9 (by decide) ?_
    obtain ⟨v1, hv1, hf⟩ := bd_e hf
    refine ml_st E hR hv1 dX9_sumOf_10 ?_
    refine lv_icmp_ge (tgt := 31) E.hx E.hb dX9_sumOf_11 (by decide) (fun c2 => ?_) (fun c2 => ?_)
    · have hf := it_t hf c2
      refine lv_iload_n E.hx E.hb dX9_sumOf_31 rfl (lv_at hl 2 rfl) ?_
      obtain ⟨rfl, rfl⟩ := rt_e hf
      exact mret_i E hR hS dX9_sumOf_32
    · have hf := it_f hf c2
      refine lv_iload_n E.hx E.hb dX9_sumOf_14 rfl (lv_at hl 2 rfl) ?_
      refine lv_aload_n E.hx E.hb dX9_sumOf_15 rfl (lv_at hl 0 rfl) ?_
      refine mg_st E hR dX9_sumOf_16 ?_
      refine lv_iload_n E.hx E.hb dX9_sumOf_19 rfl (lv_at hl 1 rfl) ?_
      refine lv_iload_n E.hx E.hb dX9_sumOf_20 rfl (lv_at hl 3 rfl) ?_
      refine lv_iadd E.hx E.hb dX9_sumOf_21 ?_
      obtain ⟨v3, hv3, hf⟩ := bd_e hf
      refine ml_st E hR hv3 dX9_sumOf_22 ?_
      refine lv_iadd E.hx E.hb dX9_sumOf_23 ?_
      refine lv_istore_n (lv' := [(2, .int (x2 + v3)), (0, .ref o), (1, .int x1), (3, .int x3)]) E.hx E.hb dX9_sumOf_24 rfl hl (by decide) rfl (fun ls hl => ?_)
      refine lv_iinc (v := (x3 + 1)) (lv' := [(3, .int (x3 + 1)), (2, .int (x2 + v3)), (0, .ref o), (1, .int x1)]) E.hx E.hb dX9_sumOf_25 hl (k := 3) rfl rfl (by decide) rfl (fun ls hl => ?_)
      refine lv_goto (tgt := 4) E.hx E.hb dX9_sumOf_28 (by decide) ?_
      exact ih σ _ _ _ hf _ _ _ hR hS (lv_sub hl [2, 3, 1, 0] rfl)
def fX9_sumOf  (σ : MS) (x1 : Int32) : Option (Int32 × MS) :=
  fX9_sumOf_L4 2000 σ x1 0 0
theorem wX9_sumOf_0 (E : mE p m c cX9_sumOf 4 s args G cI cZ meth (some .int)) {σ : MS} {x1 : Int32} (hf : fX9_sumOf σ x1 = some (r, σf)) : ∀ (H : Heap) (locs : List Loc) (ls : Array Slot), mR G cI cZ o σ H → va_S (mA o) s.heap H locs → lv_has ls 4 [(0, .ref o), (1, .int x1)] → W p l e rmX9_sumOf s m args below meth c H locs 0 0 (MQ below (mQi G cI cZ o r σf) args s 0 0 (mA o)) (F0 m 0 ls []) := by
  intro H locs ls hR hS hl
  refine lv_iconst (v := 0) E.hx E.hb dX9_sumOf_0 (by decide) ?_
  refine lv_istore_n (lv' := [(2, .int 0), (0, .ref o), (1, .int x1)]) E.hx E.hb dX9_sumOf_1 rfl hl (by decide) rfl (fun ls hl => ?_)
  refine lv_iconst (v := 0) E.hx E.hb dX9_sumOf_2 (by decide) ?_
  refine lv_istore_n (lv' := [(3, .int 0), (2, .int 0), (0, .ref o), (1, .int x1)]) E.hx E.hb dX9_sumOf_3 rfl hl (by decide) rfl (fun ls hl => ?_)
  exact wX9_sumOf_L4 E  2000 σ _ _ _ hf _ _ _ hR hS (lv_sub hl [2, 3, 1, 0] rfl)
theorem tX9_sumOf (l : Launch) {G : va_G} {cI cZ : ClassId} {o : Nat} {σ σf : MS} {x1 : Int32} {r : Int32} (hf : fX9_sumOf σ x1 = some (r, σf)) : Met l yX9_sumOf (ws_ yX9_sumOf cX9_sumOf 4 (some .int)) rmX9_sumOf (mPc G cI cZ o σ [.ref o, .int x1]) (mQi G cI cZ o r σf) 0 0 (mA o) := by
  refine Met.ofW (cc := cX9_sumOf) (maxL := 4) (ret := (some .int)) (by decide) rfl ?_
  intro p e s m args below meth c s₁ B hml hv
  obtain ⟨rfl, hR, hK⟩ := hv
  have hts := atoms_spec (ws := (ws_ yX9_sumOf cX9_sumOf 4 (some .int))) B.pre
  rw [lg_entry_eq]
  exact wX9_sumOf_0 (E := ⟨⟨B.exec, B.bytes, hml, findClass_of_methodNamed B.named, fun w h => hts w (List.mem_cons_of_mem _ h)⟩, hK, B.returns, B.notSynchronized⟩) hf _ _ _ hR va_S.rf (lv_entry [.ref o, .int x1] (n := 4) (Nat.le_of_ble_eq_true rfl))

theorem cwX9_209 {R : Room} {s : State} {args : Array Value} (ht : ∀ w ∈ lw_all, w.before args s = true) (hR : rmX9_sumOf.frames + 1 ≤ R.frames ∧ 8 + (4 + 11) + rmX9_sumOf.locals ≤ R.locals) : CallW R s args RX9 RX9 209 yX9_sumOf cX9_sumOf 4 (some .int) (ws_ yX9_sumOf cX9_sumOf 4 (some .int)) rmX9_sumOf 0 0 1 :=
  cwV 1 ht (lw_V q1515 q1517 qs54 q80 q1518) rfl rfl rfl (by decide +kernel) hR
abbrev rmX9_calm : Room := { frames := 7, cells := 0, slots := 0, locals := 146 }
def fX9_calm_b62  (σ : MS) (x1 : Int32) : Option (Int32 × MS) :=
  (fX9_takeBack σ).bind fun σ1 =>
  some (x1, σ1)
theorem wX9_calm_b62 (E : mE p m c cX9_calm 4 s args G cI cZ meth (some .int)) {σ : MS} {x1 : Int32} (hf : fX9_calm_b62 σ x1 = some (r, σf)) : ∀ (H : Heap) (locs : List Loc) (ls : Array Slot), mR G cI cZ o σ H → va_S (mA o) s.heap H locs → lv_has ls 4 [(0, .ref o), (1, .int x1)] → W p l e rmX9_calm s m args below meth c H locs 0 0 (MQ below (mQi G cI cZ o r σf) args s 0 0 (mA o)) (F0 m 62 ls []) := by
  intro H locs ls hR hS hl
  refine lv_aload_n E.hx E.hb dX9_calm_62 rfl (lv_at hl 0 rfl) ?_
  obtain ⟨σ1, hσ1, hf⟩ := bd_e hf
  refine mcall_v (rest := []) E hR hS (tX9_takeBack l hσ1) (cwX9_199 E.ht ⟨Nat.le_of_ble_eq_true rfl, Nat.le_of_ble_eq_true rfl⟩) rfl hl.1 rfl (Nat.le_of_ble_eq_true rfl) dX9_calm_63 ⟨Nat.le_refl 0, Nat.le_refl 0⟩ (fun H locs hR hS => ?_)
  refine lv_iload_n E.hx E.hb dX9_calm_66 rfl (lv_at hl 1 rfl) ?_
  obtain ⟨rfl, rfl⟩ := rt_e hf
  exact mret_i E hR hS dX9_calm_67
def fX9_calm_L19  : Nat → MS → Int32 → Int32 → Option (Int32 × MS)
  | 0, _, _, _ => none
  | n + 1, σ, x1, x2 =>
    if 60 < x2 then (fX9_calm_b62 σ x1) else (if 0 ≤ x1 then (fX9_calm_b62 σ x1) else ((fX9_sumOf σ 11).bind fun (v4, σ3) =>
    (fX9_oneNight σ3).bind fun σ5 =>
    (fX9_sumOf σ5 11).bind fun (v7, σ6) =>
    if v7 = v4 then ((fX9_calm_L19 n) σ6 x2 (x2 + 1)) else ((fX9_calm_L19 n) σ6 x1 (x2 + 1))))
theorem wX9_calm_L19 (E : mE p m c cX9_calm 4 s args G cI cZ meth (some .int)) : ∀ (n : Nat) (σ : MS) (x1 : Int32) (x2 : Int32), fX9_calm_L19 n σ x1 x2 = some (r, σf) → ∀ (H : Heap) (locs : List Loc) (ls : Array Slot), mR G cI cZ o σ H → va_S (mA o) s.heap H locs → lv_has ls 4 [(0, .ref o), (1, .int x1), (2, .int x2)] → W p l e rmX9_calm s m args below meth c H locs 0 0 (MQ below (mQi G cI cZ o r σf) args s 0 0 (mA o)) (F0 m 19 ls []) := by
  intro n
  induction n with
  | zero =>
    intro σ x1 x2 hf
    have hf : none = some (r, σf) := hf
    cases hf
  | succ n ih =>
    intro σ x1 x2 hf H locs ls hR hS hl
    refine lv_iload_n E.hx E.hb dX9_calm_19 rfl (lv_at hl 2 rfl) ?_
    refine lv_bipush (v := 60) E.hx E.hb dX9_calm_20 (by decide) ?_
    refine lv_icmp_gt (tgt := 62) E.hx E.hb dX9_calm_22 (by decide) (fun c1 => ?_) (fun c1 => ?_)
    · have hf := it_t hf c1
      exact wX9_calm_b62 E  hf _ _ _ hR hS (lv_sub hl [0, 1] rfl)
    · have hf := it_f hf c1
      refine lv_iload_n E.hx E.hb dX9_calm_25 rfl (lv_at hl 1 rfl) ?_
      refine lv_if_ge (tgt := 62) E.hx E.hb dX9_calm_26 (by decide) (fun c2 => ?_) (fun c2 => ?_)
      · have hf := it_t hf c2
        exact wX9_calm_b62 E  hf _ _ _ hR hS (lv_sub hl [0, 1] rfl)
      · have hf := it_f hf c2
        refine lv_aload_n E.hx E.hb dX9_calm_29 rfl (lv_at hl 0 rfl) ?_
        refine lv_bipush (v := 11) E.hx E.hb dX9_calm_30 (by decide) ?_
        obtain ⟨⟨v4, σ3⟩, hv4, hf⟩ := bd_e hf
        refine mcall_i (rest := []) E hR hS (tX9_sumOf l hv4) (cwX9_209 E.ht ⟨Nat.le_of_ble_eq_true rfl, Nat.le_of_ble_eq_true rfl⟩) rfl hl.1 rfl (Nat.le_of_ble_eq_true rfl) dX9_calm_32 ⟨Nat.le_refl 0, Nat.le_refl 0⟩ (fun H locs hR hS => ?_)
        refine lv_istore_n (lv' := [(3, .int v4), (0, .ref o), (1, .int x1), (2, .int x2)]) E.hx E.hb dX9_calm_35 rfl hl (by decide) rfl (fun ls hl => ?_)
        refine lv_aload_n E.hx E.hb dX9_calm_36 rfl (lv_at hl 1 rfl) ?_
        obtain ⟨σ5, hσ5, hf⟩ := bd_e hf
        refine mcall_v (rest := []) E hR hS (tX9_oneNight l hσ5) (cwX9_175 E.ht ⟨Nat.le_of_ble_eq_true rfl, Nat.le_of_ble_eq_true rfl⟩) rfl hl.1 rfl (Nat.le_of_ble_eq_true rfl) dX9_calm_37 ⟨Nat.le_refl 0, Nat.le_refl 0⟩ (fun H locs hR hS => ?_)
        refine lv_aload_n E.hx E.hb dX9_calm_40 rfl (lv_at hl 1 rfl) ?_
        refine lv_bipush (v := 11) E.hx E.hb dX9_calm_41 (by decide) ?_
        obtain ⟨⟨v7, σ6⟩, hv7, hf⟩ := bd_e hf
        refine mcall_i (rest := []) E hR hS (tX9_sumOf l hv7) (cwX9_209 E.ht ⟨Nat.le_of_ble_eq_true rfl, Nat.le_of_ble_eq_true rfl⟩) rfl hl.1 rfl (Nat.le_of_ble_eq_true rfl) dX9_calm_43 ⟨Nat.le_refl 0, Nat.le_refl 0⟩ (fun H locs hR hS => ?_)
        refine lv_iload_n E.hx E.hb dX9_calm_46 rfl (lv_at hl 0 rfl) ?_
        refine lv_icmp_ne (tgt := 54) E.hx E.hb dX9_calm_47 (by decide) (fun c8 => ?_) (fun c8 => ?_)
        · have hf := it_f hf c8
          refine lv_iload_n E.hx E.hb dX9_calm_54 rfl (lv_at hl 2 rfl) ?_
          refine lv_istore_n (lv' := [(1, .int x1), (3, .int v4), (0, .ref o), (2, .int x2)]) E.hx E.hb dX9_calm_55 rfl hl (by decide) rfl (fun ls hl => ?_)
          refine lv_iinc (v := (x2 + 1)) (lv' := [(2, .int (x2 + 1)), (1, .int x1), (3, .int v4), (0, .ref o)]) E.hx E.hb dX9_calm_56 hl (k := 3) rfl rfl (by decide) rfl (fun ls hl => ?_)
          refine lv_goto (tgt := 19) E.hx E.hb dX9_calm_59 (by decide) ?_
          exact ih σ6 _ _ hf _ _ _ hR hS (lv_sub hl [3, 1, 0] rfl)
        · have hf := it_t hf c8
          refine lv_iload_n E.hx E.hb dX9_calm_50 rfl (lv_at hl 3 rfl) ?_
          refine lv_goto (tgt := 55) E.hx E.hb dX9_calm_51 (by decide) ?_
          refine lv_istore_n (lv' := [(1, .int x2), (3, .int v4), (0, .ref o), (2, .int x2)]) E.hx E.hb dX9_calm_55 rfl hl (by decide) rfl (fun ls hl => ?_)
          refine lv_iinc (v := (x2 + 1)) (lv' := [(2, .int (x2 + 1)), (1, .int x2), (3, .int v4), (0, .ref o)]) E.hx E.hb dX9_calm_56 hl (k := 3) rfl rfl (by decide) rfl (fun ls hl => ?_)
          refine lv_goto (tgt := 19) E.hx E.hb dX9_calm_59 (by decide) ?_
          exact ih σ6 _ _ hf _ _ _ hR hS (lv_sub hl [3, 1, 0] rfl)
def fX9_calm  (σ : MS)  : Option (Int32 × MS) :=
  if (σ 0 4) = 0 then (some ((-1000002), σ)) else ((fX9_putAside σ).bind fun σ2 =>
  fX9_calm_L19 2000 σ2 (-1000000) 0)
theorem wX9_calm_0 (E : mE p m c cX9_calm 4 s args G cI cZ meth (some .int)) {σ : MS}  (hf : fX9_calm σ = some (r, σf)) : ∀ (H : Heap) (locs : List Loc) (ls : Array Slot), mR G cI cZ o σ H → va_S (mA o) s.heap H locs → lv_has ls 4 [(0, .ref o)] → W p l e rmX9_calm s m args below meth c H locs 0 0 (MQ below (mQi G cI cZ o r σf) args s 0 0 (mA o)) (F0 m 0 ls []) := by
  intro H locs ls hR hS hl
  refine lv_aload_n E.hx E.hb dX9_calm_0 rfl (lv_at hl 0 rfl) ?_
  refine mg_isThere E hR dX9_calm_1 ?_
  refine lv_if_ne (tgt := 10) E.hx E.hb dX9_calm_4 (by decide) (fun c1 => ?_) (fun c1 => ?_)
  · have hf := it_f hf c1
    refine lv_aload_n E.hx E.hb dX9_calm_10 rfl (lv_at hl 0 rfl) ?_
    obtain ⟨σ2, hσ2, hf⟩ := bd_e hf
    refine mcall_v (rest := []) E hR hS (tX9_putAside l hσ2) (cwX9_204 E.ht ⟨Nat.le_of_ble_eq_true rfl, Nat.le_of_ble_eq_true rfl⟩) rfl hl.1 rfl (Nat.le_of_ble_eq_true rfl) dX9_calm_11 ⟨Nat.le_refl 0, Nat.le_refl 0⟩ (fun H locs hR hS => ?_)
    refine lv_ldc (v := (-1000000)) E.hx E.hb E.ho (E.ht _ q1413) dX9_calm_14 ?_
    refine lv_istore_n (lv' := [(1, .int (-1000000)), (0, .ref o)]) E.hx E.hb dX9_calm_16 rfl hl (by decide) rfl (fun ls hl => ?_)
    refine lv_iconst (v := 0) E.hx E.hb dX9_calm_17 (by decide) ?_
    refine lv_istore_n (lv' := [(2, .int 0), (1, .int (-1000000)), (0, .ref o)]) E.hx E.hb dX9_calm_18 rfl hl (by decide) rfl (fun ls hl => ?_)
    exact wX9_calm_L19 E  2000 σ2 _ _ hf _ _ _ hR hS (lv_sub hl [2, 1, 0] rfl)
  · have hf := it_t hf c1
    refine lv_ldc (v := (-1000002)) E.hx E.hb E.ho (E.ht _ q1395) dX9_calm_7 ?_
    obtain ⟨rfl, rfl⟩ := rt_e hf
    exact mret_i E hR hS dX9_calm_9
theorem tX9_calm (l : Launch) {G : va_G} {cI cZ : ClassId} {o : Nat} {σ σf : MS}  {r : Int32} (hf : fX9_calm σ  = some (r, σf)) : Met l yX9_calm (ws_ yX9_calm cX9_calm 4 (some .int)) rmX9_calm (mPc G cI cZ o σ [.ref o]) (mQi G cI cZ o r σf) 0 0 (mA o) := by
  refine Met.ofW (cc := cX9_calm) (maxL := 4) (ret := (some .int)) (by decide) rfl ?_
  intro p e s m args below meth c s₁ B hml hv
  obtain ⟨rfl, hR, hK⟩ := hv
  have hts := atoms_spec (ws := (ws_ yX9_calm cX9_calm 4 (some .int))) B.pre
  rw [lg_entry_eq]
  exact wX9_calm_0 (E := ⟨⟨B.exec, B.bytes, hml, findClass_of_methodNamed B.named, fun w h => hts w (List.mem_cons_of_mem _ h)⟩, hK, B.returns, B.notSynchronized⟩) hf _ _ _ hR va_S.rf (lv_entry [.ref o] (n := 4) (Nat.le_of_ble_eq_true rfl))

abbrev rmX9_rankBy : Room := { frames := 8, cells := 0, slots := 0, locals := 168 }
def fX9_rankBy  (σ : MS) (x1 : Int32) (x2 : Int32) : Option (Int32 × MS) :=
  (fX9_goOn σ x2).bind fun σ1 =>
  (fX9_rankOf σ1 x1).bind fun (v3, σ2) =>
  (fX9_takeBack σ2).bind fun σ4 =>
  some (v3, σ4)
theorem wX9_rankBy_0 (E : mE p m c cX9_rankBy 4 s args G cI cZ meth (some .int)) {σ : MS} {x1 : Int32} {x2 : Int32} (hf : fX9_rankBy σ x1 x2 = some (r, σf)) : ∀ (H : Heap) (locs : List Loc) (ls : Array Slot), mR G cI cZ o σ H → va_S (mA o) s.heap H locs → lv_has ls 4 [(0, .ref o), (1, .int x1), (2, .int x2)] → W p l e rmX9_rankBy s m args below meth c H locs 0 0 (MQ below (mQi G cI cZ o r σf) args s 0 0 (mA o)) (F0 m 0 ls []) := by
  intro H locs ls hR hS hl
  refine lv_aload_n E.hx E.hb dX9_rankBy_0 rfl (lv_at hl 0 rfl) ?_
  refine lv_iload_n E.hx E.hb dX9_rankBy_1 rfl (lv_at hl 2 rfl) ?_
  obtain ⟨σ1, hσ1, hf⟩ := bd_e hf
  refine mcall_v (rest := []) E hR hS (tX9_goOn l hσ1) (cwX9_196 E.ht ⟨Nat.le_of_ble_eq_true rfl, Nat.le_of_ble_eq_true rfl⟩) rfl hl.1 rfl (Nat.le_of_ble_eq_true rfl) dX9_rankBy_2 ⟨Nat.le_refl 0, Nat.le_refl 0⟩ (fun H locs hR hS => ?_)
  refine lv_aload_n E.hx E.hb dX9_rankBy_5 rfl (lv_at hl 0 rfl) ?_
  refine lv_iload_n E.hx E.hb dX9_rankBy_6 rfl (lv_at hl 1 rfl) ?_
  obtain ⟨⟨v3, σ2⟩, hv3, hf⟩ := bd_e hf
  refine mcall_i (rest := []) E hR hS (tX9_rankOf l hv3) (cwX9_150 E.ht ⟨Nat.le_of_ble_eq_true rfl, Nat.le_of_ble_eq_true rfl⟩) rfl hl.1 rfl (Nat.le_of_ble_eq_true rfl) dX9_rankBy_7 ⟨Nat.le_refl 0, Nat.le_refl 0⟩ (fun H locs hR hS => ?_)
  refine lv_istore_n (lv' := [(3, .int v3), (0, .ref o), (1, .int x1), (2, .int x2)]) E.hx E.hb dX9_rankBy_10 rfl hl (by decide) rfl (fun ls hl => ?_)
  refine lv_aload_n E.hx E.hb dX9_rankBy_11 rfl (lv_at hl 1 rfl) ?_
  obtain ⟨σ4, hσ4, hf⟩ := bd_e hf
  refine mcall_v (rest := []) E hR hS (tX9_takeBack l hσ4) (cwX9_199 E.ht ⟨Nat.le_of_ble_eq_true rfl, Nat.le_of_ble_eq_true rfl⟩) rfl hl.1 rfl (Nat.le_of_ble_eq_true rfl) dX9_rankBy_12 ⟨Nat.le_refl 0, Nat.le_refl 0⟩ (fun H locs hR hS => ?_)
  refine lv_iload_n E.hx E.hb dX9_rankBy_15 rfl (lv_at hl 0 rfl) ?_
  obtain ⟨rfl, rfl⟩ := rt_e hf
  exact mret_i E hR hS dX9_rankBy_16
theorem tX9_rankBy (l : Launch) {G : va_G} {cI cZ : ClassId} {o : Nat} {σ σf : MS} {x1 : Int32} {x2 : Int32} {r : Int32} (hf : fX9_rankBy σ x1 x2 = some (r, σf)) : Met l yX9_rankBy (ws_ yX9_rankBy cX9_rankBy 4 (some .int)) rmX9_rankBy (mPc G cI cZ o σ [.ref o, .int x1, .int x2]) (mQi G cI cZ o r σf) 0 0 (mA o) := by
  refine Met.ofW (cc := cX9_rankBy) (maxL := 4) (ret := (some .int)) (by decide) rfl ?_
  intro p e s m args below meth c s₁ B hml hv
  obtain ⟨rfl, hR, hK⟩ := hv
  have hts := atoms_spec (ws := (ws_ yX9_rankBy cX9_rankBy 4 (some .int))) B.pre
  rw [lg_entry_eq]
  exact wX9_rankBy_0 (E := ⟨⟨B.exec, B.bytes, hml, findClass_of_methodNamed B.named, fun w h => hts w (List.mem_cons_of_mem _ h)⟩, hK, B.returns, B.notSynchronized⟩) hf _ _ _ hR va_S.rf (lv_entry [.ref o, .int x1, .int x2] (n := 4) (Nat.le_of_ble_eq_true rfl))

theorem cwX9_214 {R : Room} {s : State} {args : Array Value} (ht : ∀ w ∈ lw_all, w.before args s = true) (hR : rmX9_rankBy.frames + 1 ≤ R.frames ∧ 8 + (4 + 11) + rmX9_rankBy.locals ≤ R.locals) : CallW R s args RX9 RX9 214 yX9_rankBy cX9_rankBy 4 (some .int) (ws_ yX9_rankBy cX9_rankBy 4 (some .int)) rmX9_rankBy 0 0 2 :=
  cwV 2 ht (lw_V q1524 q1526 qs55 q80 q1527) rfl rfl rfl (by decide +kernel) hR
abbrev rmX9_cushionFor : Room := { frames := 9, cells := 0, slots := 0, locals := 191 }
def fX9_cushionFor_L46  : Nat → MS → Int32 → Int32 → Int32 → Int32 → Int32 → Option (Int32 × MS)
  | 0, _, _, _, _, _, _ => none
  | n + 1, σ, x1, x2, x3, x4, x5 =>
    if 20 < x5 then (some (x4, σ)) else (if 0 ≤ x4 then (some (x4, σ)) else ((mwr σ 4 41 (29 + x1) x5).bind fun σ3 =>
    (fX9_rankBy σ3 x1 x3).bind fun (v5, σ4) =>
    if x2 < v5 then ((fX9_cushionFor_L46 n) σ4 x1 x2 x3 x4 (x5 + 1)) else ((fX9_cushionFor_L46 n) σ4 x1 x2 x3 x5 (x5 + 1))))
theorem wX9_cushionFor_L46 (E : mE p m c cX9_cushionFor 6 s args G cI cZ meth (some .int)) : ∀ (n : Nat) (σ : MS) (x1 : Int32) (x2 : Int32) (x3 : Int32) (x4 : Int32) (x5 : Int32), fX9_cushionFor_L46 n σ x1 x2 x3 x4 x5 = some (r, σf) → ∀ (H : Heap) (locs : List Loc) (ls : Array Slot), mR G cI cZ o σ H → va_S (mA o) s.heap H locs → lv_has ls 6 [(0, .ref o), (1, .int x1), (2, .int x2), (3, .int x3), (4, .int x4), (5, .int x5)] → W p l e rmX9_cushionFor s m args below meth c H locs 0 0 (MQ below (mQi G cI cZ o r σf) args s 0 0 (mA o)) (F0 m 46 ls []) := by
  intro n
  induction n with
  | zero =>
    intro σ x1 x2 x3 x4 x5 hf
    have hf : none = some (r, σf) := hf
    cases hf
  | succ n ih =>
    intro σ x1 x2 x3 x4 x5 hf H locs ls hR hS hl
    refine lv_iload E.hx E.hb dX9_cushionFor_46 (lv_at hl 5 rfl) ?_
    refine lv_bipush (v := 20) E.hx E.hb dX9_cushionFor_48 (by decide) ?_
    refine lv_icmp_gt (tgt := 94) E.hx E.hb dX9_cushionFor_50 (by decide) (fun c1 => ?_) (fun c1 => ?_)
    · have hf := it_t hf c1
      refine lv_iload E.hx E.hb dX9_cushionFor_94 (lv_at hl 4 rfl) ?_
      obtain ⟨rfl, rfl⟩ := rt_e hf
      exact mret_i E hR hS dX9_cushionFor_96
    · have hf := it_f hf c1
      refine lv_iload E.hx E.hb dX9_cushionFor_53 (lv_at hl 4 rfl) ?_
      refine lv_if_ge (tgt := 94) E.hx E.hb dX9_cushionFor_55 (by decide) (fun c2 => ?_) (fun c2 => ?_)
      · have hf := it_t hf c2
        refine lv_iload E.hx E.hb dX9_cushionFor_94 (lv_at hl 4 rfl) ?_
        obtain ⟨rfl, rfl⟩ := rt_e hf
        exact mret_i E hR hS dX9_cushionFor_96
      · have hf := it_f hf c2
        refine lv_aload_n E.hx E.hb dX9_cushionFor_58 rfl (lv_at hl 0 rfl) ?_
        refine mg_st E hR dX9_cushionFor_59 ?_
        refine lv_bipush (v := 29) E.hx E.hb dX9_cushionFor_62 (by decide) ?_
        refine lv_iload_n E.hx E.hb dX9_cushionFor_64 rfl (lv_at hl 1 rfl) ?_
        refine lv_iadd E.hx E.hb dX9_cushionFor_65 ?_
        refine lv_iload E.hx E.hb dX9_cushionFor_66 (lv_at hl 5 rfl) ?_
        obtain ⟨σ3, hσ3, hf⟩ := bd_e hf
        refine ms_st E hR hS hσ3 dX9_cushionFor_68 (fun H locs hR hS => ?_)
        refine lv_aload_n E.hx E.hb dX9_cushionFor_69 rfl (lv_at hl 0 rfl) ?_
        refine lv_iload_n E.hx E.hb dX9_cushionFor_70 rfl (lv_at hl 1 rfl) ?_
        refine lv_iload_n E.hx E.hb dX9_cushionFor_71 rfl (lv_at hl 3 rfl) ?_
        obtain ⟨⟨v5, σ4⟩, hv5, hf⟩ := bd_e hf
        refine mcall_i (rest := []) E hR hS (tX9_rankBy l hv5) (cwX9_214 E.ht ⟨Nat.le_of_ble_eq_true rfl, Nat.le_of_ble_eq_true rfl⟩) rfl hl.1 rfl (Nat.le_of_ble_eq_true rfl) dX9_cushionFor_72 ⟨Nat.le_refl 0, Nat.le_refl 0⟩ (fun H locs hR hS => ?_)
        refine lv_iload_n E.hx E.hb dX9_cushionFor_75 rfl (lv_at hl 2 rfl) ?_
        refine lv_icmp_gt (tgt := 84) E.hx E.hb dX9_cushionFor_76 (by decide) (fun c6 => ?_) (fun c6 => ?_)
        · have hf := it_t hf c6
          refine lv_iload E.hx E.hb dX9_cushionFor_84 (lv_at hl 4 rfl) ?_
          refine lv_istore (lv' := [(4, .int x4), (0, .ref o), (1, .int x1), (2, .int x2), (3, .int x3), (5, .int x5)]) E.hx E.hb dX9_cushionFor_86 hl (by decide) rfl (fun ls hl => ?_)
          refine lv_iinc (v := (x5 + 1)) (lv' := [(5, .int (x5 + 1)), (4, .int x4), (0, .ref o), (1, .int x1), (2, .int x2), (3, .int x3)]) E.hx E.hb dX9_cushionFor_88 hl (k := 5) rfl rfl (by decide) rfl (fun ls hl => ?_)
          refine lv_goto (tgt := 46) E.hx E.hb dX9_cushionFor_91 (by decide) ?_
          exact ih σ4 _ _ _ _ _ hf _ _ _ hR hS (lv_sub hl [2, 3, 4, 5, 1, 0] rfl)
        · have hf := it_f hf c6
          refine lv_iload E.hx E.hb dX9_cushionFor_79 (lv_at hl 5 rfl) ?_
          refine lv_goto (tgt := 86) E.hx E.hb dX9_cushionFor_81 (by decide) ?_
          refine lv_istore (lv' := [(4, .int x5), (0, .ref o), (1, .int x1), (2, .int x2), (3, .int x3), (5, .int x5)]) E.hx E.hb dX9_cushionFor_86 hl (by decide) rfl (fun ls hl => ?_)
          refine lv_iinc (v := (x5 + 1)) (lv' := [(5, .int (x5 + 1)), (4, .int x5), (0, .ref o), (1, .int x1), (2, .int x2), (3, .int x3)]) E.hx E.hb dX9_cushionFor_88 hl (k := 5) rfl rfl (by decide) rfl (fun ls hl => ?_)
          refine lv_goto (tgt := 46) E.hx E.hb dX9_cushionFor_91 (by decide) ?_
          exact ih σ4 _ _ _ _ _ hf _ _ _ hR hS (lv_sub hl [2, 3, 4, 5, 1, 0] rfl)
def fX9_cushionFor  (σ : MS) (x1 : Int32) (x2 : Int32) (x3 : Int32) : Option (Int32 × MS) :=
  (fX9_isChair σ x1).bind fun (v2, σ1) =>
  if v2 = 0 then (some ((-1000001), σ1)) else ((fX9_in (x2.toInt64) 0 5).bind fun v4 =>
  if v4 = 0 then (some ((-1000001), σ1)) else ((fX9_in (x3.toInt64) 0 30).bind fun v6 =>
  if v6 = 0 then (some ((-1000001), σ1)) else ((fX9_putAside σ1).bind fun σ8 =>
  fX9_cushionFor_L46 2000 σ8 x1 x2 x3 (-1000000) 0)))
theorem wX9_cushionFor_0 (E : mE p m c cX9_cushionFor 6 s args G cI cZ meth (some .int)) {σ : MS} {x1 : Int32} {x2 : Int32} {x3 : Int32} (hf : fX9_cushionFor σ x1 x2 x3 = some (r, σf)) : ∀ (H : Heap) (locs : List Loc) (ls : Array Slot), mR G cI cZ o σ H → va_S (mA o) s.heap H locs → lv_has ls 6 [(0, .ref o), (1, .int x1), (2, .int x2), (3, .int x3)] → W p l e rmX9_cushionFor s m args below meth c H locs 0 0 (MQ below (mQi G cI cZ o r σf) args s 0 0 (mA o)) (F0 m 0 ls []) := by
  intro H locs ls hR hS hl
  refine lv_aload_n E.hx E.hb dX9_cushionFor_0 rfl (lv_at hl 0 rfl) ?_
  refine lv_iload_n E.hx E.hb dX9_cushionFor_1 rfl (lv_at hl 1 rfl) ?_
  obtain ⟨⟨v2, σ1⟩, hv2, hf⟩ := bd_e hf
  refine mcall_i (rest := []) E hR hS (tX9_isChair l hv2) (cwX9_178 E.ht ⟨Nat.le_of_ble_eq_true rfl, Nat.le_of_ble_eq_true rfl⟩) rfl hl.1 rfl (Nat.le_of_ble_eq_true rfl) dX9_cushionFor_2 ⟨Nat.le_refl 0, Nat.le_refl 0⟩ (fun H locs hR hS => ?_)
  refine lv_if_eq (tgt := 32) E.hx E.hb dX9_cushionFor_5 (by decide) (fun c3 => ?_) (fun c3 => ?_)
  · have hf := it_t hf c3
    refine lv_ldc (v := (-1000001)) E.hx E.hb E.ho (E.ht _ q1319) dX9_cushionFor_32 ?_
    obtain ⟨rfl, rfl⟩ := rt_e hf
    exact mret_i E hR hS dX9_cushionFor_34
  · have hf := it_f hf c3
    refine lv_iload_n E.hx E.hb dX9_cushionFor_8 rfl (lv_at hl 2 rfl) ?_
    refine lv_i2l E.hx E.hb dX9_cushionFor_9 rfl ?_
    refine lv_lconst (v := 0) E.hx E.hb dX9_cushionFor_10 (by decide) ?_
    refine lv_ldc2 (v := 5) E.hx E.hb E.ho (E.ht _ q1510) dX9_cushionFor_11 ?_
    obtain ⟨v4, hv4, hf⟩ := bd_e hf
    refine scall_i (rest := []) E.1 (tX9_in l hv4) (cwX9_57 E.ht ⟨Nat.le_of_ble_eq_true rfl, Nat.le_of_ble_eq_true rfl⟩) rfl hl.1 rfl (Nat.le_of_ble_eq_true rfl) dX9_cushionFor_14 ⟨Nat.le_refl 0, Nat.le_refl 0⟩ ?_
    refine lv_if_eq (tgt := 32) E.hx E.hb dX9_cushionFor_17 (by decide) (fun c5 => ?_) (fun c5 => ?_)
    · have hf := it_t hf c5
      refine lv_ldc (v := (-1000001)) E.hx E.hb E.ho (E.ht _ q1319) dX9_cushionFor_32 ?_
      obtain ⟨rfl, rfl⟩ := rt_e hf
      exact mret_i E hR hS dX9_cushionFor_34
    · have hf := it_f hf c5
      refine lv_iload_n E.hx E.hb dX9_cushionFor_20 rfl (lv_at hl 3 rfl) ?_
      refine lv_i2l E.hx E.hb dX9_cushionFor_21 rfl ?_
      refine lv_lconst (v := 0) E.hx E.hb dX9_cushionFor_22 (by decide) ?_
      refine lv_ldc2 (v := 30) E.hx E.hb E.ho (E.ht _ q1523) dX9_cushionFor_23 ?_
      obtain ⟨v6, hv6, hf⟩ := bd_e hf
      refine scall_i (rest := []) E.1 (tX9_in l hv6) (cwX9_57 E.ht ⟨Nat.le_of_ble_eq_true rfl, Nat.le_of_ble_eq_true rfl⟩) rfl hl.1 rfl (Nat.le_of_ble_eq_true rfl) dX9_cushionFor_26 ⟨Nat.le_refl 0, Nat.le_refl 0⟩ ?_
      refine lv_if_ne (tgt := 35) E.hx E.hb dX9_cushionFor_29 (by decide) (fun c7 => ?_) (fun c7 => ?_)
      · have hf := it_f hf c7
        refine lv_aload_n E.hx E.hb dX9_cushionFor_35 rfl (lv_at hl 0 rfl) ?_
        obtain ⟨σ8, hσ8, hf⟩ := bd_e hf
        refine mcall_v (rest := []) E hR hS (tX9_putAside l hσ8) (cwX9_204 E.ht ⟨Nat.le_of_ble_eq_true rfl, Nat.le_of_ble_eq_true rfl⟩) rfl hl.1 rfl (Nat.le_of_ble_eq_true rfl) dX9_cushionFor_36 ⟨Nat.le_refl 0, Nat.le_refl 0⟩ (fun H locs hR hS => ?_)
        refine lv_ldc (v := (-1000000)) E.hx E.hb E.ho (E.ht _ q1413) dX9_cushionFor_39 ?_
        refine lv_istore (lv' := [(4, .int (-1000000)), (0, .ref o), (1, .int x1), (2, .int x2), (3, .int x3)]) E.hx E.hb dX9_cushionFor_41 hl (by decide) rfl (fun ls hl => ?_)
        refine lv_iconst (v := 0) E.hx E.hb dX9_cushionFor_43 (by decide) ?_
        refine lv_istore (lv' := [(5, .int 0), (4, .int (-1000000)), (0, .ref o), (1, .int x1), (2, .int x2), (3, .int x3)]) E.hx E.hb dX9_cushionFor_44 hl (by decide) rfl (fun ls hl => ?_)
        exact wX9_cushionFor_L46 E  2000 σ8 _ _ _ _ _ hf _ _ _ hR hS (lv_sub hl [2, 3, 4, 5, 1, 0] rfl)
      · have hf := it_t hf c7
        refine lv_ldc (v := (-1000001)) E.hx E.hb E.ho (E.ht _ q1319) dX9_cushionFor_32 ?_
        obtain ⟨rfl, rfl⟩ := rt_e hf
        exact mret_i E hR hS dX9_cushionFor_34
theorem tX9_cushionFor (l : Launch) {G : va_G} {cI cZ : ClassId} {o : Nat} {σ σf : MS} {x1 : Int32} {x2 : Int32} {x3 : Int32} {r : Int32} (hf : fX9_cushionFor σ x1 x2 x3 = some (r, σf)) : Met l yX9_cushionFor (ws_ yX9_cushionFor cX9_cushionFor 6 (some .int)) rmX9_cushionFor (mPc G cI cZ o σ [.ref o, .int x1, .int x2, .int x3]) (mQi G cI cZ o r σf) 0 0 (mA o) := by
  refine Met.ofW (cc := cX9_cushionFor) (maxL := 6) (ret := (some .int)) (by decide) rfl ?_
  intro p e s m args below meth c s₁ B hml hv
  obtain ⟨rfl, hR, hK⟩ := hv
  have hts := atoms_spec (ws := (ws_ yX9_cushionFor cX9_cushionFor 6 (some .int))) B.pre
  rw [lg_entry_eq]
  exact wX9_cushionFor_0 (E := ⟨⟨B.exec, B.bytes, hml, findClass_of_methodNamed B.named, fun w h => hts w (List.mem_cons_of_mem _ h)⟩, hK, B.returns, B.notSynchronized⟩) hf _ _ _ hR va_S.rf (lv_entry [.ref o, .int x1, .int x2, .int x3] (n := 6) (Nat.le_of_ble_eq_true rfl))

abbrev rmX9_isWhat : Room := { frames := 2, cells := 0, slots := 0, locals := 37 }
def fX9_isWhat   (x0 : Int32) : Option Int32 :=
  (fX9_in (x0.toInt64) 0 1).bind fun v1 =>
  bz v1
theorem wX9_isWhat_0 (E : sE p m c cX9_isWhat 1 s args RX9 meth (some .boolean))  {x0 : Int32} (hf : fX9_isWhat x0 = some r) : ∀ (ls : Array Slot), lv_has ls 1 [(0, .int x0)] → W p l e rmX9_isWhat s m args below meth c s.heap [] 0 0 (MQ below (sQi r) args s 0 0 (fun _ => False)) (F0 m 0 ls []) := by
  intro ls hl
  refine lv_iload_n E.hx E.hb dX9_isWhat_0 rfl (lv_at hl 0 rfl) ?_
  refine lv_i2l E.hx E.hb dX9_isWhat_1 rfl ?_
  refine lv_lconst (v := 0) E.hx E.hb dX9_isWhat_2 (by decide) ?_
  refine lv_lconst (v := 1) E.hx E.hb dX9_isWhat_3 (by decide) ?_
  obtain ⟨v1, hv1, hf⟩ := bd_e hf
  refine scall_i (rest := []) E.1 (tX9_in l hv1) (cwX9_57 E.ht ⟨Nat.le_of_ble_eq_true rfl, Nat.le_of_ble_eq_true rfl⟩) rfl hl.1 rfl (Nat.le_of_ble_eq_true rfl) dX9_isWhat_4 ⟨Nat.le_refl 0, Nat.le_refl 0⟩ ?_
  obtain ⟨hz, rfl⟩ := bz_e hf
  exact sret_z E hz dX9_isWhat_7
theorem tX9_isWhat (l : Launch) {x0 : Int32} {r : Int32} (hf : fX9_isWhat x0 = some r) : Met l yX9_isWhat (ws_ yX9_isWhat cX9_isWhat 1 (some .boolean)) rmX9_isWhat (sPc [.int x0]) (sQi r) 0 0 (fun _ => False) := by
  refine Met.ofW (cc := cX9_isWhat) (maxL := 1) (ret := (some .boolean)) (by decide) rfl ?_
  intro p e s m args below meth c s₁ B hml hv
  obtain ⟨rfl, -⟩ := hv
  have hts := atoms_spec (ws := (ws_ yX9_isWhat cX9_isWhat 1 (some .boolean))) B.pre
  rw [lg_entry_eq]
  exact wX9_isWhat_0 (E := ⟨⟨B.exec, B.bytes, hml, findClass_of_methodNamed B.named, fun w h => hts w (List.mem_cons_of_mem _ h)⟩, B.returns, B.notSynchronized⟩) hf _ (lv_entry [.int x0] (n := 1) (Nat.le_of_ble_eq_true rfl))

theorem cwX9_217 {R : Room} {s : State} {args : Array Value} (ht : ∀ w ∈ lw_all, w.before args s = true) (hR : rmX9_isWhat.frames + 1 ≤ R.frames ∧ 8 + (1 + 11) + rmX9_isWhat.locals ≤ R.locals) : CallB R s args RX9 217 yX9_isWhat cX9_isWhat 1 (some .boolean) (ws_ yX9_isWhat cX9_isWhat 1 (some .boolean)) rmX9_isWhat 0 0 1 ∧ (Cond.static yX9_isWhat).before args s = true :=
  va_cwS 1 ht (lw_S q1532 q1533 q80 q1534) rfl rfl rfl (by decide +kernel) hR
abbrev rmX9_guard : Room := { frames := 9, cells := 0, slots := 0, locals := 191 }
def fX9_guard_b85 (k54 : MS → Int32 → Int32 → Int32 → Int32 → Int32 → Int32 → Option (Int32 × MS)) (σ : MS) (x1 : Int32) (x2 : Int32) (x3 : Int32) (x4 : Int32) (x5 : Int32) (x6 : Int32) : Option (Int32 × MS) :=
  (mwr σ 4 41 4 x6).bind fun σ1 =>
  (fX9_rankBy σ1 x1 x3).bind fun (v3, σ2) =>
  if x2 < v3 then (k54 σ2 x1 x2 x3 x4 x5 (x6 + 1)) else (k54 σ2 x1 x2 x3 x4 x6 (x6 + 1))
theorem wX9_guard_b85 (E : mE p m c cX9_guard 7 s args G cI cZ meth (some .int)) {k54 : MS → Int32 → Int32 → Int32 → Int32 → Int32 → Int32 → Option (Int32 × MS)} (hk54 : ∀ (σ : MS) (x1 : Int32) (x2 : Int32) (x3 : Int32) (x4 : Int32) (x5 : Int32) (x6 : Int32), k54 σ x1 x2 x3 x4 x5 x6 = some (r, σf) → ∀ (H : Heap) (locs : List Loc) (ls : Array Slot), mR G cI cZ o σ H → va_S (mA o) s.heap H locs → lv_has ls 7 [(0, .ref o), (1, .int x1), (2, .int x2), (3, .int x3), (4, .int x4), (5, .int x5), (6, .int x6)] → W p l e rmX9_guard s m args below meth c H locs 0 0 (MQ below (mQi G cI cZ o r σf) args s 0 0 (mA o)) (F0 m 54 ls [])) {σ : MS} {x1 : Int32} {x2 : Int32} {x3 : Int32} {x4 : Int32} {x5 : Int32} {x6 : Int32} (hf : fX9_guard_b85 k54 σ x1 x2 x3 x4 x5 x6 = some (r, σf)) : ∀ (H : Heap) (locs : List Loc) (ls : Array Slot), mR G cI cZ o σ H → va_S (mA o) s.heap H locs → lv_has ls 7 [(0, .ref o), (1, .int x1), (2, .int x2), (3, .int x3), (4, .int x4), (5, .int x5), (6, .int x6)] → W p l e rmX9_guard s m args below meth c H locs 0 0 (MQ below (mQi G cI cZ o r σf) args s 0 0 (mA o)) (F0 m 85 ls []) := by
  intro H locs ls hR hS hl
  refine lv_aload_n E.hx E.hb dX9_guard_85 rfl (lv_at hl 0 rfl) ?_
  refine mg_st E hR dX9_guard_86 ?_
  refine lv_iconst (v := 4) E.hx E.hb dX9_guard_89 (by decide) ?_
  refine lv_iload E.hx E.hb dX9_guard_90 (lv_at hl 6 rfl) ?_
  obtain ⟨σ1, hσ1, hf⟩ := bd_e hf
  refine ms_st E hR hS hσ1 dX9_guard_92 (fun H locs hR hS => ?_)
  refine lv_aload_n E.hx E.hb dX9_guard_93 rfl (lv_at hl 0 rfl) ?_
  refine lv_iload_n E.hx E.hb dX9_guard_94 rfl (lv_at hl 1 rfl) ?_
  refine lv_iload_n E.hx E.hb dX9_guard_95 rfl (lv_at hl 3 rfl) ?_
  obtain ⟨⟨v3, σ2⟩, hv3, hf⟩ := bd_e hf
  refine mcall_i (rest := []) E hR hS (tX9_rankBy l hv3) (cwX9_214 E.ht ⟨Nat.le_of_ble_eq_true rfl, Nat.le_of_ble_eq_true rfl⟩) rfl hl.1 rfl (Nat.le_of_ble_eq_true rfl) dX9_guard_96 ⟨Nat.le_refl 0, Nat.le_refl 0⟩ (fun H locs hR hS => ?_)
  refine lv_iload_n E.hx E.hb dX9_guard_99 rfl (lv_at hl 2 rfl) ?_
  refine lv_icmp_gt (tgt := 108) E.hx E.hb dX9_guard_100 (by decide) (fun c4 => ?_) (fun c4 => ?_)
  · have hf := it_t hf c4
    refine lv_iload E.hx E.hb dX9_guard_108 (lv_at hl 5 rfl) ?_
    refine lv_istore (lv' := [(5, .int x5), (0, .ref o), (1, .int x1), (2, .int x2), (3, .int x3), (4, .int x4), (6, .int x6)]) E.hx E.hb dX9_guard_110 hl (by decide) rfl (fun ls hl => ?_)
    refine lv_iinc (v := (x6 + 1)) (lv' := [(6, .int (x6 + 1)), (5, .int x5), (0, .ref o), (1, .int x1), (2, .int x2), (3, .int x3), (4, .int x4)]) E.hx E.hb dX9_guard_112 hl (k := 6) rfl rfl (by decide) rfl (fun ls hl => ?_)
    refine lv_goto (tgt := 54) E.hx E.hb dX9_guard_115 (by decide) ?_
    exact hk54 σ2 _ _ _ _ _ _ hf _ _ _ hR hS (lv_sub hl [2, 3, 4, 5, 6, 1, 0] rfl)
  · have hf := it_f hf c4
    refine lv_iload E.hx E.hb dX9_guard_103 (lv_at hl 6 rfl) ?_
    refine lv_goto (tgt := 110) E.hx E.hb dX9_guard_105 (by decide) ?_
    refine lv_istore (lv' := [(5, .int x6), (0, .ref o), (1, .int x1), (2, .int x2), (3, .int x3), (4, .int x4), (6, .int x6)]) E.hx E.hb dX9_guard_110 hl (by decide) rfl (fun ls hl => ?_)
    refine lv_iinc (v := (x6 + 1)) (lv' := [(6, .int (x6 + 1)), (5, .int x6), (0, .ref o), (1, .int x1), (2, .int x2), (3, .int x3), (4, .int x4)]) E.hx E.hb dX9_guard_112 hl (k := 6) rfl rfl (by decide) rfl (fun ls hl => ?_)
    refine lv_goto (tgt := 54) E.hx E.hb dX9_guard_115 (by decide) ?_
    exact hk54 σ2 _ _ _ _ _ _ hf _ _ _ hR hS (lv_sub hl [2, 3, 4, 5, 6, 1, 0] rfl)
def fX9_guard_L54  : Nat → MS → Int32 → Int32 → Int32 → Int32 → Int32 → Int32 → Option (Int32 × MS)
  | 0, _, _, _, _, _, _, _ => none
  | n + 1, σ, x1, x2, x3, x4, x5, x6 =>
    (rd (σ 4) 41 2).bind fun v1 =>
    if (1 <<< (v1 &&& 31)) ≤ x6 then (if x5 < 0 then (some (x5, σ)) else (if x4 = 1 then (some (x5, σ)) else ((fX9_ones x5).bind fun v5 =>
    some (v5, σ)))) else (if x5 < 0 then (fX9_guard_b85 (fX9_guard_L54 n) σ x1 x2 x3 x4 x5 x6) else ((fX9_ones x6).bind fun v7 =>
    (fX9_ones x5).bind fun v8 =>
    if v8 ≤ v7 then ((fX9_guard_L54 n) σ x1 x2 x3 x4 x5 (x6 + 1)) else (fX9_guard_b85 (fX9_guard_L54 n) σ x1 x2 x3 x4 x5 x6)))
theorem wX9_guard_L54 (E : mE p m c cX9_guard 7 s args G cI cZ meth (some .int)) : ∀ (n : Nat) (σ : MS) (x1 : Int32) (x2 : Int32) (x3 : Int32) (x4 : Int32) (x5 : Int32) (x6 : Int32), fX9_guard_L54 n σ x1 x2 x3 x4 x5 x6 = some (r, σf) → ∀ (H : Heap) (locs : List Loc) (ls : Array Slot), mR G cI cZ o σ H → va_S (mA o) s.heap H locs → lv_has ls 7 [(0, .ref o), (1, .int x1), (2, .int x2), (3, .int x3), (4, .int x4), (5, .int x5), (6, .int x6)] → W p l e rmX9_guard s m args below meth c H locs 0 0 (MQ below (mQi G cI cZ o r σf) args s 0 0 (mA o)) (F0 m 54 ls []) := by
  intro n
  induction n with
  | zero =>
    intro σ x1 x2 x3 x4 x5 x6 hf
    have hf : none = some (r, σf) := hf
    cases hf
  | succ n ih =>
    intro σ x1 x2 x3 x4 x5 x6 hf H locs ls hR hS hl
    refine lv_iload E.hx E.hb dX9_guard_54 (lv_at hl 6 rfl) ?_
    refine lv_iconst (v := 1) E.hx E.hb dX9_guard_56 (by decide) ?_
    refine lv_aload_n E.hx E.hb dX9_guard_57 rfl (lv_at hl 0 rfl) ?_
    refine mg_st E hR dX9_guard_58 ?_
    refine lv_iconst (v := 2) E.hx E.hb dX9_guard_61 (by decide) ?_
    obtain ⟨v1, hv1, hf⟩ := bd_e hf
    refine ml_st E hR hv1 dX9_guard_62 ?_
    refine lv_ishl E.hx E.hb dX9_guard_63 ?_
    refine lv_icmp_ge (tgt := 118) E.hx E.hb dX9_guard_64 (by decide) (fun c2 => ?_) (fun c2 => ?_)
    · have hf := it_t hf c2
      refine lv_iload E.hx E.hb dX9_guard_118 (lv_at hl 5 rfl) ?_
      refine lv_if_lt (tgt := 129) E.hx E.hb dX9_guard_120 (by decide) (fun c3 => ?_) (fun c3 => ?_)
      · have hf := it_t hf c3
        refine lv_iload E.hx E.hb dX9_guard_129 (lv_at hl 5 rfl) ?_
        refine lv_goto (tgt := 139) E.hx E.hb dX9_guard_131 (by decide) ?_
        obtain ⟨rfl, rfl⟩ := rt_e hf
        exact mret_i E hR hS dX9_guard_139
      · have hf := it_f hf c3
        refine lv_iload E.hx E.hb dX9_guard_123 (lv_at hl 4 rfl) ?_
        refine lv_iconst (v := 1) E.hx E.hb dX9_guard_125 (by decide) ?_
        refine lv_icmp_ne (tgt := 134) E.hx E.hb dX9_guard_126 (by decide) (fun c4 => ?_) (fun c4 => ?_)
        · have hf := it_f hf c4
          refine lv_iload E.hx E.hb dX9_guard_134 (lv_at hl 5 rfl) ?_
          obtain ⟨v5, hv5, hf⟩ := bd_e hf
          refine scall_i (rest := []) E.1 (tX9_ones l hv5) (cwX9_187 E.ht ⟨Nat.le_of_ble_eq_true rfl, Nat.le_of_ble_eq_true rfl⟩) rfl hl.1 rfl (Nat.le_of_ble_eq_true rfl) dX9_guard_136 ⟨Nat.le_refl 0, Nat.le_refl 0⟩ ?_
          obtain ⟨rfl, rfl⟩ := rt_e hf
          exact mret_i E hR hS dX9_guard_139
        · have hf := it_t hf c4
          refine lv_iload E.hx E.hb dX9_guard_129 (lv_at hl 5 rfl) ?_
          refine lv_goto (tgt := 139) E.hx E.hb dX9_guard_131 (by decide) ?_
          obtain ⟨rfl, rfl⟩ := rt_e hf
          exact mret_i E hR hS dX9_guard_139
    · have hf := it_f hf c2
      refine lv_iload E.hx E.hb dX9_guard_67 (lv_at hl 5 rfl) ?_
      refine lv_if_lt (tgt := 85) E.hx E.hb dX9_guard_69 (by decide) (fun c6 => ?_) (fun c6 => ?_)
      · have hf := it_t hf c6
        exact wX9_guard_b85 E ih hf _ _ _ hR hS (lv_sub hl [0, 1, 2, 3, 4, 5, 6] rfl)
      · have hf := it_f hf c6
        refine lv_iload E.hx E.hb dX9_guard_72 (lv_at hl 6 rfl) ?_
        obtain ⟨v7, hv7, hf⟩ := bd_e hf
        refine scall_i (rest := []) E.1 (tX9_ones l hv7) (cwX9_187 E.ht ⟨Nat.le_of_ble_eq_true rfl, Nat.le_of_ble_eq_true rfl⟩) rfl hl.1 rfl (Nat.le_of_ble_eq_true rfl) dX9_guard_74 ⟨Nat.le_refl 0, Nat.le_refl 0⟩ ?_
        refine lv_iload E.hx E.hb dX9_guard_77 (lv_at hl 5 rfl) ?_
        obtain ⟨v8, hv8, hf⟩ := bd_e hf
        refine scall_i (rest := [.int v7]) E.1 (tX9_ones l hv8) (cwX9_187 E.ht ⟨Nat.le_of_ble_eq_true rfl, Nat.le_of_ble_eq_true rfl⟩) rfl hl.1 rfl (Nat.le_of_ble_eq_true rfl) dX9_guard_79 ⟨Nat.le_refl 0, Nat.le_refl 0⟩ ?_
        refine lv_icmp_ge (tgt := 112) E.hx E.hb dX9_guard_82 (by decide) (fun c9 => ?_) (fun c9 => ?_)
        · have hf := it_t hf c9
          refine lv_iinc (v := (x6 + 1)) (lv' := [(6, .int (x6 + 1)), (0, .ref o), (1, .int x1), (2, .int x2), (3, .int x3), (4, .int x4), (5, .int x5)]) E.hx E.hb dX9_guard_112 hl (k := 6) rfl rfl (by decide) rfl (fun ls hl => ?_)
          refine lv_goto (tgt := 54) E.hx E.hb dX9_guard_115 (by decide) ?_
          exact ih σ _ _ _ _ _ _ hf _ _ _ hR hS (lv_sub hl [1, 2, 3, 4, 5, 6, 0] rfl)
        · have hf := it_f hf c9
          exact wX9_guard_b85 E ih hf _ _ _ hR hS (lv_sub hl [0, 1, 2, 3, 4, 5, 6] rfl)
def fX9_guard  (σ : MS) (x1 : Int32) (x2 : Int32) (x3 : Int32) (x4 : Int32) : Option (Int32 × MS) :=
  (fX9_isChair σ x1).bind fun (v2, σ1) =>
  if v2 = 0 then (some ((-1000001), σ1)) else ((fX9_in (x2.toInt64) 0 5).bind fun v4 =>
  if v4 = 0 then (some ((-1000001), σ1)) else ((fX9_in (x3.toInt64) 0 30).bind fun v6 =>
  if v6 = 0 then (some ((-1000001), σ1)) else ((fX9_isWhat x4).bind fun v8 =>
  if v8 = 0 then (some ((-1000001), σ1)) else ((fX9_putAside σ1).bind fun σ10 =>
  fX9_guard_L54 2000 σ10 x1 x2 x3 x4 (-1000000) 0))))
theorem wX9_guard_0 (E : mE p m c cX9_guard 7 s args G cI cZ meth (some .int)) {σ : MS} {x1 : Int32} {x2 : Int32} {x3 : Int32} {x4 : Int32} (hf : fX9_guard σ x1 x2 x3 x4 = some (r, σf)) : ∀ (H : Heap) (locs : List Loc) (ls : Array Slot), mR G cI cZ o σ H → va_S (mA o) s.heap H locs → lv_has ls 7 [(0, .ref o), (1, .int x1), (2, .int x2), (3, .int x3), (4, .int x4)] → W p l e rmX9_guard s m args below meth c H locs 0 0 (MQ below (mQi G cI cZ o r σf) args s 0 0 (mA o)) (F0 m 0 ls []) := by
  intro H locs ls hR hS hl
  refine lv_aload_n E.hx E.hb dX9_guard_0 rfl (lv_at hl 0 rfl) ?_
  refine lv_iload_n E.hx E.hb dX9_guard_1 rfl (lv_at hl 1 rfl) ?_
  obtain ⟨⟨v2, σ1⟩, hv2, hf⟩ := bd_e hf
  refine mcall_i (rest := []) E hR hS (tX9_isChair l hv2) (cwX9_178 E.ht ⟨Nat.le_of_ble_eq_true rfl, Nat.le_of_ble_eq_true rfl⟩) rfl hl.1 rfl (Nat.le_of_ble_eq_true rfl) dX9_guard_2 ⟨Nat.le_refl 0, Nat.le_refl 0⟩ (fun H locs hR hS => ?_)
  refine lv_if_eq (tgt := 40) E.hx E.hb dX9_guard_5 (by decide) (fun c3 => ?_) (fun c3 => ?_)
  · have hf := it_t hf c3
    refine lv_ldc (v := (-1000001)) E.hx E.hb E.ho (E.ht _ q1319) dX9_guard_40 ?_
    obtain ⟨rfl, rfl⟩ := rt_e hf
    exact mret_i E hR hS dX9_guard_42
  · have hf := it_f hf c3
    refine lv_iload_n E.hx E.hb dX9_guard_8 rfl (lv_at hl 2 rfl) ?_
    refine lv_i2l E.hx E.hb dX9_guard_9 rfl ?_
    refine lv_lconst (v := 0) E.hx E.hb dX9_guard_10 (by decide) ?_
    refine lv_ldc2 (v := 5) E.hx E.hb E.ho (E.ht _ q1510) dX9_guard_11 ?_
    obtain ⟨v4, hv4, hf⟩ := bd_e hf
    refine scall_i (rest := []) E.1 (tX9_in l hv4) (cwX9_57 E.ht ⟨Nat.le_of_ble_eq_true rfl, Nat.le_of_ble_eq_true rfl⟩) rfl hl.1 rfl (Nat.le_of_ble_eq_true rfl) dX9_guard_14 ⟨Nat.le_refl 0, Nat.le_refl 0⟩ ?_
    refine lv_if_eq (tgt := 40) E.hx E.hb dX9_guard_17 (by decide) (fun c5 => ?_) (fun c5 => ?_)
    · have hf := it_t hf c5
      refine lv_ldc (v := (-1000001)) E.hx E.hb E.ho (E.ht _ q1319) dX9_guard_40 ?_
      obtain ⟨rfl, rfl⟩ := rt_e hf
      exact mret_i E hR hS dX9_guard_42
    · have hf := it_f hf c5
      refine lv_iload_n E.hx E.hb dX9_guard_20 rfl (lv_at hl 3 rfl) ?_
      refine lv_i2l E.hx E.hb dX9_guard_21 rfl ?_
      refine lv_lconst (v := 0) E.hx E.hb dX9_guard_22 (by decide) ?_
      refine lv_ldc2 (v := 30) E.hx E.hb E.ho (E.ht _ q1523) dX9_guard_23 ?_
      obtain ⟨v6, hv6, hf⟩ := bd_e hf
      refine scall_i (rest := []) E.1 (tX9_in l hv6) (cwX9_57 E.ht ⟨Nat.le_of_ble_eq_true rfl, Nat.le_of_ble_eq_true rfl⟩) rfl hl.1 rfl (Nat.le_of_ble_eq_true rfl) dX9_guard_26 ⟨Nat.le_refl 0, Nat.le_refl 0⟩ ?_
      refine lv_if_eq (tgt := 40) E.hx E.hb dX9_guard_29 (by decide) (fun c7 => ?_) (fun c7 => ?_)
      · have hf := it_t hf c7
        refine lv_ldc (v := (-1000001)) E.hx E.hb E.ho (E.ht _ q1319) dX9_guard_40 ?_
        obtain ⟨rfl, rfl⟩ := rt_e hf
        exact mret_i E hR hS dX9_guard_42
      · have hf := it_f hf c7
        refine lv_iload E.hx E.hb dX9_guard_32 (lv_at hl 4 rfl) ?_
        obtain ⟨v8, hv8, hf⟩ := bd_e hf
        refine scall_i (rest := []) E.1 (tX9_isWhat l hv8) (cwX9_217 E.ht ⟨Nat.le_of_ble_eq_true rfl, Nat.le_of_ble_eq_true rfl⟩) rfl hl.1 rfl (Nat.le_of_ble_eq_true rfl) dX9_guard_34 ⟨Nat.le_refl 0, Nat.le_refl 0⟩ ?_
        refine lv_if_ne (tgt := 43) E.hx E.hb dX9_guard_37 (by decide) (fun c9 => ?_) (fun c9 => ?_)
        · have hf := it_f hf c9
          refine lv_aload_n E.hx E.hb dX9_guard_43 rfl (lv_at hl 0 rfl) ?_
          obtain ⟨σ10, hσ10, hf⟩ := bd_e hf
          refine mcall_v (rest := []) E hR hS (tX9_putAside l hσ10) (cwX9_204 E.ht ⟨Nat.le_of_ble_eq_true rfl, Nat.le_of_ble_eq_true rfl⟩) rfl hl.1 rfl (Nat.le_of_ble_eq_true rfl) dX9_guard_44 ⟨Nat.le_refl 0, Nat.le_refl 0⟩ (fun H locs hR hS => ?_)
          refine lv_ldc (v := (-1000000)) E.hx E.hb E.ho (E.ht _ q1413) dX9_guard_47 ?_
          refine lv_istore (lv' := [(5, .int (-1000000)), (0, .ref o), (1, .int x1), (2, .int x2), (3, .int x3), (4, .int x4)]) E.hx E.hb dX9_guard_49 hl (by decide) rfl (fun ls hl => ?_)
          refine lv_iconst (v := 0) E.hx E.hb dX9_guard_51 (by decide) ?_
          refine lv_istore (lv' := [(6, .int 0), (5, .int (-1000000)), (0, .ref o), (1, .int x1), (2, .int x2), (3, .int x3), (4, .int x4)]) E.hx E.hb dX9_guard_52 hl (by decide) rfl (fun ls hl => ?_)
          exact wX9_guard_L54 E  2000 σ10 _ _ _ _ _ _ hf _ _ _ hR hS (lv_sub hl [2, 3, 4, 5, 6, 1, 0] rfl)
        · have hf := it_t hf c9
          refine lv_ldc (v := (-1000001)) E.hx E.hb E.ho (E.ht _ q1319) dX9_guard_40 ?_
          obtain ⟨rfl, rfl⟩ := rt_e hf
          exact mret_i E hR hS dX9_guard_42
theorem tX9_guard (l : Launch) {G : va_G} {cI cZ : ClassId} {o : Nat} {σ σf : MS} {x1 : Int32} {x2 : Int32} {x3 : Int32} {x4 : Int32} {r : Int32} (hf : fX9_guard σ x1 x2 x3 x4 = some (r, σf)) : Met l yX9_guard (ws_ yX9_guard cX9_guard 7 (some .int)) rmX9_guard (mPc G cI cZ o σ [.ref o, .int x1, .int x2, .int x3, .int x4]) (mQi G cI cZ o r σf) 0 0 (mA o) := by
  refine Met.ofW (cc := cX9_guard) (maxL := 7) (ret := (some .int)) (by decide) rfl ?_
  intro p e s m args below meth c s₁ B hml hv
  obtain ⟨rfl, hR, hK⟩ := hv
  have hts := atoms_spec (ws := (ws_ yX9_guard cX9_guard 7 (some .int))) B.pre
  rw [lg_entry_eq]
  exact wX9_guard_0 (E := ⟨⟨B.exec, B.bytes, hml, findClass_of_methodNamed B.named, fun w h => hts w (List.mem_cons_of_mem _ h)⟩, hK, B.returns, B.notSynchronized⟩) hf _ _ _ hR va_S.rf (lv_entry [.ref o, .int x1, .int x2, .int x3, .int x4] (n := 7) (Nat.le_of_ble_eq_true rfl))

abbrev rmX9_bestWatch : Room := { frames := 8, cells := 0, slots := 0, locals := 168 }
def fX9_bestWatch_b95 (k44 : MS → Int32 → Int32 → Int32 → Int32 → Int32 → Option (Int32 × MS)) (σ : MS) (s0 : Int32) (x1 : Int32) (x2 : Int32) (x4 : Int32) (x5 : Int32) (x6 : Int32) : Option (Int32 × MS) :=
  if x6 ≤ x4 then (k44 σ x1 x2 s0 x4 (x5 + 1)) else (k44 σ x1 x2 s0 x6 (x5 + 1))
theorem wX9_bestWatch_b95 (E : mE p m c cX9_bestWatch 7 s args G cI cZ meth (some .int)) {k44 : MS → Int32 → Int32 → Int32 → Int32 → Int32 → Option (Int32 × MS)} (hk44 : ∀ (σ : MS) (x1 : Int32) (x2 : Int32) (x3 : Int32) (x4 : Int32) (x5 : Int32), k44 σ x1 x2 x3 x4 x5 = some (r, σf) → ∀ (H : Heap) (locs : List Loc) (ls : Array Slot), mR G cI cZ o σ H → va_S (mA o) s.heap H locs → lv_has ls 7 [(0, .ref o), (1, .int x1), (2, .int x2), (3, .int x3), (4, .int x4), (5, .int x5)] → W p l e rmX9_bestWatch s m args below meth c H locs 0 0 (MQ below (mQi G cI cZ o r σf) args s 0 0 (mA o)) (F0 m 44 ls [])) {σ : MS} {s0 : Int32} {x1 : Int32} {x2 : Int32} {x4 : Int32} {x5 : Int32} {x6 : Int32} (hf : fX9_bestWatch_b95 k44 σ s0 x1 x2 x4 x5 x6 = some (r, σf)) : ∀ (H : Heap) (locs : List Loc) (ls : Array Slot), mR G cI cZ o σ H → va_S (mA o) s.heap H locs → lv_has ls 7 [(0, .ref o), (1, .int x1), (2, .int x2), (4, .int x4), (5, .int x5), (6, .int x6)] → W p l e rmX9_bestWatch s m args below meth c H locs 0 0 (MQ below (mQi G cI cZ o r σf) args s 0 0 (mA o)) (F0 m 95 ls [.int s0]) := by
  intro H locs ls hR hS hl
  refine lv_istore_n (lv' := [(3, .int s0), (0, .ref o), (1, .int x1), (2, .int x2), (4, .int x4), (5, .int x5), (6, .int x6)]) E.hx E.hb dX9_bestWatch_95 rfl hl (by decide) rfl (fun ls hl => ?_)
  refine lv_iload E.hx E.hb dX9_bestWatch_96 (lv_at hl 6 rfl) ?_
  refine lv_iload E.hx E.hb dX9_bestWatch_98 (lv_at hl 4 rfl) ?_
  refine lv_icmp_le (tgt := 108) E.hx E.hb dX9_bestWatch_100 (by decide) (fun c1 => ?_) (fun c1 => ?_)
  · have hf := it_t hf c1
    refine lv_iload E.hx E.hb dX9_bestWatch_108 (lv_at hl 4 rfl) ?_
    refine lv_istore (lv' := [(4, .int x4), (3, .int s0), (0, .ref o), (1, .int x1), (2, .int x2), (5, .int x5), (6, .int x6)]) E.hx E.hb dX9_bestWatch_110 hl (by decide) rfl (fun ls hl => ?_)
    refine lv_iinc (v := (x5 + 1)) (lv' := [(5, .int (x5 + 1)), (4, .int x4), (3, .int s0), (0, .ref o), (1, .int x1), (2, .int x2), (6, .int x6)]) E.hx E.hb dX9_bestWatch_112 hl (k := 5) rfl rfl (by decide) rfl (fun ls hl => ?_)
    refine lv_goto (tgt := 44) E.hx E.hb dX9_bestWatch_115 (by decide) ?_
    exact hk44 σ _ _ _ _ _ hf _ _ _ hR hS (lv_sub hl [3, 4, 5, 2, 1, 0] rfl)
  · have hf := it_f hf c1
    refine lv_iload E.hx E.hb dX9_bestWatch_103 (lv_at hl 6 rfl) ?_
    refine lv_goto (tgt := 110) E.hx E.hb dX9_bestWatch_105 (by decide) ?_
    refine lv_istore (lv' := [(4, .int x6), (3, .int s0), (0, .ref o), (1, .int x1), (2, .int x2), (5, .int x5), (6, .int x6)]) E.hx E.hb dX9_bestWatch_110 hl (by decide) rfl (fun ls hl => ?_)
    refine lv_iinc (v := (x5 + 1)) (lv' := [(5, .int (x5 + 1)), (4, .int x6), (3, .int s0), (0, .ref o), (1, .int x1), (2, .int x2), (6, .int x6)]) E.hx E.hb dX9_bestWatch_112 hl (k := 5) rfl rfl (by decide) rfl (fun ls hl => ?_)
    refine lv_goto (tgt := 44) E.hx E.hb dX9_bestWatch_115 (by decide) ?_
    exact hk44 σ _ _ _ _ _ hf _ _ _ hR hS (lv_sub hl [3, 4, 5, 2, 1, 0] rfl)
def fX9_bestWatch_L44  : Nat → MS → Int32 → Int32 → Int32 → Int32 → Int32 → Option (Int32 × MS)
  | 0, _, _, _, _, _, _ => none
  | n + 1, σ, x1, x2, x3, x4, x5 =>
    (rd (σ 4) 41 2).bind fun v1 =>
    if v1 ≤ x5 then (if x2 = 0 then (some (x3, σ)) else (some (x4, σ))) else ((mwr σ 4 41 4 (1 <<< (x5 &&& 31))).bind fun σ4 =>
    (fX9_goOn σ4 x1).bind fun σ5 =>
    (fX9_sumOf σ5 11).bind fun (v7, σ6) =>
    (fX9_takeBack σ6).bind fun σ8 =>
    if v7 ≤ x4 then (fX9_bestWatch_b95 (fX9_bestWatch_L44 n) σ8 x3 x1 x2 x4 x5 v7) else (fX9_bestWatch_b95 (fX9_bestWatch_L44 n) σ8 x5 x1 x2 x4 x5 v7))
theorem wX9_bestWatch_L44 (E : mE p m c cX9_bestWatch 7 s args G cI cZ meth (some .int)) : ∀ (n : Nat) (σ : MS) (x1 : Int32) (x2 : Int32) (x3 : Int32) (x4 : Int32) (x5 : Int32), fX9_bestWatch_L44 n σ x1 x2 x3 x4 x5 = some (r, σf) → ∀ (H : Heap) (locs : List Loc) (ls : Array Slot), mR G cI cZ o σ H → va_S (mA o) s.heap H locs → lv_has ls 7 [(0, .ref o), (1, .int x1), (2, .int x2), (3, .int x3), (4, .int x4), (5, .int x5)] → W p l e rmX9_bestWatch s m args below meth c H locs 0 0 (MQ below (mQi G cI cZ o r σf) args s 0 0 (mA o)) (F0 m 44 ls []) := by
  intro n
  induction n with
  | zero =>
    intro σ x1 x2 x3 x4 x5 hf
    have hf : none = some (r, σf) := hf
    cases hf
  | succ n ih =>
    intro σ x1 x2 x3 x4 x5 hf H locs ls hR hS hl
    refine lv_iload E.hx E.hb dX9_bestWatch_44 (lv_at hl 5 rfl) ?_
    refine lv_aload_n E.hx E.hb dX9_bestWatch_46 rfl (lv_at hl 0 rfl) ?_
    refine mg_st E hR dX9_bestWatch_47 ?_
    refine lv_iconst (v := 2) E.hx E.hb dX9_bestWatch_50 (by decide) ?_
    obtain ⟨v1, hv1, hf⟩ := bd_e hf
    refine ml_st E hR hv1 dX9_bestWatch_51 ?_
    refine lv_icmp_ge (tgt := 118) E.hx E.hb dX9_bestWatch_52 (by decide) (fun c2 => ?_) (fun c2 => ?_)
    · have hf := it_t hf c2
      refine lv_iload_n E.hx E.hb dX9_bestWatch_118 rfl (lv_at hl 2 rfl) ?_
      refine lv_if_ne (tgt := 126) E.hx E.hb dX9_bestWatch_119 (by decide) (fun c3 => ?_) (fun c3 => ?_)
      · have hf := it_f hf c3
        refine lv_iload E.hx E.hb dX9_bestWatch_126 (lv_at hl 4 rfl) ?_
        obtain ⟨rfl, rfl⟩ := rt_e hf
        exact mret_i E hR hS dX9_bestWatch_128
      · have hf := it_t hf c3
        refine lv_iload_n E.hx E.hb dX9_bestWatch_122 rfl (lv_at hl 3 rfl) ?_
        refine lv_goto (tgt := 128) E.hx E.hb dX9_bestWatch_123 (by decide) ?_
        obtain ⟨rfl, rfl⟩ := rt_e hf
        exact mret_i E hR hS dX9_bestWatch_128
    · have hf := it_f hf c2
      refine lv_aload_n E.hx E.hb dX9_bestWatch_55 rfl (lv_at hl 0 rfl) ?_
      refine mg_st E hR dX9_bestWatch_56 ?_
      refine lv_iconst (v := 4) E.hx E.hb dX9_bestWatch_59 (by decide) ?_
      refine lv_iconst (v := 1) E.hx E.hb dX9_bestWatch_60 (by decide) ?_
      refine lv_iload E.hx E.hb dX9_bestWatch_61 (lv_at hl 5 rfl) ?_
      refine lv_ishl E.hx E.hb dX9_bestWatch_63 ?_
      obtain ⟨σ4, hσ4, hf⟩ := bd_e hf
      refine ms_st E hR hS hσ4 dX9_bestWatch_64 (fun H locs hR hS => ?_)
      refine lv_aload_n E.hx E.hb dX9_bestWatch_65 rfl (lv_at hl 0 rfl) ?_
      refine lv_iload_n E.hx E.hb dX9_bestWatch_66 rfl (lv_at hl 1 rfl) ?_
      obtain ⟨σ5, hσ5, hf⟩ := bd_e hf
      refine mcall_v (rest := []) E hR hS (tX9_goOn l hσ5) (cwX9_196 E.ht ⟨Nat.le_of_ble_eq_true rfl, Nat.le_of_ble_eq_true rfl⟩) rfl hl.1 rfl (Nat.le_of_ble_eq_true rfl) dX9_bestWatch_67 ⟨Nat.le_refl 0, Nat.le_refl 0⟩ (fun H locs hR hS => ?_)
      refine lv_aload_n E.hx E.hb dX9_bestWatch_70 rfl (lv_at hl 0 rfl) ?_
      refine lv_bipush (v := 11) E.hx E.hb dX9_bestWatch_71 (by decide) ?_
      obtain ⟨⟨v7, σ6⟩, hv7, hf⟩ := bd_e hf
      refine mcall_i (rest := []) E hR hS (tX9_sumOf l hv7) (cwX9_209 E.ht ⟨Nat.le_of_ble_eq_true rfl, Nat.le_of_ble_eq_true rfl⟩) rfl hl.1 rfl (Nat.le_of_ble_eq_true rfl) dX9_bestWatch_73 ⟨Nat.le_refl 0, Nat.le_refl 0⟩ (fun H locs hR hS => ?_)
      refine lv_istore (lv' := [(6, .int v7), (0, .ref o), (1, .int x1), (2, .int x2), (3, .int x3), (4, .int x4), (5, .int x5)]) E.hx E.hb dX9_bestWatch_76 hl (by decide) rfl (fun ls hl => ?_)
      refine lv_aload_n E.hx E.hb dX9_bestWatch_78 rfl (lv_at hl 1 rfl) ?_
      obtain ⟨σ8, hσ8, hf⟩ := bd_e hf
      refine mcall_v (rest := []) E hR hS (tX9_takeBack l hσ8) (cwX9_199 E.ht ⟨Nat.le_of_ble_eq_true rfl, Nat.le_of_ble_eq_true rfl⟩) rfl hl.1 rfl (Nat.le_of_ble_eq_true rfl) dX9_bestWatch_79 ⟨Nat.le_refl 0, Nat.le_refl 0⟩ (fun H locs hR hS => ?_)
      refine lv_iload E.hx E.hb dX9_bestWatch_82 (lv_at hl 0 rfl) ?_
      refine lv_iload E.hx E.hb dX9_bestWatch_84 (lv_at hl 5 rfl) ?_
      refine lv_icmp_le (tgt := 94) E.hx E.hb dX9_bestWatch_86 (by decide) (fun c9 => ?_) (fun c9 => ?_)
      · have hf := it_t hf c9
        refine lv_iload_n E.hx E.hb dX9_bestWatch_94 rfl (lv_at hl 4 rfl) ?_
        exact wX9_bestWatch_b95 E ih hf _ _ _ hR hS (lv_sub hl [1, 2, 3, 5, 6, 0] rfl)
      · have hf := it_f hf c9
        refine lv_iload E.hx E.hb dX9_bestWatch_89 (lv_at hl 6 rfl) ?_
        refine lv_goto (tgt := 95) E.hx E.hb dX9_bestWatch_91 (by decide) ?_
        exact wX9_bestWatch_b95 E ih hf _ _ _ hR hS (lv_sub hl [1, 2, 3, 5, 6, 0] rfl)
def fX9_bestWatch  (σ : MS) (x1 : Int32) (x2 : Int32) : Option (Int32 × MS) :=
  if (σ 0 4) = 0 then (some ((-1000002), σ)) else ((fX9_in (x1.toInt64) 1 30).bind fun v2 =>
  if v2 = 0 then (some ((-1000001), σ)) else ((fX9_isWhat x2).bind fun v4 =>
  if v4 = 0 then (some ((-1000001), σ)) else ((fX9_putAside σ).bind fun σ6 =>
  fX9_bestWatch_L44 2000 σ6 x1 x2 0 (-1) 0)))
theorem wX9_bestWatch_0 (E : mE p m c cX9_bestWatch 7 s args G cI cZ meth (some .int)) {σ : MS} {x1 : Int32} {x2 : Int32} (hf : fX9_bestWatch σ x1 x2 = some (r, σf)) : ∀ (H : Heap) (locs : List Loc) (ls : Array Slot), mR G cI cZ o σ H → va_S (mA o) s.heap H locs → lv_has ls 7 [(0, .ref o), (1, .int x1), (2, .int x2)] → W p l e rmX9_bestWatch s m args below meth c H locs 0 0 (MQ below (mQi G cI cZ o r σf) args s 0 0 (mA o)) (F0 m 0 ls []) := by
  intro H locs ls hR hS hl
  refine lv_aload_n E.hx E.hb dX9_bestWatch_0 rfl (lv_at hl 0 rfl) ?_
  refine mg_isThere E hR dX9_bestWatch_1 ?_
  refine lv_if_ne (tgt := 10) E.hx E.hb dX9_bestWatch_4 (by decide) (fun c1 => ?_) (fun c1 => ?_)
  · have hf := it_f hf c1
    refine lv_iload_n E.hx E.hb dX9_bestWatch_10 rfl (lv_at hl 1 rfl) ?_
    refine lv_i2l E.hx E.hb dX9_bestWatch_11 rfl ?_
    refine lv_lconst (v := 1) E.hx E.hb dX9_bestWatch_12 (by decide) ?_
    refine lv_ldc2 (v := 30) E.hx E.hb E.ho (E.ht _ q1523) dX9_bestWatch_13 ?_
    obtain ⟨v2, hv2, hf⟩ := bd_e hf
    refine scall_i (rest := []) E.1 (tX9_in l hv2) (cwX9_57 E.ht ⟨Nat.le_of_ble_eq_true rfl, Nat.le_of_ble_eq_true rfl⟩) rfl hl.1 rfl (Nat.le_of_ble_eq_true rfl) dX9_bestWatch_16 ⟨Nat.le_refl 0, Nat.le_refl 0⟩ ?_
    refine lv_if_eq (tgt := 29) E.hx E.hb dX9_bestWatch_19 (by decide) (fun c3 => ?_) (fun c3 => ?_)
    · have hf := it_t hf c3
      refine lv_ldc (v := (-1000001)) E.hx E.hb E.ho (E.ht _ q1319) dX9_bestWatch_29 ?_
      obtain ⟨rfl, rfl⟩ := rt_e hf
      exact mret_i E hR hS dX9_bestWatch_31
    · have hf := it_f hf c3
      refine lv_iload_n E.hx E.hb dX9_bestWatch_22 rfl (lv_at hl 2 rfl) ?_
      obtain ⟨v4, hv4, hf⟩ := bd_e hf
      refine scall_i (rest := []) E.1 (tX9_isWhat l hv4) (cwX9_217 E.ht ⟨Nat.le_of_ble_eq_true rfl, Nat.le_of_ble_eq_true rfl⟩) rfl hl.1 rfl (Nat.le_of_ble_eq_true rfl) dX9_bestWatch_23 ⟨Nat.le_refl 0, Nat.le_refl 0⟩ ?_
      refine lv_if_ne (tgt := 32) E.hx E.hb dX9_bestWatch_26 (by decide) (fun c5 => ?_) (fun c5 => ?_)
      · have hf := it_f hf c5
        refine lv_aload_n E.hx E.hb dX9_bestWatch_32 rfl (lv_at hl 0 rfl) ?_
        obtain ⟨σ6, hσ6, hf⟩ := bd_e hf
        refine mcall_v (rest := []) E hR hS (tX9_putAside l hσ6) (cwX9_204 E.ht ⟨Nat.le_of_ble_eq_true rfl, Nat.le_of_ble_eq_true rfl⟩) rfl hl.1 rfl (Nat.le_of_ble_eq_true rfl) dX9_bestWatch_33 ⟨Nat.le_refl 0, Nat.le_refl 0⟩ (fun H locs hR hS => ?_)
        refine lv_iconst (v := 0) E.hx E.hb dX9_bestWatch_36 (by decide) ?_
        refine lv_istore_n (lv' := [(3, .int 0), (0, .ref o), (1, .int x1), (2, .int x2)]) E.hx E.hb dX9_bestWatch_37 rfl hl (by decide) rfl (fun ls hl => ?_)
        refine lv_iconst (v := (-1)) E.hx E.hb dX9_bestWatch_38 (by decide) ?_
        refine lv_istore (lv' := [(4, .int (-1)), (3, .int 0), (0, .ref o), (1, .int x1), (2, .int x2)]) E.hx E.hb dX9_bestWatch_39 hl (by decide) rfl (fun ls hl => ?_)
        refine lv_iconst (v := 0) E.hx E.hb dX9_bestWatch_41 (by decide) ?_
        refine lv_istore (lv' := [(5, .int 0), (4, .int (-1)), (3, .int 0), (0, .ref o), (1, .int x1), (2, .int x2)]) E.hx E.hb dX9_bestWatch_42 hl (by decide) rfl (fun ls hl => ?_)
        exact wX9_bestWatch_L44 E  2000 σ6 _ _ _ _ _ hf _ _ _ hR hS (lv_sub hl [3, 4, 5, 2, 1, 0] rfl)
      · have hf := it_t hf c5
        refine lv_ldc (v := (-1000001)) E.hx E.hb E.ho (E.ht _ q1319) dX9_bestWatch_29 ?_
        obtain ⟨rfl, rfl⟩ := rt_e hf
        exact mret_i E hR hS dX9_bestWatch_31
  · have hf := it_t hf c1
    refine lv_ldc (v := (-1000002)) E.hx E.hb E.ho (E.ht _ q1395) dX9_bestWatch_7 ?_
    obtain ⟨rfl, rfl⟩ := rt_e hf
    exact mret_i E hR hS dX9_bestWatch_9
theorem tX9_bestWatch (l : Launch) {G : va_G} {cI cZ : ClassId} {o : Nat} {σ σf : MS} {x1 : Int32} {x2 : Int32} {r : Int32} (hf : fX9_bestWatch σ x1 x2 = some (r, σf)) : Met l yX9_bestWatch (ws_ yX9_bestWatch cX9_bestWatch 7 (some .int)) rmX9_bestWatch (mPc G cI cZ o σ [.ref o, .int x1, .int x2]) (mQi G cI cZ o r σf) 0 0 (mA o) := by
  refine Met.ofW (cc := cX9_bestWatch) (maxL := 7) (ret := (some .int)) (by decide) rfl ?_
  intro p e s m args below meth c s₁ B hml hv
  obtain ⟨rfl, hR, hK⟩ := hv
  have hts := atoms_spec (ws := (ws_ yX9_bestWatch cX9_bestWatch 7 (some .int))) B.pre
  rw [lg_entry_eq]
  exact wX9_bestWatch_0 (E := ⟨⟨B.exec, B.bytes, hml, findClass_of_methodNamed B.named, fun w h => hts w (List.mem_cons_of_mem _ h)⟩, hK, B.returns, B.notSynchronized⟩) hf _ _ _ hR va_S.rf (lv_entry [.ref o, .int x1, .int x2] (n := 7) (Nat.le_of_ble_eq_true rfl))

abbrev rmX9_isAbove : Room := { frames := 1, cells := 0, slots := 0, locals := 12 }
def fX9_isAbove   (x0 : Int32) (x1 : Int32) (x2 : Int32) (x3 : Int32) : Option Int32 :=
  if x2 < x0 then (some 1) else (if x0 = x2 then (if x3 ≤ x1 then (some 0) else (some 1)) else (some 0))
theorem wX9_isAbove_0 (E : sE p m c cX9_isAbove 4 s args RX9 meth (some .boolean))  {x0 : Int32} {x1 : Int32} {x2 : Int32} {x3 : Int32} (hf : fX9_isAbove x0 x1 x2 x3 = some r) : ∀ (ls : Array Slot), lv_has ls 4 [(0, .int x0), (1, .int x1), (2, .int x2), (3, .int x3)] → W p l e rmX9_isAbove s m args below meth c s.heap [] 0 0 (MQ below (sQi r) args s 0 0 (fun _ => False)) (F0 m 0 ls []) := by
  intro ls hl
  refine lv_iload_n E.hx E.hb dX9_isAbove_0 rfl (lv_at hl 0 rfl) ?_
  refine lv_iload_n E.hx E.hb dX9_isAbove_1 rfl (lv_at hl 2 rfl) ?_
  refine lv_icmp_gt (tgt := 15) E.hx E.hb dX9_isAbove_2 (by decide) (fun c1 => ?_) (fun c1 => ?_)
  · have hf := it_t hf c1
    refine lv_iconst (v := 1) E.hx E.hb dX9_isAbove_15 (by decide) ?_
    refine lv_goto (tgt := 20) E.hx E.hb dX9_isAbove_16 (by decide) ?_
    cases hf
    exact sret_z E rfl dX9_isAbove_20
  · have hf := it_f hf c1
    refine lv_iload_n E.hx E.hb dX9_isAbove_5 rfl (lv_at hl 0 rfl) ?_
    refine lv_iload_n E.hx E.hb dX9_isAbove_6 rfl (lv_at hl 2 rfl) ?_
    refine lv_icmp_ne (tgt := 19) E.hx E.hb dX9_isAbove_7 (by decide) (fun c2 => ?_) (fun c2 => ?_)
    · have hf := it_f hf c2
      refine lv_iconst (v := 0) E.hx E.hb dX9_isAbove_19 (by decide) ?_
      cases hf
      exact sret_z E rfl dX9_isAbove_20
    · have hf := it_t hf c2
      refine lv_iload_n E.hx E.hb dX9_isAbove_10 rfl (lv_at hl 1 rfl) ?_
      refine lv_iload_n E.hx E.hb dX9_isAbove_11 rfl (lv_at hl 3 rfl) ?_
      refine lv_icmp_ge (tgt := 19) E.hx E.hb dX9_isAbove_12 (by decide) (fun c3 => ?_) (fun c3 => ?_)
      · have hf := it_t hf c3
        refine lv_iconst (v := 0) E.hx E.hb dX9_isAbove_19 (by decide) ?_
        cases hf
        exact sret_z E rfl dX9_isAbove_20
      · have hf := it_f hf c3
        refine lv_iconst (v := 1) E.hx E.hb dX9_isAbove_15 (by decide) ?_
        refine lv_goto (tgt := 20) E.hx E.hb dX9_isAbove_16 (by decide) ?_
        cases hf
        exact sret_z E rfl dX9_isAbove_20
theorem tX9_isAbove (l : Launch) {x0 : Int32} {x1 : Int32} {x2 : Int32} {x3 : Int32} {r : Int32} (hf : fX9_isAbove x0 x1 x2 x3 = some r) : Met l yX9_isAbove (ws_ yX9_isAbove cX9_isAbove 4 (some .boolean)) rmX9_isAbove (sPc [.int x0, .int x1, .int x2, .int x3]) (sQi r) 0 0 (fun _ => False) := by
  refine Met.ofW (cc := cX9_isAbove) (maxL := 4) (ret := (some .boolean)) (by decide) rfl ?_
  intro p e s m args below meth c s₁ B hml hv
  obtain ⟨rfl, -⟩ := hv
  have hts := atoms_spec (ws := (ws_ yX9_isAbove cX9_isAbove 4 (some .boolean))) B.pre
  rw [lg_entry_eq]
  exact wX9_isAbove_0 (E := ⟨⟨B.exec, B.bytes, hml, findClass_of_methodNamed B.named, fun w h => hts w (List.mem_cons_of_mem _ h)⟩, B.returns, B.notSynchronized⟩) hf _ (lv_entry [.int x0, .int x1, .int x2, .int x3] (n := 4) (Nat.le_of_ble_eq_true rfl))

abbrev rmX9_lacks : Room := { frames := 2, cells := 0, slots := 0, locals := 37 }
def fX9_lacks  (σ : MS) (x1 : Int32) (x2 : Int32) (x3 : Int32) : Option (Int32 × MS) :=
  (rd (σ 2) 8 x1).bind fun v1 =>
  if 0 ≤ v1 then ((rd (σ 2) 8 x1).bind fun v3 =>
  (fX9_in (x2.toInt64) 0 ((v3 - x3).toInt64)).bind fun v4 =>
  if v4 = 0 then ((fX9_find σ 2).bind fun (v7, σ6) =>
  some (v7, σ6)) else (some (0, σ))) else ((fX9_find σ 1).bind fun (v9, σ8) =>
  some (v9, σ8))
theorem wX9_lacks_0 (E : mE p m c cX9_lacks 4 s args G cI cZ meth (some .int)) {σ : MS} {x1 : Int32} {x2 : Int32} {x3 : Int32} (hf : fX9_lacks σ x1 x2 x3 = some (r, σf)) : ∀ (H : Heap) (locs : List Loc) (ls : Array Slot), mR G cI cZ o σ H → va_S (mA o) s.heap H locs → lv_has ls 4 [(0, .ref o), (1, .int x1), (2, .int x2), (3, .int x3)] → W p l e rmX9_lacks s m args below meth c H locs 0 0 (MQ below (mQi G cI cZ o r σf) args s 0 0 (mA o)) (F0 m 0 ls []) := by
  intro H locs ls hR hS hl
  refine lv_aload_n E.hx E.hb dX9_lacks_0 rfl (lv_at hl 0 rfl) ?_
  refine mg_sizes E hR dX9_lacks_1 ?_
  refine lv_iload_n E.hx E.hb dX9_lacks_4 rfl (lv_at hl 1 rfl) ?_
  obtain ⟨v1, hv1, hf⟩ := bd_e hf
  refine ml_sizes E hR hv1 dX9_lacks_5 ?_
  refine lv_if_ge (tgt := 15) E.hx E.hb dX9_lacks_6 (by decide) (fun c2 => ?_) (fun c2 => ?_)
  · have hf := it_t hf c2
    refine lv_iload_n E.hx E.hb dX9_lacks_15 rfl (lv_at hl 2 rfl) ?_
    refine lv_i2l E.hx E.hb dX9_lacks_16 rfl ?_
    refine lv_lconst (v := 0) E.hx E.hb dX9_lacks_17 (by decide) ?_
    refine lv_aload_n E.hx E.hb dX9_lacks_18 rfl (lv_at hl 0 rfl) ?_
    refine mg_sizes E hR dX9_lacks_19 ?_
    refine lv_iload_n E.hx E.hb dX9_lacks_22 rfl (lv_at hl 1 rfl) ?_
    obtain ⟨v3, hv3, hf⟩ := bd_e hf
    refine ml_sizes E hR hv3 dX9_lacks_23 ?_
    refine lv_iload_n E.hx E.hb dX9_lacks_24 rfl (lv_at hl 3 rfl) ?_
    refine lv_isub E.hx E.hb dX9_lacks_25 ?_
    refine lv_i2l E.hx E.hb dX9_lacks_26 rfl ?_
    obtain ⟨v4, hv4, hf⟩ := bd_e hf
    refine scall_i (rest := []) E.1 (tX9_in l hv4) (cwX9_57 E.ht ⟨Nat.le_of_ble_eq_true rfl, Nat.le_of_ble_eq_true rfl⟩) rfl hl.1 rfl (Nat.le_of_ble_eq_true rfl) dX9_lacks_27 ⟨Nat.le_refl 0, Nat.le_refl 0⟩ ?_
    refine lv_if_eq (tgt := 37) E.hx E.hb dX9_lacks_30 (by decide) (fun c5 => ?_) (fun c5 => ?_)
    · have hf := it_t hf c5
      refine lv_aload_n E.hx E.hb dX9_lacks_37 rfl (lv_at hl 0 rfl) ?_
      refine lv_iconst (v := 2) E.hx E.hb dX9_lacks_38 (by decide) ?_
      obtain ⟨⟨v7, σ6⟩, hv7, hf⟩ := bd_e hf
      refine mcall_i (rest := []) E hR hS (tX9_find l hv7) (cwX9_68 E.ht ⟨Nat.le_of_ble_eq_true rfl, Nat.le_of_ble_eq_true rfl⟩) rfl hl.1 rfl (Nat.le_of_ble_eq_true rfl) dX9_lacks_39 ⟨Nat.le_refl 0, Nat.le_refl 0⟩ (fun H locs hR hS => ?_)
      obtain ⟨rfl, rfl⟩ := rt_e hf
      exact mret_i E hR hS dX9_lacks_42
    · have hf := it_f hf c5
      refine lv_iconst (v := 0) E.hx E.hb dX9_lacks_33 (by decide) ?_
      refine lv_goto (tgt := 42) E.hx E.hb dX9_lacks_34 (by decide) ?_
      obtain ⟨rfl, rfl⟩ := rt_e hf
      exact mret_i E hR hS dX9_lacks_42
  · have hf := it_f hf c2
    refine lv_aload_n E.hx E.hb dX9_lacks_9 rfl (lv_at hl 0 rfl) ?_
    refine lv_iconst (v := 1) E.hx E.hb dX9_lacks_10 (by decide) ?_
    obtain ⟨⟨v9, σ8⟩, hv9, hf⟩ := bd_e hf
    refine mcall_i (rest := []) E hR hS (tX9_find l hv9) (cwX9_68 E.ht ⟨Nat.le_of_ble_eq_true rfl, Nat.le_of_ble_eq_true rfl⟩) rfl hl.1 rfl (Nat.le_of_ble_eq_true rfl) dX9_lacks_11 ⟨Nat.le_refl 0, Nat.le_refl 0⟩ (fun H locs hR hS => ?_)
    obtain ⟨rfl, rfl⟩ := rt_e hf
    exact mret_i E hR hS dX9_lacks_14
theorem tX9_lacks (l : Launch) {G : va_G} {cI cZ : ClassId} {o : Nat} {σ σf : MS} {x1 : Int32} {x2 : Int32} {x3 : Int32} {r : Int32} (hf : fX9_lacks σ x1 x2 x3 = some (r, σf)) : Met l yX9_lacks (ws_ yX9_lacks cX9_lacks 4 (some .int)) rmX9_lacks (mPc G cI cZ o σ [.ref o, .int x1, .int x2, .int x3]) (mQi G cI cZ o r σf) 0 0 (mA o) := by
  refine Met.ofW (cc := cX9_lacks) (maxL := 4) (ret := (some .int)) (by decide) rfl ?_
  intro p e s m args below meth c s₁ B hml hv
  obtain ⟨rfl, hR, hK⟩ := hv
  have hts := atoms_spec (ws := (ws_ yX9_lacks cX9_lacks 4 (some .int))) B.pre
  rw [lg_entry_eq]
  exact wX9_lacks_0 (E := ⟨⟨B.exec, B.bytes, hml, findClass_of_methodNamed B.named, fun w h => hts w (List.mem_cons_of_mem _ h)⟩, hK, B.returns, B.notSynchronized⟩) hf _ _ _ hR va_S.rf (lv_entry [.ref o, .int x1, .int x2, .int x3] (n := 4) (Nat.le_of_ble_eq_true rfl))

theorem cwX9_220 {R : Room} {s : State} {args : Array Value} (ht : ∀ w ∈ lw_all, w.before args s = true) (hR : rmX9_lacks.frames + 1 ≤ R.frames ∧ 8 + (4 + 11) + rmX9_lacks.locals ≤ R.locals) : CallW R s args RX9 RX9 220 yX9_lacks cX9_lacks 4 (some .int) (ws_ yX9_lacks cX9_lacks 4 (some .int)) rmX9_lacks 0 0 3 :=
  cwV 3 ht (lw_V q1547 q1549 qs57 q80 q1550) rfl rfl rfl (by decide +kernel) hR
abbrev rmX9_lacksOrder : Room := { frames := 3, cells := 0, slots := 0, locals := 60 }
def fX9_lacksOrder_b100 (k41 : MS → Int32 → Int32 → Int32 → Int32 → Int32 → Option (Int32 × MS)) (σ : MS) (s0 : Int32) (x1 : Int32) (x2 : Int32) (x4 : Int32) (x5 : Int32) (x6 : Int32) : Option (Int32 × MS) :=
  if s0 = 0 then (k41 σ x1 x2 s0 (x4 ||| (1 <<< (x6 &&& 31))) (x5 + 1)) else (k41 σ x1 x2 s0 (x4 ||| 0) (x5 + 1))
theorem wX9_lacksOrder_b100 (E : mE p m c cX9_lacksOrder 7 s args G cI cZ meth (some .int)) {k41 : MS → Int32 → Int32 → Int32 → Int32 → Int32 → Option (Int32 × MS)} (hk41 : ∀ (σ : MS) (x1 : Int32) (x2 : Int32) (x3 : Int32) (x4 : Int32) (x5 : Int32), k41 σ x1 x2 x3 x4 x5 = some (r, σf) → ∀ (H : Heap) (locs : List Loc) (ls : Array Slot), mR G cI cZ o σ H → va_S (mA o) s.heap H locs → lv_has ls 7 [(0, .ref o), (1, .int x1), (2, .int x2), (3, .int x3), (4, .int x4), (5, .int x5)] → W p l e rmX9_lacksOrder s m args below meth c H locs 0 0 (MQ below (mQi G cI cZ o r σf) args s 0 0 (mA o)) (F0 m 41 ls [])) {σ : MS} {s0 : Int32} {x1 : Int32} {x2 : Int32} {x4 : Int32} {x5 : Int32} {x6 : Int32} (hf : fX9_lacksOrder_b100 k41 σ s0 x1 x2 x4 x5 x6 = some (r, σf)) : ∀ (H : Heap) (locs : List Loc) (ls : Array Slot), mR G cI cZ o σ H → va_S (mA o) s.heap H locs → lv_has ls 7 [(0, .ref o), (1, .int x1), (2, .int x2), (4, .int x4), (5, .int x5), (6, .int x6)] → W p l e rmX9_lacksOrder s m args below meth c H locs 0 0 (MQ below (mQi G cI cZ o r σf) args s 0 0 (mA o)) (F0 m 100 ls [.int s0]) := by
  intro H locs ls hR hS hl
  refine lv_istore_n (lv' := [(3, .int s0), (0, .ref o), (1, .int x1), (2, .int x2), (4, .int x4), (5, .int x5), (6, .int x6)]) E.hx E.hb dX9_lacksOrder_100 rfl hl (by decide) rfl (fun ls hl => ?_)
  refine lv_iload E.hx E.hb dX9_lacksOrder_101 (lv_at hl 4 rfl) ?_
  refine lv_iload_n E.hx E.hb dX9_lacksOrder_103 rfl (lv_at hl 0 rfl) ?_
  refine lv_if_ne (tgt := 114) E.hx E.hb dX9_lacksOrder_104 (by decide) (fun c1 => ?_) (fun c1 => ?_)
  · have hf := it_f hf c1
    refine lv_iconst (v := 0) E.hx E.hb dX9_lacksOrder_114 (by decide) ?_
    refine lv_ior E.hx E.hb dX9_lacksOrder_115 ?_
    refine lv_istore (lv' := [(4, .int (x4 ||| 0)), (3, .int s0), (0, .ref o), (1, .int x1), (2, .int x2), (5, .int x5), (6, .int x6)]) E.hx E.hb dX9_lacksOrder_116 hl (by decide) rfl (fun ls hl => ?_)
    refine lv_iinc (v := (x5 + 1)) (lv' := [(5, .int (x5 + 1)), (4, .int (x4 ||| 0)), (3, .int s0), (0, .ref o), (1, .int x1), (2, .int x2), (6, .int x6)]) E.hx E.hb dX9_lacksOrder_118 hl (k := 5) rfl rfl (by decide) rfl (fun ls hl => ?_)
    refine lv_goto (tgt := 41) E.hx E.hb dX9_lacksOrder_121 (by decide) ?_
    exact hk41 σ _ _ _ _ _ hf _ _ _ hR hS (lv_sub hl [3, 4, 5, 2, 1, 0] rfl)
  · have hf := it_t hf c1
    refine lv_iconst (v := 1) E.hx E.hb dX9_lacksOrder_107 (by decide) ?_
    refine lv_iload E.hx E.hb dX9_lacksOrder_108 (lv_at hl 6 rfl) ?_
    refine lv_ishl E.hx E.hb dX9_lacksOrder_110 ?_
    refine lv_goto (tgt := 115) E.hx E.hb dX9_lacksOrder_111 (by decide) ?_
    refine lv_ior E.hx E.hb dX9_lacksOrder_115 ?_
    refine lv_istore (lv' := [(4, .int (x4 ||| (1 <<< (x6 &&& 31)))), (3, .int s0), (0, .ref o), (1, .int x1), (2, .int x2), (5, .int x5), (6, .int x6)]) E.hx E.hb dX9_lacksOrder_116 hl (by decide) rfl (fun ls hl => ?_)
    refine lv_iinc (v := (x5 + 1)) (lv' := [(5, .int (x5 + 1)), (4, .int (x4 ||| (1 <<< (x6 &&& 31)))), (3, .int s0), (0, .ref o), (1, .int x1), (2, .int x2), (6, .int x6)]) E.hx E.hb dX9_lacksOrder_118 hl (k := 5) rfl rfl (by decide) rfl (fun ls hl => ?_)
    refine lv_goto (tgt := 41) E.hx E.hb dX9_lacksOrder_121 (by decide) ?_
    exact hk41 σ _ _ _ _ _ hf _ _ _ hR hS (lv_sub hl [3, 4, 5, 2, 1, 0] rfl)
def fX9_lacksOrder_b95 (k41 : MS → Int32 → Int32 → Int32 → Int32 → Int32 → Option (Int32 × MS)) (σ : MS) (x1 : Int32) (x2 : Int32) (x4 : Int32) (x5 : Int32) (x6 : Int32) : Option (Int32 × MS) :=
  (fX9_find σ 3).bind fun (v2, σ1) =>
  fX9_lacksOrder_b100 k41 σ1 v2 x1 x2 x4 x5 x6
theorem wX9_lacksOrder_b95 (E : mE p m c cX9_lacksOrder 7 s args G cI cZ meth (some .int)) {k41 : MS → Int32 → Int32 → Int32 → Int32 → Int32 → Option (Int32 × MS)} (hk41 : ∀ (σ : MS) (x1 : Int32) (x2 : Int32) (x3 : Int32) (x4 : Int32) (x5 : Int32), k41 σ x1 x2 x3 x4 x5 = some (r, σf) → ∀ (H : Heap) (locs : List Loc) (ls : Array Slot), mR G cI cZ o σ H → va_S (mA o) s.heap H locs → lv_has ls 7 [(0, .ref o), (1, .int x1), (2, .int x2), (3, .int x3), (4, .int x4), (5, .int x5)] → W p l e rmX9_lacksOrder s m args below meth c H locs 0 0 (MQ below (mQi G cI cZ o r σf) args s 0 0 (mA o)) (F0 m 41 ls [])) {σ : MS} {x1 : Int32} {x2 : Int32} {x4 : Int32} {x5 : Int32} {x6 : Int32} (hf : fX9_lacksOrder_b95 k41 σ x1 x2 x4 x5 x6 = some (r, σf)) : ∀ (H : Heap) (locs : List Loc) (ls : Array Slot), mR G cI cZ o σ H → va_S (mA o) s.heap H locs → lv_has ls 7 [(0, .ref o), (1, .int x1), (2, .int x2), (4, .int x4), (5, .int x5), (6, .int x6)] → W p l e rmX9_lacksOrder s m args below meth c H locs 0 0 (MQ below (mQi G cI cZ o r σf) args s 0 0 (mA o)) (F0 m 95 ls []) := by
  intro H locs ls hR hS hl
  refine lv_aload_n E.hx E.hb dX9_lacksOrder_95 rfl (lv_at hl 0 rfl) ?_
  refine lv_iconst (v := 3) E.hx E.hb dX9_lacksOrder_96 (by decide) ?_
  obtain ⟨⟨v2, σ1⟩, hv2, hf⟩ := bd_e hf
  refine mcall_i (rest := []) E hR hS (tX9_find l hv2) (cwX9_68 E.ht ⟨Nat.le_of_ble_eq_true rfl, Nat.le_of_ble_eq_true rfl⟩) rfl hl.1 rfl (Nat.le_of_ble_eq_true rfl) dX9_lacksOrder_97 ⟨Nat.le_refl 0, Nat.le_refl 0⟩ (fun H locs hR hS => ?_)
  exact wX9_lacksOrder_b100 E hk41 hf _ _ _ hR hS (lv_sub hl [0, 1, 2, 3, 4, 5] rfl)
def fX9_lacksOrder_L41  : Nat → MS → Int32 → Int32 → Int32 → Int32 → Int32 → Option (Int32 × MS)
  | 0, _, _, _, _, _, _ => none
  | n + 1, σ, x1, x2, x3, x4, x5 =>
    (rd (σ 4) 41 2).bind fun v1 =>
    if v1 ≤ x5 then (some (x3, σ)) else (if x3 = 0 then ((rd (σ 3) 320 (((40 * x1) + x2) + x5)).bind fun v4 =>
    (fX9_isChair σ v4).bind fun (v6, σ5) =>
    if v6 = 0 then (fX9_lacksOrder_b95 (fX9_lacksOrder_L41 n) σ5 x1 x2 x4 x5 v4) else ((fX9_has x4 v4).bind fun v8 =>
    if v8 = 0 then (fX9_lacksOrder_b100 (fX9_lacksOrder_L41 n) σ5 0 x1 x2 x4 x5 v4) else (fX9_lacksOrder_b95 (fX9_lacksOrder_L41 n) σ5 x1 x2 x4 x5 v4))) else (some (x3, σ)))
theorem wX9_lacksOrder_L41 (E : mE p m c cX9_lacksOrder 7 s args G cI cZ meth (some .int)) : ∀ (n : Nat) (σ : MS) (x1 : Int32) (x2 : Int32) (x3 : Int32) (x4 : Int32) (x5 : Int32), fX9_lacksOrder_L41 n σ x1 x2 x3 x4 x5 = some (r, σf) → ∀ (H : Heap) (locs : List Loc) (ls : Array Slot), mR G cI cZ o σ H → va_S (mA o) s.heap H locs → lv_has ls 7 [(0, .ref o), (1, .int x1), (2, .int x2), (3, .int x3), (4, .int x4), (5, .int x5)] → W p l e rmX9_lacksOrder s m args below meth c H locs 0 0 (MQ below (mQi G cI cZ o r σf) args s 0 0 (mA o)) (F0 m 41 ls []) := by
  intro n
  induction n with
  | zero =>
    intro σ x1 x2 x3 x4 x5 hf
    have hf : none = some (r, σf) := hf
    cases hf
  | succ n ih =>
    intro σ x1 x2 x3 x4 x5 hf H locs ls hR hS hl
    refine lv_iload E.hx E.hb dX9_lacksOrder_41 (lv_at hl 5 rfl) ?_
    refine lv_aload_n E.hx E.hb dX9_lacksOrder_43 rfl (lv_at hl 0 rfl) ?_
    refine mg_st E hR dX9_lacksOrder_44 ?_
    refine lv_iconst (v := 2) E.hx E.hb dX9_lacksOrder_47 (by decide) ?_
    obtain ⟨v1, hv1, hf⟩ := bd_e hf
    refine ml_st E hR hv1 dX9_lacksOrder_48 ?_
    refine lv_icmp_ge (tgt := 124) E.hx E.hb dX9_lacksOrder_49 (by decide) (fun c2 => ?_) (fun c2 => ?_)
    · have hf := it_t hf c2
      refine lv_iload_n E.hx E.hb dX9_lacksOrder_124 rfl (lv_at hl 3 rfl) ?_
      obtain ⟨rfl, rfl⟩ := rt_e hf
      exact mret_i E hR hS dX9_lacksOrder_125
    · have hf := it_f hf c2
      refine lv_iload_n E.hx E.hb dX9_lacksOrder_52 rfl (lv_at hl 3 rfl) ?_
      refine lv_if_ne (tgt := 124) E.hx E.hb dX9_lacksOrder_53 (by decide) (fun c3 => ?_) (fun c3 => ?_)
      · have hf := it_f hf c3
        refine lv_iload_n E.hx E.hb dX9_lacksOrder_124 rfl (lv_at hl 3 rfl) ?_
        obtain ⟨rfl, rfl⟩ := rt_e hf
        exact mret_i E hR hS dX9_lacksOrder_125
      · have hf := it_t hf c3
        refine lv_aload_n E.hx E.hb dX9_lacksOrder_56 rfl (lv_at hl 0 rfl) ?_
        refine mg_items E hR dX9_lacksOrder_57 ?_
        refine lv_bipush (v := 40) E.hx E.hb dX9_lacksOrder_60 (by decide) ?_
        refine lv_iload_n E.hx E.hb dX9_lacksOrder_62 rfl (lv_at hl 1 rfl) ?_
        refine lv_imul E.hx E.hb dX9_lacksOrder_63 ?_
        refine lv_iload_n E.hx E.hb dX9_lacksOrder_64 rfl (lv_at hl 2 rfl) ?_
        refine lv_iadd E.hx E.hb dX9_lacksOrder_65 ?_
        refine lv_iload E.hx E.hb dX9_lacksOrder_66 (lv_at hl 5 rfl) ?_
        refine lv_iadd E.hx E.hb dX9_lacksOrder_68 ?_
        obtain ⟨v4, hv4, hf⟩ := bd_e hf
        refine ml_items E hR hv4 dX9_lacksOrder_69 ?_
        refine lv_istore (lv' := [(6, .int v4), (0, .ref o), (1, .int x1), (2, .int x2), (3, .int x3), (4, .int x4), (5, .int x5)]) E.hx E.hb dX9_lacksOrder_70 hl (by decide) rfl (fun ls hl => ?_)
        refine lv_aload_n E.hx E.hb dX9_lacksOrder_72 rfl (lv_at hl 1 rfl) ?_
        refine lv_iload E.hx E.hb dX9_lacksOrder_73 (lv_at hl 0 rfl) ?_
        obtain ⟨⟨v6, σ5⟩, hv6, hf⟩ := bd_e hf
        refine mcall_i (rest := []) E hR hS (tX9_isChair l hv6) (cwX9_178 E.ht ⟨Nat.le_of_ble_eq_true rfl, Nat.le_of_ble_eq_true rfl⟩) rfl hl.1 rfl (Nat.le_of_ble_eq_true rfl) dX9_lacksOrder_75 ⟨Nat.le_refl 0, Nat.le_refl 0⟩ (fun H locs hR hS => ?_)
        refine lv_if_eq (tgt := 95) E.hx E.hb dX9_lacksOrder_78 (by decide) (fun c7 => ?_) (fun c7 => ?_)
        · have hf := it_t hf c7
          exact wX9_lacksOrder_b95 E ih hf _ _ _ hR hS (lv_sub hl [1, 2, 3, 5, 6, 0] rfl)
        · have hf := it_f hf c7
          refine lv_iload E.hx E.hb dX9_lacksOrder_81 (lv_at hl 5 rfl) ?_
          refine lv_iload E.hx E.hb dX9_lacksOrder_83 (lv_at hl 0 rfl) ?_
          obtain ⟨v8, hv8, hf⟩ := bd_e hf
          refine scall_i (rest := []) E.1 (tX9_has l hv8) (cwX9_162 E.ht ⟨Nat.le_of_ble_eq_true rfl, Nat.le_of_ble_eq_true rfl⟩) rfl hl.1 rfl (Nat.le_of_ble_eq_true rfl) dX9_lacksOrder_85 ⟨Nat.le_refl 0, Nat.le_refl 0⟩ ?_
          refine lv_if_ne (tgt := 95) E.hx E.hb dX9_lacksOrder_88 (by decide) (fun c9 => ?_) (fun c9 => ?_)
          · have hf := it_f hf c9
            exact wX9_lacksOrder_b95 E ih hf _ _ _ hR hS (lv_sub hl [1, 2, 3, 5, 6, 0] rfl)
          · have hf := it_t hf c9
            refine lv_iconst (v := 0) E.hx E.hb dX9_lacksOrder_91 (by decide) ?_
            refine lv_goto (tgt := 100) E.hx E.hb dX9_lacksOrder_92 (by decide) ?_
            exact wX9_lacksOrder_b100 E ih hf _ _ _ hR hS (lv_sub hl [1, 2, 3, 5, 6, 0] rfl)
def fX9_lacksOrder_b34  (σ : MS) (s0 : Int32) (x1 : Int32) (x2 : Int32) : Option (Int32 × MS) :=
  fX9_lacksOrder_L41 2000 σ x1 x2 s0 0 0
theorem wX9_lacksOrder_b34 (E : mE p m c cX9_lacksOrder 7 s args G cI cZ meth (some .int)) {σ : MS} {s0 : Int32} {x1 : Int32} {x2 : Int32} (hf : fX9_lacksOrder_b34 σ s0 x1 x2 = some (r, σf)) : ∀ (H : Heap) (locs : List Loc) (ls : Array Slot), mR G cI cZ o σ H → va_S (mA o) s.heap H locs → lv_has ls 7 [(0, .ref o), (1, .int x1), (2, .int x2)] → W p l e rmX9_lacksOrder s m args below meth c H locs 0 0 (MQ below (mQi G cI cZ o r σf) args s 0 0 (mA o)) (F0 m 34 ls [.int s0]) := by
  intro H locs ls hR hS hl
  refine lv_istore_n (lv' := [(3, .int s0), (0, .ref o), (1, .int x1), (2, .int x2)]) E.hx E.hb dX9_lacksOrder_34 rfl hl (by decide) rfl (fun ls hl => ?_)
  refine lv_iconst (v := 0) E.hx E.hb dX9_lacksOrder_35 (by decide) ?_
  refine lv_istore (lv' := [(4, .int 0), (3, .int s0), (0, .ref o), (1, .int x1), (2, .int x2)]) E.hx E.hb dX9_lacksOrder_36 hl (by decide) rfl (fun ls hl => ?_)
  refine lv_iconst (v := 0) E.hx E.hb dX9_lacksOrder_38 (by decide) ?_
  refine lv_istore (lv' := [(5, .int 0), (4, .int 0), (3, .int s0), (0, .ref o), (1, .int x1), (2, .int x2)]) E.hx E.hb dX9_lacksOrder_39 hl (by decide) rfl (fun ls hl => ?_)
  exact wX9_lacksOrder_L41 E  2000 σ _ _ _ _ _ hf _ _ _ hR hS (lv_sub hl [3, 4, 5, 2, 1, 0] rfl)
def fX9_lacksOrder  (σ : MS) (x1 : Int32) (x2 : Int32) : Option (Int32 × MS) :=
  if (σ 0 4) = 0 then (some ((-1000002), σ)) else ((fX9_isRow x1).bind fun v2 =>
  if v2 = 0 then (fX9_lacksOrder_b34 σ (-1000001) x1 x2) else ((rd (σ 4) 41 2).bind fun v4 =>
  (fX9_lacks σ x1 x2 v4).bind fun (v6, σ5) =>
  fX9_lacksOrder_b34 σ5 v6 x1 x2))
theorem wX9_lacksOrder_0 (E : mE p m c cX9_lacksOrder 7 s args G cI cZ meth (some .int)) {σ : MS} {x1 : Int32} {x2 : Int32} (hf : fX9_lacksOrder σ x1 x2 = some (r, σf)) : ∀ (H : Heap) (locs : List Loc) (ls : Array Slot), mR G cI cZ o σ H → va_S (mA o) s.heap H locs → lv_has ls 7 [(0, .ref o), (1, .int x1), (2, .int x2)] → W p l e rmX9_lacksOrder s m args below meth c H locs 0 0 (MQ below (mQi G cI cZ o r σf) args s 0 0 (mA o)) (F0 m 0 ls []) := by
  intro H locs ls hR hS hl
  refine lv_aload_n E.hx E.hb dX9_lacksOrder_0 rfl (lv_at hl 0 rfl) ?_
  refine mg_isThere E hR dX9_lacksOrder_1 ?_
  refine lv_if_ne (tgt := 10) E.hx E.hb dX9_lacksOrder_4 (by decide) (fun c1 => ?_) (fun c1 => ?_)
  · have hf := it_f hf c1
    refine lv_iload_n E.hx E.hb dX9_lacksOrder_10 rfl (lv_at hl 1 rfl) ?_
    obtain ⟨v2, hv2, hf⟩ := bd_e hf
    refine scall_i (rest := []) E.1 (tX9_isRow l hv2) (cwX9_61 E.ht ⟨Nat.le_of_ble_eq_true rfl, Nat.le_of_ble_eq_true rfl⟩) rfl hl.1 rfl (Nat.le_of_ble_eq_true rfl) dX9_lacksOrder_11 ⟨Nat.le_refl 0, Nat.le_refl 0⟩ ?_
    refine lv_if_eq (tgt := 32) E.hx E.hb dX9_lacksOrder_14 (by decide) (fun c3 => ?_) (fun c3 => ?_)
    · have hf := it_t hf c3
      refine lv_ldc (v := (-1000001)) E.hx E.hb E.ho (E.ht _ q1319) dX9_lacksOrder_32 ?_
      exact wX9_lacksOrder_b34 E  hf _ _ _ hR hS (lv_sub hl [0, 1, 2] rfl)
    · have hf := it_f hf c3
      refine lv_aload_n E.hx E.hb dX9_lacksOrder_17 rfl (lv_at hl 0 rfl) ?_
      refine lv_iload_n E.hx E.hb dX9_lacksOrder_18 rfl (lv_at hl 1 rfl) ?_
      refine lv_iload_n E.hx E.hb dX9_lacksOrder_19 rfl (lv_at hl 2 rfl) ?_
      refine lv_aload_n E.hx E.hb dX9_lacksOrder_20 rfl (lv_at hl 0 rfl) ?_
      refine mg_st E hR dX9_lacksOrder_21 ?_
      refine lv_iconst (v := 2) E.hx E.hb dX9_lacksOrder_24 (by decide) ?_
      obtain ⟨v4, hv4, hf⟩ := bd_e hf
      refine ml_st E hR hv4 dX9_lacksOrder_25 ?_
      obtain ⟨⟨v6, σ5⟩, hv6, hf⟩ := bd_e hf
      refine mcall_i (rest := []) E hR hS (tX9_lacks l hv6) (cwX9_220 E.ht ⟨Nat.le_of_ble_eq_true rfl, Nat.le_of_ble_eq_true rfl⟩) rfl hl.1 rfl (Nat.le_of_ble_eq_true rfl) dX9_lacksOrder_26 ⟨Nat.le_refl 0, Nat.le_refl 0⟩ (fun H locs hR hS => ?_)
      refine lv_goto (tgt := 34) E.hx E.hb dX9_lacksOrder_29 (by decide) ?_
      exact wX9_lacksOrder_b34 E  hf _ _ _ hR hS (lv_sub hl [0, 1, 2] rfl)
  · have hf := it_t hf c1
    refine lv_ldc (v := (-1000002)) E.hx E.hb E.ho (E.ht _ q1395) dX9_lacksOrder_7 ?_
    obtain ⟨rfl, rfl⟩ := rt_e hf
    exact mret_i E hR hS dX9_lacksOrder_9
theorem tX9_lacksOrder (l : Launch) {G : va_G} {cI cZ : ClassId} {o : Nat} {σ σf : MS} {x1 : Int32} {x2 : Int32} {r : Int32} (hf : fX9_lacksOrder σ x1 x2 = some (r, σf)) : Met l yX9_lacksOrder (ws_ yX9_lacksOrder cX9_lacksOrder 7 (some .int)) rmX9_lacksOrder (mPc G cI cZ o σ [.ref o, .int x1, .int x2]) (mQi G cI cZ o r σf) 0 0 (mA o) := by
  refine Met.ofW (cc := cX9_lacksOrder) (maxL := 7) (ret := (some .int)) (by decide) rfl ?_
  intro p e s m args below meth c s₁ B hml hv
  obtain ⟨rfl, hR, hK⟩ := hv
  have hts := atoms_spec (ws := (ws_ yX9_lacksOrder cX9_lacksOrder 7 (some .int))) B.pre
  rw [lg_entry_eq]
  exact wX9_lacksOrder_0 (E := ⟨⟨B.exec, B.bytes, hml, findClass_of_methodNamed B.named, fun w h => hts w (List.mem_cons_of_mem _ h)⟩, hK, B.returns, B.notSynchronized⟩) hf _ _ _ hR va_S.rf (lv_entry [.ref o, .int x1, .int x2] (n := 7) (Nat.le_of_ble_eq_true rfl))

theorem cwX9_223 {R : Room} {s : State} {args : Array Value} (ht : ∀ w ∈ lw_all, w.before args s = true) (hR : rmX9_lacksOrder.frames + 1 ≤ R.frames ∧ 8 + (7 + 11) + rmX9_lacksOrder.locals ≤ R.locals) : CallW R s args RX9 RX9 223 yX9_lacksOrder cX9_lacksOrder 7 (some .int) (ws_ yX9_lacksOrder cX9_lacksOrder 7 (some .int)) rmX9_lacksOrder 0 0 2 :=
  cwV 2 ht (lw_V q1543 q1545 qs56 q80 q1546) rfl rfl rfl (by decide +kernel) hR
theorem cwX9_226 {R : Room} {s : State} {args : Array Value} (ht : ∀ w ∈ lw_all, w.before args s = true) (hR : rmX9_isAbove.frames + 1 ≤ R.frames ∧ 8 + (4 + 11) + rmX9_isAbove.locals ≤ R.locals) : CallB R s args RX9 226 yX9_isAbove cX9_isAbove 4 (some .boolean) (ws_ yX9_isAbove cX9_isAbove 4 (some .boolean)) rmX9_isAbove 0 0 4 ∧ (Cond.static yX9_isAbove).before args s = true :=
  va_cwS 4 ht (lw_S q1551 q1552 q80 q1553) rfl rfl rfl (by decide +kernel) hR
abbrev rmX9_sawdust : Room := { frames := 4, cells := 0, slots := 0, locals := 86 }
def fX9_sawdust_b157 (k44 : MS → Int32 → Int32 → Int32 → Int32 → Int32 → Option (Int32 × MS)) (σ : MS) (s0 : Int32) (x4 : Int32) (x8 : Int32) (x9 : Int32) (x10 : Int32) : Option (Int32 × MS) :=
  if 0 ≤ x10 then ((rd (σ 4) 41 (5 + x9)).bind fun v2 =>
  (rd (σ 4) 41 (29 + x9)).bind fun v3 =>
  (fX9_highBy v2 x10 v3).bind fun v4 =>
  k44 σ x4 s0 x9 v4 (x8 + 1)) else (k44 σ x4 s0 x9 0 (x8 + 1))
theorem wX9_sawdust_b157 (E : mE p m c cX9_sawdust 11 s args G cI cZ meth (some .int)) {k44 : MS → Int32 → Int32 → Int32 → Int32 → Int32 → Option (Int32 × MS)} (hk44 : ∀ (σ : MS) (x4 : Int32) (x5 : Int32) (x6 : Int32) (x7 : Int32) (x8 : Int32), k44 σ x4 x5 x6 x7 x8 = some (r, σf) → ∀ (H : Heap) (locs : List Loc) (ls : Array Slot), mR G cI cZ o σ H → va_S (mA o) s.heap H locs → lv_has ls 11 [(0, .ref o), (4, .int x4), (5, .int x5), (6, .int x6), (7, .int x7), (8, .int x8)] → W p l e rmX9_sawdust s m args below meth c H locs 0 0 (MQ below (mQi G cI cZ o r σf) args s 0 0 (mA o)) (F0 m 44 ls [])) {σ : MS} {s0 : Int32} {x4 : Int32} {x8 : Int32} {x9 : Int32} {x10 : Int32} (hf : fX9_sawdust_b157 k44 σ s0 x4 x8 x9 x10 = some (r, σf)) : ∀ (H : Heap) (locs : List Loc) (ls : Array Slot), mR G cI cZ o σ H → va_S (mA o) s.heap H locs → lv_has ls 11 [(0, .ref o), (4, .int x4), (8, .int x8), (9, .int x9), (10, .int x10)] → W p l e rmX9_sawdust s m args below meth c H locs 0 0 (MQ below (mQi G cI cZ o r σf) args s 0 0 (mA o)) (F0 m 157 ls [.int s0]) := by
  intro H locs ls hR hS hl
  refine lv_istore (lv' := [(5, .int s0), (0, .ref o), (4, .int x4), (8, .int x8), (9, .int x9), (10, .int x10)]) E.hx E.hb dX9_sawdust_157 hl (by decide) rfl (fun ls hl => ?_)
  refine lv_iload E.hx E.hb dX9_sawdust_159 (lv_at hl 4 rfl) ?_
  refine lv_istore (lv' := [(6, .int x9), (5, .int s0), (0, .ref o), (4, .int x4), (8, .int x8), (9, .int x9), (10, .int x10)]) E.hx E.hb dX9_sawdust_161 hl (by decide) rfl (fun ls hl => ?_)
  refine lv_iload E.hx E.hb dX9_sawdust_163 (lv_at hl 6 rfl) ?_
  refine lv_if_ge (tgt := 172) E.hx E.hb dX9_sawdust_165 (by decide) (fun c1 => ?_) (fun c1 => ?_)
  · have hf := it_t hf c1
    refine lv_aload_n E.hx E.hb dX9_sawdust_172 rfl (lv_at hl 2 rfl) ?_
    refine mg_st E hR dX9_sawdust_173 ?_
    refine lv_iconst (v := 5) E.hx E.hb dX9_sawdust_176 (by decide) ?_
    refine lv_iload E.hx E.hb dX9_sawdust_177 (lv_at hl 5 rfl) ?_
    refine lv_iadd E.hx E.hb dX9_sawdust_179 ?_
    obtain ⟨v2, hv2, hf⟩ := bd_e hf
    refine ml_st E hR hv2 dX9_sawdust_180 ?_
    refine lv_iload E.hx E.hb dX9_sawdust_181 (lv_at hl 6 rfl) ?_
    refine lv_aload_n E.hx E.hb dX9_sawdust_183 rfl (lv_at hl 2 rfl) ?_
    refine mg_st E hR dX9_sawdust_184 ?_
    refine lv_bipush (v := 29) E.hx E.hb dX9_sawdust_187 (by decide) ?_
    refine lv_iload E.hx E.hb dX9_sawdust_189 (lv_at hl 5 rfl) ?_
    refine lv_iadd E.hx E.hb dX9_sawdust_191 ?_
    obtain ⟨v3, hv3, hf⟩ := bd_e hf
    refine ml_st E hR hv3 dX9_sawdust_192 ?_
    obtain ⟨v4, hv4, hf⟩ := bd_e hf
    refine scall_i (rest := []) E.1 (tX9_highBy l hv4) (cwX9_142 E.ht ⟨Nat.le_of_ble_eq_true rfl, Nat.le_of_ble_eq_true rfl⟩) rfl hl.1 rfl (Nat.le_of_ble_eq_true rfl) dX9_sawdust_193 ⟨Nat.le_refl 0, Nat.le_refl 0⟩ ?_
    refine lv_istore (lv' := [(7, .int v4), (6, .int x9), (5, .int s0), (0, .ref o), (4, .int x4), (8, .int x8), (9, .int x9), (10, .int x10)]) E.hx E.hb dX9_sawdust_196 hl (by decide) rfl (fun ls hl => ?_)
    refine lv_iinc (v := (x8 + 1)) (lv' := [(8, .int (x8 + 1)), (7, .int v4), (6, .int x9), (5, .int s0), (0, .ref o), (4, .int x4), (9, .int x9), (10, .int x10)]) E.hx E.hb dX9_sawdust_198 hl (k := 5) rfl rfl (by decide) rfl (fun ls hl => ?_)
    refine lv_goto (tgt := 44) E.hx E.hb dX9_sawdust_201 (by decide) ?_
    exact hk44 σ _ _ _ _ _ hf _ _ _ hR hS (lv_sub hl [4, 5, 3, 2, 1, 0] rfl)
  · have hf := it_f hf c1
    refine lv_iconst (v := 0) E.hx E.hb dX9_sawdust_168 (by decide) ?_
    refine lv_goto (tgt := 196) E.hx E.hb dX9_sawdust_169 (by decide) ?_
    refine lv_istore (lv' := [(7, .int 0), (6, .int x9), (5, .int s0), (0, .ref o), (4, .int x4), (8, .int x8), (9, .int x9), (10, .int x10)]) E.hx E.hb dX9_sawdust_196 hl (by decide) rfl (fun ls hl => ?_)
    refine lv_iinc (v := (x8 + 1)) (lv' := [(8, .int (x8 + 1)), (7, .int 0), (6, .int x9), (5, .int s0), (0, .ref o), (4, .int x4), (9, .int x9), (10, .int x10)]) E.hx E.hb dX9_sawdust_198 hl (k := 5) rfl rfl (by decide) rfl (fun ls hl => ?_)
    refine lv_goto (tgt := 44) E.hx E.hb dX9_sawdust_201 (by decide) ?_
    exact hk44 σ _ _ _ _ _ hf _ _ _ hR hS (lv_sub hl [4, 5, 3, 2, 1, 0] rfl)
def fX9_sawdust_b131 (k44 : MS → Int32 → Int32 → Int32 → Int32 → Int32 → Option (Int32 × MS)) (σ : MS) (x4 : Int32) (x5 : Int32) (x8 : Int32) (x9 : Int32) (x10 : Int32) : Option (Int32 × MS) :=
  if 0 ≤ x10 then ((rd (σ 4) 41 (11 + x9)).bind fun v2 =>
  fX9_sawdust_b157 k44 σ ((x5 + v2) - x10) x4 x8 x9 x10) else (fX9_sawdust_b157 k44 σ (-1000000) x4 x8 x9 x10)
theorem wX9_sawdust_b131 (E : mE p m c cX9_sawdust 11 s args G cI cZ meth (some .int)) {k44 : MS → Int32 → Int32 → Int32 → Int32 → Int32 → Option (Int32 × MS)} (hk44 : ∀ (σ : MS) (x4 : Int32) (x5 : Int32) (x6 : Int32) (x7 : Int32) (x8 : Int32), k44 σ x4 x5 x6 x7 x8 = some (r, σf) → ∀ (H : Heap) (locs : List Loc) (ls : Array Slot), mR G cI cZ o σ H → va_S (mA o) s.heap H locs → lv_has ls 11 [(0, .ref o), (4, .int x4), (5, .int x5), (6, .int x6), (7, .int x7), (8, .int x8)] → W p l e rmX9_sawdust s m args below meth c H locs 0 0 (MQ below (mQi G cI cZ o r σf) args s 0 0 (mA o)) (F0 m 44 ls [])) {σ : MS} {x4 : Int32} {x5 : Int32} {x8 : Int32} {x9 : Int32} {x10 : Int32} (hf : fX9_sawdust_b131 k44 σ x4 x5 x8 x9 x10 = some (r, σf)) : ∀ (H : Heap) (locs : List Loc) (ls : Array Slot), mR G cI cZ o σ H → va_S (mA o) s.heap H locs → lv_has ls 11 [(0, .ref o), (4, .int x4), (5, .int x5), (8, .int x8), (9, .int x9), (10, .int x10)] → W p l e rmX9_sawdust s m args below meth c H locs 0 0 (MQ below (mQi G cI cZ o r σf) args s 0 0 (mA o)) (F0 m 131 ls []) := by
  intro H locs ls hR hS hl
  refine lv_iload E.hx E.hb dX9_sawdust_131 (lv_at hl 5 rfl) ?_
  refine lv_if_ge (tgt := 141) E.hx E.hb dX9_sawdust_133 (by decide) (fun c1 => ?_) (fun c1 => ?_)
  · have hf := it_t hf c1
    refine lv_iload E.hx E.hb dX9_sawdust_141 (lv_at hl 2 rfl) ?_
    refine lv_aload_n E.hx E.hb dX9_sawdust_143 rfl (lv_at hl 0 rfl) ?_
    refine mg_st E hR dX9_sawdust_144 ?_
    refine lv_bipush (v := 11) E.hx E.hb dX9_sawdust_147 (by decide) ?_
    refine lv_iload E.hx E.hb dX9_sawdust_149 (lv_at hl 4 rfl) ?_
    refine lv_iadd E.hx E.hb dX9_sawdust_151 ?_
    obtain ⟨v2, hv2, hf⟩ := bd_e hf
    refine ml_st E hR hv2 dX9_sawdust_152 ?_
    refine lv_iadd E.hx E.hb dX9_sawdust_153 ?_
    refine lv_iload E.hx E.hb dX9_sawdust_154 (lv_at hl 5 rfl) ?_
    refine lv_isub E.hx E.hb dX9_sawdust_156 ?_
    exact wX9_sawdust_b157 E hk44 hf _ _ _ hR hS (lv_sub hl [0, 1, 3, 4, 5] rfl)
  · have hf := it_f hf c1
    refine lv_ldc (v := (-1000000)) E.hx E.hb E.ho (E.ht _ q1413) dX9_sawdust_136 ?_
    refine lv_goto (tgt := 157) E.hx E.hb dX9_sawdust_138 (by decide) ?_
    exact wX9_sawdust_b157 E hk44 hf _ _ _ hR hS (lv_sub hl [0, 1, 3, 4, 5] rfl)
def fX9_sawdust_L84 (k44 : MS → Int32 → Int32 → Int32 → Int32 → Int32 → Option (Int32 × MS)) : Nat → MS → Int32 → Int32 → Int32 → Int32 → Int32 → Int32 → Int32 → Option (Int32 × MS)
  | 0, _, _, _, _, _, _, _, _ => none
  | n + 1, σ, x4, x5, x6, x7, x8, x9, x10 =>
    if x10 < 0 then (fX9_sawdust_b131 k44 σ x4 x5 x8 x9 x10) else ((rd (σ 4) 41 (5 + x9)).bind fun v2 =>
    (rd (σ 4) 41 (29 + x9)).bind fun v3 =>
    (fX9_highBy v2 x10 v3).bind fun v4 =>
    (fX9_isAbove x7 x6 v4 x9).bind fun v5 =>
    if v5 = 0 then ((fX9_sawdust_L84 k44 n) σ x4 x5 x6 x7 x8 x9 (x10 + (-1))) else (fX9_sawdust_b131 k44 σ x4 x5 x8 x9 x10))
theorem wX9_sawdust_L84 (E : mE p m c cX9_sawdust 11 s args G cI cZ meth (some .int)) {k44 : MS → Int32 → Int32 → Int32 → Int32 → Int32 → Option (Int32 × MS)} (hk44 : ∀ (σ : MS) (x4 : Int32) (x5 : Int32) (x6 : Int32) (x7 : Int32) (x8 : Int32), k44 σ x4 x5 x6 x7 x8 = some (r, σf) → ∀ (H : Heap) (locs : List Loc) (ls : Array Slot), mR G cI cZ o σ H → va_S (mA o) s.heap H locs → lv_has ls 11 [(0, .ref o), (4, .int x4), (5, .int x5), (6, .int x6), (7, .int x7), (8, .int x8)] → W p l e rmX9_sawdust s m args below meth c H locs 0 0 (MQ below (mQi G cI cZ o r σf) args s 0 0 (mA o)) (F0 m 44 ls [])) : ∀ (n : Nat) (σ : MS) (x4 : Int32) (x5 : Int32) (x6 : Int32) (x7 : Int32) (x8 : Int32) (x9 : Int32) (x10 : Int32), fX9_sawdust_L84 k44 n σ x4 x5 x6 x7 x8 x9 x10 = some (r, σf) → ∀ (H : Heap) (locs : List Loc) (ls : Array Slot), mR G cI cZ o σ H → va_S (mA o) s.heap H locs → lv_has ls 11 [(0, .ref o), (4, .int x4), (5, .int x5), (6, .int x6), (7, .int x7), (8, .int x8), (9, .int x9), (10, .int x10)] → W p l e rmX9_sawdust s m args below meth c H locs 0 0 (MQ below (mQi G cI cZ o r σf) args s 0 0 (mA o)) (F0 m 84 ls []) := by
  intro n
  induction n with
  | zero =>
    intro σ x4 x5 x6 x7 x8 x9 x10 hf
    have hf : none = some (r, σf) := hf
    cases hf
  | succ n ih =>
    intro σ x4 x5 x6 x7 x8 x9 x10 hf H locs ls hR hS hl
    refine lv_iload E.hx E.hb dX9_sawdust_84 (lv_at hl 7 rfl) ?_
    refine lv_if_lt (tgt := 131) E.hx E.hb dX9_sawdust_86 (by decide) (fun c1 => ?_) (fun c1 => ?_)
    · have hf := it_t hf c1
      exact wX9_sawdust_b131 E hk44 hf _ _ _ hR hS (lv_sub hl [0, 1, 2, 5, 6, 7] rfl)
    · have hf := it_f hf c1
      refine lv_iload E.hx E.hb dX9_sawdust_89 (lv_at hl 4 rfl) ?_
      refine lv_iload E.hx E.hb dX9_sawdust_91 (lv_at hl 3 rfl) ?_
      refine lv_aload_n E.hx E.hb dX9_sawdust_93 rfl (lv_at hl 0 rfl) ?_
      refine mg_st E hR dX9_sawdust_94 ?_
      refine lv_iconst (v := 5) E.hx E.hb dX9_sawdust_97 (by decide) ?_
      refine lv_iload E.hx E.hb dX9_sawdust_98 (lv_at hl 6 rfl) ?_
      refine lv_iadd E.hx E.hb dX9_sawdust_100 ?_
      obtain ⟨v2, hv2, hf⟩ := bd_e hf
      refine ml_st E hR hv2 dX9_sawdust_101 ?_
      refine lv_iload E.hx E.hb dX9_sawdust_102 (lv_at hl 7 rfl) ?_
      refine lv_aload_n E.hx E.hb dX9_sawdust_104 rfl (lv_at hl 0 rfl) ?_
      refine mg_st E hR dX9_sawdust_105 ?_
      refine lv_bipush (v := 29) E.hx E.hb dX9_sawdust_108 (by decide) ?_
      refine lv_iload E.hx E.hb dX9_sawdust_110 (lv_at hl 6 rfl) ?_
      refine lv_iadd E.hx E.hb dX9_sawdust_112 ?_
      obtain ⟨v3, hv3, hf⟩ := bd_e hf
      refine ml_st E hR hv3 dX9_sawdust_113 ?_
      obtain ⟨v4, hv4, hf⟩ := bd_e hf
      refine scall_i (rest := [.int x6, .int x7]) E.1 (tX9_highBy l hv4) (cwX9_142 E.ht ⟨Nat.le_of_ble_eq_true rfl, Nat.le_of_ble_eq_true rfl⟩) rfl hl.1 rfl (Nat.le_of_ble_eq_true rfl) dX9_sawdust_114 ⟨Nat.le_refl 0, Nat.le_refl 0⟩ ?_
      refine lv_iload E.hx E.hb dX9_sawdust_117 (lv_at hl 6 rfl) ?_
      obtain ⟨v5, hv5, hf⟩ := bd_e hf
      refine scall_i (rest := []) E.1 (tX9_isAbove l hv5) (cwX9_226 E.ht ⟨Nat.le_of_ble_eq_true rfl, Nat.le_of_ble_eq_true rfl⟩) rfl hl.1 rfl (Nat.le_of_ble_eq_true rfl) dX9_sawdust_119 ⟨Nat.le_refl 0, Nat.le_refl 0⟩ ?_
      refine lv_if_ne (tgt := 131) E.hx E.hb dX9_sawdust_122 (by decide) (fun c6 => ?_) (fun c6 => ?_)
      · have hf := it_f hf c6
        exact wX9_sawdust_b131 E hk44 hf _ _ _ hR hS (lv_sub hl [0, 1, 2, 5, 6, 7] rfl)
      · have hf := it_t hf c6
        refine lv_iinc (v := (x10 + (-1))) (lv' := [(10, .int (x10 + (-1))), (0, .ref o), (4, .int x4), (5, .int x5), (6, .int x6), (7, .int x7), (8, .int x8), (9, .int x9)]) E.hx E.hb dX9_sawdust_125 hl (k := 7) rfl rfl (by decide) rfl (fun ls hl => ?_)
        refine lv_goto (tgt := 84) E.hx E.hb dX9_sawdust_128 (by decide) ?_
        exact ih σ _ _ _ _ _ _ _ hf _ _ _ hR hS (lv_sub hl [1, 2, 3, 4, 5, 6, 7, 0] rfl)
def fX9_sawdust_b204  (σ : MS) (x5 : Int32) : Option (Int32 × MS) :=
  (fX9_well σ x5).bind fun (v2, σ1) =>
  some (v2, σ1)
theorem wX9_sawdust_b204 (E : mE p m c cX9_sawdust 11 s args G cI cZ meth (some .int)) {σ : MS} {x5 : Int32} (hf : fX9_sawdust_b204 σ x5 = some (r, σf)) : ∀ (H : Heap) (locs : List Loc) (ls : Array Slot), mR G cI cZ o σ H → va_S (mA o) s.heap H locs → lv_has ls 11 [(0, .ref o), (5, .int x5)] → W p l e rmX9_sawdust s m args below meth c H locs 0 0 (MQ below (mQi G cI cZ o r σf) args s 0 0 (mA o)) (F0 m 204 ls []) := by
  intro H locs ls hR hS hl
  refine lv_aload_n E.hx E.hb dX9_sawdust_204 rfl (lv_at hl 0 rfl) ?_
  refine lv_iload E.hx E.hb dX9_sawdust_205 (lv_at hl 1 rfl) ?_
  obtain ⟨⟨v2, σ1⟩, hv2, hf⟩ := bd_e hf
  refine mcall_i (rest := []) E hR hS (tX9_well l hv2) (cwX9_72 E.ht ⟨Nat.le_of_ble_eq_true rfl, Nat.le_of_ble_eq_true rfl⟩) rfl hl.1 rfl (Nat.le_of_ble_eq_true rfl) dX9_sawdust_207 ⟨Nat.le_refl 0, Nat.le_refl 0⟩ (fun H locs hR hS => ?_)
  obtain ⟨rfl, rfl⟩ := rt_e hf
  exact mret_i E hR hS dX9_sawdust_210
def fX9_sawdust_L44  : Nat → MS → Int32 → Int32 → Int32 → Int32 → Int32 → Option (Int32 × MS)
  | 0, _, _, _, _, _, _ => none
  | n + 1, σ, x4, x5, x6, x7, x8 =>
    (rd (σ 4) 41 2).bind fun v1 =>
    if v1 ≤ x8 then (fX9_sawdust_b204 σ x5) else (if x5 < 0 then (fX9_sawdust_b204 σ x5) else ((rd (σ 3) 320 (x4 + x8)).bind fun v4 =>
    (rd (σ 4) 41 (11 + v4)).bind fun v5 =>
    fX9_sawdust_L84 (fX9_sawdust_L44 n) 2000 σ x4 x5 x6 x7 x8 v4 v5))
theorem wX9_sawdust_L44 (E : mE p m c cX9_sawdust 11 s args G cI cZ meth (some .int)) : ∀ (n : Nat) (σ : MS) (x4 : Int32) (x5 : Int32) (x6 : Int32) (x7 : Int32) (x8 : Int32), fX9_sawdust_L44 n σ x4 x5 x6 x7 x8 = some (r, σf) → ∀ (H : Heap) (locs : List Loc) (ls : Array Slot), mR G cI cZ o σ H → va_S (mA o) s.heap H locs → lv_has ls 11 [(0, .ref o), (4, .int x4), (5, .int x5), (6, .int x6), (7, .int x7), (8, .int x8)] → W p l e rmX9_sawdust s m args below meth c H locs 0 0 (MQ below (mQi G cI cZ o r σf) args s 0 0 (mA o)) (F0 m 44 ls []) := by
  intro n
  induction n with
  | zero =>
    intro σ x4 x5 x6 x7 x8 hf
    have hf : none = some (r, σf) := hf
    cases hf
  | succ n ih =>
    intro σ x4 x5 x6 x7 x8 hf H locs ls hR hS hl
    refine lv_iload E.hx E.hb dX9_sawdust_44 (lv_at hl 5 rfl) ?_
    refine lv_aload_n E.hx E.hb dX9_sawdust_46 rfl (lv_at hl 0 rfl) ?_
    refine mg_st E hR dX9_sawdust_47 ?_
    refine lv_iconst (v := 2) E.hx E.hb dX9_sawdust_50 (by decide) ?_
    obtain ⟨v1, hv1, hf⟩ := bd_e hf
    refine ml_st E hR hv1 dX9_sawdust_51 ?_
    refine lv_icmp_ge (tgt := 204) E.hx E.hb dX9_sawdust_52 (by decide) (fun c2 => ?_) (fun c2 => ?_)
    · have hf := it_t hf c2
      exact wX9_sawdust_b204 E  hf _ _ _ hR hS (lv_sub hl [0, 2] rfl)
    · have hf := it_f hf c2
      refine lv_iload E.hx E.hb dX9_sawdust_55 (lv_at hl 2 rfl) ?_
      refine lv_if_lt (tgt := 204) E.hx E.hb dX9_sawdust_57 (by decide) (fun c3 => ?_) (fun c3 => ?_)
      · have hf := it_t hf c3
        exact wX9_sawdust_b204 E  hf _ _ _ hR hS (lv_sub hl [0, 2] rfl)
      · have hf := it_f hf c3
        refine lv_aload_n E.hx E.hb dX9_sawdust_60 rfl (lv_at hl 0 rfl) ?_
        refine mg_items E hR dX9_sawdust_61 ?_
        refine lv_iload E.hx E.hb dX9_sawdust_64 (lv_at hl 1 rfl) ?_
        refine lv_iload E.hx E.hb dX9_sawdust_66 (lv_at hl 5 rfl) ?_
        refine lv_iadd E.hx E.hb dX9_sawdust_68 ?_
        obtain ⟨v4, hv4, hf⟩ := bd_e hf
        refine ml_items E hR hv4 dX9_sawdust_69 ?_
        refine lv_istore (lv' := [(9, .int v4), (0, .ref o), (4, .int x4), (5, .int x5), (6, .int x6), (7, .int x7), (8, .int x8)]) E.hx E.hb dX9_sawdust_70 hl (by decide) rfl (fun ls hl => ?_)
        refine lv_aload_n E.hx E.hb dX9_sawdust_72 rfl (lv_at hl 1 rfl) ?_
        refine mg_st E hR dX9_sawdust_73 ?_
        refine lv_bipush (v := 11) E.hx E.hb dX9_sawdust_76 (by decide) ?_
        refine lv_iload E.hx E.hb dX9_sawdust_78 (lv_at hl 0 rfl) ?_
        refine lv_iadd E.hx E.hb dX9_sawdust_80 ?_
        obtain ⟨v5, hv5, hf⟩ := bd_e hf
        refine ml_st E hR hv5 dX9_sawdust_81 ?_
        refine lv_istore (lv' := [(10, .int v5), (9, .int v4), (0, .ref o), (4, .int x4), (5, .int x5), (6, .int x6), (7, .int x7), (8, .int x8)]) E.hx E.hb dX9_sawdust_82 hl (by decide) rfl (fun ls hl => ?_)
        exact wX9_sawdust_L84 E ih 2000 σ _ _ _ _ _ _ _ hf _ _ _ hR hS (lv_sub hl [2, 3, 4, 5, 6, 7, 1, 0] rfl)
def fX9_sawdust  (σ : MS) (x1 : Int32) (x2 : Int32) : Option (Int32 × MS) :=
  (fX9_lacksOrder σ x1 x2).bind fun (v2, σ1) =>
  if 0 ≤ v2 then ((rd (σ1 3) 320 ((40 * x1) + x2)).bind fun v4 =>
  (fX9_highOf σ1 v4).bind fun (v6, σ5) =>
  fX9_sawdust_L44 2000 σ5 ((40 * x1) + x2) 0 v4 v6 1) else (some (v2, σ1))
theorem wX9_sawdust_0 (E : mE p m c cX9_sawdust 11 s args G cI cZ meth (some .int)) {σ : MS} {x1 : Int32} {x2 : Int32} (hf : fX9_sawdust σ x1 x2 = some (r, σf)) : ∀ (H : Heap) (locs : List Loc) (ls : Array Slot), mR G cI cZ o σ H → va_S (mA o) s.heap H locs → lv_has ls 11 [(0, .ref o), (1, .int x1), (2, .int x2)] → W p l e rmX9_sawdust s m args below meth c H locs 0 0 (MQ below (mQi G cI cZ o r σf) args s 0 0 (mA o)) (F0 m 0 ls []) := by
  intro H locs ls hR hS hl
  refine lv_aload_n E.hx E.hb dX9_sawdust_0 rfl (lv_at hl 0 rfl) ?_
  refine lv_iload_n E.hx E.hb dX9_sawdust_1 rfl (lv_at hl 1 rfl) ?_
  refine lv_iload_n E.hx E.hb dX9_sawdust_2 rfl (lv_at hl 2 rfl) ?_
  obtain ⟨⟨v2, σ1⟩, hv2, hf⟩ := bd_e hf
  refine mcall_i (rest := []) E hR hS (tX9_lacksOrder l hv2) (cwX9_223 E.ht ⟨Nat.le_of_ble_eq_true rfl, Nat.le_of_ble_eq_true rfl⟩) rfl hl.1 rfl (Nat.le_of_ble_eq_true rfl) dX9_sawdust_3 ⟨Nat.le_refl 0, Nat.le_refl 0⟩ (fun H locs hR hS => ?_)
  refine lv_istore_n (lv' := [(3, .int v2), (0, .ref o), (1, .int x1), (2, .int x2)]) E.hx E.hb dX9_sawdust_6 rfl hl (by decide) rfl (fun ls hl => ?_)
  refine lv_iload_n E.hx E.hb dX9_sawdust_7 rfl (lv_at hl 0 rfl) ?_
  refine lv_if_ge (tgt := 13) E.hx E.hb dX9_sawdust_8 (by decide) (fun c3 => ?_) (fun c3 => ?_)
  · have hf := it_t hf c3
    refine lv_bipush (v := 40) E.hx E.hb dX9_sawdust_13 (by decide) ?_
    refine lv_iload_n E.hx E.hb dX9_sawdust_15 rfl (lv_at hl 2 rfl) ?_
    refine lv_imul E.hx E.hb dX9_sawdust_16 ?_
    refine lv_iload_n E.hx E.hb dX9_sawdust_17 rfl (lv_at hl 3 rfl) ?_
    refine lv_iadd E.hx E.hb dX9_sawdust_18 ?_
    refine lv_istore (lv' := [(4, .int ((40 * x1) + x2)), (3, .int v2), (0, .ref o), (1, .int x1), (2, .int x2)]) E.hx E.hb dX9_sawdust_19 hl (by decide) rfl (fun ls hl => ?_)
    refine lv_iconst (v := 0) E.hx E.hb dX9_sawdust_21 (by decide) ?_
    refine lv_istore (lv' := [(5, .int 0), (4, .int ((40 * x1) + x2)), (3, .int v2), (0, .ref o), (1, .int x1), (2, .int x2)]) E.hx E.hb dX9_sawdust_22 hl (by decide) rfl (fun ls hl => ?_)
    refine lv_aload_n E.hx E.hb dX9_sawdust_24 rfl (lv_at hl 3 rfl) ?_
    refine mg_items E hR dX9_sawdust_25 ?_
    refine lv_iload E.hx E.hb dX9_sawdust_28 (lv_at hl 1 rfl) ?_
    obtain ⟨v4, hv4, hf⟩ := bd_e hf
    refine ml_items E hR hv4 dX9_sawdust_30 ?_
    refine lv_istore (lv' := [(6, .int v4), (5, .int 0), (4, .int ((40 * x1) + x2)), (3, .int v2), (0, .ref o), (1, .int x1), (2, .int x2)]) E.hx E.hb dX9_sawdust_31 hl (by decide) rfl (fun ls hl => ?_)
    refine lv_aload_n E.hx E.hb dX9_sawdust_33 rfl (lv_at hl 4 rfl) ?_
    refine lv_iload E.hx E.hb dX9_sawdust_34 (lv_at hl 0 rfl) ?_
    obtain ⟨⟨v6, σ5⟩, hv6, hf⟩ := bd_e hf
    refine mcall_i (rest := []) E hR hS (tX9_highOf l hv6) (cwX9_146 E.ht ⟨Nat.le_of_ble_eq_true rfl, Nat.le_of_ble_eq_true rfl⟩) rfl hl.1 rfl (Nat.le_of_ble_eq_true rfl) dX9_sawdust_36 ⟨Nat.le_refl 0, Nat.le_refl 0⟩ (fun H locs hR hS => ?_)
    refine lv_istore (lv' := [(7, .int v6), (6, .int v4), (5, .int 0), (4, .int ((40 * x1) + x2)), (3, .int v2), (0, .ref o), (1, .int x1), (2, .int x2)]) E.hx E.hb dX9_sawdust_39 hl (by decide) rfl (fun ls hl => ?_)
    refine lv_iconst (v := 1) E.hx E.hb dX9_sawdust_41 (by decide) ?_
    refine lv_istore (lv' := [(8, .int 1), (7, .int v6), (6, .int v4), (5, .int 0), (4, .int ((40 * x1) + x2)), (3, .int v2), (0, .ref o), (1, .int x1), (2, .int x2)]) E.hx E.hb dX9_sawdust_42 hl (by decide) rfl (fun ls hl => ?_)
    exact wX9_sawdust_L44 E  2000 σ5 _ _ _ _ _ hf _ _ _ hR hS (lv_sub hl [6, 4, 3, 2, 1, 0] rfl)
  · have hf := it_f hf c3
    refine lv_iload_n E.hx E.hb dX9_sawdust_11 rfl (lv_at hl 0 rfl) ?_
    obtain ⟨rfl, rfl⟩ := rt_e hf
    exact mret_i E hR hS dX9_sawdust_12
theorem tX9_sawdust (l : Launch) {G : va_G} {cI cZ : ClassId} {o : Nat} {σ σf : MS} {x1 : Int32} {x2 : Int32} {r : Int32} (hf : fX9_sawdust σ x1 x2 = some (r, σf)) : Met l yX9_sawdust (ws_ yX9_sawdust cX9_sawdust 11 (some .int)) rmX9_sawdust (mPc G cI cZ o σ [.ref o, .int x1, .int x2]) (mQi G cI cZ o r σf) 0 0 (mA o) := by
  refine Met.ofW (cc := cX9_sawdust) (maxL := 11) (ret := (some .int)) (by decide) rfl ?_
  intro p e s m args below meth c s₁ B hml hv
  obtain ⟨rfl, hR, hK⟩ := hv
  have hts := atoms_spec (ws := (ws_ yX9_sawdust cX9_sawdust 11 (some .int))) B.pre
  rw [lg_entry_eq]
  exact wX9_sawdust_0 (E := ⟨⟨B.exec, B.bytes, hml, findClass_of_methodNamed B.named, fun w h => hts w (List.mem_cons_of_mem _ h)⟩, hK, B.returns, B.notSynchronized⟩) hf _ _ _ hR va_S.rf (lv_entry [.ref o, .int x1, .int x2] (n := 11) (Nat.le_of_ble_eq_true rfl))

abbrev rmX9_pile : Room := { frames := 4, cells := 0, slots := 0, locals := 86 }
def fX9_pile_b171 (k60 : MS → Int32 → Int32 → Int32 → Int32 → Int32 → Option (Int32 × MS)) (σ : MS) (s0 : Int32) (x4 : Int32) (x8 : Int32) (x9 : Int32) (x10 : Int32) : Option (Int32 × MS) :=
  (rd (σ 4) 41 (5 + x9)).bind fun v1 =>
  (rd (σ 4) 41 (11 + x9)).bind fun v2 =>
  (fX9_highBy v1 v2 x10).bind fun v3 =>
  k60 σ x4 s0 x9 v3 (x8 + (-1))
theorem wX9_pile_b171 (E : mE p m c cX9_pile 11 s args G cI cZ meth (some .int)) {k60 : MS → Int32 → Int32 → Int32 → Int32 → Int32 → Option (Int32 × MS)} (hk60 : ∀ (σ : MS) (x4 : Int32) (x5 : Int32) (x6 : Int32) (x7 : Int32) (x8 : Int32), k60 σ x4 x5 x6 x7 x8 = some (r, σf) → ∀ (H : Heap) (locs : List Loc) (ls : Array Slot), mR G cI cZ o σ H → va_S (mA o) s.heap H locs → lv_has ls 11 [(0, .ref o), (4, .int x4), (5, .int x5), (6, .int x6), (7, .int x7), (8, .int x8)] → W p l e rmX9_pile s m args below meth c H locs 0 0 (MQ below (mQi G cI cZ o r σf) args s 0 0 (mA o)) (F0 m 60 ls [])) {σ : MS} {s0 : Int32} {x4 : Int32} {x8 : Int32} {x9 : Int32} {x10 : Int32} (hf : fX9_pile_b171 k60 σ s0 x4 x8 x9 x10 = some (r, σf)) : ∀ (H : Heap) (locs : List Loc) (ls : Array Slot), mR G cI cZ o σ H → va_S (mA o) s.heap H locs → lv_has ls 11 [(0, .ref o), (4, .int x4), (8, .int x8), (9, .int x9), (10, .int x10)] → W p l e rmX9_pile s m args below meth c H locs 0 0 (MQ below (mQi G cI cZ o r σf) args s 0 0 (mA o)) (F0 m 171 ls [.int s0]) := by
  intro H locs ls hR hS hl
  refine lv_istore (lv' := [(5, .int s0), (0, .ref o), (4, .int x4), (8, .int x8), (9, .int x9), (10, .int x10)]) E.hx E.hb dX9_pile_171 hl (by decide) rfl (fun ls hl => ?_)
  refine lv_iload E.hx E.hb dX9_pile_173 (lv_at hl 4 rfl) ?_
  refine lv_istore (lv' := [(6, .int x9), (5, .int s0), (0, .ref o), (4, .int x4), (8, .int x8), (9, .int x9), (10, .int x10)]) E.hx E.hb dX9_pile_175 hl (by decide) rfl (fun ls hl => ?_)
  refine lv_aload_n E.hx E.hb dX9_pile_177 rfl (lv_at hl 2 rfl) ?_
  refine mg_st E hR dX9_pile_178 ?_
  refine lv_iconst (v := 5) E.hx E.hb dX9_pile_181 (by decide) ?_
  refine lv_iload E.hx E.hb dX9_pile_182 (lv_at hl 5 rfl) ?_
  refine lv_iadd E.hx E.hb dX9_pile_184 ?_
  obtain ⟨v1, hv1, hf⟩ := bd_e hf
  refine ml_st E hR hv1 dX9_pile_185 ?_
  refine lv_aload_n E.hx E.hb dX9_pile_186 rfl (lv_at hl 2 rfl) ?_
  refine mg_st E hR dX9_pile_187 ?_
  refine lv_bipush (v := 11) E.hx E.hb dX9_pile_190 (by decide) ?_
  refine lv_iload E.hx E.hb dX9_pile_192 (lv_at hl 5 rfl) ?_
  refine lv_iadd E.hx E.hb dX9_pile_194 ?_
  obtain ⟨v2, hv2, hf⟩ := bd_e hf
  refine ml_st E hR hv2 dX9_pile_195 ?_
  refine lv_iload E.hx E.hb dX9_pile_196 (lv_at hl 6 rfl) ?_
  obtain ⟨v3, hv3, hf⟩ := bd_e hf
  refine scall_i (rest := []) E.1 (tX9_highBy l hv3) (cwX9_142 E.ht ⟨Nat.le_of_ble_eq_true rfl, Nat.le_of_ble_eq_true rfl⟩) rfl hl.1 rfl (Nat.le_of_ble_eq_true rfl) dX9_pile_198 ⟨Nat.le_refl 0, Nat.le_refl 0⟩ ?_
  refine lv_istore (lv' := [(7, .int v3), (6, .int x9), (5, .int s0), (0, .ref o), (4, .int x4), (8, .int x8), (9, .int x9), (10, .int x10)]) E.hx E.hb dX9_pile_201 hl (by decide) rfl (fun ls hl => ?_)
  refine lv_iinc (v := (x8 + (-1))) (lv' := [(8, .int (x8 + (-1))), (7, .int v3), (6, .int x9), (5, .int s0), (0, .ref o), (4, .int x4), (9, .int x9), (10, .int x10)]) E.hx E.hb dX9_pile_203 hl (k := 5) rfl rfl (by decide) rfl (fun ls hl => ?_)
  refine lv_goto (tgt := 60) E.hx E.hb dX9_pile_206 (by decide) ?_
  exact hk60 σ _ _ _ _ _ hf _ _ _ hR hS (lv_sub hl [4, 5, 3, 2, 1, 0] rfl)
def fX9_pile_b143 (k60 : MS → Int32 → Int32 → Int32 → Int32 → Int32 → Option (Int32 × MS)) (σ : MS) (x4 : Int32) (x5 : Int32) (x8 : Int32) (x9 : Int32) (x10 : Int32) : Option (Int32 × MS) :=
  if x10 ≤ 20 then ((rd (σ 4) 41 (29 + x9)).bind fun v2 =>
  fX9_pile_b171 k60 σ ((x5 + x10) - v2) x4 x8 x9 x10) else (fX9_pile_b171 k60 σ (-1000000) x4 x8 x9 x10)
theorem wX9_pile_b143 (E : mE p m c cX9_pile 11 s args G cI cZ meth (some .int)) {k60 : MS → Int32 → Int32 → Int32 → Int32 → Int32 → Option (Int32 × MS)} (hk60 : ∀ (σ : MS) (x4 : Int32) (x5 : Int32) (x6 : Int32) (x7 : Int32) (x8 : Int32), k60 σ x4 x5 x6 x7 x8 = some (r, σf) → ∀ (H : Heap) (locs : List Loc) (ls : Array Slot), mR G cI cZ o σ H → va_S (mA o) s.heap H locs → lv_has ls 11 [(0, .ref o), (4, .int x4), (5, .int x5), (6, .int x6), (7, .int x7), (8, .int x8)] → W p l e rmX9_pile s m args below meth c H locs 0 0 (MQ below (mQi G cI cZ o r σf) args s 0 0 (mA o)) (F0 m 60 ls [])) {σ : MS} {x4 : Int32} {x5 : Int32} {x8 : Int32} {x9 : Int32} {x10 : Int32} (hf : fX9_pile_b143 k60 σ x4 x5 x8 x9 x10 = some (r, σf)) : ∀ (H : Heap) (locs : List Loc) (ls : Array Slot), mR G cI cZ o σ H → va_S (mA o) s.heap H locs → lv_has ls 11 [(0, .ref o), (4, .int x4), (5, .int x5), (8, .int x8), (9, .int x9), (10, .int x10)] → W p l e rmX9_pile s m args below meth c H locs 0 0 (MQ below (mQi G cI cZ o r σf) args s 0 0 (mA o)) (F0 m 143 ls []) := by
  intro H locs ls hR hS hl
  refine lv_iload E.hx E.hb dX9_pile_143 (lv_at hl 5 rfl) ?_
  refine lv_bipush (v := 20) E.hx E.hb dX9_pile_145 (by decide) ?_
  refine lv_icmp_le (tgt := 155) E.hx E.hb dX9_pile_147 (by decide) (fun c1 => ?_) (fun c1 => ?_)
  · have hf := it_t hf c1
    refine lv_iload E.hx E.hb dX9_pile_155 (lv_at hl 2 rfl) ?_
    refine lv_iload E.hx E.hb dX9_pile_157 (lv_at hl 5 rfl) ?_
    refine lv_iadd E.hx E.hb dX9_pile_159 ?_
    refine lv_aload_n E.hx E.hb dX9_pile_160 rfl (lv_at hl 0 rfl) ?_
    refine mg_st E hR dX9_pile_161 ?_
    refine lv_bipush (v := 29) E.hx E.hb dX9_pile_164 (by decide) ?_
    refine lv_iload E.hx E.hb dX9_pile_166 (lv_at hl 4 rfl) ?_
    refine lv_iadd E.hx E.hb dX9_pile_168 ?_
    obtain ⟨v2, hv2, hf⟩ := bd_e hf
    refine ml_st E hR hv2 dX9_pile_169 ?_
    refine lv_isub E.hx E.hb dX9_pile_170 ?_
    exact wX9_pile_b171 E hk60 hf _ _ _ hR hS (lv_sub hl [0, 1, 3, 4, 5] rfl)
  · have hf := it_f hf c1
    refine lv_ldc (v := (-1000000)) E.hx E.hb E.ho (E.ht _ q1413) dX9_pile_150 ?_
    refine lv_goto (tgt := 171) E.hx E.hb dX9_pile_152 (by decide) ?_
    exact wX9_pile_b171 E hk60 hf _ _ _ hR hS (lv_sub hl [0, 1, 3, 4, 5] rfl)
def fX9_pile_L94 (k60 : MS → Int32 → Int32 → Int32 → Int32 → Int32 → Option (Int32 × MS)) : Nat → MS → Int32 → Int32 → Int32 → Int32 → Int32 → Int32 → Int32 → Option (Int32 × MS)
  | 0, _, _, _, _, _, _, _, _ => none
  | n + 1, σ, x4, x5, x6, x7, x8, x9, x10 =>
    if 20 < x10 then (fX9_pile_b143 k60 σ x4 x5 x8 x9 x10) else ((rd (σ 4) 41 (5 + x9)).bind fun v2 =>
    (rd (σ 4) 41 (11 + x9)).bind fun v3 =>
    (fX9_highBy v2 v3 x10).bind fun v4 =>
    (fX9_isAbove v4 x9 x7 x6).bind fun v5 =>
    if v5 = 0 then ((fX9_pile_L94 k60 n) σ x4 x5 x6 x7 x8 x9 (x10 + 1)) else (fX9_pile_b143 k60 σ x4 x5 x8 x9 x10))
theorem wX9_pile_L94 (E : mE p m c cX9_pile 11 s args G cI cZ meth (some .int)) {k60 : MS → Int32 → Int32 → Int32 → Int32 → Int32 → Option (Int32 × MS)} (hk60 : ∀ (σ : MS) (x4 : Int32) (x5 : Int32) (x6 : Int32) (x7 : Int32) (x8 : Int32), k60 σ x4 x5 x6 x7 x8 = some (r, σf) → ∀ (H : Heap) (locs : List Loc) (ls : Array Slot), mR G cI cZ o σ H → va_S (mA o) s.heap H locs → lv_has ls 11 [(0, .ref o), (4, .int x4), (5, .int x5), (6, .int x6), (7, .int x7), (8, .int x8)] → W p l e rmX9_pile s m args below meth c H locs 0 0 (MQ below (mQi G cI cZ o r σf) args s 0 0 (mA o)) (F0 m 60 ls [])) : ∀ (n : Nat) (σ : MS) (x4 : Int32) (x5 : Int32) (x6 : Int32) (x7 : Int32) (x8 : Int32) (x9 : Int32) (x10 : Int32), fX9_pile_L94 k60 n σ x4 x5 x6 x7 x8 x9 x10 = some (r, σf) → ∀ (H : Heap) (locs : List Loc) (ls : Array Slot), mR G cI cZ o σ H → va_S (mA o) s.heap H locs → lv_has ls 11 [(0, .ref o), (4, .int x4), (5, .int x5), (6, .int x6), (7, .int x7), (8, .int x8), (9, .int x9), (10, .int x10)] → W p l e rmX9_pile s m args below meth c H locs 0 0 (MQ below (mQi G cI cZ o r σf) args s 0 0 (mA o)) (F0 m 94 ls []) := by
  intro n
  induction n with
  | zero =>
    intro σ x4 x5 x6 x7 x8 x9 x10 hf
    have hf : none = some (r, σf) := hf
    cases hf
  | succ n ih =>
    intro σ x4 x5 x6 x7 x8 x9 x10 hf H locs ls hR hS hl
    refine lv_iload E.hx E.hb dX9_pile_94 (lv_at hl 7 rfl) ?_
    refine lv_bipush (v := 20) E.hx E.hb dX9_pile_96 (by decide) ?_
    refine lv_icmp_gt (tgt := 143) E.hx E.hb dX9_pile_98 (by decide) (fun c1 => ?_) (fun c1 => ?_)
    · have hf := it_t hf c1
      exact wX9_pile_b143 E hk60 hf _ _ _ hR hS (lv_sub hl [0, 1, 2, 5, 6, 7] rfl)
    · have hf := it_f hf c1
      refine lv_aload_n E.hx E.hb dX9_pile_101 rfl (lv_at hl 0 rfl) ?_
      refine mg_st E hR dX9_pile_102 ?_
      refine lv_iconst (v := 5) E.hx E.hb dX9_pile_105 (by decide) ?_
      refine lv_iload E.hx E.hb dX9_pile_106 (lv_at hl 6 rfl) ?_
      refine lv_iadd E.hx E.hb dX9_pile_108 ?_
      obtain ⟨v2, hv2, hf⟩ := bd_e hf
      refine ml_st E hR hv2 dX9_pile_109 ?_
      refine lv_aload_n E.hx E.hb dX9_pile_110 rfl (lv_at hl 0 rfl) ?_
      refine mg_st E hR dX9_pile_111 ?_
      refine lv_bipush (v := 11) E.hx E.hb dX9_pile_114 (by decide) ?_
      refine lv_iload E.hx E.hb dX9_pile_116 (lv_at hl 6 rfl) ?_
      refine lv_iadd E.hx E.hb dX9_pile_118 ?_
      obtain ⟨v3, hv3, hf⟩ := bd_e hf
      refine ml_st E hR hv3 dX9_pile_119 ?_
      refine lv_iload E.hx E.hb dX9_pile_120 (lv_at hl 7 rfl) ?_
      obtain ⟨v4, hv4, hf⟩ := bd_e hf
      refine scall_i (rest := []) E.1 (tX9_highBy l hv4) (cwX9_142 E.ht ⟨Nat.le_of_ble_eq_true rfl, Nat.le_of_ble_eq_true rfl⟩) rfl hl.1 rfl (Nat.le_of_ble_eq_true rfl) dX9_pile_122 ⟨Nat.le_refl 0, Nat.le_refl 0⟩ ?_
      refine lv_iload E.hx E.hb dX9_pile_125 (lv_at hl 6 rfl) ?_
      refine lv_iload E.hx E.hb dX9_pile_127 (lv_at hl 4 rfl) ?_
      refine lv_iload E.hx E.hb dX9_pile_129 (lv_at hl 3 rfl) ?_
      obtain ⟨v5, hv5, hf⟩ := bd_e hf
      refine scall_i (rest := []) E.1 (tX9_isAbove l hv5) (cwX9_226 E.ht ⟨Nat.le_of_ble_eq_true rfl, Nat.le_of_ble_eq_true rfl⟩) rfl hl.1 rfl (Nat.le_of_ble_eq_true rfl) dX9_pile_131 ⟨Nat.le_refl 0, Nat.le_refl 0⟩ ?_
      refine lv_if_ne (tgt := 143) E.hx E.hb dX9_pile_134 (by decide) (fun c6 => ?_) (fun c6 => ?_)
      · have hf := it_f hf c6
        exact wX9_pile_b143 E hk60 hf _ _ _ hR hS (lv_sub hl [0, 1, 2, 5, 6, 7] rfl)
      · have hf := it_t hf c6
        refine lv_iinc (v := (x10 + 1)) (lv' := [(10, .int (x10 + 1)), (0, .ref o), (4, .int x4), (5, .int x5), (6, .int x6), (7, .int x7), (8, .int x8), (9, .int x9)]) E.hx E.hb dX9_pile_137 hl (k := 7) rfl rfl (by decide) rfl (fun ls hl => ?_)
        refine lv_goto (tgt := 94) E.hx E.hb dX9_pile_140 (by decide) ?_
        exact ih σ _ _ _ _ _ _ _ hf _ _ _ hR hS (lv_sub hl [1, 2, 3, 4, 5, 6, 7, 0] rfl)
def fX9_pile_b209  (σ : MS) (x5 : Int32) : Option (Int32 × MS) :=
  (fX9_well σ x5).bind fun (v2, σ1) =>
  some (v2, σ1)
theorem wX9_pile_b209 (E : mE p m c cX9_pile 11 s args G cI cZ meth (some .int)) {σ : MS} {x5 : Int32} (hf : fX9_pile_b209 σ x5 = some (r, σf)) : ∀ (H : Heap) (locs : List Loc) (ls : Array Slot), mR G cI cZ o σ H → va_S (mA o) s.heap H locs → lv_has ls 11 [(0, .ref o), (5, .int x5)] → W p l e rmX9_pile s m args below meth c H locs 0 0 (MQ below (mQi G cI cZ o r σf) args s 0 0 (mA o)) (F0 m 209 ls []) := by
  intro H locs ls hR hS hl
  refine lv_aload_n E.hx E.hb dX9_pile_209 rfl (lv_at hl 0 rfl) ?_
  refine lv_iload E.hx E.hb dX9_pile_210 (lv_at hl 1 rfl) ?_
  obtain ⟨⟨v2, σ1⟩, hv2, hf⟩ := bd_e hf
  refine mcall_i (rest := []) E hR hS (tX9_well l hv2) (cwX9_72 E.ht ⟨Nat.le_of_ble_eq_true rfl, Nat.le_of_ble_eq_true rfl⟩) rfl hl.1 rfl (Nat.le_of_ble_eq_true rfl) dX9_pile_212 ⟨Nat.le_refl 0, Nat.le_refl 0⟩ (fun H locs hR hS => ?_)
  obtain ⟨rfl, rfl⟩ := rt_e hf
  exact mret_i E hR hS dX9_pile_215
def fX9_pile_L60  : Nat → MS → Int32 → Int32 → Int32 → Int32 → Int32 → Option (Int32 × MS)
  | 0, _, _, _, _, _, _ => none
  | n + 1, σ, x4, x5, x6, x7, x8 =>
    if x8 < 0 then (fX9_pile_b209 σ x5) else (if x5 < 0 then (fX9_pile_b209 σ x5) else ((rd (σ 3) 320 (x4 + x8)).bind fun v3 =>
    (rd (σ 4) 41 (29 + v3)).bind fun v4 =>
    fX9_pile_L94 (fX9_pile_L60 n) 2000 σ x4 x5 x6 x7 x8 v3 v4))
theorem wX9_pile_L60 (E : mE p m c cX9_pile 11 s args G cI cZ meth (some .int)) : ∀ (n : Nat) (σ : MS) (x4 : Int32) (x5 : Int32) (x6 : Int32) (x7 : Int32) (x8 : Int32), fX9_pile_L60 n σ x4 x5 x6 x7 x8 = some (r, σf) → ∀ (H : Heap) (locs : List Loc) (ls : Array Slot), mR G cI cZ o σ H → va_S (mA o) s.heap H locs → lv_has ls 11 [(0, .ref o), (4, .int x4), (5, .int x5), (6, .int x6), (7, .int x7), (8, .int x8)] → W p l e rmX9_pile s m args below meth c H locs 0 0 (MQ below (mQi G cI cZ o r σf) args s 0 0 (mA o)) (F0 m 60 ls []) := by
  intro n
  induction n with
  | zero =>
    intro σ x4 x5 x6 x7 x8 hf
    have hf : none = some (r, σf) := hf
    cases hf
  | succ n ih =>
    intro σ x4 x5 x6 x7 x8 hf H locs ls hR hS hl
    refine lv_iload E.hx E.hb dX9_pile_60 (lv_at hl 5 rfl) ?_
    refine lv_if_lt (tgt := 209) E.hx E.hb dX9_pile_62 (by decide) (fun c1 => ?_) (fun c1 => ?_)
    · have hf := it_t hf c1
      exact wX9_pile_b209 E  hf _ _ _ hR hS (lv_sub hl [0, 2] rfl)
    · have hf := it_f hf c1
      refine lv_iload E.hx E.hb dX9_pile_65 (lv_at hl 2 rfl) ?_
      refine lv_if_lt (tgt := 209) E.hx E.hb dX9_pile_67 (by decide) (fun c2 => ?_) (fun c2 => ?_)
      · have hf := it_t hf c2
        exact wX9_pile_b209 E  hf _ _ _ hR hS (lv_sub hl [0, 2] rfl)
      · have hf := it_f hf c2
        refine lv_aload_n E.hx E.hb dX9_pile_70 rfl (lv_at hl 0 rfl) ?_
        refine mg_items E hR dX9_pile_71 ?_
        refine lv_iload E.hx E.hb dX9_pile_74 (lv_at hl 1 rfl) ?_
        refine lv_iload E.hx E.hb dX9_pile_76 (lv_at hl 5 rfl) ?_
        refine lv_iadd E.hx E.hb dX9_pile_78 ?_
        obtain ⟨v3, hv3, hf⟩ := bd_e hf
        refine ml_items E hR hv3 dX9_pile_79 ?_
        refine lv_istore (lv' := [(9, .int v3), (0, .ref o), (4, .int x4), (5, .int x5), (6, .int x6), (7, .int x7), (8, .int x8)]) E.hx E.hb dX9_pile_80 hl (by decide) rfl (fun ls hl => ?_)
        refine lv_aload_n E.hx E.hb dX9_pile_82 rfl (lv_at hl 1 rfl) ?_
        refine mg_st E hR dX9_pile_83 ?_
        refine lv_bipush (v := 29) E.hx E.hb dX9_pile_86 (by decide) ?_
        refine lv_iload E.hx E.hb dX9_pile_88 (lv_at hl 0 rfl) ?_
        refine lv_iadd E.hx E.hb dX9_pile_90 ?_
        obtain ⟨v4, hv4, hf⟩ := bd_e hf
        refine ml_st E hR hv4 dX9_pile_91 ?_
        refine lv_istore (lv' := [(10, .int v4), (9, .int v3), (0, .ref o), (4, .int x4), (5, .int x5), (6, .int x6), (7, .int x7), (8, .int x8)]) E.hx E.hb dX9_pile_92 hl (by decide) rfl (fun ls hl => ?_)
        exact wX9_pile_L94 E ih 2000 σ _ _ _ _ _ _ _ hf _ _ _ hR hS (lv_sub hl [2, 3, 4, 5, 6, 7, 1, 0] rfl)
def fX9_pile  (σ : MS) (x1 : Int32) (x2 : Int32) : Option (Int32 × MS) :=
  (fX9_lacksOrder σ x1 x2).bind fun (v2, σ1) =>
  if 0 ≤ v2 then ((rd (σ1 4) 41 2).bind fun v4 =>
  (rd (σ1 3) 320 ((((40 * x1) + x2) + v4) - 1)).bind fun v5 =>
  (fX9_highOf σ1 v5).bind fun (v7, σ6) =>
  (rd (σ6 4) 41 2).bind fun v8 =>
  fX9_pile_L60 2000 σ6 ((40 * x1) + x2) 0 v5 v7 (v8 - 2)) else (some (v2, σ1))
theorem wX9_pile_0 (E : mE p m c cX9_pile 11 s args G cI cZ meth (some .int)) {σ : MS} {x1 : Int32} {x2 : Int32} (hf : fX9_pile σ x1 x2 = some (r, σf)) : ∀ (H : Heap) (locs : List Loc) (ls : Array Slot), mR G cI cZ o σ H → va_S (mA o) s.heap H locs → lv_has ls 11 [(0, .ref o), (1, .int x1), (2, .int x2)] → W p l e rmX9_pile s m args below meth c H locs 0 0 (MQ below (mQi G cI cZ o r σf) args s 0 0 (mA o)) (F0 m 0 ls []) := by
  intro H locs ls hR hS hl
  refine lv_aload_n E.hx E.hb dX9_pile_0 rfl (lv_at hl 0 rfl) ?_
  refine lv_iload_n E.hx E.hb dX9_pile_1 rfl (lv_at hl 1 rfl) ?_
  refine lv_iload_n E.hx E.hb dX9_pile_2 rfl (lv_at hl 2 rfl) ?_
  obtain ⟨⟨v2, σ1⟩, hv2, hf⟩ := bd_e hf
  refine mcall_i (rest := []) E hR hS (tX9_lacksOrder l hv2) (cwX9_223 E.ht ⟨Nat.le_of_ble_eq_true rfl, Nat.le_of_ble_eq_true rfl⟩) rfl hl.1 rfl (Nat.le_of_ble_eq_true rfl) dX9_pile_3 ⟨Nat.le_refl 0, Nat.le_refl 0⟩ (fun H locs hR hS => ?_)
  refine lv_istore_n (lv' := [(3, .int v2), (0, .ref o), (1, .int x1), (2, .int x2)]) E.hx E.hb dX9_pile_6 rfl hl (by decide) rfl (fun ls hl => ?_)
  refine lv_iload_n E.hx E.hb dX9_pile_7 rfl (lv_at hl 0 rfl) ?_
  refine lv_if_ge (tgt := 13) E.hx E.hb dX9_pile_8 (by decide) (fun c3 => ?_) (fun c3 => ?_)
  · have hf := it_t hf c3
    refine lv_bipush (v := 40) E.hx E.hb dX9_pile_13 (by decide) ?_
    refine lv_iload_n E.hx E.hb dX9_pile_15 rfl (lv_at hl 2 rfl) ?_
    refine lv_imul E.hx E.hb dX9_pile_16 ?_
    refine lv_iload_n E.hx E.hb dX9_pile_17 rfl (lv_at hl 3 rfl) ?_
    refine lv_iadd E.hx E.hb dX9_pile_18 ?_
    refine lv_istore (lv' := [(4, .int ((40 * x1) + x2)), (3, .int v2), (0, .ref o), (1, .int x1), (2, .int x2)]) E.hx E.hb dX9_pile_19 hl (by decide) rfl (fun ls hl => ?_)
    refine lv_iconst (v := 0) E.hx E.hb dX9_pile_21 (by decide) ?_
    refine lv_istore (lv' := [(5, .int 0), (4, .int ((40 * x1) + x2)), (3, .int v2), (0, .ref o), (1, .int x1), (2, .int x2)]) E.hx E.hb dX9_pile_22 hl (by decide) rfl (fun ls hl => ?_)
    refine lv_aload_n E.hx E.hb dX9_pile_24 rfl (lv_at hl 3 rfl) ?_
    refine mg_items E hR dX9_pile_25 ?_
    refine lv_iload E.hx E.hb dX9_pile_28 (lv_at hl 1 rfl) ?_
    refine lv_aload_n E.hx E.hb dX9_pile_30 rfl (lv_at hl 3 rfl) ?_
    refine mg_st E hR dX9_pile_31 ?_
    refine lv_iconst (v := 2) E.hx E.hb dX9_pile_34 (by decide) ?_
    obtain ⟨v4, hv4, hf⟩ := bd_e hf
    refine ml_st E hR hv4 dX9_pile_35 ?_
    refine lv_iadd E.hx E.hb dX9_pile_36 ?_
    refine lv_iconst (v := 1) E.hx E.hb dX9_pile_37 (by decide) ?_
    refine lv_isub E.hx E.hb dX9_pile_38 ?_
    obtain ⟨v5, hv5, hf⟩ := bd_e hf
    refine ml_items E hR hv5 dX9_pile_39 ?_
    refine lv_istore (lv' := [(6, .int v5), (5, .int 0), (4, .int ((40 * x1) + x2)), (3, .int v2), (0, .ref o), (1, .int x1), (2, .int x2)]) E.hx E.hb dX9_pile_40 hl (by decide) rfl (fun ls hl => ?_)
    refine lv_aload_n E.hx E.hb dX9_pile_42 rfl (lv_at hl 4 rfl) ?_
    refine lv_iload E.hx E.hb dX9_pile_43 (lv_at hl 0 rfl) ?_
    obtain ⟨⟨v7, σ6⟩, hv7, hf⟩ := bd_e hf
    refine mcall_i (rest := []) E hR hS (tX9_highOf l hv7) (cwX9_146 E.ht ⟨Nat.le_of_ble_eq_true rfl, Nat.le_of_ble_eq_true rfl⟩) rfl hl.1 rfl (Nat.le_of_ble_eq_true rfl) dX9_pile_45 ⟨Nat.le_refl 0, Nat.le_refl 0⟩ (fun H locs hR hS => ?_)
    refine lv_istore (lv' := [(7, .int v7), (6, .int v5), (5, .int 0), (4, .int ((40 * x1) + x2)), (3, .int v2), (0, .ref o), (1, .int x1), (2, .int x2)]) E.hx E.hb dX9_pile_48 hl (by decide) rfl (fun ls hl => ?_)
    refine lv_aload_n E.hx E.hb dX9_pile_50 rfl (lv_at hl 5 rfl) ?_
    refine mg_st E hR dX9_pile_51 ?_
    refine lv_iconst (v := 2) E.hx E.hb dX9_pile_54 (by decide) ?_
    obtain ⟨v8, hv8, hf⟩ := bd_e hf
    refine ml_st E hR hv8 dX9_pile_55 ?_
    refine lv_iconst (v := 2) E.hx E.hb dX9_pile_56 (by decide) ?_
    refine lv_isub E.hx E.hb dX9_pile_57 ?_
    refine lv_istore (lv' := [(8, .int (v8 - 2)), (7, .int v7), (6, .int v5), (5, .int 0), (4, .int ((40 * x1) + x2)), (3, .int v2), (0, .ref o), (1, .int x1), (2, .int x2)]) E.hx E.hb dX9_pile_58 hl (by decide) rfl (fun ls hl => ?_)
    exact wX9_pile_L60 E  2000 σ6 _ _ _ _ _ hf _ _ _ hR hS (lv_sub hl [6, 4, 3, 2, 1, 0] rfl)
  · have hf := it_f hf c3
    refine lv_iload_n E.hx E.hb dX9_pile_11 rfl (lv_at hl 0 rfl) ?_
    obtain ⟨rfl, rfl⟩ := rt_e hf
    exact mret_i E hR hS dX9_pile_12
theorem tX9_pile (l : Launch) {G : va_G} {cI cZ : ClassId} {o : Nat} {σ σf : MS} {x1 : Int32} {x2 : Int32} {r : Int32} (hf : fX9_pile σ x1 x2 = some (r, σf)) : Met l yX9_pile (ws_ yX9_pile cX9_pile 11 (some .int)) rmX9_pile (mPc G cI cZ o σ [.ref o, .int x1, .int x2]) (mQi G cI cZ o r σf) 0 0 (mA o) := by
  refine Met.ofW (cc := cX9_pile) (maxL := 11) (ret := (some .int)) (by decide) rfl ?_
  intro p e s m args below meth c s₁ B hml hv
  obtain ⟨rfl, hR, hK⟩ := hv
  have hts := atoms_spec (ws := (ws_ yX9_pile cX9_pile 11 (some .int))) B.pre
  rw [lg_entry_eq]
  exact wX9_pile_0 (E := ⟨⟨B.exec, B.bytes, hml, findClass_of_methodNamed B.named, fun w h => hts w (List.mem_cons_of_mem _ h)⟩, hK, B.returns, B.notSynchronized⟩) hf _ _ _ hR va_S.rf (lv_entry [.ref o, .int x1, .int x2] (n := 11) (Nat.le_of_ble_eq_true rfl))

abbrev rmX9_climb : Room := { frames := 3, cells := 0, slots := 0, locals := 58 }
def fX9_climb_b46 (k15 : MS → Int32 → Int32 → Int32 → Option (Int32 × MS)) (σ : MS) (s0 : Int32) (s1 : Int32) (x1 : Int32) (x2 : Int32) (x3 : Int32) : Option (Int32 × MS) :=
  if x3 = x1 then (k15 σ x1 x2 (x3 + 1)) else (if (s0 + s1) ≤ x2 then (k15 σ x1 x2 (x3 + 1)) else (k15 σ x1 (s0 + s1) (x3 + 1)))
theorem wX9_climb_b46 (E : mE p m c cX9_climb 5 s args G cI cZ meth (some .int)) {k15 : MS → Int32 → Int32 → Int32 → Option (Int32 × MS)} (hk15 : ∀ (σ : MS) (x1 : Int32) (x2 : Int32) (x3 : Int32), k15 σ x1 x2 x3 = some (r, σf) → ∀ (H : Heap) (locs : List Loc) (ls : Array Slot), mR G cI cZ o σ H → va_S (mA o) s.heap H locs → lv_has ls 5 [(0, .ref o), (1, .int x1), (2, .int x2), (3, .int x3)] → W p l e rmX9_climb s m args below meth c H locs 0 0 (MQ below (mQi G cI cZ o r σf) args s 0 0 (mA o)) (F0 m 15 ls [])) {σ : MS} {s0 : Int32} {s1 : Int32} {x1 : Int32} {x2 : Int32} {x3 : Int32} (hf : fX9_climb_b46 k15 σ s0 s1 x1 x2 x3 = some (r, σf)) : ∀ (H : Heap) (locs : List Loc) (ls : Array Slot), mR G cI cZ o σ H → va_S (mA o) s.heap H locs → lv_has ls 5 [(0, .ref o), (1, .int x1), (2, .int x2), (3, .int x3)] → W p l e rmX9_climb s m args below meth c H locs 0 0 (MQ below (mQi G cI cZ o r σf) args s 0 0 (mA o)) (F0 m 46 ls [.int s1, .int s0]) := by
  intro H locs ls hR hS hl
  refine lv_iadd E.hx E.hb dX9_climb_46 ?_
  refine lv_istore (lv' := [(4, .int (s0 + s1)), (0, .ref o), (1, .int x1), (2, .int x2), (3, .int x3)]) E.hx E.hb dX9_climb_47 hl (by decide) rfl (fun ls hl => ?_)
  refine lv_iload_n E.hx E.hb dX9_climb_49 rfl (lv_at hl 4 rfl) ?_
  refine lv_iload_n E.hx E.hb dX9_climb_50 rfl (lv_at hl 2 rfl) ?_
  refine lv_icmp_eq (tgt := 65) E.hx E.hb dX9_climb_51 (by decide) (fun c1 => ?_) (fun c1 => ?_)
  · have hf := it_t hf c1
    refine lv_iload_n E.hx E.hb dX9_climb_65 rfl (lv_at hl 3 rfl) ?_
    refine lv_istore_n (lv' := [(2, .int x2), (4, .int (s0 + s1)), (0, .ref o), (1, .int x1), (3, .int x3)]) E.hx E.hb dX9_climb_66 rfl hl (by decide) rfl (fun ls hl => ?_)
    refine lv_iinc (v := (x3 + 1)) (lv' := [(3, .int (x3 + 1)), (2, .int x2), (4, .int (s0 + s1)), (0, .ref o), (1, .int x1)]) E.hx E.hb dX9_climb_67 hl (k := 4) rfl rfl (by decide) rfl (fun ls hl => ?_)
    refine lv_goto (tgt := 15) E.hx E.hb dX9_climb_70 (by decide) ?_
    exact hk15 σ _ _ _ hf _ _ _ hR hS (lv_sub hl [3, 4, 1, 0] rfl)
  · have hf := it_f hf c1
    refine lv_iload E.hx E.hb dX9_climb_54 (lv_at hl 0 rfl) ?_
    refine lv_iload_n E.hx E.hb dX9_climb_56 rfl (lv_at hl 3 rfl) ?_
    refine lv_icmp_le (tgt := 65) E.hx E.hb dX9_climb_57 (by decide) (fun c2 => ?_) (fun c2 => ?_)
    · have hf := it_t hf c2
      refine lv_iload_n E.hx E.hb dX9_climb_65 rfl (lv_at hl 3 rfl) ?_
      refine lv_istore_n (lv' := [(2, .int x2), (4, .int (s0 + s1)), (0, .ref o), (1, .int x1), (3, .int x3)]) E.hx E.hb dX9_climb_66 rfl hl (by decide) rfl (fun ls hl => ?_)
      refine lv_iinc (v := (x3 + 1)) (lv' := [(3, .int (x3 + 1)), (2, .int x2), (4, .int (s0 + s1)), (0, .ref o), (1, .int x1)]) E.hx E.hb dX9_climb_67 hl (k := 4) rfl rfl (by decide) rfl (fun ls hl => ?_)
      refine lv_goto (tgt := 15) E.hx E.hb dX9_climb_70 (by decide) ?_
      exact hk15 σ _ _ _ hf _ _ _ hR hS (lv_sub hl [3, 4, 1, 0] rfl)
    · have hf := it_f hf c2
      refine lv_iload E.hx E.hb dX9_climb_60 (lv_at hl 0 rfl) ?_
      refine lv_goto (tgt := 66) E.hx E.hb dX9_climb_62 (by decide) ?_
      refine lv_istore_n (lv' := [(2, .int (s0 + s1)), (4, .int (s0 + s1)), (0, .ref o), (1, .int x1), (3, .int x3)]) E.hx E.hb dX9_climb_66 rfl hl (by decide) rfl (fun ls hl => ?_)
      refine lv_iinc (v := (x3 + 1)) (lv' := [(3, .int (x3 + 1)), (2, .int (s0 + s1)), (4, .int (s0 + s1)), (0, .ref o), (1, .int x1)]) E.hx E.hb dX9_climb_67 hl (k := 4) rfl rfl (by decide) rfl (fun ls hl => ?_)
      refine lv_goto (tgt := 15) E.hx E.hb dX9_climb_70 (by decide) ?_
      exact hk15 σ _ _ _ hf _ _ _ hR hS (lv_sub hl [3, 4, 1, 0] rfl)
def fX9_climb_L15  : Nat → MS → Int32 → Int32 → Int32 → Option (Int32 × MS)
  | 0, _, _, _, _ => none
  | n + 1, σ, x1, x2, x3 =>
    (rd (σ 4) 41 2).bind fun v1 =>
    if v1 ≤ x3 then (some (x2, σ)) else ((fX9_highOf σ x3).bind fun (v4, σ3) =>
    (fX9_highOf σ3 x1).bind fun (v6, σ5) =>
    if x1 ≤ x3 then (fX9_climb_b46 (fX9_climb_L15 n) σ5 (v4 - v6) 0 x1 x2 x3) else (fX9_climb_b46 (fX9_climb_L15 n) σ5 (v4 - v6) 1 x1 x2 x3))
theorem wX9_climb_L15 (E : mE p m c cX9_climb 5 s args G cI cZ meth (some .int)) : ∀ (n : Nat) (σ : MS) (x1 : Int32) (x2 : Int32) (x3 : Int32), fX9_climb_L15 n σ x1 x2 x3 = some (r, σf) → ∀ (H : Heap) (locs : List Loc) (ls : Array Slot), mR G cI cZ o σ H → va_S (mA o) s.heap H locs → lv_has ls 5 [(0, .ref o), (1, .int x1), (2, .int x2), (3, .int x3)] → W p l e rmX9_climb s m args below meth c H locs 0 0 (MQ below (mQi G cI cZ o r σf) args s 0 0 (mA o)) (F0 m 15 ls []) := by
  intro n
  induction n with
  | zero =>
    intro σ x1 x2 x3 hf
    have hf : none = some (r, σf) := hf
    cases hf
  | succ n ih =>
    intro σ x1 x2 x3 hf H locs ls hR hS hl
    refine lv_iload_n E.hx E.hb dX9_climb_15 rfl (lv_at hl 3 rfl) ?_
    refine lv_aload_n E.hx E.hb dX9_climb_16 rfl (lv_at hl 0 rfl) ?_
    refine mg_st E hR dX9_climb_17 ?_
    refine lv_iconst (v := 2) E.hx E.hb dX9_climb_20 (by decide) ?_
    obtain ⟨v1, hv1, hf⟩ := bd_e hf
    refine ml_st E hR hv1 dX9_climb_21 ?_
    refine lv_icmp_ge (tgt := 73) E.hx E.hb dX9_climb_22 (by decide) (fun c2 => ?_) (fun c2 => ?_)
    · have hf := it_t hf c2
      refine lv_iload_n E.hx E.hb dX9_climb_73 rfl (lv_at hl 2 rfl) ?_
      obtain ⟨rfl, rfl⟩ := rt_e hf
      exact mret_i E hR hS dX9_climb_74
    · have hf := it_f hf c2
      refine lv_aload_n E.hx E.hb dX9_climb_25 rfl (lv_at hl 0 rfl) ?_
      refine lv_iload_n E.hx E.hb dX9_climb_26 rfl (lv_at hl 3 rfl) ?_
      obtain ⟨⟨v4, σ3⟩, hv4, hf⟩ := bd_e hf
      refine mcall_i (rest := []) E hR hS (tX9_highOf l hv4) (cwX9_146 E.ht ⟨Nat.le_of_ble_eq_true rfl, Nat.le_of_ble_eq_true rfl⟩) rfl hl.1 rfl (Nat.le_of_ble_eq_true rfl) dX9_climb_27 ⟨Nat.le_refl 0, Nat.le_refl 0⟩ (fun H locs hR hS => ?_)
      refine lv_aload_n E.hx E.hb dX9_climb_30 rfl (lv_at hl 0 rfl) ?_
      refine lv_iload_n E.hx E.hb dX9_climb_31 rfl (lv_at hl 1 rfl) ?_
      obtain ⟨⟨v6, σ5⟩, hv6, hf⟩ := bd_e hf
      refine mcall_i (rest := [.int v4]) E hR hS (tX9_highOf l hv6) (cwX9_146 E.ht ⟨Nat.le_of_ble_eq_true rfl, Nat.le_of_ble_eq_true rfl⟩) rfl hl.1 rfl (Nat.le_of_ble_eq_true rfl) dX9_climb_32 ⟨Nat.le_refl 0, Nat.le_refl 0⟩ (fun H locs hR hS => ?_)
      refine lv_isub E.hx E.hb dX9_climb_35 ?_
      refine lv_iload_n E.hx E.hb dX9_climb_36 rfl (lv_at hl 3 rfl) ?_
      refine lv_iload_n E.hx E.hb dX9_climb_37 rfl (lv_at hl 1 rfl) ?_
      refine lv_icmp_ge (tgt := 45) E.hx E.hb dX9_climb_38 (by decide) (fun c7 => ?_) (fun c7 => ?_)
      · have hf := it_t hf c7
        refine lv_iconst (v := 0) E.hx E.hb dX9_climb_45 (by decide) ?_
        exact wX9_climb_b46 E ih hf _ _ _ hR hS (lv_sub hl [0, 1, 2, 3] rfl)
      · have hf := it_f hf c7
        refine lv_iconst (v := 1) E.hx E.hb dX9_climb_41 (by decide) ?_
        refine lv_goto (tgt := 46) E.hx E.hb dX9_climb_42 (by decide) ?_
        exact wX9_climb_b46 E ih hf _ _ _ hR hS (lv_sub hl [0, 1, 2, 3] rfl)
def fX9_climb  (σ : MS) (x1 : Int32) : Option (Int32 × MS) :=
  (fX9_isChair σ x1).bind fun (v2, σ1) =>
  if v2 = 0 then (some ((-1000001), σ1)) else (fX9_climb_L15 2000 σ1 x1 0 0)
theorem wX9_climb_0 (E : mE p m c cX9_climb 5 s args G cI cZ meth (some .int)) {σ : MS} {x1 : Int32} (hf : fX9_climb σ x1 = some (r, σf)) : ∀ (H : Heap) (locs : List Loc) (ls : Array Slot), mR G cI cZ o σ H → va_S (mA o) s.heap H locs → lv_has ls 5 [(0, .ref o), (1, .int x1)] → W p l e rmX9_climb s m args below meth c H locs 0 0 (MQ below (mQi G cI cZ o r σf) args s 0 0 (mA o)) (F0 m 0 ls []) := by
  intro H locs ls hR hS hl
  refine lv_aload_n E.hx E.hb dX9_climb_0 rfl (lv_at hl 0 rfl) ?_
  refine lv_iload_n E.hx E.hb dX9_climb_1 rfl (lv_at hl 1 rfl) ?_
  obtain ⟨⟨v2, σ1⟩, hv2, hf⟩ := bd_e hf
  refine mcall_i (rest := []) E hR hS (tX9_isChair l hv2) (cwX9_178 E.ht ⟨Nat.le_of_ble_eq_true rfl, Nat.le_of_ble_eq_true rfl⟩) rfl hl.1 rfl (Nat.le_of_ble_eq_true rfl) dX9_climb_2 ⟨Nat.le_refl 0, Nat.le_refl 0⟩ (fun H locs hR hS => ?_)
  refine lv_if_ne (tgt := 11) E.hx E.hb dX9_climb_5 (by decide) (fun c3 => ?_) (fun c3 => ?_)
  · have hf := it_f hf c3
    refine lv_iconst (v := 0) E.hx E.hb dX9_climb_11 (by decide) ?_
    refine lv_istore_n (lv' := [(2, .int 0), (0, .ref o), (1, .int x1)]) E.hx E.hb dX9_climb_12 rfl hl (by decide) rfl (fun ls hl => ?_)
    refine lv_iconst (v := 0) E.hx E.hb dX9_climb_13 (by decide) ?_
    refine lv_istore_n (lv' := [(3, .int 0), (2, .int 0), (0, .ref o), (1, .int x1)]) E.hx E.hb dX9_climb_14 rfl hl (by decide) rfl (fun ls hl => ?_)
    exact wX9_climb_L15 E  2000 σ1 _ _ _ hf _ _ _ hR hS (lv_sub hl [2, 3, 1, 0] rfl)
  · have hf := it_t hf c3
    refine lv_ldc (v := (-1000001)) E.hx E.hb E.ho (E.ht _ q1319) dX9_climb_8 ?_
    obtain ⟨rfl, rfl⟩ := rt_e hf
    exact mret_i E hR hS dX9_climb_10
theorem tX9_climb (l : Launch) {G : va_G} {cI cZ : ClassId} {o : Nat} {σ σf : MS} {x1 : Int32} {r : Int32} (hf : fX9_climb σ x1 = some (r, σf)) : Met l yX9_climb (ws_ yX9_climb cX9_climb 5 (some .int)) rmX9_climb (mPc G cI cZ o σ [.ref o, .int x1]) (mQi G cI cZ o r σf) 0 0 (mA o) := by
  refine Met.ofW (cc := cX9_climb) (maxL := 5) (ret := (some .int)) (by decide) rfl ?_
  intro p e s m args below meth c s₁ B hml hv
  obtain ⟨rfl, hR, hK⟩ := hv
  have hts := atoms_spec (ws := (ws_ yX9_climb cX9_climb 5 (some .int))) B.pre
  rw [lg_entry_eq]
  exact wX9_climb_0 (E := ⟨⟨B.exec, B.bytes, hml, findClass_of_methodNamed B.named, fun w h => hts w (List.mem_cons_of_mem _ h)⟩, hK, B.returns, B.notSynchronized⟩) hf _ _ _ hR va_S.rf (lv_entry [.ref o, .int x1] (n := 5) (Nat.le_of_ble_eq_true rfl))

abbrev rmX9_coalition : Room := { frames := 3, cells := 0, slots := 0, locals := 57 }
def fX9_coalition_L73 (k54 : MS → Int32 → Int32 → Int32 → Int32 → Option (Int32 × MS)) : Nat → MS → Int32 → Int32 → Int32 → Int32 → Int32 → Int32 → Option (Int32 × MS)
  | 0, _, _, _, _, _, _, _ => none
  | n + 1, σ, x1, x2, x3, x4, x5, x6 =>
    (rd (σ 4) 41 2).bind fun v1 =>
    if v1 ≤ x6 then (if (2 * x5) ≤ x2 then (k54 σ x1 x2 x3 (x4 + 1)) else (if x3 < 0 then (k54 σ x1 x2 x4 (x4 + 1)) else ((fX9_ones x4).bind fun v5 =>
    (fX9_ones x3).bind fun v6 =>
    if v6 ≤ v5 then (k54 σ x1 x2 x3 (x4 + 1)) else (k54 σ x1 x2 x4 (x4 + 1))))) else ((fX9_has x4 x6).bind fun v8 =>
    if v8 = 0 then ((fX9_coalition_L73 k54 n) σ x1 x2 x3 x4 (x5 + 0) (x6 + 1)) else ((fX9_highOf σ x6).bind fun (v11, σ10) =>
    (fX9_coalition_L73 k54 n) σ10 x1 x2 x3 x4 (x5 + v11) (x6 + 1)))
theorem wX9_coalition_L73 (E : mE p m c cX9_coalition 7 s args G cI cZ meth (some .int)) {k54 : MS → Int32 → Int32 → Int32 → Int32 → Option (Int32 × MS)} (hk54 : ∀ (σ : MS) (x1 : Int32) (x2 : Int32) (x3 : Int32) (x4 : Int32), k54 σ x1 x2 x3 x4 = some (r, σf) → ∀ (H : Heap) (locs : List Loc) (ls : Array Slot), mR G cI cZ o σ H → va_S (mA o) s.heap H locs → lv_has ls 7 [(0, .ref o), (1, .int x1), (2, .int x2), (3, .int x3), (4, .int x4)] → W p l e rmX9_coalition s m args below meth c H locs 0 0 (MQ below (mQi G cI cZ o r σf) args s 0 0 (mA o)) (F0 m 54 ls [])) : ∀ (n : Nat) (σ : MS) (x1 : Int32) (x2 : Int32) (x3 : Int32) (x4 : Int32) (x5 : Int32) (x6 : Int32), fX9_coalition_L73 k54 n σ x1 x2 x3 x4 x5 x6 = some (r, σf) → ∀ (H : Heap) (locs : List Loc) (ls : Array Slot), mR G cI cZ o σ H → va_S (mA o) s.heap H locs → lv_has ls 7 [(0, .ref o), (1, .int x1), (2, .int x2), (3, .int x3), (4, .int x4), (5, .int x5), (6, .int x6)] → W p l e rmX9_coalition s m args below meth c H locs 0 0 (MQ below (mQi G cI cZ o r σf) args s 0 0 (mA o)) (F0 m 73 ls []) := by
  intro n
  induction n with
  | zero =>
    intro σ x1 x2 x3 x4 x5 x6 hf
    have hf : none = some (r, σf) := hf
    cases hf
  | succ n ih =>
    intro σ x1 x2 x3 x4 x5 x6 hf H locs ls hR hS hl
    refine lv_iload E.hx E.hb dX9_coalition_73 (lv_at hl 6 rfl) ?_
    refine lv_aload_n E.hx E.hb dX9_coalition_75 rfl (lv_at hl 0 rfl) ?_
    refine mg_st E hR dX9_coalition_76 ?_
    refine lv_iconst (v := 2) E.hx E.hb dX9_coalition_79 (by decide) ?_
    obtain ⟨v1, hv1, hf⟩ := bd_e hf
    refine ml_st E hR hv1 dX9_coalition_80 ?_
    refine lv_icmp_ge (tgt := 115) E.hx E.hb dX9_coalition_81 (by decide) (fun c2 => ?_) (fun c2 => ?_)
    · have hf := it_t hf c2
      refine lv_iconst (v := 2) E.hx E.hb dX9_coalition_115 (by decide) ?_
      refine lv_iload E.hx E.hb dX9_coalition_116 (lv_at hl 5 rfl) ?_
      refine lv_imul E.hx E.hb dX9_coalition_118 ?_
      refine lv_iload_n E.hx E.hb dX9_coalition_119 rfl (lv_at hl 2 rfl) ?_
      refine lv_icmp_le (tgt := 144) E.hx E.hb dX9_coalition_120 (by decide) (fun c3 => ?_) (fun c3 => ?_)
      · have hf := it_t hf c3
        refine lv_iload_n E.hx E.hb dX9_coalition_144 rfl (lv_at hl 3 rfl) ?_
        refine lv_istore_n (lv' := [(3, .int x3), (0, .ref o), (1, .int x1), (2, .int x2), (4, .int x4), (5, .int x5), (6, .int x6)]) E.hx E.hb dX9_coalition_145 rfl hl (by decide) rfl (fun ls hl => ?_)
        refine lv_iinc (v := (x4 + 1)) (lv' := [(4, .int (x4 + 1)), (3, .int x3), (0, .ref o), (1, .int x1), (2, .int x2), (5, .int x5), (6, .int x6)]) E.hx E.hb dX9_coalition_146 hl (k := 4) rfl rfl (by decide) rfl (fun ls hl => ?_)
        refine lv_goto (tgt := 54) E.hx E.hb dX9_coalition_149 (by decide) ?_
        exact hk54 σ _ _ _ _ hf _ _ _ hR hS (lv_sub hl [2, 3, 4, 1, 0] rfl)
      · have hf := it_f hf c3
        refine lv_iload_n E.hx E.hb dX9_coalition_123 rfl (lv_at hl 3 rfl) ?_
        refine lv_if_lt (tgt := 139) E.hx E.hb dX9_coalition_124 (by decide) (fun c4 => ?_) (fun c4 => ?_)
        · have hf := it_t hf c4
          refine lv_iload E.hx E.hb dX9_coalition_139 (lv_at hl 4 rfl) ?_
          refine lv_goto (tgt := 145) E.hx E.hb dX9_coalition_141 (by decide) ?_
          refine lv_istore_n (lv' := [(3, .int x4), (0, .ref o), (1, .int x1), (2, .int x2), (4, .int x4), (5, .int x5), (6, .int x6)]) E.hx E.hb dX9_coalition_145 rfl hl (by decide) rfl (fun ls hl => ?_)
          refine lv_iinc (v := (x4 + 1)) (lv' := [(4, .int (x4 + 1)), (3, .int x4), (0, .ref o), (1, .int x1), (2, .int x2), (5, .int x5), (6, .int x6)]) E.hx E.hb dX9_coalition_146 hl (k := 4) rfl rfl (by decide) rfl (fun ls hl => ?_)
          refine lv_goto (tgt := 54) E.hx E.hb dX9_coalition_149 (by decide) ?_
          exact hk54 σ _ _ _ _ hf _ _ _ hR hS (lv_sub hl [2, 3, 4, 1, 0] rfl)
        · have hf := it_f hf c4
          refine lv_iload E.hx E.hb dX9_coalition_127 (lv_at hl 4 rfl) ?_
          obtain ⟨v5, hv5, hf⟩ := bd_e hf
          refine scall_i (rest := []) E.1 (tX9_ones l hv5) (cwX9_187 E.ht ⟨Nat.le_of_ble_eq_true rfl, Nat.le_of_ble_eq_true rfl⟩) rfl hl.1 rfl (Nat.le_of_ble_eq_true rfl) dX9_coalition_129 ⟨Nat.le_refl 0, Nat.le_refl 0⟩ ?_
          refine lv_iload_n E.hx E.hb dX9_coalition_132 rfl (lv_at hl 3 rfl) ?_
          obtain ⟨v6, hv6, hf⟩ := bd_e hf
          refine scall_i (rest := [.int v5]) E.1 (tX9_ones l hv6) (cwX9_187 E.ht ⟨Nat.le_of_ble_eq_true rfl, Nat.le_of_ble_eq_true rfl⟩) rfl hl.1 rfl (Nat.le_of_ble_eq_true rfl) dX9_coalition_133 ⟨Nat.le_refl 0, Nat.le_refl 0⟩ ?_
          refine lv_icmp_ge (tgt := 144) E.hx E.hb dX9_coalition_136 (by decide) (fun c7 => ?_) (fun c7 => ?_)
          · have hf := it_t hf c7
            refine lv_iload_n E.hx E.hb dX9_coalition_144 rfl (lv_at hl 3 rfl) ?_
            refine lv_istore_n (lv' := [(3, .int x3), (0, .ref o), (1, .int x1), (2, .int x2), (4, .int x4), (5, .int x5), (6, .int x6)]) E.hx E.hb dX9_coalition_145 rfl hl (by decide) rfl (fun ls hl => ?_)
            refine lv_iinc (v := (x4 + 1)) (lv' := [(4, .int (x4 + 1)), (3, .int x3), (0, .ref o), (1, .int x1), (2, .int x2), (5, .int x5), (6, .int x6)]) E.hx E.hb dX9_coalition_146 hl (k := 4) rfl rfl (by decide) rfl (fun ls hl => ?_)
            refine lv_goto (tgt := 54) E.hx E.hb dX9_coalition_149 (by decide) ?_
            exact hk54 σ _ _ _ _ hf _ _ _ hR hS (lv_sub hl [2, 3, 4, 1, 0] rfl)
          · have hf := it_f hf c7
            refine lv_iload E.hx E.hb dX9_coalition_139 (lv_at hl 4 rfl) ?_
            refine lv_goto (tgt := 145) E.hx E.hb dX9_coalition_141 (by decide) ?_
            refine lv_istore_n (lv' := [(3, .int x4), (0, .ref o), (1, .int x1), (2, .int x2), (4, .int x4), (5, .int x5), (6, .int x6)]) E.hx E.hb dX9_coalition_145 rfl hl (by decide) rfl (fun ls hl => ?_)
            refine lv_iinc (v := (x4 + 1)) (lv' := [(4, .int (x4 + 1)), (3, .int x4), (0, .ref o), (1, .int x1), (2, .int x2), (5, .int x5), (6, .int x6)]) E.hx E.hb dX9_coalition_146 hl (k := 4) rfl rfl (by decide) rfl (fun ls hl => ?_)
            refine lv_goto (tgt := 54) E.hx E.hb dX9_coalition_149 (by decide) ?_
            exact hk54 σ _ _ _ _ hf _ _ _ hR hS (lv_sub hl [2, 3, 4, 1, 0] rfl)
    · have hf := it_f hf c2
      refine lv_iload E.hx E.hb dX9_coalition_84 (lv_at hl 5 rfl) ?_
      refine lv_iload E.hx E.hb dX9_coalition_86 (lv_at hl 4 rfl) ?_
      refine lv_iload E.hx E.hb dX9_coalition_88 (lv_at hl 6 rfl) ?_
      obtain ⟨v8, hv8, hf⟩ := bd_e hf
      refine scall_i (rest := [.int x5]) E.1 (tX9_has l hv8) (cwX9_162 E.ht ⟨Nat.le_of_ble_eq_true rfl, Nat.le_of_ble_eq_true rfl⟩) rfl hl.1 rfl (Nat.le_of_ble_eq_true rfl) dX9_coalition_90 ⟨Nat.le_refl 0, Nat.le_refl 0⟩ ?_
      refine lv_if_eq (tgt := 105) E.hx E.hb dX9_coalition_93 (by decide) (fun c9 => ?_) (fun c9 => ?_)
      · have hf := it_t hf c9
        refine lv_iconst (v := 0) E.hx E.hb dX9_coalition_105 (by decide) ?_
        refine lv_iadd E.hx E.hb dX9_coalition_106 ?_
        refine lv_istore (lv' := [(5, .int (x5 + 0)), (0, .ref o), (1, .int x1), (2, .int x2), (3, .int x3), (4, .int x4), (6, .int x6)]) E.hx E.hb dX9_coalition_107 hl (by decide) rfl (fun ls hl => ?_)
        refine lv_iinc (v := (x6 + 1)) (lv' := [(6, .int (x6 + 1)), (5, .int (x5 + 0)), (0, .ref o), (1, .int x1), (2, .int x2), (3, .int x3), (4, .int x4)]) E.hx E.hb dX9_coalition_109 hl (k := 6) rfl rfl (by decide) rfl (fun ls hl => ?_)
        refine lv_goto (tgt := 73) E.hx E.hb dX9_coalition_112 (by decide) ?_
        exact ih σ _ _ _ _ _ _ hf _ _ _ hR hS (lv_sub hl [2, 3, 4, 5, 6, 1, 0] rfl)
      · have hf := it_f hf c9
        refine lv_aload_n E.hx E.hb dX9_coalition_96 rfl (lv_at hl 0 rfl) ?_
        refine lv_iload E.hx E.hb dX9_coalition_97 (lv_at hl 6 rfl) ?_
        obtain ⟨⟨v11, σ10⟩, hv11, hf⟩ := bd_e hf
        refine mcall_i (rest := [.int x5]) E hR hS (tX9_highOf l hv11) (cwX9_146 E.ht ⟨Nat.le_of_ble_eq_true rfl, Nat.le_of_ble_eq_true rfl⟩) rfl hl.1 rfl (Nat.le_of_ble_eq_true rfl) dX9_coalition_99 ⟨Nat.le_refl 0, Nat.le_refl 0⟩ (fun H locs hR hS => ?_)
        refine lv_goto (tgt := 106) E.hx E.hb dX9_coalition_102 (by decide) ?_
        refine lv_iadd E.hx E.hb dX9_coalition_106 ?_
        refine lv_istore (lv' := [(5, .int (x5 + v11)), (0, .ref o), (1, .int x1), (2, .int x2), (3, .int x3), (4, .int x4), (6, .int x6)]) E.hx E.hb dX9_coalition_107 hl (by decide) rfl (fun ls hl => ?_)
        refine lv_iinc (v := (x6 + 1)) (lv' := [(6, .int (x6 + 1)), (5, .int (x5 + v11)), (0, .ref o), (1, .int x1), (2, .int x2), (3, .int x3), (4, .int x4)]) E.hx E.hb dX9_coalition_109 hl (k := 6) rfl rfl (by decide) rfl (fun ls hl => ?_)
        refine lv_goto (tgt := 73) E.hx E.hb dX9_coalition_112 (by decide) ?_
        exact ih σ10 _ _ _ _ _ _ hf _ _ _ hR hS (lv_sub hl [2, 3, 4, 5, 6, 1, 0] rfl)
def fX9_coalition_L54  : Nat → MS → Int32 → Int32 → Int32 → Int32 → Option (Int32 × MS)
  | 0, _, _, _, _, _ => none
  | n + 1, σ, x1, x2, x3, x4 =>
    (rd (σ 4) 41 2).bind fun v1 =>
    if (1 <<< (v1 &&& 31)) ≤ x4 then (if x3 < 0 then (some (x3, σ)) else (if x1 = 1 then (some (x3, σ)) else ((fX9_ones x3).bind fun v5 =>
    some (v5, σ)))) else (fX9_coalition_L73 (fX9_coalition_L54 n) 2000 σ x1 x2 x3 x4 0 0)
theorem wX9_coalition_L54 (E : mE p m c cX9_coalition 7 s args G cI cZ meth (some .int)) : ∀ (n : Nat) (σ : MS) (x1 : Int32) (x2 : Int32) (x3 : Int32) (x4 : Int32), fX9_coalition_L54 n σ x1 x2 x3 x4 = some (r, σf) → ∀ (H : Heap) (locs : List Loc) (ls : Array Slot), mR G cI cZ o σ H → va_S (mA o) s.heap H locs → lv_has ls 7 [(0, .ref o), (1, .int x1), (2, .int x2), (3, .int x3), (4, .int x4)] → W p l e rmX9_coalition s m args below meth c H locs 0 0 (MQ below (mQi G cI cZ o r σf) args s 0 0 (mA o)) (F0 m 54 ls []) := by
  intro n
  induction n with
  | zero =>
    intro σ x1 x2 x3 x4 hf
    have hf : none = some (r, σf) := hf
    cases hf
  | succ n ih =>
    intro σ x1 x2 x3 x4 hf H locs ls hR hS hl
    refine lv_iload E.hx E.hb dX9_coalition_54 (lv_at hl 4 rfl) ?_
    refine lv_iconst (v := 1) E.hx E.hb dX9_coalition_56 (by decide) ?_
    refine lv_aload_n E.hx E.hb dX9_coalition_57 rfl (lv_at hl 0 rfl) ?_
    refine mg_st E hR dX9_coalition_58 ?_
    refine lv_iconst (v := 2) E.hx E.hb dX9_coalition_61 (by decide) ?_
    obtain ⟨v1, hv1, hf⟩ := bd_e hf
    refine ml_st E hR hv1 dX9_coalition_62 ?_
    refine lv_ishl E.hx E.hb dX9_coalition_63 ?_
    refine lv_icmp_ge (tgt := 152) E.hx E.hb dX9_coalition_64 (by decide) (fun c2 => ?_) (fun c2 => ?_)
    · have hf := it_t hf c2
      refine lv_iload_n E.hx E.hb dX9_coalition_152 rfl (lv_at hl 3 rfl) ?_
      refine lv_if_lt (tgt := 161) E.hx E.hb dX9_coalition_153 (by decide) (fun c3 => ?_) (fun c3 => ?_)
      · have hf := it_t hf c3
        refine lv_iload_n E.hx E.hb dX9_coalition_161 rfl (lv_at hl 3 rfl) ?_
        refine lv_goto (tgt := 169) E.hx E.hb dX9_coalition_162 (by decide) ?_
        obtain ⟨rfl, rfl⟩ := rt_e hf
        exact mret_i E hR hS dX9_coalition_169
      · have hf := it_f hf c3
        refine lv_iload_n E.hx E.hb dX9_coalition_156 rfl (lv_at hl 1 rfl) ?_
        refine lv_iconst (v := 1) E.hx E.hb dX9_coalition_157 (by decide) ?_
        refine lv_icmp_ne (tgt := 165) E.hx E.hb dX9_coalition_158 (by decide) (fun c4 => ?_) (fun c4 => ?_)
        · have hf := it_f hf c4
          refine lv_iload_n E.hx E.hb dX9_coalition_165 rfl (lv_at hl 3 rfl) ?_
          obtain ⟨v5, hv5, hf⟩ := bd_e hf
          refine scall_i (rest := []) E.1 (tX9_ones l hv5) (cwX9_187 E.ht ⟨Nat.le_of_ble_eq_true rfl, Nat.le_of_ble_eq_true rfl⟩) rfl hl.1 rfl (Nat.le_of_ble_eq_true rfl) dX9_coalition_166 ⟨Nat.le_refl 0, Nat.le_refl 0⟩ ?_
          obtain ⟨rfl, rfl⟩ := rt_e hf
          exact mret_i E hR hS dX9_coalition_169
        · have hf := it_t hf c4
          refine lv_iload_n E.hx E.hb dX9_coalition_161 rfl (lv_at hl 3 rfl) ?_
          refine lv_goto (tgt := 169) E.hx E.hb dX9_coalition_162 (by decide) ?_
          obtain ⟨rfl, rfl⟩ := rt_e hf
          exact mret_i E hR hS dX9_coalition_169
    · have hf := it_f hf c2
      refine lv_iconst (v := 0) E.hx E.hb dX9_coalition_67 (by decide) ?_
      refine lv_istore (lv' := [(5, .int 0), (0, .ref o), (1, .int x1), (2, .int x2), (3, .int x3), (4, .int x4)]) E.hx E.hb dX9_coalition_68 hl (by decide) rfl (fun ls hl => ?_)
      refine lv_iconst (v := 0) E.hx E.hb dX9_coalition_70 (by decide) ?_
      refine lv_istore (lv' := [(6, .int 0), (5, .int 0), (0, .ref o), (1, .int x1), (2, .int x2), (3, .int x3), (4, .int x4)]) E.hx E.hb dX9_coalition_71 hl (by decide) rfl (fun ls hl => ?_)
      exact wX9_coalition_L73 E ih 2000 σ _ _ _ _ _ _ hf _ _ _ hR hS (lv_sub hl [2, 3, 4, 5, 6, 1, 0] rfl)
def fX9_coalition_L24  : Nat → MS → Int32 → Int32 → Int32 → Option (Int32 × MS)
  | 0, _, _, _, _ => none
  | n + 1, σ, x1, x2, x3 =>
    (rd (σ 4) 41 2).bind fun v1 =>
    if v1 ≤ x3 then (fX9_coalition_L54 2000 σ x1 x2 (-1000000) 0) else ((fX9_highOf σ x3).bind fun (v4, σ3) =>
    (fX9_coalition_L24 n) σ3 x1 (x2 + v4) (x3 + 1))
theorem wX9_coalition_L24 (E : mE p m c cX9_coalition 7 s args G cI cZ meth (some .int)) : ∀ (n : Nat) (σ : MS) (x1 : Int32) (x2 : Int32) (x3 : Int32), fX9_coalition_L24 n σ x1 x2 x3 = some (r, σf) → ∀ (H : Heap) (locs : List Loc) (ls : Array Slot), mR G cI cZ o σ H → va_S (mA o) s.heap H locs → lv_has ls 7 [(0, .ref o), (1, .int x1), (2, .int x2), (3, .int x3)] → W p l e rmX9_coalition s m args below meth c H locs 0 0 (MQ below (mQi G cI cZ o r σf) args s 0 0 (mA o)) (F0 m 24 ls []) := by
  intro n
  induction n with
  | zero =>
    intro σ x1 x2 x3 hf
    have hf : none = some (r, σf) := hf
    cases hf
  | succ n ih =>
    intro σ x1 x2 x3 hf H locs ls hR hS hl
    refine lv_iload_n E.hx E.hb dX9_coalition_24 rfl (lv_at hl 3 rfl) ?_
    refine lv_aload_n E.hx E.hb dX9_coalition_25 rfl (lv_at hl 0 rfl) ?_
    refine mg_st E hR dX9_coalition_26 ?_
    refine lv_iconst (v := 2) E.hx E.hb dX9_coalition_29 (by decide) ?_
    obtain ⟨v1, hv1, hf⟩ := bd_e hf
    refine ml_st E hR hv1 dX9_coalition_30 ?_
    refine lv_icmp_ge (tgt := 48) E.hx E.hb dX9_coalition_31 (by decide) (fun c2 => ?_) (fun c2 => ?_)
    · have hf := it_t hf c2
      refine lv_ldc (v := (-1000000)) E.hx E.hb E.ho (E.ht _ q1413) dX9_coalition_48 ?_
      refine lv_istore_n (lv' := [(3, .int (-1000000)), (0, .ref o), (1, .int x1), (2, .int x2)]) E.hx E.hb dX9_coalition_50 rfl hl (by decide) rfl (fun ls hl => ?_)
      refine lv_iconst (v := 0) E.hx E.hb dX9_coalition_51 (by decide) ?_
      refine lv_istore (lv' := [(4, .int 0), (3, .int (-1000000)), (0, .ref o), (1, .int x1), (2, .int x2)]) E.hx E.hb dX9_coalition_52 hl (by decide) rfl (fun ls hl => ?_)
      exact wX9_coalition_L54 E  2000 σ _ _ _ _ hf _ _ _ hR hS (lv_sub hl [2, 3, 4, 1, 0] rfl)
    · have hf := it_f hf c2
      refine lv_iload_n E.hx E.hb dX9_coalition_34 rfl (lv_at hl 2 rfl) ?_
      refine lv_aload_n E.hx E.hb dX9_coalition_35 rfl (lv_at hl 0 rfl) ?_
      refine lv_iload_n E.hx E.hb dX9_coalition_36 rfl (lv_at hl 3 rfl) ?_
      obtain ⟨⟨v4, σ3⟩, hv4, hf⟩ := bd_e hf
      refine mcall_i (rest := [.int x2]) E hR hS (tX9_highOf l hv4) (cwX9_146 E.ht ⟨Nat.le_of_ble_eq_true rfl, Nat.le_of_ble_eq_true rfl⟩) rfl hl.1 rfl (Nat.le_of_ble_eq_true rfl) dX9_coalition_37 ⟨Nat.le_refl 0, Nat.le_refl 0⟩ (fun H locs hR hS => ?_)
      refine lv_iadd E.hx E.hb dX9_coalition_40 ?_
      refine lv_istore_n (lv' := [(2, .int (x2 + v4)), (0, .ref o), (1, .int x1), (3, .int x3)]) E.hx E.hb dX9_coalition_41 rfl hl (by decide) rfl (fun ls hl => ?_)
      refine lv_iinc (v := (x3 + 1)) (lv' := [(3, .int (x3 + 1)), (2, .int (x2 + v4)), (0, .ref o), (1, .int x1)]) E.hx E.hb dX9_coalition_42 hl (k := 3) rfl rfl (by decide) rfl (fun ls hl => ?_)
      refine lv_goto (tgt := 24) E.hx E.hb dX9_coalition_45 (by decide) ?_
      exact ih σ3 _ _ _ hf _ _ _ hR hS (lv_sub hl [2, 3, 1, 0] rfl)
def fX9_coalition  (σ : MS) (x1 : Int32) : Option (Int32 × MS) :=
  if (σ 0 4) = 0 then (some ((-1000002), σ)) else ((fX9_isWhat x1).bind fun v2 =>
  if v2 = 0 then (some ((-1000001), σ)) else (fX9_coalition_L24 2000 σ x1 0 0))
theorem wX9_coalition_0 (E : mE p m c cX9_coalition 7 s args G cI cZ meth (some .int)) {σ : MS} {x1 : Int32} (hf : fX9_coalition σ x1 = some (r, σf)) : ∀ (H : Heap) (locs : List Loc) (ls : Array Slot), mR G cI cZ o σ H → va_S (mA o) s.heap H locs → lv_has ls 7 [(0, .ref o), (1, .int x1)] → W p l e rmX9_coalition s m args below meth c H locs 0 0 (MQ below (mQi G cI cZ o r σf) args s 0 0 (mA o)) (F0 m 0 ls []) := by
  intro H locs ls hR hS hl
  refine lv_aload_n E.hx E.hb dX9_coalition_0 rfl (lv_at hl 0 rfl) ?_
  refine mg_isThere E hR dX9_coalition_1 ?_
  refine lv_if_ne (tgt := 10) E.hx E.hb dX9_coalition_4 (by decide) (fun c1 => ?_) (fun c1 => ?_)
  · have hf := it_f hf c1
    refine lv_iload_n E.hx E.hb dX9_coalition_10 rfl (lv_at hl 1 rfl) ?_
    obtain ⟨v2, hv2, hf⟩ := bd_e hf
    refine scall_i (rest := []) E.1 (tX9_isWhat l hv2) (cwX9_217 E.ht ⟨Nat.le_of_ble_eq_true rfl, Nat.le_of_ble_eq_true rfl⟩) rfl hl.1 rfl (Nat.le_of_ble_eq_true rfl) dX9_coalition_11 ⟨Nat.le_refl 0, Nat.le_refl 0⟩ ?_
    refine lv_if_ne (tgt := 20) E.hx E.hb dX9_coalition_14 (by decide) (fun c3 => ?_) (fun c3 => ?_)
    · have hf := it_f hf c3
      refine lv_iconst (v := 0) E.hx E.hb dX9_coalition_20 (by decide) ?_
      refine lv_istore_n (lv' := [(2, .int 0), (0, .ref o), (1, .int x1)]) E.hx E.hb dX9_coalition_21 rfl hl (by decide) rfl (fun ls hl => ?_)
      refine lv_iconst (v := 0) E.hx E.hb dX9_coalition_22 (by decide) ?_
      refine lv_istore_n (lv' := [(3, .int 0), (2, .int 0), (0, .ref o), (1, .int x1)]) E.hx E.hb dX9_coalition_23 rfl hl (by decide) rfl (fun ls hl => ?_)
      exact wX9_coalition_L24 E  2000 σ _ _ _ hf _ _ _ hR hS (lv_sub hl [2, 3, 1, 0] rfl)
    · have hf := it_t hf c3
      refine lv_ldc (v := (-1000001)) E.hx E.hb E.ho (E.ht _ q1319) dX9_coalition_17 ?_
      obtain ⟨rfl, rfl⟩ := rt_e hf
      exact mret_i E hR hS dX9_coalition_19
  · have hf := it_t hf c1
    refine lv_ldc (v := (-1000002)) E.hx E.hb E.ho (E.ht _ q1395) dX9_coalition_7 ?_
    obtain ⟨rfl, rfl⟩ := rt_e hf
    exact mret_i E hR hS dX9_coalition_9
theorem tX9_coalition (l : Launch) {G : va_G} {cI cZ : ClassId} {o : Nat} {σ σf : MS} {x1 : Int32} {r : Int32} (hf : fX9_coalition σ x1 = some (r, σf)) : Met l yX9_coalition (ws_ yX9_coalition cX9_coalition 7 (some .int)) rmX9_coalition (mPc G cI cZ o σ [.ref o, .int x1]) (mQi G cI cZ o r σf) 0 0 (mA o) := by
  refine Met.ofW (cc := cX9_coalition) (maxL := 7) (ret := (some .int)) (by decide) rfl ?_
  intro p e s m args below meth c s₁ B hml hv
  obtain ⟨rfl, hR, hK⟩ := hv
  have hts := atoms_spec (ws := (ws_ yX9_coalition cX9_coalition 7 (some .int))) B.pre
  rw [lg_entry_eq]
  exact wX9_coalition_0 (E := ⟨⟨B.exec, B.bytes, hml, findClass_of_methodNamed B.named, fun w h => hts w (List.mem_cons_of_mem _ h)⟩, hK, B.returns, B.notSynchronized⟩) hf _ _ _ hR va_S.rf (lv_entry [.ref o, .int x1] (n := 7) (Nat.le_of_ble_eq_true rfl))
end
