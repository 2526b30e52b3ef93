set_option maxRecDepth 100000
section
variable {p : Program} {l : Launch} {e : Env} {s : State} {m : MethodId} {args : Array Value} {below : List Frame} {meth : Method} {c : Code} {G : va_G} {cI cZ : ClassId} {o : Nat} {σf : MS} {r : Int32} {rl : Int64}
theorem cwX9_150 {R : Room} {s : State} {args : Array Value} (ht : ∀ w ∈ lw_all, w.before args s = true) (hR : rmX9_rankOf.frames + 1 ≤ R.frames ∧ 8 + (4 + 11) + rmX9_rankOf.locals ≤ R.locals) : CallW R s args RX9 RX9 150 yX9_rankOf cX9_rankOf 4 (some .int) (ws_ yX9_rankOf cX9_rankOf 4 (some .int)) rmX9_rankOf 0 0 1 :=
  cwV 1 ht (lw_V q1414 q1416 qs44 q80 q1417) rfl rfl rfl (by decide +kernel) hR
abbrev rmX9_atRank : Room := { frames := 4, cells := 0, slots := 0, locals := 78 }
def fX9_atRank_L5  : Nat → MS → Int32 → Int32 → Int32 → Option (Int32 × MS)
  | 0, _, _, _, _ => none
  | n + 1, σ, x1, x2, x3 =>
    (rd (σ 4) 41 2).bind fun v1 =>
    if v1 ≤ x3 then (some (x2, σ)) else ((fX9_rankOf σ x3).bind fun (v4, σ3) =>
    if v4 = x1 then ((fX9_atRank_L5 n) σ3 x1 x3 (x3 + 1)) else ((fX9_atRank_L5 n) σ3 x1 x2 (x3 + 1)))
theorem wX9_atRank_L5 (E : mE p m c cX9_atRank 4 s args G cI cZ meth (some .int)) : ∀ (n : Nat) (σ : MS) (x1 : Int32) (x2 : Int32) (x3 : Int32), fX9_atRank_L5 n σ x1 x2 x3 = some (r, σf) → ∀ (H : Heap) (locs : List Loc) (ls : Array Slot), mR G cI cZ o σ H → va_S (mA o) s.heap H locs → lv_has ls 4 [(0, .ref o), (1, .int x1), (2, .int x2), (3, .int x3)] → W p l e rmX9_atRank s m args below meth c H locs 0 0 (MQ below (mQi G cI cZ o r σf) args s 0 0 (mA o)) (F0 m 5 ls []) := by
  intro n
  induction n with
  | zero =>
    intro σ x1 x2 x3 hf
    have hf : none = some (r, σf) := hf
    cases hf
  | succ n ih =>
    intro σ x1 x2 x3 hf H locs ls hR hS hl
    refine lv_iload_n E.hx E.hb dX9_atRank_5 rfl (lv_at hl 3 rfl) ?_
    refine lv_aload_n E.hx E.hb dX9_atRank_6 rfl (lv_at hl 0 rfl) ?_
    refine mg_st E hR dX9_atRank_7 ?_
    refine lv_iconst (v := 2) E.hx E.hb dX9_atRank_10 (by decide) ?_
    obtain ⟨v1, hv1, hf⟩ := bd_e hf
    refine ml_st E hR hv1 dX9_atRank_11 ?_
    refine lv_icmp_ge (tgt := 36) E.hx E.hb dX9_atRank_12 (by decide) (fun c2 => ?_) (fun c2 => ?_)
    · have hf := it_t hf c2
      refine lv_iload_n E.hx E.hb dX9_atRank_36 rfl (lv_at hl 2 rfl) ?_
      obtain ⟨rfl, rfl⟩ := rt_e hf
      exact mret_i E hR hS dX9_atRank_37
    · have hf := it_f hf c2
      refine lv_aload_n E.hx E.hb dX9_atRank_15 rfl (lv_at hl 0 rfl) ?_
      refine lv_iload_n E.hx E.hb dX9_atRank_16 rfl (lv_at hl 3 rfl) ?_
      obtain ⟨⟨v4, σ3⟩, hv4, hf⟩ := bd_e hf
      refine mcall_i (rest := []) E hR hS (tX9_rankOf l hv4) (cwX9_150 E.ht ⟨Nat.le_of_ble_eq_true rfl, Nat.le_of_ble_eq_true rfl⟩) rfl hl.1 rfl (Nat.le_of_ble_eq_true rfl) dX9_atRank_17 ⟨Nat.le_refl 0, Nat.le_refl 0⟩ (fun H locs hR hS => ?_)
      refine lv_iload_n E.hx E.hb dX9_atRank_20 rfl (lv_at hl 1 rfl) ?_
      refine lv_icmp_ne (tgt := 28) E.hx E.hb dX9_atRank_21 (by decide) (fun c5 => ?_) (fun c5 => ?_)
      · have hf := it_f hf c5
        refine lv_iload_n E.hx E.hb dX9_atRank_28 rfl (lv_at hl 2 rfl) ?_
        refine lv_istore_n (lv' := [(2, .int x2), (0, .ref o), (1, .int x1), (3, .int x3)]) E.hx E.hb dX9_atRank_29 rfl hl (by decide) rfl (fun ls hl => ?_)
        refine lv_iinc (v := (x3 + 1)) (lv' := [(3, .int (x3 + 1)), (2, .int x2), (0, .ref o), (1, .int x1)]) E.hx E.hb dX9_atRank_30 hl (k := 3) rfl rfl (by decide) rfl (fun ls hl => ?_)
        refine lv_goto (tgt := 5) E.hx E.hb dX9_atRank_33 (by decide) ?_
        exact ih σ3 _ _ _ hf _ _ _ hR hS (lv_sub hl [2, 3, 1, 0] rfl)
      · have hf := it_t hf c5
        refine lv_iload_n E.hx E.hb dX9_atRank_24 rfl (lv_at hl 3 rfl) ?_
        refine lv_goto (tgt := 29) E.hx E.hb dX9_atRank_25 (by decide) ?_
        refine lv_istore_n (lv' := [(2, .int x3), (0, .ref o), (1, .int x1), (3, .int x3)]) E.hx E.hb dX9_atRank_29 rfl hl (by decide) rfl (fun ls hl => ?_)
        refine lv_iinc (v := (x3 + 1)) (lv' := [(3, .int (x3 + 1)), (2, .int x3), (0, .ref o), (1, .int x1)]) E.hx E.hb dX9_atRank_30 hl (k := 3) rfl rfl (by decide) rfl (fun ls hl => ?_)
        refine lv_goto (tgt := 5) E.hx E.hb dX9_atRank_33 (by decide) ?_
        exact ih σ3 _ _ _ hf _ _ _ hR hS (lv_sub hl [2, 3, 1, 0] rfl)
def fX9_atRank  (σ : MS) (x1 : Int32) : Option (Int32 × MS) :=
  fX9_atRank_L5 2000 σ x1 (-1000000) 0
theorem wX9_atRank_0 (E : mE p m c cX9_atRank 4 s args G cI cZ meth (some .int)) {σ : MS} {x1 : Int32} (hf : fX9_atRank σ x1 = some (r, σf)) : ∀ (H : Heap) (locs : List Loc) (ls : Array Slot), mR G cI cZ o σ H → va_S (mA o) s.heap H locs → lv_has ls 4 [(0, .ref o), (1, .int x1)] → W p l e rmX9_atRank s m args below meth c H locs 0 0 (MQ below (mQi G cI cZ o r σf) args s 0 0 (mA o)) (F0 m 0 ls []) := by
  intro H locs ls hR hS hl
  refine lv_ldc (v := (-1000000)) E.hx E.hb E.ho (E.ht _ q1413) dX9_atRank_0 ?_
  refine lv_istore_n (lv' := [(2, .int (-1000000)), (0, .ref o), (1, .int x1)]) E.hx E.hb dX9_atRank_2 rfl hl (by decide) rfl (fun ls hl => ?_)
  refine lv_iconst (v := 0) E.hx E.hb dX9_atRank_3 (by decide) ?_
  refine lv_istore_n (lv' := [(3, .int 0), (2, .int (-1000000)), (0, .ref o), (1, .int x1)]) E.hx E.hb dX9_atRank_4 rfl hl (by decide) rfl (fun ls hl => ?_)
  exact wX9_atRank_L5 E  2000 σ _ _ _ hf _ _ _ hR hS (lv_sub hl [2, 3, 1, 0] rfl)
theorem tX9_atRank (l : Launch) {G : va_G} {cI cZ : ClassId} {o : Nat} {σ σf : MS} {x1 : Int32} {r : Int32} (hf : fX9_atRank σ x1 = some (r, σf)) : Met l yX9_atRank (ws_ yX9_atRank cX9_atRank 4 (some .int)) rmX9_atRank (mPc G cI cZ o σ [.ref o, .int x1]) (mQi G cI cZ o r σf) 0 0 (mA o) := by
  refine Met.ofW (cc := cX9_atRank) (maxL := 4) (ret := (some .int)) (by decide) rfl ?_
  intro p e s m args below meth c s₁ B hml hv
  obtain ⟨rfl, hR, hK⟩ := hv
  have hts := atoms_spec (ws := (ws_ yX9_atRank cX9_atRank 4 (some .int))) B.pre
  rw [lg_entry_eq]
  exact wX9_atRank_0 (E := ⟨⟨B.exec, B.bytes, hml, findClass_of_methodNamed B.named, fun w h => hts w (List.mem_cons_of_mem _ h)⟩, hK, B.returns, B.notSynchronized⟩) hf _ _ _ hR va_S.rf (lv_entry [.ref o, .int x1] (n := 4) (Nat.le_of_ble_eq_true rfl))

abbrev rmX9_note : Room := { frames := 1, cells := 0, slots := 0, locals := 12 }
def fX9_note_L51  : Nat → MS → Int32 → Option MS
  | 0, _, _ => none
  | n + 1, σ, x1 =>
    if 41 ≤ x1 then ((some (up2 σ 0 19 ((σ 0 19) + 1))).bind fun σ2 =>
    some σ2) else ((rd (σ 4) 41 x1).bind fun v3 =>
    (mwr σ 9 984 ((41 * (σ 0 19)) + x1) v3).bind fun σ4 =>
    (fX9_note_L51 n) σ4 (x1 + 1))
theorem wX9_note_L51 (E : mE p m c cX9_note 2 s args G cI cZ meth none) : ∀ (n : Nat) (σ : MS) (x1 : Int32), fX9_note_L51 n σ x1 = some σf → ∀ (H : Heap) (locs : List Loc) (ls : Array Slot), mR G cI cZ o σ H → va_S (mA o) s.heap H locs → lv_has ls 2 [(0, .ref o), (1, .int x1)] → W p l e rmX9_note s m args below meth c H locs 0 0 (MQ below (mQv G cI cZ o σf) args s 0 0 (mA o)) (F0 m 51 ls []) := by
  intro n
  induction n with
  | zero =>
    intro σ x1 hf
    have hf : none = some σf := hf
    cases hf
  | succ n ih =>
    intro σ x1 hf H locs ls hR hS hl
    refine lv_iload_n E.hx E.hb dX9_note_51 rfl (lv_at hl 1 rfl) ?_
    refine lv_bipush (v := 41) E.hx E.hb dX9_note_52 (by decide) ?_
    refine lv_icmp_ge (tgt := 83) E.hx E.hb dX9_note_54 (by decide) (fun c1 => ?_) (fun c1 => ?_)
    · have hf := it_t hf c1
      refine lv_aload_n E.hx E.hb dX9_note_83 rfl (lv_at hl 0 rfl) ?_
      refine lv_dup E.hx E.hb dX9_note_84 rfl ?_
      refine mg_actMany E hR dX9_note_85 ?_
      refine lv_iconst (v := 1) E.hx E.hb dX9_note_88 (by decide) ?_
      refine lv_iadd E.hx E.hb dX9_note_89 ?_
      obtain ⟨σ2, hσ2, hf⟩ := bd_e hf
      refine mp_actMany E hR hS dX9_note_90 (fun H locs hR hS => ?_)
      rw [Option.some.inj hσ2] at hR
      obtain rfl := Option.some.inj hf
      exact mret_v E hR hS dX9_note_93
    · have hf := it_f hf c1
      refine lv_aload_n E.hx E.hb dX9_note_57 rfl (lv_at hl 0 rfl) ?_
      refine mg_acts E hR dX9_note_58 ?_
      refine lv_bipush (v := 41) E.hx E.hb dX9_note_61 (by decide) ?_
      refine lv_aload_n E.hx E.hb dX9_note_63 rfl (lv_at hl 0 rfl) ?_
      refine mg_actMany E hR dX9_note_64 ?_
      refine lv_imul E.hx E.hb dX9_note_67 ?_
      refine lv_iload_n E.hx E.hb dX9_note_68 rfl (lv_at hl 1 rfl) ?_
      refine lv_iadd E.hx E.hb dX9_note_69 ?_
      refine lv_aload_n E.hx E.hb dX9_note_70 rfl (lv_at hl 0 rfl) ?_
      refine mg_st E hR dX9_note_71 ?_
      refine lv_iload_n E.hx E.hb dX9_note_74 rfl (lv_at hl 1 rfl) ?_
      obtain ⟨v3, hv3, hf⟩ := bd_e hf
      refine ml_st E hR hv3 dX9_note_75 ?_
      obtain ⟨σ4, hσ4, hf⟩ := bd_e hf
      refine ms_acts E hR hS hσ4 dX9_note_76 (fun H locs hR hS => ?_)
      refine lv_iinc (v := (x1 + 1)) (lv' := [(1, .int (x1 + 1)), (0, .ref o)]) E.hx E.hb dX9_note_77 hl (k := 1) rfl rfl (by decide) rfl (fun ls hl => ?_)
      refine lv_goto (tgt := 51) E.hx E.hb dX9_note_80 (by decide) ?_
      exact ih σ4 _ hf _ _ _ hR hS (lv_sub hl [1, 0] rfl)
def fX9_note_L11  : Nat → MS → Int32 → Option MS
  | 0, _, _ => none
  | n + 1, σ, x1 =>
    if 943 ≤ x1 then ((some (up2 σ 0 19 ((σ 0 19) - 1))).bind fun σ2 =>
    fX9_note_L51 2000 σ2 0) else ((rd (σ 9) 984 (x1 + 41)).bind fun v3 =>
    (mwr σ 9 984 x1 v3).bind fun σ4 =>
    (fX9_note_L11 n) σ4 (x1 + 1))
theorem wX9_note_L11 (E : mE p m c cX9_note 2 s args G cI cZ meth none) : ∀ (n : Nat) (σ : MS) (x1 : Int32), fX9_note_L11 n σ x1 = some σf → ∀ (H : Heap) (locs : List Loc) (ls : Array Slot), mR G cI cZ o σ H → va_S (mA o) s.heap H locs → lv_has ls 2 [(0, .ref o), (1, .int x1)] → W p l e rmX9_note s m args below meth c H locs 0 0 (MQ below (mQv G cI cZ o σf) args s 0 0 (mA o)) (F0 m 11 ls []) := by
  intro n
  induction n with
  | zero =>
    intro σ x1 hf
    have hf : none = some σf := hf
    cases hf
  | succ n ih =>
    intro σ x1 hf H locs ls hR hS hl
    refine lv_iload_n E.hx E.hb dX9_note_11 rfl (lv_at hl 1 rfl) ?_
    refine lv_sipush (v := 943) E.hx E.hb dX9_note_12 (by decide) ?_
    refine lv_icmp_ge (tgt := 39) E.hx E.hb dX9_note_15 (by decide) (fun c1 => ?_) (fun c1 => ?_)
    · have hf := it_t hf c1
      refine lv_aload_n E.hx E.hb dX9_note_39 rfl (lv_at hl 0 rfl) ?_
      refine lv_dup E.hx E.hb dX9_note_40 rfl ?_
      refine mg_actMany E hR dX9_note_41 ?_
      refine lv_iconst (v := 1) E.hx E.hb dX9_note_44 (by decide) ?_
      refine lv_isub E.hx E.hb dX9_note_45 ?_
      obtain ⟨σ2, hσ2, hf⟩ := bd_e hf
      refine mp_actMany E hR hS dX9_note_46 (fun H locs hR hS => ?_)
      rw [Option.some.inj hσ2] at hR
      refine lv_iconst (v := 0) E.hx E.hb dX9_note_49 (by decide) ?_
      refine lv_istore_n (lv' := [(1, .int 0), (0, .ref o)]) E.hx E.hb dX9_note_50 rfl hl (by decide) rfl (fun ls hl => ?_)
      exact wX9_note_L51 E  2000 σ2 _ hf _ _ _ hR hS (lv_sub hl [1, 0] rfl)
    · have hf := it_f hf c1
      refine lv_aload_n E.hx E.hb dX9_note_18 rfl (lv_at hl 0 rfl) ?_
      refine mg_acts E hR dX9_note_19 ?_
      refine lv_iload_n E.hx E.hb dX9_note_22 rfl (lv_at hl 1 rfl) ?_
      refine lv_aload_n E.hx E.hb dX9_note_23 rfl (lv_at hl 0 rfl) ?_
      refine mg_acts E hR dX9_note_24 ?_
      refine lv_iload_n E.hx E.hb dX9_note_27 rfl (lv_at hl 1 rfl) ?_
      refine lv_bipush (v := 41) E.hx E.hb dX9_note_28 (by decide) ?_
      refine lv_iadd E.hx E.hb dX9_note_30 ?_
      obtain ⟨v3, hv3, hf⟩ := bd_e hf
      refine ml_acts E hR hv3 dX9_note_31 ?_
      obtain ⟨σ4, hσ4, hf⟩ := bd_e hf
      refine ms_acts E hR hS hσ4 dX9_note_32 (fun H locs hR hS => ?_)
      refine lv_iinc (v := (x1 + 1)) (lv' := [(1, .int (x1 + 1)), (0, .ref o)]) E.hx E.hb dX9_note_33 hl (k := 1) rfl rfl (by decide) rfl (fun ls hl => ?_)
      refine lv_goto (tgt := 11) E.hx E.hb dX9_note_36 (by decide) ?_
      exact ih σ4 _ hf _ _ _ hR hS (lv_sub hl [1, 0] rfl)
def fX9_note  (σ : MS)  : Option MS :=
  if (σ 0 19) = 24 then (fX9_note_L11 2000 σ 0) else (fX9_note_L51 2000 σ 0)
theorem wX9_note_0 (E : mE p m c cX9_note 2 s args G cI cZ meth none) {σ : MS}  (hf : fX9_note σ = some σf) : ∀ (H : Heap) (locs : List Loc) (ls : Array Slot), mR G cI cZ o σ H → va_S (mA o) s.heap H locs → lv_has ls 2 [(0, .ref o)] → W p l e rmX9_note s m args below meth c H locs 0 0 (MQ below (mQv G cI cZ o σf) args s 0 0 (mA o)) (F0 m 0 ls []) := by
  intro H locs ls hR hS hl
  refine lv_aload_n E.hx E.hb dX9_note_0 rfl (lv_at hl 0 rfl) ?_
  refine mg_actMany E hR dX9_note_1 ?_
  refine lv_bipush (v := 24) E.hx E.hb dX9_note_4 (by decide) ?_
  refine lv_icmp_ne (tgt := 49) E.hx E.hb dX9_note_6 (by decide) (fun c1 => ?_) (fun c1 => ?_)
  · have hf := it_f hf c1
    refine lv_iconst (v := 0) E.hx E.hb dX9_note_49 (by decide) ?_
    refine lv_istore_n (lv' := [(1, .int 0), (0, .ref o)]) E.hx E.hb dX9_note_50 rfl hl (by decide) rfl (fun ls hl => ?_)
    exact wX9_note_L51 E  2000 σ _ hf _ _ _ hR hS (lv_sub hl [1, 0] rfl)
  · have hf := it_t hf c1
    refine lv_iconst (v := 0) E.hx E.hb dX9_note_9 (by decide) ?_
    refine lv_istore_n (lv' := [(1, .int 0), (0, .ref o)]) E.hx E.hb dX9_note_10 rfl hl (by decide) rfl (fun ls hl => ?_)
    exact wX9_note_L11 E  2000 σ _ hf _ _ _ hR hS (lv_sub hl [1, 0] rfl)
theorem tX9_note (l : Launch) {G : va_G} {cI cZ : ClassId} {o : Nat} {σ σf : MS}   (hf : fX9_note σ  = some σf) : Met l yX9_note (ws_ yX9_note cX9_note 2 none) rmX9_note (mPc G cI cZ o σ [.ref o]) (mQv G cI cZ o σf) 0 0 (mA o) := by
  refine Met.ofW (cc := cX9_note) (maxL := 2) (ret := none) (by decide) rfl ?_
  intro p e s m args below meth c s₁ B hml hv
  obtain ⟨rfl, hR, hK⟩ := hv
  have hts := atoms_spec (ws := (ws_ yX9_note cX9_note 2 none)) B.pre
  rw [lg_entry_eq]
  exact wX9_note_0 (E := ⟨⟨B.exec, B.bytes, hml, findClass_of_methodNamed B.named, fun w h => hts w (List.mem_cons_of_mem _ h)⟩, hK, B.returns, B.notSynchronized⟩) hf _ _ _ hR va_S.rf (lv_entry [.ref o] (n := 2) (Nat.le_of_ble_eq_true rfl))

abbrev rmX9_has : Room := { frames := 1, cells := 0, slots := 0, locals := 12 }
def fX9_has   (x0 : Int32) (x1 : Int32) : Option Int32 :=
  if ((x0 >>> (x1 &&& 31)) &&& 1) = 1 then (some 1) else (some 0)
theorem wX9_has_0 (E : sE p m c cX9_has 2 s args RX9 meth (some .boolean))  {x0 : Int32} {x1 : Int32} (hf : fX9_has x0 x1 = some r) : ∀ (ls : Array Slot), lv_has ls 2 [(0, .int x0), (1, .int x1)] → W p l e rmX9_has s m args below meth c s.heap [] 0 0 (MQ below (sQi r) args s 0 0 (fun _ => False)) (F0 m 0 ls []) := by
  intro ls hl
  refine lv_iload_n E.hx E.hb dX9_has_0 rfl (lv_at hl 0 rfl) ?_
  refine lv_iload_n E.hx E.hb dX9_has_1 rfl (lv_at hl 1 rfl) ?_
  refine lv_ishr E.hx E.hb dX9_has_2 ?_
  refine lv_iconst (v := 1) E.hx E.hb dX9_has_3 (by decide) ?_
  refine lv_iand E.hx E.hb dX9_has_4 ?_
  refine lv_iconst (v := 1) E.hx E.hb dX9_has_5 (by decide) ?_
  refine lv_icmp_ne (tgt := 13) E.hx E.hb dX9_has_6 (by decide) (fun c1 => ?_) (fun c1 => ?_)
  · have hf := it_f hf c1
    refine lv_iconst (v := 0) E.hx E.hb dX9_has_13 (by decide) ?_
    cases hf
    exact sret_z E rfl dX9_has_14
  · have hf := it_t hf c1
    refine lv_iconst (v := 1) E.hx E.hb dX9_has_9 (by decide) ?_
    refine lv_goto (tgt := 14) E.hx E.hb dX9_has_10 (by decide) ?_
    cases hf
    exact sret_z E rfl dX9_has_14
theorem tX9_has (l : Launch) {x0 : Int32} {x1 : Int32} {r : Int32} (hf : fX9_has x0 x1 = some r) : Met l yX9_has (ws_ yX9_has cX9_has 2 (some .boolean)) rmX9_has (sPc [.int x0, .int x1]) (sQi r) 0 0 (fun _ => False) := by
  refine Met.ofW (cc := cX9_has) (maxL := 2) (ret := (some .boolean)) (by decide) rfl ?_
  intro p e s m args below meth c s₁ B hml hv
  obtain ⟨rfl, -⟩ := hv
  have hts := atoms_spec (ws := (ws_ yX9_has cX9_has 2 (some .boolean))) B.pre
  rw [lg_entry_eq]
  exact wX9_has_0 (E := ⟨⟨B.exec, B.bytes, hml, findClass_of_methodNamed B.named, fun w h => hts w (List.mem_cons_of_mem _ h)⟩, B.returns, B.notSynchronized⟩) hf _ (lv_entry [.int x0, .int x1] (n := 2) (Nat.le_of_ble_eq_true rfl))

abbrev rmX9_sawnOff : Room := { frames := 1, cells := 0, slots := 0, locals := 12 }
def fX9_sawnOff_b19  (σ : MS) (x1 : Int32) : Option (Int32 × MS) :=
  (rd (σ 4) 41 (17 + x1)).bind fun v1 =>
  some ((v1 / 2), σ)
theorem wX9_sawnOff_b19 (E : mE p m c cX9_sawnOff 4 s args G cI cZ meth (some .int)) {σ : MS} {x1 : Int32} (hf : fX9_sawnOff_b19 σ x1 = some (r, σf)) : ∀ (H : Heap) (locs : List Loc) (ls : Array Slot), mR G cI cZ o σ H → va_S (mA o) s.heap H locs → lv_has ls 4 [(0, .ref o), (1, .int x1)] → W p l e rmX9_sawnOff s m args below meth c H locs 0 0 (MQ below (mQi G cI cZ o r σf) args s 0 0 (mA o)) (F0 m 19 ls []) := by
  intro H locs ls hR hS hl
  refine lv_aload_n E.hx E.hb dX9_sawnOff_19 rfl (lv_at hl 0 rfl) ?_
  refine mg_st E hR dX9_sawnOff_20 ?_
  refine lv_bipush (v := 17) E.hx E.hb dX9_sawnOff_23 (by decide) ?_
  refine lv_iload_n E.hx E.hb dX9_sawnOff_25 rfl (lv_at hl 1 rfl) ?_
  refine lv_iadd E.hx E.hb dX9_sawnOff_26 ?_
  obtain ⟨v1, hv1, hf⟩ := bd_e hf
  refine ml_st E hR hv1 dX9_sawnOff_27 ?_
  refine lv_iconst (v := 2) E.hx E.hb dX9_sawnOff_28 (by decide) ?_
  refine lv_idiv E.hx E.hb dX9_sawnOff_29 (by decide) ?_
  refine lv_goto (tgt := 42) E.hx E.hb dX9_sawnOff_30 (by decide) ?_
  obtain ⟨rfl, rfl⟩ := rt_e hf
  exact mret_i E hR hS dX9_sawnOff_42
def fX9_sawnOff  (σ : MS) (x1 : Int32) (x2 : Int32) : Option (Int32 × MS) :=
  (rd (σ 4) 41 (5 + x2)).bind fun v1 =>
  if v1 = 4 then (fX9_sawnOff_b19 σ x1) else (if v1 = 5 then (fX9_sawnOff_b19 σ x1) else ((rd (σ 4) 41 (17 + x1)).bind fun v4 =>
  some (v4, σ)))
theorem wX9_sawnOff_0 (E : mE p m c cX9_sawnOff 4 s args G cI cZ meth (some .int)) {σ : MS} {x1 : Int32} {x2 : Int32} (hf : fX9_sawnOff σ x1 x2 = some (r, σf)) : ∀ (H : Heap) (locs : List Loc) (ls : Array Slot), mR G cI cZ o σ H → va_S (mA o) s.heap H locs → lv_has ls 4 [(0, .ref o), (1, .int x1), (2, .int x2)] → W p l e rmX9_sawnOff s m args below meth c H locs 0 0 (MQ below (mQi G cI cZ o r σf) args s 0 0 (mA o)) (F0 m 0 ls []) := by
  intro H locs ls hR hS hl
  refine lv_aload_n E.hx E.hb dX9_sawnOff_0 rfl (lv_at hl 0 rfl) ?_
  refine mg_st E hR dX9_sawnOff_1 ?_
  refine lv_iconst (v := 5) E.hx E.hb dX9_sawnOff_4 (by decide) ?_
  refine lv_iload_n E.hx E.hb dX9_sawnOff_5 rfl (lv_at hl 2 rfl) ?_
  refine lv_iadd E.hx E.hb dX9_sawnOff_6 ?_
  obtain ⟨v1, hv1, hf⟩ := bd_e hf
  refine ml_st E hR hv1 dX9_sawnOff_7 ?_
  refine lv_istore_n (lv' := [(3, .int v1), (0, .ref o), (1, .int x1), (2, .int x2)]) E.hx E.hb dX9_sawnOff_8 rfl hl (by decide) rfl (fun ls hl => ?_)
  refine lv_iload_n E.hx E.hb dX9_sawnOff_9 rfl (lv_at hl 0 rfl) ?_
  refine lv_iconst (v := 4) E.hx E.hb dX9_sawnOff_10 (by decide) ?_
  refine lv_icmp_eq (tgt := 19) E.hx E.hb dX9_sawnOff_11 (by decide) (fun c2 => ?_) (fun c2 => ?_)
  · have hf := it_t hf c2
    exact wX9_sawnOff_b19 E  hf _ _ _ hR hS (lv_sub hl [1, 2] rfl)
  · have hf := it_f hf c2
    refine lv_iload_n E.hx E.hb dX9_sawnOff_14 rfl (lv_at hl 0 rfl) ?_
    refine lv_iconst (v := 5) E.hx E.hb dX9_sawnOff_15 (by decide) ?_
    refine lv_icmp_ne (tgt := 33) E.hx E.hb dX9_sawnOff_16 (by decide) (fun c3 => ?_) (fun c3 => ?_)
    · have hf := it_f hf c3
      refine lv_aload_n E.hx E.hb dX9_sawnOff_33 rfl (lv_at hl 1 rfl) ?_
      refine mg_st E hR dX9_sawnOff_34 ?_
      refine lv_bipush (v := 17) E.hx E.hb dX9_sawnOff_37 (by decide) ?_
      refine lv_iload_n E.hx E.hb dX9_sawnOff_39 rfl (lv_at hl 2 rfl) ?_
      refine lv_iadd E.hx E.hb dX9_sawnOff_40 ?_
      obtain ⟨v4, hv4, hf⟩ := bd_e hf
      refine ml_st E hR hv4 dX9_sawnOff_41 ?_
      obtain ⟨rfl, rfl⟩ := rt_e hf
      exact mret_i E hR hS dX9_sawnOff_42
    · have hf := it_t hf c3
      exact wX9_sawnOff_b19 E  hf _ _ _ hR hS (lv_sub hl [1, 2] rfl)
theorem tX9_sawnOff (l : Launch) {G : va_G} {cI cZ : ClassId} {o : Nat} {σ σf : MS} {x1 : Int32} {x2 : Int32} {r : Int32} (hf : fX9_sawnOff σ x1 x2 = some (r, σf)) : Met l yX9_sawnOff (ws_ yX9_sawnOff cX9_sawnOff 4 (some .int)) rmX9_sawnOff (mPc G cI cZ o σ [.ref o, .int x1, .int x2]) (mQi G cI cZ o r σf) 0 0 (mA o) := by
  refine Met.ofW (cc := cX9_sawnOff) (maxL := 4) (ret := (some .int)) (by decide) rfl ?_
  intro p e s m args below meth c s₁ B hml hv
  obtain ⟨rfl, hR, hK⟩ := hv
  have hts := atoms_spec (ws := (ws_ yX9_sawnOff cX9_sawnOff 4 (some .int))) B.pre
  rw [lg_entry_eq]
  exact wX9_sawnOff_0 (E := ⟨⟨B.exec, B.bytes, hml, findClass_of_methodNamed B.named, fun w h => hts w (List.mem_cons_of_mem _ h)⟩, hK, B.returns, B.notSynchronized⟩) hf _ _ _ hR va_S.rf (lv_entry [.ref o, .int x1, .int x2] (n := 4) (Nat.le_of_ble_eq_true rfl))

theorem cwX9_153 {R : Room} {s : State} {args : Array Value} (ht : ∀ w ∈ lw_all, w.before args s = true) (hR : rmX9_atRank.frames + 1 ≤ R.frames ∧ 8 + (4 + 11) + rmX9_atRank.locals ≤ R.locals) : CallW R s args RX9 RX9 153 yX9_atRank cX9_atRank 4 (some .int) (ws_ yX9_atRank cX9_atRank 4 (some .int)) rmX9_atRank 0 0 1 :=
  cwV 1 ht (lw_V q1425 q1427 qs46 q80 q1428) rfl rfl rfl (by decide +kernel) hR
abbrev rmX9_targetOf : Room := { frames := 5, cells := 0, slots := 0, locals := 101 }
def fX9_targetOf_b78  (σ : MS) (x1 : Int32) (x2 : Int32) : Option (Int32 × MS) :=
  (rd (σ 4) 41 (17 + x1)).bind fun v1 =>
  if v1 = 0 then (some ((-1000000), σ)) else (if x2 = x1 then (some ((-1000000), σ)) else (some (x2, σ)))
theorem wX9_targetOf_b78 (E : mE p m c cX9_targetOf 3 s args G cI cZ meth (some .int)) {σ : MS} {x1 : Int32} {x2 : Int32} (hf : fX9_targetOf_b78 σ x1 x2 = some (r, σf)) : ∀ (H : Heap) (locs : List Loc) (ls : Array Slot), mR G cI cZ o σ H → va_S (mA o) s.heap H locs → lv_has ls 3 [(0, .ref o), (1, .int x1), (2, .int x2)] → W p l e rmX9_targetOf s m args below meth c H locs 0 0 (MQ below (mQi G cI cZ o r σf) args s 0 0 (mA o)) (F0 m 78 ls []) := by
  intro H locs ls hR hS hl
  refine lv_aload_n E.hx E.hb dX9_targetOf_78 rfl (lv_at hl 0 rfl) ?_
  refine mg_st E hR dX9_targetOf_79 ?_
  refine lv_bipush (v := 17) E.hx E.hb dX9_targetOf_82 (by decide) ?_
  refine lv_iload_n E.hx E.hb dX9_targetOf_84 rfl (lv_at hl 1 rfl) ?_
  refine lv_iadd E.hx E.hb dX9_targetOf_85 ?_
  obtain ⟨v1, hv1, hf⟩ := bd_e hf
  refine ml_st E hR hv1 dX9_targetOf_86 ?_
  refine lv_if_eq (tgt := 95) E.hx E.hb dX9_targetOf_87 (by decide) (fun c2 => ?_) (fun c2 => ?_)
  · have hf := it_t hf c2
    refine lv_ldc (v := (-1000000)) E.hx E.hb E.ho (E.ht _ q1413) dX9_targetOf_95 ?_
    refine lv_goto (tgt := 101) E.hx E.hb dX9_targetOf_97 (by decide) ?_
    obtain ⟨rfl, rfl⟩ := rt_e hf
    exact mret_i E hR hS dX9_targetOf_101
  · have hf := it_f hf c2
    refine lv_iload_n E.hx E.hb dX9_targetOf_90 rfl (lv_at hl 2 rfl) ?_
    refine lv_iload_n E.hx E.hb dX9_targetOf_91 rfl (lv_at hl 1 rfl) ?_
    refine lv_icmp_ne (tgt := 100) E.hx E.hb dX9_targetOf_92 (by decide) (fun c3 => ?_) (fun c3 => ?_)
    · have hf := it_f hf c3
      refine lv_iload_n E.hx E.hb dX9_targetOf_100 rfl (lv_at hl 2 rfl) ?_
      obtain ⟨rfl, rfl⟩ := rt_e hf
      exact mret_i E hR hS dX9_targetOf_101
    · have hf := it_t hf c3
      refine lv_ldc (v := (-1000000)) E.hx E.hb E.ho (E.ht _ q1413) dX9_targetOf_95 ?_
      refine lv_goto (tgt := 101) E.hx E.hb dX9_targetOf_97 (by decide) ?_
      obtain ⟨rfl, rfl⟩ := rt_e hf
      exact mret_i E hR hS dX9_targetOf_101
def fX9_targetOf  (σ : MS) (x1 : Int32) : Option (Int32 × MS) :=
  (rd (σ 4) 41 (23 + x1)).bind fun v1 =>
  if v1 = 1 then ((fX9_rankOf σ x1).bind fun (v4, σ3) =>
  (fX9_atRank σ3 (v4 - 1)).bind fun (v6, σ5) =>
  fX9_targetOf_b78 σ5 x1 v6) else (if v1 = 2 then ((fX9_atRank σ 0).bind fun (v9, σ8) =>
  fX9_targetOf_b78 σ8 x1 v9) else (if v1 = 3 then ((rd (σ 4) 41 2).bind fun v11 =>
  (rmd (x1 + 1) v11).bind fun v12 =>
  fX9_targetOf_b78 σ x1 v12) else (fX9_targetOf_b78 σ x1 (-1000000))))
theorem wX9_targetOf_0 (E : mE p m c cX9_targetOf 3 s args G cI cZ meth (some .int)) {σ : MS} {x1 : Int32} (hf : fX9_targetOf σ x1 = some (r, σf)) : ∀ (H : Heap) (locs : List Loc) (ls : Array Slot), mR G cI cZ o σ H → va_S (mA o) s.heap H locs → lv_has ls 3 [(0, .ref o), (1, .int x1)] → W p l e rmX9_targetOf s m args below meth c H locs 0 0 (MQ below (mQi G cI cZ o r σf) args s 0 0 (mA o)) (F0 m 0 ls []) := by
  intro H locs ls hR hS hl
  refine lv_ldc (v := (-1000000)) E.hx E.hb E.ho (E.ht _ q1413) dX9_targetOf_0 ?_
  refine lv_istore_n (lv' := [(2, .int (-1000000)), (0, .ref o), (1, .int x1)]) E.hx E.hb dX9_targetOf_2 rfl hl (by decide) rfl (fun ls hl => ?_)
  refine lv_aload_n E.hx E.hb dX9_targetOf_3 rfl (lv_at hl 1 rfl) ?_
  refine mg_st E hR dX9_targetOf_4 ?_
  refine lv_bipush (v := 23) E.hx E.hb dX9_targetOf_7 (by decide) ?_
  refine lv_iload_n E.hx E.hb dX9_targetOf_9 rfl (lv_at hl 2 rfl) ?_
  refine lv_iadd E.hx E.hb dX9_targetOf_10 ?_
  obtain ⟨v1, hv1, hf⟩ := bd_e hf
  refine ml_st E hR hv1 dX9_targetOf_11 ?_
  by_cases c2 : v1 = 1
  · have hf := it_t hf c2
    refine lv_tableIn (tgt := 40) (off := 28) E.hx E.hb dX9_targetOf_12 (by rw [c2]; decide) (by rw [c2]; decide) (by rw [c2]; rfl) (by decide) ?_
    refine lv_aload_n E.hx E.hb dX9_targetOf_40 rfl (lv_at hl 1 rfl) ?_
    refine lv_aload_n E.hx E.hb dX9_targetOf_41 rfl (lv_at hl 1 rfl) ?_
    refine lv_iload_n E.hx E.hb dX9_targetOf_42 rfl (lv_at hl 2 rfl) ?_
    obtain ⟨⟨v4, σ3⟩, hv4, hf⟩ := bd_e hf
    refine mcall_i (rest := [.ref o]) E hR hS (tX9_rankOf l hv4) (cwX9_150 E.ht ⟨Nat.le_of_ble_eq_true rfl, Nat.le_of_ble_eq_true rfl⟩) rfl hl.1 rfl (Nat.le_of_ble_eq_true rfl) dX9_targetOf_43 ⟨Nat.le_refl 0, Nat.le_refl 0⟩ (fun H locs hR hS => ?_)
    refine lv_iconst (v := 1) E.hx E.hb dX9_targetOf_46 (by decide) ?_
    refine lv_isub E.hx E.hb dX9_targetOf_47 ?_
    obtain ⟨⟨v6, σ5⟩, hv6, hf⟩ := bd_e hf
    refine mcall_i (rest := []) E hR hS (tX9_atRank l hv6) (cwX9_153 E.ht ⟨Nat.le_of_ble_eq_true rfl, Nat.le_of_ble_eq_true rfl⟩) rfl hl.1 rfl (Nat.le_of_ble_eq_true rfl) dX9_targetOf_48 ⟨Nat.le_refl 0, Nat.le_refl 0⟩ (fun H locs hR hS => ?_)
    refine lv_istore_n (lv' := [(2, .int v6), (0, .ref o), (1, .int x1)]) E.hx E.hb dX9_targetOf_51 rfl hl (by decide) rfl (fun ls hl => ?_)
    refine lv_goto (tgt := 78) E.hx E.hb dX9_targetOf_52 (by decide) ?_
    exact wX9_targetOf_b78 E  hf _ _ _ hR hS (lv_sub hl [1, 2, 0] rfl)
  · have hf := it_f hf c2
    by_cases c7 : v1 = 2
    · have hf := it_t hf c7
      refine lv_tableIn (tgt := 55) (off := 43) E.hx E.hb dX9_targetOf_12 (by rw [c7]; decide) (by rw [c7]; decide) (by rw [c7]; rfl) (by decide) ?_
      refine lv_aload_n E.hx E.hb dX9_targetOf_55 rfl (lv_at hl 1 rfl) ?_
      refine lv_iconst (v := 0) E.hx E.hb dX9_targetOf_56 (by decide) ?_
      obtain ⟨⟨v9, σ8⟩, hv9, hf⟩ := bd_e hf
      refine mcall_i (rest := []) E hR hS (tX9_atRank l hv9) (cwX9_153 E.ht ⟨Nat.le_of_ble_eq_true rfl, Nat.le_of_ble_eq_true rfl⟩) rfl hl.1 rfl (Nat.le_of_ble_eq_true rfl) dX9_targetOf_57 ⟨Nat.le_refl 0, Nat.le_refl 0⟩ (fun H locs hR hS => ?_)
      refine lv_istore_n (lv' := [(2, .int v9), (0, .ref o), (1, .int x1)]) E.hx E.hb dX9_targetOf_60 rfl hl (by decide) rfl (fun ls hl => ?_)
      refine lv_goto (tgt := 78) E.hx E.hb dX9_targetOf_61 (by decide) ?_
      exact wX9_targetOf_b78 E  hf _ _ _ hR hS (lv_sub hl [1, 2, 0] rfl)
    · have hf := it_f hf c7
      by_cases c10 : v1 = 3
      · have hf := it_t hf c10
        refine lv_tableIn (tgt := 64) (off := 52) E.hx E.hb dX9_targetOf_12 (by rw [c10]; decide) (by rw [c10]; decide) (by rw [c10]; rfl) (by decide) ?_
        refine lv_iload_n E.hx E.hb dX9_targetOf_64 rfl (lv_at hl 2 rfl) ?_
        refine lv_iconst (v := 1) E.hx E.hb dX9_targetOf_65 (by decide) ?_
        refine lv_iadd E.hx E.hb dX9_targetOf_66 ?_
        refine lv_aload_n E.hx E.hb dX9_targetOf_67 rfl (lv_at hl 1 rfl) ?_
        refine mg_st E hR dX9_targetOf_68 ?_
        refine lv_iconst (v := 2) E.hx E.hb dX9_targetOf_71 (by decide) ?_
        obtain ⟨v11, hv11, hf⟩ := bd_e hf
        refine ml_st E hR hv11 dX9_targetOf_72 ?_
        obtain ⟨v12, h13, hf⟩ := bd_e hf
        obtain ⟨h13, h13e⟩ := rmd_e h13
        refine lv_irem E.hx E.hb dX9_targetOf_73 h13 ?_
        rw [h13e]
        refine lv_istore_n (lv' := [(2, .int v12), (0, .ref o), (1, .int x1)]) E.hx E.hb dX9_targetOf_74 rfl hl (by decide) rfl (fun ls hl => ?_)
        refine lv_goto (tgt := 78) E.hx E.hb dX9_targetOf_75 (by decide) ?_
        exact wX9_targetOf_b78 E  hf _ _ _ hR hS (lv_sub hl [1, 2, 0] rfl)
      · have hf := it_f hf c10
        have ec2 : ¬ v1.toInt = 1 := fun h => c2 (Int32.toInt_inj.mp h)
        have ec7 : ¬ v1.toInt = 2 := fun h => c7 (Int32.toInt_inj.mp h)
        have ec10 : ¬ v1.toInt = 3 := fun h => c10 (Int32.toInt_inj.mp h)
        refine lv_tableOut (tgt := 78) E.hx E.hb dX9_targetOf_12 (by omega) (by decide) ?_
        exact wX9_targetOf_b78 E  hf _ _ _ hR hS (lv_sub hl [1, 2, 0] rfl)
theorem tX9_targetOf (l : Launch) {G : va_G} {cI cZ : ClassId} {o : Nat} {σ σf : MS} {x1 : Int32} {r : Int32} (hf : fX9_targetOf σ x1 = some (r, σf)) : Met l yX9_targetOf (ws_ yX9_targetOf cX9_targetOf 3 (some .int)) rmX9_targetOf (mPc G cI cZ o σ [.ref o, .int x1]) (mQi G cI cZ o r σf) 0 0 (mA o) := by
  refine Met.ofW (cc := cX9_targetOf) (maxL := 3) (ret := (some .int)) (by decide) rfl ?_
  intro p e s m args below meth c s₁ B hml hv
  obtain ⟨rfl, hR, hK⟩ := hv
  have hts := atoms_spec (ws := (ws_ yX9_targetOf cX9_targetOf 3 (some .int))) B.pre
  rw [lg_entry_eq]
  exact wX9_targetOf_0 (E := ⟨⟨B.exec, B.bytes, hml, findClass_of_methodNamed B.named, fun w h => hts w (List.mem_cons_of_mem _ h)⟩, hK, B.returns, B.notSynchronized⟩) hf _ _ _ hR va_S.rf (lv_entry [.ref o, .int x1] (n := 3) (Nat.le_of_ble_eq_true rfl))

theorem cwX9_159 {R : Room} {s : State} {args : Array Value} (ht : ∀ w ∈ lw_all, w.before args s = true) (hR : rmX9_targetOf.frames + 1 ≤ R.frames ∧ 8 + (3 + 11) + rmX9_targetOf.locals ≤ R.locals) : CallW R s args RX9 RX9 159 yX9_targetOf cX9_targetOf 3 (some .int) (ws_ yX9_targetOf cX9_targetOf 3 (some .int)) rmX9_targetOf 0 0 1 :=
  cwV 1 ht (lw_V q1409 q1411 qs43 q80 q1412) rfl rfl rfl (by decide +kernel) hR
theorem cwX9_162 {R : Room} {s : State} {args : Array Value} (ht : ∀ w ∈ lw_all, w.before args s = true) (hR : rmX9_has.frames + 1 ≤ R.frames ∧ 8 + (2 + 11) + rmX9_has.locals ≤ R.locals) : CallB R s args RX9 162 yX9_has cX9_has 2 (some .boolean) (ws_ yX9_has cX9_has 2 (some .boolean)) rmX9_has 0 0 2 ∧ (Cond.static yX9_has).before args s = true :=
  va_cwS 2 ht (lw_S q1429 q1430 q80 q1431) rfl rfl rfl (by decide +kernel) hR
theorem cwX9_166 {R : Room} {s : State} {args : Array Value} (ht : ∀ w ∈ lw_all, w.before args s = true) (hR : rmX9_sawnOff.frames + 1 ≤ R.frames ∧ 8 + (4 + 11) + rmX9_sawnOff.locals ≤ R.locals) : CallW R s args RX9 RX9 166 yX9_sawnOff cX9_sawnOff 4 (some .int) (ws_ yX9_sawnOff cX9_sawnOff 4 (some .int)) rmX9_sawnOff 0 0 2 :=
  cwV 2 ht (lw_V q1432 q1434 qs47 q80 q1435) rfl rfl rfl (by decide +kernel) hR
abbrev rmX9_oneNight : Room := { frames := 6, cells := 0, slots := 0, locals := 123 }
def fX9_oneNight_b87 (k32 : MS → Int32 → Option MS) (σ : MS) (s1 : Int32) (s2 : Int32) (x1 : Int32) (x2 : Int32) (x3 : Int32) : Option MS :=
  (some (up2 σ 0 17 (s1 ||| s2))).bind fun σ1 =>
  if x2 < 0 then (k32 σ1 (x1 + 1)) else (if x3 = 0 then ((rd (σ1 8) 6 x2).bind fun v4 =>
  (fX9_sawnOff σ1 x1 x2).bind fun (v6, σ5) =>
  (mwr σ5 8 6 x2 (v4 + v6)).bind fun σ7 =>
  k32 σ7 (x1 + 1)) else (k32 σ1 (x1 + 1)))
theorem wX9_oneNight_b87 (E : mE p m c cX9_oneNight 4 s args G cI cZ meth none) {k32 : MS → Int32 → Option MS} (hk32 : ∀ (σ : MS) (x1 : Int32), k32 σ x1 = some σf → ∀ (H : Heap) (locs : List Loc) (ls : Array Slot), mR G cI cZ o σ H → va_S (mA o) s.heap H locs → lv_has ls 4 [(0, .ref o), (1, .int x1)] → W p l e rmX9_oneNight s m args below meth c H locs 0 0 (MQ below (mQv G cI cZ o σf) args s 0 0 (mA o)) (F0 m 32 ls [])) {σ : MS} {s1 : Int32} {s2 : Int32} {x1 : Int32} {x2 : Int32} {x3 : Int32} (hf : fX9_oneNight_b87 k32 σ s1 s2 x1 x2 x3 = some σf) : ∀ (H : Heap) (locs : List Loc) (ls : Array Slot), mR G cI cZ o σ H → va_S (mA o) s.heap H locs → lv_has ls 4 [(0, .ref o), (1, .int x1), (2, .int x2), (3, .int x3)] → W p l e rmX9_oneNight s m args below meth c H locs 0 0 (MQ below (mQv G cI cZ o σf) args s 0 0 (mA o)) (F0 m 87 ls [.int s2, .int s1, .ref o]) := by
  intro H locs ls hR hS hl
  refine lv_ior E.hx E.hb dX9_oneNight_87 ?_
  obtain ⟨σ1, hσ1, hf⟩ := bd_e hf
  refine mp_caughtNow E hR hS dX9_oneNight_88 (fun H locs hR hS => ?_)
  rw [Option.some.inj hσ1] at hR
  refine lv_iload_n E.hx E.hb dX9_oneNight_91 rfl (lv_at hl 2 rfl) ?_
  refine lv_if_lt (tgt := 114) E.hx E.hb dX9_oneNight_92 (by decide) (fun c2 => ?_) (fun c2 => ?_)
  · have hf := it_t hf c2
    refine lv_iinc (v := (x1 + 1)) (lv' := [(1, .int (x1 + 1)), (0, .ref o), (2, .int x2), (3, .int x3)]) E.hx E.hb dX9_oneNight_114 hl (k := 1) rfl rfl (by decide) rfl (fun ls hl => ?_)
    refine lv_goto (tgt := 32) E.hx E.hb dX9_oneNight_117 (by decide) ?_
    exact hk32 σ1 _ hf _ _ _ hR hS (lv_sub hl [1, 0] rfl)
  · have hf := it_f hf c2
    refine lv_iload_n E.hx E.hb dX9_oneNight_95 rfl (lv_at hl 3 rfl) ?_
    refine lv_if_ne (tgt := 114) E.hx E.hb dX9_oneNight_96 (by decide) (fun c3 => ?_) (fun c3 => ?_)
    · have hf := it_f hf c3
      refine lv_iinc (v := (x1 + 1)) (lv' := [(1, .int (x1 + 1)), (0, .ref o), (2, .int x2), (3, .int x3)]) E.hx E.hb dX9_oneNight_114 hl (k := 1) rfl rfl (by decide) rfl (fun ls hl => ?_)
      refine lv_goto (tgt := 32) E.hx E.hb dX9_oneNight_117 (by decide) ?_
      exact hk32 σ1 _ hf _ _ _ hR hS (lv_sub hl [1, 0] rfl)
    · have hf := it_t hf c3
      refine lv_aload_n E.hx E.hb dX9_oneNight_99 rfl (lv_at hl 0 rfl) ?_
      refine mg_off E hR dX9_oneNight_100 ?_
      refine lv_iload_n E.hx E.hb dX9_oneNight_103 rfl (lv_at hl 2 rfl) ?_
      refine lv_dup2_11 E.hx E.hb dX9_oneNight_104 rfl rfl ?_
      obtain ⟨v4, hv4, hf⟩ := bd_e hf
      refine ml_off E hR hv4 dX9_oneNight_105 ?_
      refine lv_aload_n E.hx E.hb dX9_oneNight_106 rfl (lv_at hl 0 rfl) ?_
      refine lv_iload_n E.hx E.hb dX9_oneNight_107 rfl (lv_at hl 1 rfl) ?_
      refine lv_iload_n E.hx E.hb dX9_oneNight_108 rfl (lv_at hl 2 rfl) ?_
      obtain ⟨⟨v6, σ5⟩, hv6, hf⟩ := bd_e hf
      refine mcall_i (rest := [.int v4, .int x2, .ref (o + 8)]) E hR hS (tX9_sawnOff l hv6) (cwX9_166 E.ht ⟨Nat.le_of_ble_eq_true rfl, Nat.le_of_ble_eq_true rfl⟩) rfl hl.1 rfl (Nat.le_of_ble_eq_true rfl) dX9_oneNight_109 ⟨Nat.le_refl 0, Nat.le_refl 0⟩ (fun H locs hR hS => ?_)
      refine lv_iadd E.hx E.hb dX9_oneNight_112 ?_
      obtain ⟨σ7, hσ7, hf⟩ := bd_e hf
      refine ms_off E hR hS hσ7 dX9_oneNight_113 (fun H locs hR hS => ?_)
      refine lv_iinc (v := (x1 + 1)) (lv' := [(1, .int (x1 + 1)), (0, .ref o), (2, .int x2), (3, .int x3)]) E.hx E.hb dX9_oneNight_114 hl (k := 1) rfl rfl (by decide) rfl (fun ls hl => ?_)
      refine lv_goto (tgt := 32) E.hx E.hb dX9_oneNight_117 (by decide) ?_
      exact hk32 σ7 _ hf _ _ _ hR hS (lv_sub hl [1, 0] rfl)
def fX9_oneNight_b70 (k32 : MS → Int32 → Option MS) (σ : MS) (s0 : Int32) (x1 : Int32) (x2 : Int32) : Option MS :=
  if s0 = 0 then (fX9_oneNight_b87 k32 σ (σ 0 17) 0 x1 x2 s0) else (fX9_oneNight_b87 k32 σ (σ 0 17) (1 <<< (x1 &&& 31)) x1 x2 s0)
theorem wX9_oneNight_b70 (E : mE p m c cX9_oneNight 4 s args G cI cZ meth none) {k32 : MS → Int32 → Option MS} (hk32 : ∀ (σ : MS) (x1 : Int32), k32 σ x1 = some σf → ∀ (H : Heap) (locs : List Loc) (ls : Array Slot), mR G cI cZ o σ H → va_S (mA o) s.heap H locs → lv_has ls 4 [(0, .ref o), (1, .int x1)] → W p l e rmX9_oneNight s m args below meth c H locs 0 0 (MQ below (mQv G cI cZ o σf) args s 0 0 (mA o)) (F0 m 32 ls [])) {σ : MS} {s0 : Int32} {x1 : Int32} {x2 : Int32} (hf : fX9_oneNight_b70 k32 σ s0 x1 x2 = some σf) : ∀ (H : Heap) (locs : List Loc) (ls : Array Slot), mR G cI cZ o σ H → va_S (mA o) s.heap H locs → lv_has ls 4 [(0, .ref o), (1, .int x1), (2, .int x2)] → W p l e rmX9_oneNight s m args below meth c H locs 0 0 (MQ below (mQv G cI cZ o σf) args s 0 0 (mA o)) (F0 m 70 ls [.int s0]) := by
  intro H locs ls hR hS hl
  refine lv_istore_n (lv' := [(3, .int s0), (0, .ref o), (1, .int x1), (2, .int x2)]) E.hx E.hb dX9_oneNight_70 rfl hl (by decide) rfl (fun ls hl => ?_)
  refine lv_aload_n E.hx E.hb dX9_oneNight_71 rfl (lv_at hl 1 rfl) ?_
  refine lv_dup E.hx E.hb dX9_oneNight_72 rfl ?_
  refine mg_caughtNow E hR dX9_oneNight_73 ?_
  refine lv_iload_n E.hx E.hb dX9_oneNight_76 rfl (lv_at hl 0 rfl) ?_
  refine lv_if_eq (tgt := 86) E.hx E.hb dX9_oneNight_77 (by decide) (fun c1 => ?_) (fun c1 => ?_)
  · have hf := it_t hf c1
    refine lv_iconst (v := 0) E.hx E.hb dX9_oneNight_86 (by decide) ?_
    exact wX9_oneNight_b87 E hk32 hf _ _ _ hR hS (lv_sub hl [1, 2, 3, 0] rfl)
  · have hf := it_f hf c1
    refine lv_iconst (v := 1) E.hx E.hb dX9_oneNight_80 (by decide) ?_
    refine lv_iload_n E.hx E.hb dX9_oneNight_81 rfl (lv_at hl 2 rfl) ?_
    refine lv_ishl E.hx E.hb dX9_oneNight_82 ?_
    refine lv_goto (tgt := 87) E.hx E.hb dX9_oneNight_83 (by decide) ?_
    exact wX9_oneNight_b87 E hk32 hf _ _ _ hR hS (lv_sub hl [1, 2, 3, 0] rfl)
def fX9_oneNight_b221 (k122 : MS → Int32 → Option MS) (σ : MS) (s1 : Int32) (s2 : Int32) (s3 : Int32) (x1 : Int32) : Option MS :=
  (mwr σ 4 41 s1 (s2 + s3)).bind fun σ1 =>
  k122 σ1 (x1 + 1)
theorem wX9_oneNight_b221 (E : mE p m c cX9_oneNight 4 s args G cI cZ meth none) {k122 : MS → Int32 → Option MS} (hk122 : ∀ (σ : MS) (x1 : Int32), k122 σ x1 = some σf → ∀ (H : Heap) (locs : List Loc) (ls : Array Slot), mR G cI cZ o σ H → va_S (mA o) s.heap H locs → lv_has ls 4 [(0, .ref o), (1, .int x1)] → W p l e rmX9_oneNight s m args below meth c H locs 0 0 (MQ below (mQv G cI cZ o σf) args s 0 0 (mA o)) (F0 m 122 ls [])) {σ : MS} {s1 : Int32} {s2 : Int32} {s3 : Int32} {x1 : Int32} (hf : fX9_oneNight_b221 k122 σ s1 s2 s3 x1 = some σf) : ∀ (H : Heap) (locs : List Loc) (ls : Array Slot), mR G cI cZ o σ H → va_S (mA o) s.heap H locs → lv_has ls 4 [(0, .ref o), (1, .int x1)] → W p l e rmX9_oneNight s m args below meth c H locs 0 0 (MQ below (mQv G cI cZ o σf) args s 0 0 (mA o)) (F0 m 221 ls [.int s3, .int s2, .int s1, .ref (o + 4)]) := by
  intro H locs ls hR hS hl
  refine lv_iadd E.hx E.hb dX9_oneNight_221 ?_
  obtain ⟨σ1, hσ1, hf⟩ := bd_e hf
  refine ms_st E hR hS hσ1 dX9_oneNight_222 (fun H locs hR hS => ?_)
  refine lv_iinc (v := (x1 + 1)) (lv' := [(1, .int (x1 + 1)), (0, .ref o)]) E.hx E.hb dX9_oneNight_223 hl (k := 1) rfl rfl (by decide) rfl (fun ls hl => ?_)
  refine lv_goto (tgt := 122) E.hx E.hb dX9_oneNight_226 (by decide) ?_
  exact hk122 σ1 _ hf _ _ _ hR hS (lv_sub hl [1, 0] rfl)
def fX9_oneNight_b193 (k122 : MS → Int32 → Option MS) (σ : MS) (s1 : Int32) (s2 : Int32) (s3 : Int32) (x1 : Int32) : Option MS :=
  (mwr σ 4 41 s1 (s2 - s3)).bind fun σ1 =>
  (rd (σ1 4) 41 (35 + x1)).bind fun v2 =>
  (fX9_has (σ1 0 17) x1).bind fun v3 =>
  if v3 = 0 then (fX9_oneNight_b221 k122 σ1 (35 + x1) v2 0 x1) else (fX9_oneNight_b221 k122 σ1 (35 + x1) v2 1 x1)
theorem wX9_oneNight_b193 (E : mE p m c cX9_oneNight 4 s args G cI cZ meth none) {k122 : MS → Int32 → Option MS} (hk122 : ∀ (σ : MS) (x1 : Int32), k122 σ x1 = some σf → ∀ (H : Heap) (locs : List Loc) (ls : Array Slot), mR G cI cZ o σ H → va_S (mA o) s.heap H locs → lv_has ls 4 [(0, .ref o), (1, .int x1)] → W p l e rmX9_oneNight s m args below meth c H locs 0 0 (MQ below (mQv G cI cZ o σf) args s 0 0 (mA o)) (F0 m 122 ls [])) {σ : MS} {s1 : Int32} {s2 : Int32} {s3 : Int32} {x1 : Int32} (hf : fX9_oneNight_b193 k122 σ s1 s2 s3 x1 = some σf) : ∀ (H : Heap) (locs : List Loc) (ls : Array Slot), mR G cI cZ o σ H → va_S (mA o) s.heap H locs → lv_has ls 4 [(0, .ref o), (1, .int x1)] → W p l e rmX9_oneNight s m args below meth c H locs 0 0 (MQ below (mQv G cI cZ o σf) args s 0 0 (mA o)) (F0 m 193 ls [.int s3, .int s2, .int s1, .ref (o + 4)]) := by
  intro H locs ls hR hS hl
  refine lv_isub E.hx E.hb dX9_oneNight_193 ?_
  obtain ⟨σ1, hσ1, hf⟩ := bd_e hf
  refine ms_st E hR hS hσ1 dX9_oneNight_194 (fun H locs hR hS => ?_)
  refine lv_aload_n E.hx E.hb dX9_oneNight_195 rfl (lv_at hl 0 rfl) ?_
  refine mg_st E hR dX9_oneNight_196 ?_
  refine lv_bipush (v := 35) E.hx E.hb dX9_oneNight_199 (by decide) ?_
  refine lv_iload_n E.hx E.hb dX9_oneNight_201 rfl (lv_at hl 1 rfl) ?_
  refine lv_iadd E.hx E.hb dX9_oneNight_202 ?_
  refine lv_dup2_11 E.hx E.hb dX9_oneNight_203 rfl rfl ?_
  obtain ⟨v2, hv2, hf⟩ := bd_e hf
  refine ml_st E hR hv2 dX9_oneNight_204 ?_
  refine lv_aload_n E.hx E.hb dX9_oneNight_205 rfl (lv_at hl 0 rfl) ?_
  refine mg_caughtNow E hR dX9_oneNight_206 ?_
  refine lv_iload_n E.hx E.hb dX9_oneNight_209 rfl (lv_at hl 1 rfl) ?_
  obtain ⟨v3, hv3, hf⟩ := bd_e hf
  refine scall_i (rest := [.int v2, .int (35 + x1), .ref (o + 4)]) E.1 (tX9_has l hv3) (cwX9_162 E.ht ⟨Nat.le_of_ble_eq_true rfl, Nat.le_of_ble_eq_true rfl⟩) rfl hl.1 rfl (Nat.le_of_ble_eq_true rfl) dX9_oneNight_210 ⟨Nat.le_refl 0, Nat.le_refl 0⟩ ?_
  refine lv_if_eq (tgt := 220) E.hx E.hb dX9_oneNight_213 (by decide) (fun c4 => ?_) (fun c4 => ?_)
  · have hf := it_t hf c4
    refine lv_iconst (v := 0) E.hx E.hb dX9_oneNight_220 (by decide) ?_
    exact wX9_oneNight_b221 E hk122 hf _ _ _ hR hS (lv_sub hl [0, 1] rfl)
  · have hf := it_f hf c4
    refine lv_iconst (v := 1) E.hx E.hb dX9_oneNight_216 (by decide) ?_
    refine lv_goto (tgt := 221) E.hx E.hb dX9_oneNight_217 (by decide) ?_
    exact wX9_oneNight_b221 E hk122 hf _ _ _ hR hS (lv_sub hl [0, 1] rfl)
def fX9_oneNight_b166 (k122 : MS → Int32 → Option MS) (σ : MS) (s1 : Int32) (s2 : Int32) (x1 : Int32) : Option MS :=
  (mwr σ 4 41 s1 s2).bind fun σ1 =>
  (rd (σ1 4) 41 (17 + x1)).bind fun v2 =>
  (fX9_has (σ1 0 17) x1).bind fun v3 =>
  if v3 = 0 then (fX9_oneNight_b193 k122 σ1 (17 + x1) v2 0 x1) else (fX9_oneNight_b193 k122 σ1 (17 + x1) v2 1 x1)
theorem wX9_oneNight_b166 (E : mE p m c cX9_oneNight 4 s args G cI cZ meth none) {k122 : MS → Int32 → Option MS} (hk122 : ∀ (σ : MS) (x1 : Int32), k122 σ x1 = some σf → ∀ (H : Heap) (locs : List Loc) (ls : Array Slot), mR G cI cZ o σ H → va_S (mA o) s.heap H locs → lv_has ls 4 [(0, .ref o), (1, .int x1)] → W p l e rmX9_oneNight s m args below meth c H locs 0 0 (MQ below (mQv G cI cZ o σf) args s 0 0 (mA o)) (F0 m 122 ls [])) {σ : MS} {s1 : Int32} {s2 : Int32} {x1 : Int32} (hf : fX9_oneNight_b166 k122 σ s1 s2 x1 = some σf) : ∀ (H : Heap) (locs : List Loc) (ls : Array Slot), mR G cI cZ o σ H → va_S (mA o) s.heap H locs → lv_has ls 4 [(0, .ref o), (1, .int x1)] → W p l e rmX9_oneNight s m args below meth c H locs 0 0 (MQ below (mQv G cI cZ o σf) args s 0 0 (mA o)) (F0 m 166 ls [.int s2, .int s1, .ref (o + 4)]) := by
  intro H locs ls hR hS hl
  obtain ⟨σ1, hσ1, hf⟩ := bd_e hf
  refine ms_st E hR hS hσ1 dX9_oneNight_166 (fun H locs hR hS => ?_)
  refine lv_aload_n E.hx E.hb dX9_oneNight_167 rfl (lv_at hl 0 rfl) ?_
  refine mg_st E hR dX9_oneNight_168 ?_
  refine lv_bipush (v := 17) E.hx E.hb dX9_oneNight_171 (by decide) ?_
  refine lv_iload_n E.hx E.hb dX9_oneNight_173 rfl (lv_at hl 1 rfl) ?_
  refine lv_iadd E.hx E.hb dX9_oneNight_174 ?_
  refine lv_dup2_11 E.hx E.hb dX9_oneNight_175 rfl rfl ?_
  obtain ⟨v2, hv2, hf⟩ := bd_e hf
  refine ml_st E hR hv2 dX9_oneNight_176 ?_
  refine lv_aload_n E.hx E.hb dX9_oneNight_177 rfl (lv_at hl 0 rfl) ?_
  refine mg_caughtNow E hR dX9_oneNight_178 ?_
  refine lv_iload_n E.hx E.hb dX9_oneNight_181 rfl (lv_at hl 1 rfl) ?_
  obtain ⟨v3, hv3, hf⟩ := bd_e hf
  refine scall_i (rest := [.int v2, .int (17 + x1), .ref (o + 4)]) E.1 (tX9_has l hv3) (cwX9_162 E.ht ⟨Nat.le_of_ble_eq_true rfl, Nat.le_of_ble_eq_true rfl⟩) rfl hl.1 rfl (Nat.le_of_ble_eq_true rfl) dX9_oneNight_182 ⟨Nat.le_refl 0, Nat.le_refl 0⟩ ?_
  refine lv_if_eq (tgt := 192) E.hx E.hb dX9_oneNight_185 (by decide) (fun c4 => ?_) (fun c4 => ?_)
  · have hf := it_t hf c4
    refine lv_iconst (v := 0) E.hx E.hb dX9_oneNight_192 (by decide) ?_
    exact wX9_oneNight_b193 E hk122 hf _ _ _ hR hS (lv_sub hl [0, 1] rfl)
  · have hf := it_f hf c4
    refine lv_iconst (v := 1) E.hx E.hb dX9_oneNight_188 (by decide) ?_
    refine lv_goto (tgt := 193) E.hx E.hb dX9_oneNight_189 (by decide) ?_
    exact wX9_oneNight_b193 E hk122 hf _ _ _ hR hS (lv_sub hl [0, 1] rfl)
def fX9_oneNight_L122  : Nat → MS → Int32 → Option MS
  | 0, _, _ => none
  | n + 1, σ, x1 =>
    (rd (σ 4) 41 2).bind fun v1 =>
    if v1 ≤ x1 then ((rd (σ 4) 41 3).bind fun v3 =>
    (mwr σ 4 41 3 (v3 + 1)).bind fun σ4 =>
    some σ4) else ((rd (σ 4) 41 (11 + x1)).bind fun v5 =>
    (rd (σ 8) 6 x1).bind fun v6 =>
    if 0 ≤ (v5 - v6) then (fX9_oneNight_b166 (fX9_oneNight_L122 n) σ (11 + x1) (v5 - v6) x1) else (fX9_oneNight_b166 (fX9_oneNight_L122 n) σ (11 + x1) 0 x1))
theorem wX9_oneNight_L122 (E : mE p m c cX9_oneNight 4 s args G cI cZ meth none) : ∀ (n : Nat) (σ : MS) (x1 : Int32), fX9_oneNight_L122 n σ x1 = some σf → ∀ (H : Heap) (locs : List Loc) (ls : Array Slot), mR G cI cZ o σ H → va_S (mA o) s.heap H locs → lv_has ls 4 [(0, .ref o), (1, .int x1)] → W p l e rmX9_oneNight s m args below meth c H locs 0 0 (MQ below (mQv G cI cZ o σf) args s 0 0 (mA o)) (F0 m 122 ls []) := by
  intro n
  induction n with
  | zero =>
    intro σ x1 hf
    have hf : none = some σf := hf
    cases hf
  | succ n ih =>
    intro σ x1 hf H locs ls hR hS hl
    refine lv_iload_n E.hx E.hb dX9_oneNight_122 rfl (lv_at hl 1 rfl) ?_
    refine lv_aload_n E.hx E.hb dX9_oneNight_123 rfl (lv_at hl 0 rfl) ?_
    refine mg_st E hR dX9_oneNight_124 ?_
    refine lv_iconst (v := 2) E.hx E.hb dX9_oneNight_127 (by decide) ?_
    obtain ⟨v1, hv1, hf⟩ := bd_e hf
    refine ml_st E hR hv1 dX9_oneNight_128 ?_
    refine lv_icmp_ge (tgt := 229) E.hx E.hb dX9_oneNight_129 (by decide) (fun c2 => ?_) (fun c2 => ?_)
    · have hf := it_t hf c2
      refine lv_aload_n E.hx E.hb dX9_oneNight_229 rfl (lv_at hl 0 rfl) ?_
      refine mg_st E hR dX9_oneNight_230 ?_
      refine lv_iconst (v := 3) E.hx E.hb dX9_oneNight_233 (by decide) ?_
      refine lv_dup2_11 E.hx E.hb dX9_oneNight_234 rfl rfl ?_
      obtain ⟨v3, hv3, hf⟩ := bd_e hf
      refine ml_st E hR hv3 dX9_oneNight_235 ?_
      refine lv_iconst (v := 1) E.hx E.hb dX9_oneNight_236 (by decide) ?_
      refine lv_iadd E.hx E.hb dX9_oneNight_237 ?_
      obtain ⟨σ4, hσ4, hf⟩ := bd_e hf
      refine ms_st E hR hS hσ4 dX9_oneNight_238 (fun H locs hR hS => ?_)
      obtain rfl := Option.some.inj hf
      exact mret_v E hR hS dX9_oneNight_239
    · have hf := it_f hf c2
      refine lv_aload_n E.hx E.hb dX9_oneNight_132 rfl (lv_at hl 0 rfl) ?_
      refine mg_st E hR dX9_oneNight_133 ?_
      refine lv_bipush (v := 11) E.hx E.hb dX9_oneNight_136 (by decide) ?_
      refine lv_iload_n E.hx E.hb dX9_oneNight_138 rfl (lv_at hl 1 rfl) ?_
      refine lv_iadd E.hx E.hb dX9_oneNight_139 ?_
      obtain ⟨v5, hv5, hf⟩ := bd_e hf
      refine ml_st E hR hv5 dX9_oneNight_140 ?_
      refine lv_aload_n E.hx E.hb dX9_oneNight_141 rfl (lv_at hl 0 rfl) ?_
      refine mg_off E hR dX9_oneNight_142 ?_
      refine lv_iload_n E.hx E.hb dX9_oneNight_145 rfl (lv_at hl 1 rfl) ?_
      obtain ⟨v6, hv6, hf⟩ := bd_e hf
      refine ml_off E hR hv6 dX9_oneNight_146 ?_
      refine lv_isub E.hx E.hb dX9_oneNight_147 ?_
      refine lv_istore_n (lv' := [(2, .int (v5 - v6)), (0, .ref o), (1, .int x1)]) E.hx E.hb dX9_oneNight_148 rfl hl (by decide) rfl (fun ls hl => ?_)
      refine lv_aload_n E.hx E.hb dX9_oneNight_149 rfl (lv_at hl 1 rfl) ?_
      refine mg_st E hR dX9_oneNight_150 ?_
      refine lv_bipush (v := 11) E.hx E.hb dX9_oneNight_153 (by decide) ?_
      refine lv_iload_n E.hx E.hb dX9_oneNight_155 rfl (lv_at hl 2 rfl) ?_
      refine lv_iadd E.hx E.hb dX9_oneNight_156 ?_
      refine lv_iload_n E.hx E.hb dX9_oneNight_157 rfl (lv_at hl 0 rfl) ?_
      refine lv_if_ge (tgt := 165) E.hx E.hb dX9_oneNight_158 (by decide) (fun c7 => ?_) (fun c7 => ?_)
      · have hf := it_t hf c7
        refine lv_iload_n E.hx E.hb dX9_oneNight_165 rfl (lv_at hl 0 rfl) ?_
        exact wX9_oneNight_b166 E ih hf _ _ _ hR hS (lv_sub hl [1, 2] rfl)
      · have hf := it_f hf c7
        refine lv_iconst (v := 0) E.hx E.hb dX9_oneNight_161 (by decide) ?_
        refine lv_goto (tgt := 166) E.hx E.hb dX9_oneNight_162 (by decide) ?_
        exact wX9_oneNight_b166 E ih hf _ _ _ hR hS (lv_sub hl [1, 2] rfl)
def fX9_oneNight_L32  : Nat → MS → Int32 → Option MS
  | 0, _, _ => none
  | n + 1, σ, x1 =>
    (rd (σ 4) 41 2).bind fun v1 =>
    if v1 ≤ x1 then (fX9_oneNight_L122 2000 σ 0) else ((fX9_targetOf σ x1).bind fun (v4, σ3) =>
    if v4 < 0 then (fX9_oneNight_b70 (fX9_oneNight_L32 n) σ3 0 x1 v4) else ((rd (σ3 4) 41 4).bind fun v6 =>
    (fX9_has v6 v4).bind fun v7 =>
    if v7 = 0 then (fX9_oneNight_b70 (fX9_oneNight_L32 n) σ3 0 x1 v4) else (fX9_oneNight_b70 (fX9_oneNight_L32 n) σ3 1 x1 v4)))
theorem wX9_oneNight_L32 (E : mE p m c cX9_oneNight 4 s args G cI cZ meth none) : ∀ (n : Nat) (σ : MS) (x1 : Int32), fX9_oneNight_L32 n σ x1 = some σf → ∀ (H : Heap) (locs : List Loc) (ls : Array Slot), mR G cI cZ o σ H → va_S (mA o) s.heap H locs → lv_has ls 4 [(0, .ref o), (1, .int x1)] → W p l e rmX9_oneNight s m args below meth c H locs 0 0 (MQ below (mQv G cI cZ o σf) args s 0 0 (mA o)) (F0 m 32 ls []) := by
  intro n
  induction n with
  | zero =>
    intro σ x1 hf
    have hf : none = some σf := hf
    cases hf
  | succ n ih =>
    intro σ x1 hf H locs ls hR hS hl
    refine lv_iload_n E.hx E.hb dX9_oneNight_32 rfl (lv_at hl 1 rfl) ?_
    refine lv_aload_n E.hx E.hb dX9_oneNight_33 rfl (lv_at hl 0 rfl) ?_
    refine mg_st E hR dX9_oneNight_34 ?_
    refine lv_iconst (v := 2) E.hx E.hb dX9_oneNight_37 (by decide) ?_
    obtain ⟨v1, hv1, hf⟩ := bd_e hf
    refine ml_st E hR hv1 dX9_oneNight_38 ?_
    refine lv_icmp_ge (tgt := 120) E.hx E.hb dX9_oneNight_39 (by decide) (fun c2 => ?_) (fun c2 => ?_)
    · have hf := it_t hf c2
      refine lv_iconst (v := 0) E.hx E.hb dX9_oneNight_120 (by decide) ?_
      refine lv_istore_n (lv' := [(1, .int 0), (0, .ref o)]) E.hx E.hb dX9_oneNight_121 rfl hl (by decide) rfl (fun ls hl => ?_)
      exact wX9_oneNight_L122 E  2000 σ _ hf _ _ _ hR hS (lv_sub hl [1, 0] rfl)
    · have hf := it_f hf c2
      refine lv_aload_n E.hx E.hb dX9_oneNight_42 rfl (lv_at hl 0 rfl) ?_
      refine lv_iload_n E.hx E.hb dX9_oneNight_43 rfl (lv_at hl 1 rfl) ?_
      obtain ⟨⟨v4, σ3⟩, hv4, hf⟩ := bd_e hf
      refine mcall_i (rest := []) E hR hS (tX9_targetOf l hv4) (cwX9_159 E.ht ⟨Nat.le_of_ble_eq_true rfl, Nat.le_of_ble_eq_true rfl⟩) rfl hl.1 rfl (Nat.le_of_ble_eq_true rfl) dX9_oneNight_44 ⟨Nat.le_refl 0, Nat.le_refl 0⟩ (fun H locs hR hS => ?_)
      refine lv_istore_n (lv' := [(2, .int v4), (0, .ref o), (1, .int x1)]) E.hx E.hb dX9_oneNight_47 rfl hl (by decide) rfl (fun ls hl => ?_)
      refine lv_iload_n E.hx E.hb dX9_oneNight_48 rfl (lv_at hl 0 rfl) ?_
      refine lv_if_lt (tgt := 69) E.hx E.hb dX9_oneNight_49 (by decide) (fun c5 => ?_) (fun c5 => ?_)
      · have hf := it_t hf c5
        refine lv_iconst (v := 0) E.hx E.hb dX9_oneNight_69 (by decide) ?_
        exact wX9_oneNight_b70 E ih hf _ _ _ hR hS (lv_sub hl [1, 2, 0] rfl)
      · have hf := it_f hf c5
        refine lv_aload_n E.hx E.hb dX9_oneNight_52 rfl (lv_at hl 1 rfl) ?_
        refine mg_st E hR dX9_oneNight_53 ?_
        refine lv_iconst (v := 4) E.hx E.hb dX9_oneNight_56 (by decide) ?_
        obtain ⟨v6, hv6, hf⟩ := bd_e hf
        refine ml_st E hR hv6 dX9_oneNight_57 ?_
        refine lv_iload_n E.hx E.hb dX9_oneNight_58 rfl (lv_at hl 0 rfl) ?_
        obtain ⟨v7, hv7, hf⟩ := bd_e hf
        refine scall_i (rest := []) E.1 (tX9_has l hv7) (cwX9_162 E.ht ⟨Nat.le_of_ble_eq_true rfl, Nat.le_of_ble_eq_true rfl⟩) rfl hl.1 rfl (Nat.le_of_ble_eq_true rfl) dX9_oneNight_59 ⟨Nat.le_refl 0, Nat.le_refl 0⟩ ?_
        refine lv_if_eq (tgt := 69) E.hx E.hb dX9_oneNight_62 (by decide) (fun c8 => ?_) (fun c8 => ?_)
        · have hf := it_t hf c8
          refine lv_iconst (v := 0) E.hx E.hb dX9_oneNight_69 (by decide) ?_
          exact wX9_oneNight_b70 E ih hf _ _ _ hR hS (lv_sub hl [1, 2, 0] rfl)
        · have hf := it_f hf c8
          refine lv_iconst (v := 1) E.hx E.hb dX9_oneNight_65 (by decide) ?_
          refine lv_goto (tgt := 70) E.hx E.hb dX9_oneNight_66 (by decide) ?_
          exact wX9_oneNight_b70 E ih hf _ _ _ hR hS (lv_sub hl [1, 2, 0] rfl)
def fX9_oneNight_L7  : Nat → MS → Int32 → Option MS
  | 0, _, _ => none
  | n + 1, σ, x1 =>
    (rd (σ 4) 41 2).bind fun v1 =>
    if v1 ≤ x1 then (fX9_oneNight_L32 2000 σ 0) else ((mwr σ 8 6 x1 0).bind fun σ3 =>
    (fX9_oneNight_L7 n) σ3 (x1 + 1))
theorem wX9_oneNight_L7 (E : mE p m c cX9_oneNight 4 s args G cI cZ meth none) : ∀ (n : Nat) (σ : MS) (x1 : Int32), fX9_oneNight_L7 n σ x1 = some σf → ∀ (H : Heap) (locs : List Loc) (ls : Array Slot), mR G cI cZ o σ H → va_S (mA o) s.heap H locs → lv_has ls 4 [(0, .ref o), (1, .int x1)] → W p l e rmX9_oneNight s m args below meth c H locs 0 0 (MQ below (mQv G cI cZ o σf) args s 0 0 (mA o)) (F0 m 7 ls []) := by
  intro n
  induction n with
  | zero =>
    intro σ x1 hf
    have hf : none = some σf := hf
    cases hf
  | succ n ih =>
    intro σ x1 hf H locs ls hR hS hl
    refine lv_iload_n E.hx E.hb dX9_oneNight_7 rfl (lv_at hl 1 rfl) ?_
    refine lv_aload_n E.hx E.hb dX9_oneNight_8 rfl (lv_at hl 0 rfl) ?_
    refine mg_st E hR dX9_oneNight_9 ?_
    refine lv_iconst (v := 2) E.hx E.hb dX9_oneNight_12 (by decide) ?_
    obtain ⟨v1, hv1, hf⟩ := bd_e hf
    refine ml_st E hR hv1 dX9_oneNight_13 ?_
    refine lv_icmp_ge (tgt := 30) E.hx E.hb dX9_oneNight_14 (by decide) (fun c2 => ?_) (fun c2 => ?_)
    · have hf := it_t hf c2
      refine lv_iconst (v := 0) E.hx E.hb dX9_oneNight_30 (by decide) ?_
      refine lv_istore_n (lv' := [(1, .int 0), (0, .ref o)]) E.hx E.hb dX9_oneNight_31 rfl hl (by decide) rfl (fun ls hl => ?_)
      exact wX9_oneNight_L32 E  2000 σ _ hf _ _ _ hR hS (lv_sub hl [1, 0] rfl)
    · have hf := it_f hf c2
      refine lv_aload_n E.hx E.hb dX9_oneNight_17 rfl (lv_at hl 0 rfl) ?_
      refine mg_off E hR dX9_oneNight_18 ?_
      refine lv_iload_n E.hx E.hb dX9_oneNight_21 rfl (lv_at hl 1 rfl) ?_
      refine lv_iconst (v := 0) E.hx E.hb dX9_oneNight_22 (by decide) ?_
      obtain ⟨σ3, hσ3, hf⟩ := bd_e hf
      refine ms_off E hR hS hσ3 dX9_oneNight_23 (fun H locs hR hS => ?_)
      refine lv_iinc (v := (x1 + 1)) (lv' := [(1, .int (x1 + 1)), (0, .ref o)]) E.hx E.hb dX9_oneNight_24 hl (k := 1) rfl rfl (by decide) rfl (fun ls hl => ?_)
      refine lv_goto (tgt := 7) E.hx E.hb dX9_oneNight_27 (by decide) ?_
      exact ih σ3 _ hf _ _ _ hR hS (lv_sub hl [1, 0] rfl)
def fX9_oneNight  (σ : MS)  : Option MS :=
  (some (up2 σ 0 17 0)).bind fun σ1 =>
  fX9_oneNight_L7 2000 σ1 0
theorem wX9_oneNight_0 (E : mE p m c cX9_oneNight 4 s args G cI cZ meth none) {σ : MS}  (hf : fX9_oneNight σ = some σf) : ∀ (H : Heap) (locs : List Loc) (ls : Array Slot), mR G cI cZ o σ H → va_S (mA o) s.heap H locs → lv_has ls 4 [(0, .ref o)] → W p l e rmX9_oneNight s m args below meth c H locs 0 0 (MQ below (mQv G cI cZ o σf) args s 0 0 (mA o)) (F0 m 0 ls []) := by
  intro H locs ls hR hS hl
  refine lv_aload_n E.hx E.hb dX9_oneNight_0 rfl (lv_at hl 0 rfl) ?_
  refine lv_iconst (v := 0) E.hx E.hb dX9_oneNight_1 (by decide) ?_
  obtain ⟨σ1, hσ1, hf⟩ := bd_e hf
  refine mp_caughtNow E hR hS dX9_oneNight_2 (fun H locs hR hS => ?_)
  rw [Option.some.inj hσ1] at hR
  refine lv_iconst (v := 0) E.hx E.hb dX9_oneNight_5 (by decide) ?_
  refine lv_istore_n (lv' := [(1, .int 0), (0, .ref o)]) E.hx E.hb dX9_oneNight_6 rfl hl (by decide) rfl (fun ls hl => ?_)
  exact wX9_oneNight_L7 E  2000 σ1 _ hf _ _ _ hR hS (lv_sub hl [1, 0] rfl)
theorem tX9_oneNight (l : Launch) {G : va_G} {cI cZ : ClassId} {o : Nat} {σ σf : MS}   (hf : fX9_oneNight σ  = some σf) : Met l yX9_oneNight (ws_ yX9_oneNight cX9_oneNight 4 none) rmX9_oneNight (mPc G cI cZ o σ [.ref o]) (mQv G cI cZ o σf) 0 0 (mA o) := by
  refine Met.ofW (cc := cX9_oneNight) (maxL := 4) (ret := none) (by decide) rfl ?_
  intro p e s m args below meth c s₁ B hml hv
  obtain ⟨rfl, hR, hK⟩ := hv
  have hts := atoms_spec (ws := (ws_ yX9_oneNight cX9_oneNight 4 none)) B.pre
  rw [lg_entry_eq]
  exact wX9_oneNight_0 (E := ⟨⟨B.exec, B.bytes, hml, findClass_of_methodNamed B.named, fun w h => hts w (List.mem_cons_of_mem _ h)⟩, hK, B.returns, B.notSynchronized⟩) hf _ _ _ hR va_S.rf (lv_entry [.ref o] (n := 4) (Nat.le_of_ble_eq_true rfl))

theorem cwX9_172 {R : Room} {s : State} {args : Array Value} (ht : ∀ w ∈ lw_all, w.before args s = true) (hR : rmX9_note.frames + 1 ≤ R.frames ∧ 8 + (2 + 11) + rmX9_note.locals ≤ R.locals) : CallW R s args RX9 RX9 172 yX9_note cX9_note 2 none (ws_ yX9_note cX9_note 2 none) rmX9_note 0 0 0 :=
  cwV 0 ht (lw_V q1401 q1403 qs41 q80 q1404) rfl rfl rfl (by decide +kernel) hR
theorem cwX9_175 {R : Room} {s : State} {args : Array Value} (ht : ∀ w ∈ lw_all, w.before args s = true) (hR : rmX9_oneNight.frames + 1 ≤ R.frames ∧ 8 + (4 + 11) + rmX9_oneNight.locals ≤ R.locals) : CallW R s args RX9 RX9 175 yX9_oneNight cX9_oneNight 4 none (ws_ yX9_oneNight cX9_oneNight 4 none) rmX9_oneNight 0 0 0 :=
  cwV 0 ht (lw_V q1405 q1407 qs42 q80 q1408) rfl rfl rfl (by decide +kernel) hR
abbrev rmX9_nights : Room := { frames := 7, cells := 0, slots := 0, locals := 146 }
def fX9_nights_L44  : Nat → MS → Int32 → Int32 → Option (Int32 × MS)
  | 0, _, _, _ => none
  | n + 1, σ, x1, x2 =>
    if x1 ≤ x2 then ((fX9_atRank σ 0).bind fun (v3, σ2) =>
    some (v3, σ2)) else ((fX9_note σ).bind fun σ4 =>
    (fX9_oneNight σ4).bind fun σ5 =>
    (fX9_nights_L44 n) σ5 x1 (x2 + 1))
theorem wX9_nights_L44 (E : mE p m c cX9_nights 3 s args G cI cZ meth (some .int)) : ∀ (n : Nat) (σ : MS) (x1 : Int32) (x2 : Int32), fX9_nights_L44 n σ x1 x2 = some (r, σf) → ∀ (H : Heap) (locs : List Loc) (ls : Array Slot), mR G cI cZ o σ H → va_S (mA o) s.heap H locs → lv_has ls 3 [(0, .ref o), (1, .int x1), (2, .int x2)] → W p l e rmX9_nights s m args below meth c H locs 0 0 (MQ below (mQi G cI cZ o r σf) args s 0 0 (mA o)) (F0 m 44 ls []) := by
  intro n
  induction n with
  | zero =>
    intro σ x1 x2 hf
    have hf : none = some (r, σf) := hf
    cases hf
  | succ n ih =>
    intro σ x1 x2 hf H locs ls hR hS hl
    refine lv_iload_n E.hx E.hb dX9_nights_44 rfl (lv_at hl 2 rfl) ?_
    refine lv_iload_n E.hx E.hb dX9_nights_45 rfl (lv_at hl 1 rfl) ?_
    refine lv_icmp_ge (tgt := 63) E.hx E.hb dX9_nights_46 (by decide) (fun c1 => ?_) (fun c1 => ?_)
    · have hf := it_t hf c1
      refine lv_aload_n E.hx E.hb dX9_nights_63 rfl (lv_at hl 0 rfl) ?_
      refine lv_iconst (v := 0) E.hx E.hb dX9_nights_64 (by decide) ?_
      obtain ⟨⟨v3, σ2⟩, hv3, hf⟩ := bd_e hf
      refine mcall_i (rest := []) E hR hS (tX9_atRank l hv3) (cwX9_153 E.ht ⟨Nat.le_of_ble_eq_true rfl, Nat.le_of_ble_eq_true rfl⟩) rfl hl.1 rfl (Nat.le_of_ble_eq_true rfl) dX9_nights_65 ⟨Nat.le_refl 0, Nat.le_refl 0⟩ (fun H locs hR hS => ?_)
      obtain ⟨rfl, rfl⟩ := rt_e hf
      exact mret_i E hR hS dX9_nights_68
    · have hf := it_f hf c1
      refine lv_aload_n E.hx E.hb dX9_nights_49 rfl (lv_at hl 0 rfl) ?_
      obtain ⟨σ4, hσ4, hf⟩ := bd_e hf
      refine mcall_v (rest := []) E hR hS (tX9_note l hσ4) (cwX9_172 E.ht ⟨Nat.le_of_ble_eq_true rfl, Nat.le_of_ble_eq_true rfl⟩) rfl hl.1 rfl (Nat.le_of_ble_eq_true rfl) dX9_nights_50 ⟨Nat.le_refl 0, Nat.le_refl 0⟩ (fun H locs hR hS => ?_)
      refine lv_aload_n E.hx E.hb dX9_nights_53 rfl (lv_at hl 0 rfl) ?_
      obtain ⟨σ5, hσ5, hf⟩ := bd_e hf
      refine mcall_v (rest := []) E hR hS (tX9_oneNight l hσ5) (cwX9_175 E.ht ⟨Nat.le_of_ble_eq_true rfl, Nat.le_of_ble_eq_true rfl⟩) rfl hl.1 rfl (Nat.le_of_ble_eq_true rfl) dX9_nights_54 ⟨Nat.le_refl 0, Nat.le_refl 0⟩ (fun H locs hR hS => ?_)
      refine lv_iinc (v := (x2 + 1)) (lv' := [(2, .int (x2 + 1)), (0, .ref o), (1, .int x1)]) E.hx E.hb dX9_nights_57 hl (k := 2) rfl rfl (by decide) rfl (fun ls hl => ?_)
      refine lv_goto (tgt := 44) E.hx E.hb dX9_nights_60 (by decide) ?_
      exact ih σ5 _ _ hf _ _ _ hR hS (lv_sub hl [1, 2, 0] rfl)
def fX9_nights  (σ : MS) (x1 : Int32) : Option (Int32 × MS) :=
  if (σ 0 4) = 0 then (some ((-1000002), σ)) else ((fX9_in (x1.toInt64) 1 24).bind fun v2 =>
  if v2 = 0 then (some ((-1000001), σ)) else ((rd (σ 4) 41 3).bind fun v4 =>
  if (v4 + x1) ≤ 999 then (fX9_nights_L44 2000 σ x1 0) else (some ((-1000003), σ))))
theorem wX9_nights_0 (E : mE p m c cX9_nights 3 s args G cI cZ meth (some .int)) {σ : MS} {x1 : Int32} (hf : fX9_nights σ x1 = some (r, σf)) : ∀ (H : Heap) (locs : List Loc) (ls : Array Slot), mR G cI cZ o σ H → va_S (mA o) s.heap H locs → lv_has ls 3 [(0, .ref o), (1, .int x1)] → W p l e rmX9_nights s m args below meth c H locs 0 0 (MQ below (mQi G cI cZ o r σf) args s 0 0 (mA o)) (F0 m 0 ls []) := by
  intro H locs ls hR hS hl
  refine lv_aload_n E.hx E.hb dX9_nights_0 rfl (lv_at hl 0 rfl) ?_
  refine mg_isThere E hR dX9_nights_1 ?_
  refine lv_if_ne (tgt := 10) E.hx E.hb dX9_nights_4 (by decide) (fun c1 => ?_) (fun c1 => ?_)
  · have hf := it_f hf c1
    refine lv_iload_n E.hx E.hb dX9_nights_10 rfl (lv_at hl 1 rfl) ?_
    refine lv_i2l E.hx E.hb dX9_nights_11 rfl ?_
    refine lv_lconst (v := 1) E.hx E.hb dX9_nights_12 (by decide) ?_
    refine lv_ldc2 (v := 24) E.hx E.hb E.ho (E.ht _ q1400) dX9_nights_13 ?_
    obtain ⟨v2, hv2, hf⟩ := bd_e hf
    refine scall_i (rest := []) E.1 (tX9_in l hv2) (cwX9_57 E.ht ⟨Nat.le_of_ble_eq_true rfl, Nat.le_of_ble_eq_true rfl⟩) rfl hl.1 rfl (Nat.le_of_ble_eq_true rfl) dX9_nights_16 ⟨Nat.le_refl 0, Nat.le_refl 0⟩ ?_
    refine lv_if_ne (tgt := 25) E.hx E.hb dX9_nights_19 (by decide) (fun c3 => ?_) (fun c3 => ?_)
    · have hf := it_f hf c3
      refine lv_aload_n E.hx E.hb dX9_nights_25 rfl (lv_at hl 0 rfl) ?_
      refine mg_st E hR dX9_nights_26 ?_
      refine lv_iconst (v := 3) E.hx E.hb dX9_nights_29 (by decide) ?_
      obtain ⟨v4, hv4, hf⟩ := bd_e hf
      refine ml_st E hR hv4 dX9_nights_30 ?_
      refine lv_iload_n E.hx E.hb dX9_nights_31 rfl (lv_at hl 1 rfl) ?_
      refine lv_iadd E.hx E.hb dX9_nights_32 ?_
      refine lv_sipush (v := 999) E.hx E.hb dX9_nights_33 (by decide) ?_
      refine lv_icmp_le (tgt := 42) E.hx E.hb dX9_nights_36 (by decide) (fun c5 => ?_) (fun c5 => ?_)
      · have hf := it_t hf c5
        refine lv_iconst (v := 0) E.hx E.hb dX9_nights_42 (by decide) ?_
        refine lv_istore_n (lv' := [(2, .int 0), (0, .ref o), (1, .int x1)]) E.hx E.hb dX9_nights_43 rfl hl (by decide) rfl (fun ls hl => ?_)
        exact wX9_nights_L44 E  2000 σ _ _ hf _ _ _ hR hS (lv_sub hl [1, 2, 0] rfl)
      · have hf := it_f hf c5
        refine lv_ldc (v := (-1000003)) E.hx E.hb E.ho (E.ht _ q1349) dX9_nights_39 ?_
        obtain ⟨rfl, rfl⟩ := rt_e hf
        exact mret_i E hR hS dX9_nights_41
    · have hf := it_t hf c3
      refine lv_ldc (v := (-1000001)) E.hx E.hb E.ho (E.ht _ q1319) dX9_nights_22 ?_
      obtain ⟨rfl, rfl⟩ := rt_e hf
      exact mret_i E hR hS dX9_nights_24
  · have hf := it_t hf c1
    refine lv_ldc (v := (-1000002)) E.hx E.hb E.ho (E.ht _ q1395) dX9_nights_7 ?_
    obtain ⟨rfl, rfl⟩ := rt_e hf
    exact mret_i E hR hS dX9_nights_9
theorem tX9_nights (l : Launch) {G : va_G} {cI cZ : ClassId} {o : Nat} {σ σf : MS} {x1 : Int32} {r : Int32} (hf : fX9_nights σ x1 = some (r, σf)) : Met l yX9_nights (ws_ yX9_nights cX9_nights 3 (some .int)) rmX9_nights (mPc G cI cZ o σ [.ref o, .int x1]) (mQi G cI cZ o r σf) 0 0 (mA o) := by
  refine Met.ofW (cc := cX9_nights) (maxL := 3) (ret := (some .int)) (by decide) rfl ?_
  intro p e s m args below meth c s₁ B hml hv
  obtain ⟨rfl, hR, hK⟩ := hv
  have hts := atoms_spec (ws := (ws_ yX9_nights cX9_nights 3 (some .int))) B.pre
  rw [lg_entry_eq]
  exact wX9_nights_0 (E := ⟨⟨B.exec, B.bytes, hml, findClass_of_methodNamed B.named, fun w h => hts w (List.mem_cons_of_mem _ h)⟩, hK, B.returns, B.notSynchronized⟩) hf _ _ _ hR va_S.rf (lv_entry [.ref o, .int x1] (n := 3) (Nat.le_of_ble_eq_true rfl))

abbrev rmX9_isChair : Room := { frames := 2, cells := 0, slots := 0, locals := 37 }
def fX9_isChair  (σ : MS) (x1 : Int32) : Option (Int32 × MS) :=
  (rd (σ 4) 41 2).bind fun v1 =>
  (fX9_in (x1.toInt64) 0 ((v1 - 1).toInt64)).bind fun v2 =>
  (bz v2).bind fun v3 =>
  some (v3, σ)
theorem wX9_isChair_0 (E : mE p m c cX9_isChair 2 s args G cI cZ meth (some .boolean)) {σ : MS} {x1 : Int32} (hf : fX9_isChair σ x1 = some (r, σf)) : ∀ (H : Heap) (locs : List Loc) (ls : Array Slot), mR G cI cZ o σ H → va_S (mA o) s.heap H locs → lv_has ls 2 [(0, .ref o), (1, .int x1)] → W p l e rmX9_isChair s m args below meth c H locs 0 0 (MQ below (mQi G cI cZ o r σf) args s 0 0 (mA o)) (F0 m 0 ls []) := by
  intro H locs ls hR hS hl
  refine lv_iload_n E.hx E.hb dX9_isChair_0 rfl (lv_at hl 1 rfl) ?_
  refine lv_i2l E.hx E.hb dX9_isChair_1 rfl ?_
  refine lv_lconst (v := 0) E.hx E.hb dX9_isChair_2 (by decide) ?_
  refine lv_aload_n E.hx E.hb dX9_isChair_3 rfl (lv_at hl 0 rfl) ?_
  refine mg_st E hR dX9_isChair_4 ?_
  refine lv_iconst (v := 2) E.hx E.hb dX9_isChair_7 (by decide) ?_
  obtain ⟨v1, hv1, hf⟩ := bd_e hf
  refine ml_st E hR hv1 dX9_isChair_8 ?_
  refine lv_iconst (v := 1) E.hx E.hb dX9_isChair_9 (by decide) ?_
  refine lv_isub E.hx E.hb dX9_isChair_10 ?_
  refine lv_i2l E.hx E.hb dX9_isChair_11 rfl ?_
  obtain ⟨v2, hv2, hf⟩ := bd_e hf
  refine scall_i (rest := []) E.1 (tX9_in l hv2) (cwX9_57 E.ht ⟨Nat.le_of_ble_eq_true rfl, Nat.le_of_ble_eq_true rfl⟩) rfl hl.1 rfl (Nat.le_of_ble_eq_true rfl) dX9_isChair_12 ⟨Nat.le_refl 0, Nat.le_refl 0⟩ ?_
  obtain ⟨v3, hv3, hf⟩ := bd_e hf
  obtain ⟨hz, rfl⟩ := bz_e hv3
  obtain ⟨rfl, rfl⟩ := rt_e hf
  exact mret_z E hz hR hS dX9_isChair_15
theorem tX9_isChair (l : Launch) {G : va_G} {cI cZ : ClassId} {o : Nat} {σ σf : MS} {x1 : Int32} {r : Int32} (hf : fX9_isChair σ x1 = some (r, σf)) : Met l yX9_isChair (ws_ yX9_isChair cX9_isChair 2 (some .boolean)) rmX9_isChair (mPc G cI cZ o σ [.ref o, .int x1]) (mQi G cI cZ o r σf) 0 0 (mA o) := by
  refine Met.ofW (cc := cX9_isChair) (maxL := 2) (ret := (some .boolean)) (by decide) rfl ?_
  intro p e s m args below meth c s₁ B hml hv
  obtain ⟨rfl, hR, hK⟩ := hv
  have hts := atoms_spec (ws := (ws_ yX9_isChair cX9_isChair 2 (some .boolean))) B.pre
  rw [lg_entry_eq]
  exact wX9_isChair_0 (E := ⟨⟨B.exec, B.bytes, hml, findClass_of_methodNamed B.named, fun w h => hts w (List.mem_cons_of_mem _ h)⟩, hK, B.returns, B.notSynchronized⟩) hf _ _ _ hR va_S.rf (lv_entry [.ref o, .int x1] (n := 2) (Nat.le_of_ble_eq_true rfl))

theorem cwX9_178 {R : Room} {s : State} {args : Array Value} (ht : ∀ w ∈ lw_all, w.before args s = true) (hR : rmX9_isChair.frames + 1 ≤ R.frames ∧ 8 + (2 + 11) + rmX9_isChair.locals ≤ R.locals) : CallW R s args RX9 RX9 178 yX9_isChair cX9_isChair 2 (some .boolean) (ws_ yX9_isChair cX9_isChair 2 (some .boolean)) rmX9_isChair 0 0 1 :=
  cwV 1 ht (lw_V q1440 q1442 qs48 q80 q1443) rfl rfl rfl (by decide +kernel) hR
abbrev rmX9_cushions : Room := { frames := 3, cells := 0, slots := 0, locals := 58 }
def fX9_cushions  (σ : MS) (x1 : Int32) (x2 : Int32) : Option (Int32 × MS) :=
  (fX9_isChair σ x1).bind fun (v2, σ1) =>
  if v2 = 0 then (some ((-1000001), σ1)) else ((fX9_in (x2.toInt64) 0 20).bind fun v4 =>
  if v4 = 0 then (some ((-1000001), σ1)) else ((fX9_note σ1).bind fun σ6 =>
  (rd (σ6 4) 41 (29 + x1)).bind fun v7 =>
  (mwr σ6 4 41 (29 + x1) x2).bind fun σ8 =>
  some (v7, σ8)))
theorem wX9_cushions_0 (E : mE p m c cX9_cushions 4 s args G cI cZ meth (some .int)) {σ : MS} {x1 : Int32} {x2 : Int32} (hf : fX9_cushions σ x1 x2 = some (r, σf)) : ∀ (H : Heap) (locs : List Loc) (ls : Array Slot), mR G cI cZ o σ H → va_S (mA o) s.heap H locs → lv_has ls 4 [(0, .ref o), (1, .int x1), (2, .int x2)] → W p l e rmX9_cushions s m args below meth c H locs 0 0 (MQ below (mQi G cI cZ o r σf) args s 0 0 (mA o)) (F0 m 0 ls []) := by
  intro H locs ls hR hS hl
  refine lv_aload_n E.hx E.hb dX9_cushions_0 rfl (lv_at hl 0 rfl) ?_
  refine lv_iload_n E.hx E.hb dX9_cushions_1 rfl (lv_at hl 1 rfl) ?_
  obtain ⟨⟨v2, σ1⟩, hv2, hf⟩ := bd_e hf
  refine mcall_i (rest := []) E hR hS (tX9_isChair l hv2) (cwX9_178 E.ht ⟨Nat.le_of_ble_eq_true rfl, Nat.le_of_ble_eq_true rfl⟩) rfl hl.1 rfl (Nat.le_of_ble_eq_true rfl) dX9_cushions_2 ⟨Nat.le_refl 0, Nat.le_refl 0⟩ (fun H locs hR hS => ?_)
  refine lv_if_eq (tgt := 20) E.hx E.hb dX9_cushions_5 (by decide) (fun c3 => ?_) (fun c3 => ?_)
  · have hf := it_t hf c3
    refine lv_ldc (v := (-1000001)) E.hx E.hb E.ho (E.ht _ q1319) dX9_cushions_20 ?_
    obtain ⟨rfl, rfl⟩ := rt_e hf
    exact mret_i E hR hS dX9_cushions_22
  · have hf := it_f hf c3
    refine lv_iload_n E.hx E.hb dX9_cushions_8 rfl (lv_at hl 2 rfl) ?_
    refine lv_i2l E.hx E.hb dX9_cushions_9 rfl ?_
    refine lv_lconst (v := 0) E.hx E.hb dX9_cushions_10 (by decide) ?_
    refine lv_ldc2 (v := 20) E.hx E.hb E.ho (E.ht _ q1444) dX9_cushions_11 ?_
    obtain ⟨v4, hv4, hf⟩ := bd_e hf
    refine scall_i (rest := []) E.1 (tX9_in l hv4) (cwX9_57 E.ht ⟨Nat.le_of_ble_eq_true rfl, Nat.le_of_ble_eq_true rfl⟩) rfl hl.1 rfl (Nat.le_of_ble_eq_true rfl) dX9_cushions_14 ⟨Nat.le_refl 0, Nat.le_refl 0⟩ ?_
    refine lv_if_ne (tgt := 23) E.hx E.hb dX9_cushions_17 (by decide) (fun c5 => ?_) (fun c5 => ?_)
    · have hf := it_f hf c5
      refine lv_aload_n E.hx E.hb dX9_cushions_23 rfl (lv_at hl 0 rfl) ?_
      obtain ⟨σ6, hσ6, hf⟩ := bd_e hf
      refine mcall_v (rest := []) E hR hS (tX9_note l hσ6) (cwX9_172 E.ht ⟨Nat.le_of_ble_eq_true rfl, Nat.le_of_ble_eq_true rfl⟩) rfl hl.1 rfl (Nat.le_of_ble_eq_true rfl) dX9_cushions_24 ⟨Nat.le_refl 0, Nat.le_refl 0⟩ (fun H locs hR hS => ?_)
      refine lv_aload_n E.hx E.hb dX9_cushions_27 rfl (lv_at hl 0 rfl) ?_
      refine mg_st E hR dX9_cushions_28 ?_
      refine lv_bipush (v := 29) E.hx E.hb dX9_cushions_31 (by decide) ?_
      refine lv_iload_n E.hx E.hb dX9_cushions_33 rfl (lv_at hl 1 rfl) ?_
      refine lv_iadd E.hx E.hb dX9_cushions_34 ?_
      obtain ⟨v7, hv7, hf⟩ := bd_e hf
      refine ml_st E hR hv7 dX9_cushions_35 ?_
      refine lv_istore_n (lv' := [(3, .int v7), (0, .ref o), (1, .int x1), (2, .int x2)]) E.hx E.hb dX9_cushions_36 rfl hl (by decide) rfl (fun ls hl => ?_)
      refine lv_aload_n E.hx E.hb dX9_cushions_37 rfl (lv_at hl 1 rfl) ?_
      refine mg_st E hR dX9_cushions_38 ?_
      refine lv_bipush (v := 29) E.hx E.hb dX9_cushions_41 (by decide) ?_
      refine lv_iload_n E.hx E.hb dX9_cushions_43 rfl (lv_at hl 2 rfl) ?_
      refine lv_iadd E.hx E.hb dX9_cushions_44 ?_
      refine lv_iload_n E.hx E.hb dX9_cushions_45 rfl (lv_at hl 3 rfl) ?_
      obtain ⟨σ8, hσ8, hf⟩ := bd_e hf
      refine ms_st E hR hS hσ8 dX9_cushions_46 (fun H locs hR hS => ?_)
      refine lv_iload_n E.hx E.hb dX9_cushions_47 rfl (lv_at hl 0 rfl) ?_
      obtain ⟨rfl, rfl⟩ := rt_e hf
      exact mret_i E hR hS dX9_cushions_48
    · have hf := it_t hf c5
      refine lv_ldc (v := (-1000001)) E.hx E.hb E.ho (E.ht _ q1319) dX9_cushions_20 ?_
      obtain ⟨rfl, rfl⟩ := rt_e hf
      exact mret_i E hR hS dX9_cushions_22
theorem tX9_cushions (l : Launch) {G : va_G} {cI cZ : ClassId} {o : Nat} {σ σf : MS} {x1 : Int32} {x2 : Int32} {r : Int32} (hf : fX9_cushions σ x1 x2 = some (r, σf)) : Met l yX9_cushions (ws_ yX9_cushions cX9_cushions 4 (some .int)) rmX9_cushions (mPc G cI cZ o σ [.ref o, .int x1, .int x2]) (mQi G cI cZ o r σf) 0 0 (mA o) := by
  refine Met.ofW (cc := cX9_cushions) (maxL := 4) (ret := (some .int)) (by decide) rfl ?_
  intro p e s m args below meth c s₁ B hml hv
  obtain ⟨rfl, hR, hK⟩ := hv
  have hts := atoms_spec (ws := (ws_ yX9_cushions cX9_cushions 4 (some .int))) B.pre
  rw [lg_entry_eq]
  exact wX9_cushions_0 (E := ⟨⟨B.exec, B.bytes, hml, findClass_of_methodNamed B.named, fun w h => hts w (List.mem_cons_of_mem _ h)⟩, hK, B.returns, B.notSynchronized⟩) hf _ _ _ hR va_S.rf (lv_entry [.ref o, .int x1, .int x2] (n := 4) (Nat.le_of_ble_eq_true rfl))

abbrev rmX9_glue : Room := { frames := 1, cells := 0, slots := 0, locals := 12 }
def fX9_glue_b37  (σ : MS) (s1 : Int32) (s2 : Int32) : Option MS :=
  (mwr σ 4 41 s1 s2).bind fun σ1 =>
  some σ1
theorem wX9_glue_b37 (E : mE p m c cX9_glue 3 s args G cI cZ meth none) {σ : MS} {s1 : Int32} {s2 : Int32} (hf : fX9_glue_b37 σ s1 s2 = some σf) : ∀ (H : Heap) (locs : List Loc) (ls : Array Slot), mR G cI cZ o σ H → va_S (mA o) s.heap H locs → lv_has ls 3 [] → W p l e rmX9_glue s m args below meth c H locs 0 0 (MQ below (mQv G cI cZ o σf) args s 0 0 (mA o)) (F0 m 37 ls [.int s2, .int s1, .ref (o + 4)]) := by
  intro H locs ls hR hS hl
  obtain ⟨σ1, hσ1, hf⟩ := bd_e hf
  refine ms_st E hR hS hσ1 dX9_glue_37 (fun H locs hR hS => ?_)
  obtain rfl := Option.some.inj hf
  exact mret_v E hR hS dX9_glue_38
def fX9_glue  (σ : MS) (x1 : Int32) : Option MS :=
  (rd (σ 4) 41 (11 + x1)).bind fun v1 =>
  (rd (σ 4) 41 1).bind fun v2 =>
  if (v1 + v2) ≤ 60 then (fX9_glue_b37 σ (11 + x1) (v1 + v2)) else (fX9_glue_b37 σ (11 + x1) 60)
theorem wX9_glue_0 (E : mE p m c cX9_glue 3 s args G cI cZ meth none) {σ : MS} {x1 : Int32} (hf : fX9_glue σ x1 = some σf) : ∀ (H : Heap) (locs : List Loc) (ls : Array Slot), mR G cI cZ o σ H → va_S (mA o) s.heap H locs → lv_has ls 3 [(0, .ref o), (1, .int x1)] → W p l e rmX9_glue s m args below meth c H locs 0 0 (MQ below (mQv G cI cZ o σf) args s 0 0 (mA o)) (F0 m 0 ls []) := by
  intro H locs ls hR hS hl
  refine lv_aload_n E.hx E.hb dX9_glue_0 rfl (lv_at hl 0 rfl) ?_
  refine mg_st E hR dX9_glue_1 ?_
  refine lv_bipush (v := 11) E.hx E.hb dX9_glue_4 (by decide) ?_
  refine lv_iload_n E.hx E.hb dX9_glue_6 rfl (lv_at hl 1 rfl) ?_
  refine lv_iadd E.hx E.hb dX9_glue_7 ?_
  obtain ⟨v1, hv1, hf⟩ := bd_e hf
  refine ml_st E hR hv1 dX9_glue_8 ?_
  refine lv_aload_n E.hx E.hb dX9_glue_9 rfl (lv_at hl 0 rfl) ?_
  refine mg_st E hR dX9_glue_10 ?_
  refine lv_iconst (v := 1) E.hx E.hb dX9_glue_13 (by decide) ?_
  obtain ⟨v2, hv2, hf⟩ := bd_e hf
  refine ml_st E hR hv2 dX9_glue_14 ?_
  refine lv_iadd E.hx E.hb dX9_glue_15 ?_
  refine lv_istore_n (lv' := [(2, .int (v1 + v2)), (0, .ref o), (1, .int x1)]) E.hx E.hb dX9_glue_16 rfl hl (by decide) rfl (fun ls hl => ?_)
  refine lv_aload_n E.hx E.hb dX9_glue_17 rfl (lv_at hl 1 rfl) ?_
  refine mg_st E hR dX9_glue_18 ?_
  refine lv_bipush (v := 11) E.hx E.hb dX9_glue_21 (by decide) ?_
  refine lv_iload_n E.hx E.hb dX9_glue_23 rfl (lv_at hl 2 rfl) ?_
  refine lv_iadd E.hx E.hb dX9_glue_24 ?_
  refine lv_iload_n E.hx E.hb dX9_glue_25 rfl (lv_at hl 0 rfl) ?_
  refine lv_bipush (v := 60) E.hx E.hb dX9_glue_26 (by decide) ?_
  refine lv_icmp_le (tgt := 36) E.hx E.hb dX9_glue_28 (by decide) (fun c3 => ?_) (fun c3 => ?_)
  · have hf := it_t hf c3
    refine lv_iload_n E.hx E.hb dX9_glue_36 rfl (lv_at hl 0 rfl) ?_
    exact wX9_glue_b37 E  hf _ _ _ hR hS (lv_sub hl [] rfl)
  · have hf := it_f hf c3
    refine lv_bipush (v := 60) E.hx E.hb dX9_glue_31 (by decide) ?_
    refine lv_goto (tgt := 37) E.hx E.hb dX9_glue_33 (by decide) ?_
    exact wX9_glue_b37 E  hf _ _ _ hR hS (lv_sub hl [] rfl)
theorem tX9_glue (l : Launch) {G : va_G} {cI cZ : ClassId} {o : Nat} {σ σf : MS} {x1 : Int32}  (hf : fX9_glue σ x1 = some σf) : Met l yX9_glue (ws_ yX9_glue cX9_glue 3 none) rmX9_glue (mPc G cI cZ o σ [.ref o, .int x1]) (mQv G cI cZ o σf) 0 0 (mA o) := by
  refine Met.ofW (cc := cX9_glue) (maxL := 3) (ret := none) (by decide) rfl ?_
  intro p e s m args below meth c s₁ B hml hv
  obtain ⟨rfl, hR, hK⟩ := hv
  have hts := atoms_spec (ws := (ws_ yX9_glue cX9_glue 3 none)) B.pre
  rw [lg_entry_eq]
  exact wX9_glue_0 (E := ⟨⟨B.exec, B.bytes, hml, findClass_of_methodNamed B.named, fun w h => hts w (List.mem_cons_of_mem _ h)⟩, hK, B.returns, B.notSynchronized⟩) hf _ _ _ hR va_S.rf (lv_entry [.ref o, .int x1] (n := 3) (Nat.le_of_ble_eq_true rfl))

theorem cwX9_183 {R : Room} {s : State} {args : Array Value} (ht : ∀ w ∈ lw_all, w.before args s = true) (hR : rmX9_glue.frames + 1 ≤ R.frames ∧ 8 + (3 + 11) + rmX9_glue.locals ≤ R.locals) : CallW R s args RX9 RX9 183 yX9_glue cX9_glue 3 none (ws_ yX9_glue cX9_glue 3 none) rmX9_glue 0 0 1 :=
  cwV 1 ht (lw_V q1449 q1451 qs49 q80 q1452) rfl rfl rfl (by decide +kernel) hR
abbrev rmX9_mend : Room := { frames := 3, cells := 0, slots := 0, locals := 58 }
def fX9_mend  (σ : MS) (x1 : Int32) : Option (Int32 × MS) :=
  (fX9_isChair σ x1).bind fun (v2, σ1) =>
  if v2 = 0 then (some ((-1000001), σ1)) else ((rd (σ1 4) 41 (11 + x1)).bind fun v4 =>
  if v4 = 60 then (some ((-1000003), σ1)) else ((fX9_note σ1).bind fun σ6 =>
  (fX9_glue σ6 x1).bind fun σ7 =>
  (rd (σ7 4) 41 (11 + x1)).bind fun v8 =>
  some (v8, σ7)))
theorem wX9_mend_0 (E : mE p m c cX9_mend 2 s args G cI cZ meth (some .int)) {σ : MS} {x1 : Int32} (hf : fX9_mend σ x1 = some (r, σf)) : ∀ (H : Heap) (locs : List Loc) (ls : Array Slot), mR G cI cZ o σ H → va_S (mA o) s.heap H locs → lv_has ls 2 [(0, .ref o), (1, .int x1)] → W p l e rmX9_mend s m args below meth c H locs 0 0 (MQ below (mQi G cI cZ o r σf) args s 0 0 (mA o)) (F0 m 0 ls []) := by
  intro H locs ls hR hS hl
  refine lv_aload_n E.hx E.hb dX9_mend_0 rfl (lv_at hl 0 rfl) ?_
  refine lv_iload_n E.hx E.hb dX9_mend_1 rfl (lv_at hl 1 rfl) ?_
  obtain ⟨⟨v2, σ1⟩, hv2, hf⟩ := bd_e hf
  refine mcall_i (rest := []) E hR hS (tX9_isChair l hv2) (cwX9_178 E.ht ⟨Nat.le_of_ble_eq_true rfl, Nat.le_of_ble_eq_true rfl⟩) rfl hl.1 rfl (Nat.le_of_ble_eq_true rfl) dX9_mend_2 ⟨Nat.le_refl 0, Nat.le_refl 0⟩ (fun H locs hR hS => ?_)
  refine lv_if_ne (tgt := 11) E.hx E.hb dX9_mend_5 (by decide) (fun c3 => ?_) (fun c3 => ?_)
  · have hf := it_f hf c3
    refine lv_aload_n E.hx E.hb dX9_mend_11 rfl (lv_at hl 0 rfl) ?_
    refine mg_st E hR dX9_mend_12 ?_
    refine lv_bipush (v := 11) E.hx E.hb dX9_mend_15 (by decide) ?_
    refine lv_iload_n E.hx E.hb dX9_mend_17 rfl (lv_at hl 1 rfl) ?_
    refine lv_iadd E.hx E.hb dX9_mend_18 ?_
    obtain ⟨v4, hv4, hf⟩ := bd_e hf
    refine ml_st E hR hv4 dX9_mend_19 ?_
    refine lv_bipush (v := 60) E.hx E.hb dX9_mend_20 (by decide) ?_
    refine lv_icmp_ne (tgt := 28) E.hx E.hb dX9_mend_22 (by decide) (fun c5 => ?_) (fun c5 => ?_)
    · have hf := it_f hf c5
      refine lv_aload_n E.hx E.hb dX9_mend_28 rfl (lv_at hl 0 rfl) ?_
      obtain ⟨σ6, hσ6, hf⟩ := bd_e hf
      refine mcall_v (rest := []) E hR hS (tX9_note l hσ6) (cwX9_172 E.ht ⟨Nat.le_of_ble_eq_true rfl, Nat.le_of_ble_eq_true rfl⟩) rfl hl.1 rfl (Nat.le_of_ble_eq_true rfl) dX9_mend_29 ⟨Nat.le_refl 0, Nat.le_refl 0⟩ (fun H locs hR hS => ?_)
      refine lv_aload_n E.hx E.hb dX9_mend_32 rfl (lv_at hl 0 rfl) ?_
      refine lv_iload_n E.hx E.hb dX9_mend_33 rfl (lv_at hl 1 rfl) ?_
      obtain ⟨σ7, hσ7, hf⟩ := bd_e hf
      refine mcall_v (rest := []) E hR hS (tX9_glue l hσ7) (cwX9_183 E.ht ⟨Nat.le_of_ble_eq_true rfl, Nat.le_of_ble_eq_true rfl⟩) rfl hl.1 rfl (Nat.le_of_ble_eq_true rfl) dX9_mend_34 ⟨Nat.le_refl 0, Nat.le_refl 0⟩ (fun H locs hR hS => ?_)
      refine lv_aload_n E.hx E.hb dX9_mend_37 rfl (lv_at hl 0 rfl) ?_
      refine mg_st E hR dX9_mend_38 ?_
      refine lv_bipush (v := 11) E.hx E.hb dX9_mend_41 (by decide) ?_
      refine lv_iload_n E.hx E.hb dX9_mend_43 rfl (lv_at hl 1 rfl) ?_
      refine lv_iadd E.hx E.hb dX9_mend_44 ?_
      obtain ⟨v8, hv8, hf⟩ := bd_e hf
      refine ml_st E hR hv8 dX9_mend_45 ?_
      obtain ⟨rfl, rfl⟩ := rt_e hf
      exact mret_i E hR hS dX9_mend_46
    · have hf := it_t hf c5
      refine lv_ldc (v := (-1000003)) E.hx E.hb E.ho (E.ht _ q1349) dX9_mend_25 ?_
      obtain ⟨rfl, rfl⟩ := rt_e hf
      exact mret_i E hR hS dX9_mend_27
  · have hf := it_t hf c3
    refine lv_ldc (v := (-1000001)) E.hx E.hb E.ho (E.ht _ q1319) dX9_mend_8 ?_
    obtain ⟨rfl, rfl⟩ := rt_e hf
    exact mret_i E hR hS dX9_mend_10
theorem tX9_mend (l : Launch) {G : va_G} {cI cZ : ClassId} {o : Nat} {σ σf : MS} {x1 : Int32} {r : Int32} (hf : fX9_mend σ x1 = some (r, σf)) : Met l yX9_mend (ws_ yX9_mend cX9_mend 2 (some .int)) rmX9_mend (mPc G cI cZ o σ [.ref o, .int x1]) (mQi G cI cZ o r σf) 0 0 (mA o) := by
  refine Met.ofW (cc := cX9_mend) (maxL := 2) (ret := (some .int)) (by decide) rfl ?_
  intro p e s m args below meth c s₁ B hml hv
  obtain ⟨rfl, hR, hK⟩ := hv
  have hts := atoms_spec (ws := (ws_ yX9_mend cX9_mend 2 (some .int))) B.pre
  rw [lg_entry_eq]
  exact wX9_mend_0 (E := ⟨⟨B.exec, B.bytes, hml, findClass_of_methodNamed B.named, fun w h => hts w (List.mem_cons_of_mem _ h)⟩, hK, B.returns, B.notSynchronized⟩) hf _ _ _ hR va_S.rf (lv_entry [.ref o, .int x1] (n := 2) (Nat.le_of_ble_eq_true rfl))

abbrev rmX9_ones : Room := { frames := 1, cells := 0, slots := 0, locals := 12 }
def fX9_ones_L4  : Nat → Int32 → Int32 → Option Int32
  | 0, _, _ => none
  | n + 1, x1, x2 =>
    if x2 = 0 then (some x1) else ((fX9_ones_L4 n) (x1 + 1) (x2 &&& (x2 - 1)))
theorem wX9_ones_L4 (E : sE p m c cX9_ones 3 s args RX9 meth (some .int)) : ∀ (n : Nat)  (x1 : Int32) (x2 : Int32), fX9_ones_L4 n x1 x2 = some r → ∀ (ls : Array Slot), lv_has ls 3 [(1, .int x1), (2, .int x2)] → W p l e rmX9_ones s m args below meth c s.heap [] 0 0 (MQ below (sQi r) args s 0 0 (fun _ => False)) (F0 m 4 ls []) := by
  intro n
  induction n with
  | zero =>
    intro x1 x2 hf
    have hf : none = some r := hf
    cases hf
  | succ n ih =>
    intro x1 x2 hf ls hl
    refine lv_iload_n E.hx E.hb dX9_ones_4 rfl (lv_at hl 1 rfl) ?_
    refine lv_if_eq (tgt := 20) E.hx E.hb dX9_ones_5 (by decide) (fun c1 => ?_) (fun c1 => ?_)
    · have hf := it_t hf c1
      refine lv_iload_n E.hx E.hb dX9_ones_20 rfl (lv_at hl 0 rfl) ?_
      obtain rfl := Option.some.inj hf
      exact sret_i E dX9_ones_21
    · have hf := it_f hf c1
      refine lv_iinc (v := (x1 + 1)) (lv' := [(1, .int (x1 + 1)), (2, .int x2)]) E.hx E.hb dX9_ones_8 hl (k := 0) rfl rfl (by decide) rfl (fun ls hl => ?_)
      refine lv_iload_n E.hx E.hb dX9_ones_11 rfl (lv_at hl 1 rfl) ?_
      refine lv_iload_n E.hx E.hb dX9_ones_12 rfl (lv_at hl 1 rfl) ?_
      refine lv_iconst (v := 1) E.hx E.hb dX9_ones_13 (by decide) ?_
      refine lv_isub E.hx E.hb dX9_ones_14 ?_
      refine lv_iand E.hx E.hb dX9_ones_15 ?_
      refine lv_istore_n (lv' := [(2, .int (x2 &&& (x2 - 1))), (1, .int (x1 + 1))]) E.hx E.hb dX9_ones_16 rfl hl (by decide) rfl (fun ls hl => ?_)
      refine lv_goto (tgt := 4) E.hx E.hb dX9_ones_17 (by decide) ?_
      exact ih _ _ hf _ (lv_sub hl [1, 0] rfl)
def fX9_ones   (x0 : Int32) : Option Int32 :=
  fX9_ones_L4 2000 0 x0
theorem wX9_ones_0 (E : sE p m c cX9_ones 3 s args RX9 meth (some .int))  {x0 : Int32} (hf : fX9_ones x0 = some r) : ∀ (ls : Array Slot), lv_has ls 3 [(0, .int x0)] → W p l e rmX9_ones s m args below meth c s.heap [] 0 0 (MQ below (sQi r) args s 0 0 (fun _ => False)) (F0 m 0 ls []) := by
  intro ls hl
  refine lv_iconst (v := 0) E.hx E.hb dX9_ones_0 (by decide) ?_
  refine lv_istore_n (lv' := [(1, .int 0), (0, .int x0)]) E.hx E.hb dX9_ones_1 rfl hl (by decide) rfl (fun ls hl => ?_)
  refine lv_iload_n E.hx E.hb dX9_ones_2 rfl (lv_at hl 1 rfl) ?_
  refine lv_istore_n (lv' := [(2, .int x0), (1, .int 0), (0, .int x0)]) E.hx E.hb dX9_ones_3 rfl hl (by decide) rfl (fun ls hl => ?_)
  exact wX9_ones_L4 E  2000 _ _ hf _ (lv_sub hl [1, 0] rfl)
theorem tX9_ones (l : Launch) {x0 : Int32} {r : Int32} (hf : fX9_ones x0 = some r) : Met l yX9_ones (ws_ yX9_ones cX9_ones 3 (some .int)) rmX9_ones (sPc [.int x0]) (sQi r) 0 0 (fun _ => False) := by
  refine Met.ofW (cc := cX9_ones) (maxL := 3) (ret := (some .int)) (by decide) rfl ?_
  intro p e s m args below meth c s₁ B hml hv
  obtain ⟨rfl, -⟩ := hv
  have hts := atoms_spec (ws := (ws_ yX9_ones cX9_ones 3 (some .int))) B.pre
  rw [lg_entry_eq]
  exact wX9_ones_0 (E := ⟨⟨B.exec, B.bytes, hml, findClass_of_methodNamed B.named, fun w h => hts w (List.mem_cons_of_mem _ h)⟩, B.returns, B.notSynchronized⟩) hf _ (lv_entry [.int x0] (n := 3) (Nat.le_of_ble_eq_true rfl))

theorem cwX9_187 {R : Room} {s : State} {args : Array Value} (ht : ∀ w ∈ lw_all, w.before args s = true) (hR : rmX9_ones.frames + 1 ≤ R.frames ∧ 8 + (3 + 11) + rmX9_ones.locals ≤ R.locals) : CallB R s args RX9 187 yX9_ones cX9_ones 3 (some .int) (ws_ yX9_ones cX9_ones 3 (some .int)) rmX9_ones 0 0 1 ∧ (Cond.static yX9_ones).before args s = true :=
  va_cwS 1 ht (lw_S q1457 q1458 q80 q1459) rfl rfl rfl (by decide +kernel) hR
abbrev rmX9_watch : Room := { frames := 3, cells := 0, slots := 0, locals := 58 }
def fX9_watch_b73  (σ : MS) (x1 : Int32) : Option (Int32 × MS) :=
  (fX9_note σ).bind fun σ1 =>
  (rd (σ1 4) 41 4).bind fun v2 =>
  (mwr σ1 4 41 4 (v2 ^^^ (1 <<< (x1 &&& 31)))).bind fun σ3 =>
  (rd (σ3 4) 41 4).bind fun v4 =>
  some (v4, σ3)
theorem wX9_watch_b73 (E : mE p m c cX9_watch 3 s args G cI cZ meth (some .int)) {σ : MS} {x1 : Int32} (hf : fX9_watch_b73 σ x1 = some (r, σf)) : ∀ (H : Heap) (locs : List Loc) (ls : Array Slot), mR G cI cZ o σ H → va_S (mA o) s.heap H locs → lv_has ls 3 [(0, .ref o), (1, .int x1)] → W p l e rmX9_watch s m args below meth c H locs 0 0 (MQ below (mQi G cI cZ o r σf) args s 0 0 (mA o)) (F0 m 73 ls []) := by
  intro H locs ls hR hS hl
  refine lv_aload_n E.hx E.hb dX9_watch_73 rfl (lv_at hl 0 rfl) ?_
  obtain ⟨σ1, hσ1, hf⟩ := bd_e hf
  refine mcall_v (rest := []) E hR hS (tX9_note l hσ1) (cwX9_172 E.ht ⟨Nat.le_of_ble_eq_true rfl, Nat.le_of_ble_eq_true rfl⟩) rfl hl.1 rfl (Nat.le_of_ble_eq_true rfl) dX9_watch_74 ⟨Nat.le_refl 0, Nat.le_refl 0⟩ (fun H locs hR hS => ?_)
  refine lv_aload_n E.hx E.hb dX9_watch_77 rfl (lv_at hl 0 rfl) ?_
  refine mg_st E hR dX9_watch_78 ?_
  refine lv_iconst (v := 4) E.hx E.hb dX9_watch_81 (by decide) ?_
  refine lv_dup2_11 E.hx E.hb dX9_watch_82 rfl rfl ?_
  obtain ⟨v2, hv2, hf⟩ := bd_e hf
  refine ml_st E hR hv2 dX9_watch_83 ?_
  refine lv_iconst (v := 1) E.hx E.hb dX9_watch_84 (by decide) ?_
  refine lv_iload_n E.hx E.hb dX9_watch_85 rfl (lv_at hl 1 rfl) ?_
  refine lv_ishl E.hx E.hb dX9_watch_86 ?_
  refine lv_ixor E.hx E.hb dX9_watch_87 ?_
  obtain ⟨σ3, hσ3, hf⟩ := bd_e hf
  refine ms_st E hR hS hσ3 dX9_watch_88 (fun H locs hR hS => ?_)
  refine lv_aload_n E.hx E.hb dX9_watch_89 rfl (lv_at hl 0 rfl) ?_
  refine mg_st E hR dX9_watch_90 ?_
  refine lv_iconst (v := 4) E.hx E.hb dX9_watch_93 (by decide) ?_
  obtain ⟨v4, hv4, hf⟩ := bd_e hf
  refine ml_st E hR hv4 dX9_watch_94 ?_
  obtain ⟨rfl, rfl⟩ := rt_e hf
  exact mret_i E hR hS dX9_watch_95
def fX9_watch_b41  (σ : MS) (s0 : Int32) (s1 : Int32) (x1 : Int32) (x2 : Int32) : Option (Int32 × MS) :=
  if s0 = s1 then (some ((-1000002), σ)) else (if x2 = 1 then ((rd (σ 4) 41 4).bind fun v3 =>
  (fX9_ones v3).bind fun v4 =>
  (rd (σ 4) 41 0).bind fun v5 =>
  if v4 < v5 then (fX9_watch_b73 σ x1) else (some ((-1000003), σ))) else (fX9_watch_b73 σ x1))
theorem wX9_watch_b41 (E : mE p m c cX9_watch 3 s args G cI cZ meth (some .int)) {σ : MS} {s0 : Int32} {s1 : Int32} {x1 : Int32} {x2 : Int32} (hf : fX9_watch_b41 σ s0 s1 x1 x2 = some (r, σf)) : ∀ (H : Heap) (locs : List Loc) (ls : Array Slot), mR G cI cZ o σ H → va_S (mA o) s.heap H locs → lv_has ls 3 [(0, .ref o), (1, .int x1), (2, .int x2)] → W p l e rmX9_watch s m args below meth c H locs 0 0 (MQ below (mQi G cI cZ o r σf) args s 0 0 (mA o)) (F0 m 41 ls [.int s1, .int s0]) := by
  intro H locs ls hR hS hl
  refine lv_icmp_ne (tgt := 47) E.hx E.hb dX9_watch_41 (by decide) (fun c1 => ?_) (fun c1 => ?_)
  · have hf := it_f hf c1
    refine lv_iload_n E.hx E.hb dX9_watch_47 rfl (lv_at hl 2 rfl) ?_
    refine lv_iconst (v := 1) E.hx E.hb dX9_watch_48 (by decide) ?_
    refine lv_icmp_ne (tgt := 73) E.hx E.hb dX9_watch_49 (by decide) (fun c2 => ?_) (fun c2 => ?_)
    · have hf := it_f hf c2
      exact wX9_watch_b73 E  hf _ _ _ hR hS (lv_sub hl [0, 1] rfl)
    · have hf := it_t hf c2
      refine lv_aload_n E.hx E.hb dX9_watch_52 rfl (lv_at hl 0 rfl) ?_
      refine mg_st E hR dX9_watch_53 ?_
      refine lv_iconst (v := 4) E.hx E.hb dX9_watch_56 (by decide) ?_
      obtain ⟨v3, hv3, hf⟩ := bd_e hf
      refine ml_st E hR hv3 dX9_watch_57 ?_
      obtain ⟨v4, hv4, hf⟩ := bd_e hf
      refine scall_i (rest := []) E.1 (tX9_ones l hv4) (cwX9_187 E.ht ⟨Nat.le_of_ble_eq_true rfl, Nat.le_of_ble_eq_true rfl⟩) rfl hl.1 rfl (Nat.le_of_ble_eq_true rfl) dX9_watch_58 ⟨Nat.le_refl 0, Nat.le_refl 0⟩ ?_
      refine lv_aload_n E.hx E.hb dX9_watch_61 rfl (lv_at hl 0 rfl) ?_
      refine mg_st E hR dX9_watch_62 ?_
      refine lv_iconst (v := 0) E.hx E.hb dX9_watch_65 (by decide) ?_
      obtain ⟨v5, hv5, hf⟩ := bd_e hf
      refine ml_st E hR hv5 dX9_watch_66 ?_
      refine lv_icmp_lt (tgt := 73) E.hx E.hb dX9_watch_67 (by decide) (fun c6 => ?_) (fun c6 => ?_)
      · have hf := it_t hf c6
        exact wX9_watch_b73 E  hf _ _ _ hR hS (lv_sub hl [0, 1] rfl)
      · have hf := it_f hf c6
        refine lv_ldc (v := (-1000003)) E.hx E.hb E.ho (E.ht _ q1349) dX9_watch_70 ?_
        obtain ⟨rfl, rfl⟩ := rt_e hf
        exact mret_i E hR hS dX9_watch_72
  · have hf := it_t hf c1
    refine lv_ldc (v := (-1000002)) E.hx E.hb E.ho (E.ht _ q1395) dX9_watch_44 ?_
    obtain ⟨rfl, rfl⟩ := rt_e hf
    exact mret_i E hR hS dX9_watch_46
def fX9_watch  (σ : MS) (x1 : Int32) (x2 : Int32) : Option (Int32 × MS) :=
  (fX9_isChair σ x1).bind fun (v2, σ1) =>
  if v2 = 0 then (some ((-1000001), σ1)) else ((fX9_in (x2.toInt64) 0 1).bind fun v4 =>
  if v4 = 0 then (some ((-1000001), σ1)) else ((rd (σ1 4) 41 4).bind fun v6 =>
  (fX9_has v6 x1).bind fun v7 =>
  if x2 = 1 then (fX9_watch_b41 σ1 v7 1 x1 x2) else (fX9_watch_b41 σ1 v7 0 x1 x2)))
theorem wX9_watch_0 (E : mE p m c cX9_watch 3 s args G cI cZ meth (some .int)) {σ : MS} {x1 : Int32} {x2 : Int32} (hf : fX9_watch σ x1 x2 = some (r, σf)) : ∀ (H : Heap) (locs : List Loc) (ls : Array Slot), mR G cI cZ o σ H → va_S (mA o) s.heap H locs → lv_has ls 3 [(0, .ref o), (1, .int x1), (2, .int x2)] → W p l e rmX9_watch s m args below meth c H locs 0 0 (MQ below (mQi G cI cZ o r σf) args s 0 0 (mA o)) (F0 m 0 ls []) := by
  intro H locs ls hR hS hl
  refine lv_aload_n E.hx E.hb dX9_watch_0 rfl (lv_at hl 0 rfl) ?_
  refine lv_iload_n E.hx E.hb dX9_watch_1 rfl (lv_at hl 1 rfl) ?_
  obtain ⟨⟨v2, σ1⟩, hv2, hf⟩ := bd_e hf
  refine mcall_i (rest := []) E hR hS (tX9_isChair l hv2) (cwX9_178 E.ht ⟨Nat.le_of_ble_eq_true rfl, Nat.le_of_ble_eq_true rfl⟩) rfl hl.1 rfl (Nat.le_of_ble_eq_true rfl) dX9_watch_2 ⟨Nat.le_refl 0, Nat.le_refl 0⟩ (fun H locs hR hS => ?_)
  refine lv_if_eq (tgt := 18) E.hx E.hb dX9_watch_5 (by decide) (fun c3 => ?_) (fun c3 => ?_)
  · have hf := it_t hf c3
    refine lv_ldc (v := (-1000001)) E.hx E.hb E.ho (E.ht _ q1319) dX9_watch_18 ?_
    obtain ⟨rfl, rfl⟩ := rt_e hf
    exact mret_i E hR hS dX9_watch_20
  · have hf := it_f hf c3
    refine lv_iload_n E.hx E.hb dX9_watch_8 rfl (lv_at hl 2 rfl) ?_
    refine lv_i2l E.hx E.hb dX9_watch_9 rfl ?_
    refine lv_lconst (v := 0) E.hx E.hb dX9_watch_10 (by decide) ?_
    refine lv_lconst (v := 1) E.hx E.hb dX9_watch_11 (by decide) ?_
    obtain ⟨v4, hv4, hf⟩ := bd_e hf
    refine scall_i (rest := []) E.1 (tX9_in l hv4) (cwX9_57 E.ht ⟨Nat.le_of_ble_eq_true rfl, Nat.le_of_ble_eq_true rfl⟩) rfl hl.1 rfl (Nat.le_of_ble_eq_true rfl) dX9_watch_12 ⟨Nat.le_refl 0, Nat.le_refl 0⟩ ?_
    refine lv_if_ne (tgt := 21) E.hx E.hb dX9_watch_15 (by decide) (fun c5 => ?_) (fun c5 => ?_)
    · have hf := it_f hf c5
      refine lv_aload_n E.hx E.hb dX9_watch_21 rfl (lv_at hl 0 rfl) ?_
      refine mg_st E hR dX9_watch_22 ?_
      refine lv_iconst (v := 4) E.hx E.hb dX9_watch_25 (by decide) ?_
      obtain ⟨v6, hv6, hf⟩ := bd_e hf
      refine ml_st E hR hv6 dX9_watch_26 ?_
      refine lv_iload_n E.hx E.hb dX9_watch_27 rfl (lv_at hl 1 rfl) ?_
      obtain ⟨v7, hv7, hf⟩ := bd_e hf
      refine scall_i (rest := []) E.1 (tX9_has l hv7) (cwX9_162 E.ht ⟨Nat.le_of_ble_eq_true rfl, Nat.le_of_ble_eq_true rfl⟩) rfl hl.1 rfl (Nat.le_of_ble_eq_true rfl) dX9_watch_28 ⟨Nat.le_refl 0, Nat.le_refl 0⟩ ?_
      refine lv_iload_n E.hx E.hb dX9_watch_31 rfl (lv_at hl 2 rfl) ?_
      refine lv_iconst (v := 1) E.hx E.hb dX9_watch_32 (by decide) ?_
      refine lv_icmp_ne (tgt := 40) E.hx E.hb dX9_watch_33 (by decide) (fun c8 => ?_) (fun c8 => ?_)
      · have hf := it_f hf c8
        refine lv_iconst (v := 0) E.hx E.hb dX9_watch_40 (by decide) ?_
        exact wX9_watch_b41 E  hf _ _ _ hR hS (lv_sub hl [0, 1, 2] rfl)
      · have hf := it_t hf c8
        refine lv_iconst (v := 1) E.hx E.hb dX9_watch_36 (by decide) ?_
        refine lv_goto (tgt := 41) E.hx E.hb dX9_watch_37 (by decide) ?_
        exact wX9_watch_b41 E  hf _ _ _ hR hS (lv_sub hl [0, 1, 2] rfl)
    · have hf := it_t hf c5
      refine lv_ldc (v := (-1000001)) E.hx E.hb E.ho (E.ht _ q1319) dX9_watch_18 ?_
      obtain ⟨rfl, rfl⟩ := rt_e hf
      exact mret_i E hR hS dX9_watch_20
theorem tX9_watch (l : Launch) {G : va_G} {cI cZ : ClassId} {o : Nat} {σ σf : MS} {x1 : Int32} {x2 : Int32} {r : Int32} (hf : fX9_watch σ x1 x2 = some (r, σf)) : Met l yX9_watch (ws_ yX9_watch cX9_watch 3 (some .int)) rmX9_watch (mPc G cI cZ o σ [.ref o, .int x1, .int x2]) (mQi G cI cZ o r σf) 0 0 (mA o) := by
  refine Met.ofW (cc := cX9_watch) (maxL := 3) (ret := (some .int)) (by decide) rfl ?_
  intro p e s m args below meth c s₁ B hml hv
  obtain ⟨rfl, hR, hK⟩ := hv
  have hts := atoms_spec (ws := (ws_ yX9_watch cX9_watch 3 (some .int))) B.pre
  rw [lg_entry_eq]
  exact wX9_watch_0 (E := ⟨⟨B.exec, B.bytes, hml, findClass_of_methodNamed B.named, fun w h => hts w (List.mem_cons_of_mem _ h)⟩, hK, B.returns, B.notSynchronized⟩) hf _ _ _ hR va_S.rf (lv_entry [.ref o, .int x1, .int x2] (n := 3) (Nat.le_of_ble_eq_true rfl))

abbrev rmX9_exchange : Room := { frames := 1, cells := 0, slots := 0, locals := 12 }
def fX9_exchange  (σ : MS) (x1 : Int32) (x2 : Int32) (x3 : Int32) : Option MS :=
  (rd (σ 4) 41 (x1 + x2)).bind fun v1 =>
  (rd (σ 4) 41 (x1 + x3)).bind fun v2 =>
  (mwr σ 4 41 (x1 + x2) v2).bind fun σ3 =>
  (mwr σ3 4 41 (x1 + x3) v1).bind fun σ4 =>
  some σ4
theorem wX9_exchange_0 (E : mE p m c cX9_exchange 5 s args G cI cZ meth none) {σ : MS} {x1 : Int32} {x2 : Int32} {x3 : Int32} (hf : fX9_exchange σ x1 x2 x3 = some σf) : ∀ (H : Heap) (locs : List Loc) (ls : Array Slot), mR G cI cZ o σ H → va_S (mA o) s.heap H locs → lv_has ls 5 [(0, .ref o), (1, .int x1), (2, .int x2), (3, .int x3)] → W p l e rmX9_exchange s m args below meth c H locs 0 0 (MQ below (mQv G cI cZ o σf) args s 0 0 (mA o)) (F0 m 0 ls []) := by
  intro H locs ls hR hS hl
  refine lv_aload_n E.hx E.hb dX9_exchange_0 rfl (lv_at hl 0 rfl) ?_
  refine mg_st E hR dX9_exchange_1 ?_
  refine lv_iload_n E.hx E.hb dX9_exchange_4 rfl (lv_at hl 1 rfl) ?_
  refine lv_iload_n E.hx E.hb dX9_exchange_5 rfl (lv_at hl 2 rfl) ?_
  refine lv_iadd E.hx E.hb dX9_exchange_6 ?_
  obtain ⟨v1, hv1, hf⟩ := bd_e hf
  refine ml_st E hR hv1 dX9_exchange_7 ?_
  refine lv_istore (lv' := [(4, .int v1), (0, .ref o), (1, .int x1), (2, .int x2), (3, .int x3)]) E.hx E.hb dX9_exchange_8 hl (by decide) rfl (fun ls hl => ?_)
  refine lv_aload_n E.hx E.hb dX9_exchange_10 rfl (lv_at hl 1 rfl) ?_
  refine mg_st E hR dX9_exchange_11 ?_
  refine lv_iload_n E.hx E.hb dX9_exchange_14 rfl (lv_at hl 2 rfl) ?_
  refine lv_iload_n E.hx E.hb dX9_exchange_15 rfl (lv_at hl 3 rfl) ?_
  refine lv_iadd E.hx E.hb dX9_exchange_16 ?_
  refine lv_aload_n E.hx E.hb dX9_exchange_17 rfl (lv_at hl 1 rfl) ?_
  refine mg_st E hR dX9_exchange_18 ?_
  refine lv_iload_n E.hx E.hb dX9_exchange_21 rfl (lv_at hl 2 rfl) ?_
  refine lv_iload_n E.hx E.hb dX9_exchange_22 rfl (lv_at hl 4 rfl) ?_
  refine lv_iadd E.hx E.hb dX9_exchange_23 ?_
  obtain ⟨v2, hv2, hf⟩ := bd_e hf
  refine ml_st E hR hv2 dX9_exchange_24 ?_
  obtain ⟨σ3, hσ3, hf⟩ := bd_e hf
  refine ms_st E hR hS hσ3 dX9_exchange_25 (fun H locs hR hS => ?_)
  refine lv_aload_n E.hx E.hb dX9_exchange_26 rfl (lv_at hl 1 rfl) ?_
  refine mg_st E hR dX9_exchange_27 ?_
  refine lv_iload_n E.hx E.hb dX9_exchange_30 rfl (lv_at hl 2 rfl) ?_
  refine lv_iload_n E.hx E.hb dX9_exchange_31 rfl (lv_at hl 4 rfl) ?_
  refine lv_iadd E.hx E.hb dX9_exchange_32 ?_
  refine lv_iload E.hx E.hb dX9_exchange_33 (lv_at hl 0 rfl) ?_
  obtain ⟨σ4, hσ4, hf⟩ := bd_e hf
  refine ms_st E hR hS hσ4 dX9_exchange_35 (fun H locs hR hS => ?_)
  obtain rfl := Option.some.inj hf
  exact mret_v E hR hS dX9_exchange_36
theorem tX9_exchange (l : Launch) {G : va_G} {cI cZ : ClassId} {o : Nat} {σ σf : MS} {x1 : Int32} {x2 : Int32} {x3 : Int32}  (hf : fX9_exchange σ x1 x2 x3 = some σf) : Met l yX9_exchange (ws_ yX9_exchange cX9_exchange 5 none) rmX9_exchange (mPc G cI cZ o σ [.ref o, .int x1, .int x2, .int x3]) (mQv G cI cZ o σf) 0 0 (mA o) := by
  refine Met.ofW (cc := cX9_exchange) (maxL := 5) (ret := none) (by decide) rfl ?_
  intro p e s m args below meth c s₁ B hml hv
  obtain ⟨rfl, hR, hK⟩ := hv
  have hts := atoms_spec (ws := (ws_ yX9_exchange cX9_exchange 5 none)) B.pre
  rw [lg_entry_eq]
  exact wX9_exchange_0 (E := ⟨⟨B.exec, B.bytes, hml, findClass_of_methodNamed B.named, fun w h => hts w (List.mem_cons_of_mem _ h)⟩, hK, B.returns, B.notSynchronized⟩) hf _ _ _ hR va_S.rf (lv_entry [.ref o, .int x1, .int x2, .int x3] (n := 5) (Nat.le_of_ble_eq_true rfl))

theorem cwX9_190 {R : Room} {s : State} {args : Array Value} (ht : ∀ w ∈ lw_all, w.before args s = true) (hR : rmX9_exchange.frames + 1 ≤ R.frames ∧ 8 + (5 + 11) + rmX9_exchange.locals ≤ R.locals) : CallW R s args RX9 RX9 190 yX9_exchange cX9_exchange 5 none (ws_ yX9_exchange cX9_exchange 5 none) rmX9_exchange 0 0 3 :=
  cwV 3 ht (lw_V q1464 q1466 qs50 q80 q1467) rfl rfl rfl (by decide +kernel) hR
abbrev rmX9_change : Room := { frames := 6, cells := 0, slots := 0, locals := 123 }
def fX9_change  (σ : MS) (x1 : Int32) (x2 : Int32) : Option (Int32 × MS) :=
  (fX9_isChair σ x1).bind fun (v2, σ1) =>
  if v2 = 0 then (some ((-1000001), σ1)) else ((fX9_isChair σ1 x2).bind fun (v5, σ4) =>
  if v5 = 0 then (some ((-1000001), σ4)) else (if x1 = x2 then (some ((-1000001), σ4)) else ((fX9_note σ4).bind fun σ8 =>
  (fX9_exchange σ8 17 x1 x2).bind fun σ9 =>
  (fX9_exchange σ9 23 x1 x2).bind fun σ10 =>
  (fX9_exchange σ10 35 x1 x2).bind fun σ11 =>
  (fX9_targetOf σ11 x1).bind fun (v13, σ12) =>
  some (v13, σ12))))
theorem wX9_change_0 (E : mE p m c cX9_change 3 s args G cI cZ meth (some .int)) {σ : MS} {x1 : Int32} {x2 : Int32} (hf : fX9_change σ x1 x2 = some (r, σf)) : ∀ (H : Heap) (locs : List Loc) (ls : Array Slot), mR G cI cZ o σ H → va_S (mA o) s.heap H locs → lv_has ls 3 [(0, .ref o), (1, .int x1), (2, .int x2)] → W p l e rmX9_change s m args below meth c H locs 0 0 (MQ below (mQi G cI cZ o r σf) args s 0 0 (mA o)) (F0 m 0 ls []) := by
  intro H locs ls hR hS hl
  refine lv_aload_n E.hx E.hb dX9_change_0 rfl (lv_at hl 0 rfl) ?_
  refine lv_iload_n E.hx E.hb dX9_change_1 rfl (lv_at hl 1 rfl) ?_
  obtain ⟨⟨v2, σ1⟩, hv2, hf⟩ := bd_e hf
  refine mcall_i (rest := []) E hR hS (tX9_isChair l hv2) (cwX9_178 E.ht ⟨Nat.le_of_ble_eq_true rfl, Nat.le_of_ble_eq_true rfl⟩) rfl hl.1 rfl (Nat.le_of_ble_eq_true rfl) dX9_change_2 ⟨Nat.le_refl 0, Nat.le_refl 0⟩ (fun H locs hR hS => ?_)
  refine lv_if_eq (tgt := 21) E.hx E.hb dX9_change_5 (by decide) (fun c3 => ?_) (fun c3 => ?_)
  · have hf := it_t hf c3
    refine lv_ldc (v := (-1000001)) E.hx E.hb E.ho (E.ht _ q1319) dX9_change_21 ?_
    obtain ⟨rfl, rfl⟩ := rt_e hf
    exact mret_i E hR hS dX9_change_23
  · have hf := it_f hf c3
    refine lv_aload_n E.hx E.hb dX9_change_8 rfl (lv_at hl 0 rfl) ?_
    refine lv_iload_n E.hx E.hb dX9_change_9 rfl (lv_at hl 2 rfl) ?_
    obtain ⟨⟨v5, σ4⟩, hv5, hf⟩ := bd_e hf
    refine mcall_i (rest := []) E hR hS (tX9_isChair l hv5) (cwX9_178 E.ht ⟨Nat.le_of_ble_eq_true rfl, Nat.le_of_ble_eq_true rfl⟩) rfl hl.1 rfl (Nat.le_of_ble_eq_true rfl) dX9_change_10 ⟨Nat.le_refl 0, Nat.le_refl 0⟩ (fun H locs hR hS => ?_)
    refine lv_if_eq (tgt := 21) E.hx E.hb dX9_change_13 (by decide) (fun c6 => ?_) (fun c6 => ?_)
    · have hf := it_t hf c6
      refine lv_ldc (v := (-1000001)) E.hx E.hb E.ho (E.ht _ q1319) dX9_change_21 ?_
      obtain ⟨rfl, rfl⟩ := rt_e hf
      exact mret_i E hR hS dX9_change_23
    · have hf := it_f hf c6
      refine lv_iload_n E.hx E.hb dX9_change_16 rfl (lv_at hl 1 rfl) ?_
      refine lv_iload_n E.hx E.hb dX9_change_17 rfl (lv_at hl 2 rfl) ?_
      refine lv_icmp_ne (tgt := 24) E.hx E.hb dX9_change_18 (by decide) (fun c7 => ?_) (fun c7 => ?_)
      · have hf := it_f hf c7
        refine lv_aload_n E.hx E.hb dX9_change_24 rfl (lv_at hl 0 rfl) ?_
        obtain ⟨σ8, hσ8, hf⟩ := bd_e hf
        refine mcall_v (rest := []) E hR hS (tX9_note l hσ8) (cwX9_172 E.ht ⟨Nat.le_of_ble_eq_true rfl, Nat.le_of_ble_eq_true rfl⟩) rfl hl.1 rfl (Nat.le_of_ble_eq_true rfl) dX9_change_25 ⟨Nat.le_refl 0, Nat.le_refl 0⟩ (fun H locs hR hS => ?_)
        refine lv_aload_n E.hx E.hb dX9_change_28 rfl (lv_at hl 0 rfl) ?_
        refine lv_bipush (v := 17) E.hx E.hb dX9_change_29 (by decide) ?_
        refine lv_iload_n E.hx E.hb dX9_change_31 rfl (lv_at hl 1 rfl) ?_
        refine lv_iload_n E.hx E.hb dX9_change_32 rfl (lv_at hl 2 rfl) ?_
        obtain ⟨σ9, hσ9, hf⟩ := bd_e hf
        refine mcall_v (rest := []) E hR hS (tX9_exchange l hσ9) (cwX9_190 E.ht ⟨Nat.le_of_ble_eq_true rfl, Nat.le_of_ble_eq_true rfl⟩) rfl hl.1 rfl (Nat.le_of_ble_eq_true rfl) dX9_change_33 ⟨Nat.le_refl 0, Nat.le_refl 0⟩ (fun H locs hR hS => ?_)
        refine lv_aload_n E.hx E.hb dX9_change_36 rfl (lv_at hl 0 rfl) ?_
        refine lv_bipush (v := 23) E.hx E.hb dX9_change_37 (by decide) ?_
        refine lv_iload_n E.hx E.hb dX9_change_39 rfl (lv_at hl 1 rfl) ?_
        refine lv_iload_n E.hx E.hb dX9_change_40 rfl (lv_at hl 2 rfl) ?_
        obtain ⟨σ10, hσ10, hf⟩ := bd_e hf
        refine mcall_v (rest := []) E hR hS (tX9_exchange l hσ10) (cwX9_190 E.ht ⟨Nat.le_of_ble_eq_true rfl, Nat.le_of_ble_eq_true rfl⟩) rfl hl.1 rfl (Nat.le_of_ble_eq_true rfl) dX9_change_41 ⟨Nat.le_refl 0, Nat.le_refl 0⟩ (fun H locs hR hS => ?_)
        refine lv_aload_n E.hx E.hb dX9_change_44 rfl (lv_at hl 0 rfl) ?_
        refine lv_bipush (v := 35) E.hx E.hb dX9_change_45 (by decide) ?_
        refine lv_iload_n E.hx E.hb dX9_change_47 rfl (lv_at hl 1 rfl) ?_
        refine lv_iload_n E.hx E.hb dX9_change_48 rfl (lv_at hl 2 rfl) ?_
        obtain ⟨σ11, hσ11, hf⟩ := bd_e hf
        refine mcall_v (rest := []) E hR hS (tX9_exchange l hσ11) (cwX9_190 E.ht ⟨Nat.le_of_ble_eq_true rfl, Nat.le_of_ble_eq_true rfl⟩) rfl hl.1 rfl (Nat.le_of_ble_eq_true rfl) dX9_change_49 ⟨Nat.le_refl 0, Nat.le_refl 0⟩ (fun H locs hR hS => ?_)
        refine lv_aload_n E.hx E.hb dX9_change_52 rfl (lv_at hl 0 rfl) ?_
        refine lv_iload_n E.hx E.hb dX9_change_53 rfl (lv_at hl 1 rfl) ?_
        obtain ⟨⟨v13, σ12⟩, hv13, hf⟩ := bd_e hf
        refine mcall_i (rest := []) E hR hS (tX9_targetOf l hv13) (cwX9_159 E.ht ⟨Nat.le_of_ble_eq_true rfl, Nat.le_of_ble_eq_true rfl⟩) rfl hl.1 rfl (Nat.le_of_ble_eq_true rfl) dX9_change_54 ⟨Nat.le_refl 0, Nat.le_refl 0⟩ (fun H locs hR hS => ?_)
        obtain ⟨rfl, rfl⟩ := rt_e hf
        exact mret_i E hR hS dX9_change_57
      · have hf := it_t hf c7
        refine lv_ldc (v := (-1000001)) E.hx E.hb E.ho (E.ht _ q1319) dX9_change_21 ?_
        obtain ⟨rfl, rfl⟩ := rt_e hf
        exact mret_i E hR hS dX9_change_23
theorem tX9_change (l : Launch) {G : va_G} {cI cZ : ClassId} {o : Nat} {σ σf : MS} {x1 : Int32} {x2 : Int32} {r : Int32} (hf : fX9_change σ x1 x2 = some (r, σf)) : Met l yX9_change (ws_ yX9_change cX9_change 3 (some .int)) rmX9_change (mPc G cI cZ o σ [.ref o, .int x1, .int x2]) (mQi G cI cZ o r σf) 0 0 (mA o) := by
  refine Met.ofW (cc := cX9_change) (maxL := 3) (ret := (some .int)) (by decide) rfl ?_
  intro p e s m args below meth c s₁ B hml hv
  obtain ⟨rfl, hR, hK⟩ := hv
  have hts := atoms_spec (ws := (ws_ yX9_change cX9_change 3 (some .int))) B.pre
  rw [lg_entry_eq]
  exact wX9_change_0 (E := ⟨⟨B.exec, B.bytes, hml, findClass_of_methodNamed B.named, fun w h => hts w (List.mem_cons_of_mem _ h)⟩, hK, B.returns, B.notSynchronized⟩) hf _ _ _ hR va_S.rf (lv_entry [.ref o, .int x1, .int x2] (n := 3) (Nat.le_of_ble_eq_true rfl))

abbrev rmX9_saw : Room := { frames := 3, cells := 0, slots := 0, locals := 58 }
def fX9_saw  (σ : MS) (x1 : Int32) (x2 : Int32) : Option (Int32 × MS) :=
  (fX9_isChair σ x1).bind fun (v2, σ1) =>
  if v2 = 0 then (some ((-1000001), σ1)) else ((fX9_in (x2.toInt64) 0 9).bind fun v4 =>
  if v4 = 0 then (some ((-1000001), σ1)) else ((fX9_note σ1).bind fun σ6 =>
  (rd (σ6 4) 41 (17 + x1)).bind fun v7 =>
  (mwr σ6 4 41 (17 + x1) x2).bind fun σ8 =>
  some (v7, σ8)))
theorem wX9_saw_0 (E : mE p m c cX9_saw 4 s args G cI cZ meth (some .int)) {σ : MS} {x1 : Int32} {x2 : Int32} (hf : fX9_saw σ x1 x2 = some (r, σf)) : ∀ (H : Heap) (locs : List Loc) (ls : Array Slot), mR G cI cZ o σ H → va_S (mA o) s.heap H locs → lv_has ls 4 [(0, .ref o), (1, .int x1), (2, .int x2)] → W p l e rmX9_saw s m args below meth c H locs 0 0 (MQ below (mQi G cI cZ o r σf) args s 0 0 (mA o)) (F0 m 0 ls []) := by
  intro H locs ls hR hS hl
  refine lv_aload_n E.hx E.hb dX9_saw_0 rfl (lv_at hl 0 rfl) ?_
  refine lv_iload_n E.hx E.hb dX9_saw_1 rfl (lv_at hl 1 rfl) ?_
  obtain ⟨⟨v2, σ1⟩, hv2, hf⟩ := bd_e hf
  refine mcall_i (rest := []) E hR hS (tX9_isChair l hv2) (cwX9_178 E.ht ⟨Nat.le_of_ble_eq_true rfl, Nat.le_of_ble_eq_true rfl⟩) rfl hl.1 rfl (Nat.le_of_ble_eq_true rfl) dX9_saw_2 ⟨Nat.le_refl 0, Nat.le_refl 0⟩ (fun H locs hR hS => ?_)
  refine lv_if_eq (tgt := 20) E.hx E.hb dX9_saw_5 (by decide) (fun c3 => ?_) (fun c3 => ?_)
  · have hf := it_t hf c3
    refine lv_ldc (v := (-1000001)) E.hx E.hb E.ho (E.ht _ q1319) dX9_saw_20 ?_
    obtain ⟨rfl, rfl⟩ := rt_e hf
    exact mret_i E hR hS dX9_saw_22
  · have hf := it_f hf c3
    refine lv_iload_n E.hx E.hb dX9_saw_8 rfl (lv_at hl 2 rfl) ?_
    refine lv_i2l E.hx E.hb dX9_saw_9 rfl ?_
    refine lv_lconst (v := 0) E.hx E.hb dX9_saw_10 (by decide) ?_
    refine lv_ldc2 (v := 9) E.hx E.hb E.ho (E.ht _ q1472) dX9_saw_11 ?_
    obtain ⟨v4, hv4, hf⟩ := bd_e hf
    refine scall_i (rest := []) E.1 (tX9_in l hv4) (cwX9_57 E.ht ⟨Nat.le_of_ble_eq_true rfl, Nat.le_of_ble_eq_true rfl⟩) rfl hl.1 rfl (Nat.le_of_ble_eq_true rfl) dX9_saw_14 ⟨Nat.le_refl 0, Nat.le_refl 0⟩ ?_
    refine lv_if_ne (tgt := 23) E.hx E.hb dX9_saw_17 (by decide) (fun c5 => ?_) (fun c5 => ?_)
    · have hf := it_f hf c5
      refine lv_aload_n E.hx E.hb dX9_saw_23 rfl (lv_at hl 0 rfl) ?_
      obtain ⟨σ6, hσ6, hf⟩ := bd_e hf
      refine mcall_v (rest := []) E hR hS (tX9_note l hσ6) (cwX9_172 E.ht ⟨Nat.le_of_ble_eq_true rfl, Nat.le_of_ble_eq_true rfl⟩) rfl hl.1 rfl (Nat.le_of_ble_eq_true rfl) dX9_saw_24 ⟨Nat.le_refl 0, Nat.le_refl 0⟩ (fun H locs hR hS => ?_)
      refine lv_aload_n E.hx E.hb dX9_saw_27 rfl (lv_at hl 0 rfl) ?_
      refine mg_st E hR dX9_saw_28 ?_
      refine lv_bipush (v := 17) E.hx E.hb dX9_saw_31 (by decide) ?_
      refine lv_iload_n E.hx E.hb dX9_saw_33 rfl (lv_at hl 1 rfl) ?_
      refine lv_iadd E.hx E.hb dX9_saw_34 ?_
      obtain ⟨v7, hv7, hf⟩ := bd_e hf
      refine ml_st E hR hv7 dX9_saw_35 ?_
      refine lv_istore_n (lv' := [(3, .int v7), (0, .ref o), (1, .int x1), (2, .int x2)]) E.hx E.hb dX9_saw_36 rfl hl (by decide) rfl (fun ls hl => ?_)
      refine lv_aload_n E.hx E.hb dX9_saw_37 rfl (lv_at hl 1 rfl) ?_
      refine mg_st E hR dX9_saw_38 ?_
      refine lv_bipush (v := 17) E.hx E.hb dX9_saw_41 (by decide) ?_
      refine lv_iload_n E.hx E.hb dX9_saw_43 rfl (lv_at hl 2 rfl) ?_
      refine lv_iadd E.hx E.hb dX9_saw_44 ?_
      refine lv_iload_n E.hx E.hb dX9_saw_45 rfl (lv_at hl 3 rfl) ?_
      obtain ⟨σ8, hσ8, hf⟩ := bd_e hf
      refine ms_st E hR hS hσ8 dX9_saw_46 (fun H locs hR hS => ?_)
      refine lv_iload_n E.hx E.hb dX9_saw_47 rfl (lv_at hl 0 rfl) ?_
      obtain ⟨rfl, rfl⟩ := rt_e hf
      exact mret_i E hR hS dX9_saw_48
    · have hf := it_t hf c5
      refine lv_ldc (v := (-1000001)) E.hx E.hb E.ho (E.ht _ q1319) dX9_saw_20 ?_
      obtain ⟨rfl, rfl⟩ := rt_e hf
      exact mret_i E hR hS dX9_saw_22
theorem tX9_saw (l : Launch) {G : va_G} {cI cZ : ClassId} {o : Nat} {σ σf : MS} {x1 : Int32} {x2 : Int32} {r : Int32} (hf : fX9_saw σ x1 x2 = some (r, σf)) : Met l yX9_saw (ws_ yX9_saw cX9_saw 4 (some .int)) rmX9_saw (mPc G cI cZ o σ [.ref o, .int x1, .int x2]) (mQi G cI cZ o r σf) 0 0 (mA o) := by
  refine Met.ofW (cc := cX9_saw) (maxL := 4) (ret := (some .int)) (by decide) rfl ?_
  intro p e s m args below meth c s₁ B hml hv
  obtain ⟨rfl, hR, hK⟩ := hv
  have hts := atoms_spec (ws := (ws_ yX9_saw cX9_saw 4 (some .int))) B.pre
  rw [lg_entry_eq]
  exact wX9_saw_0 (E := ⟨⟨B.exec, B.bytes, hml, findClass_of_methodNamed B.named, fun w h => hts w (List.mem_cons_of_mem _ h)⟩, hK, B.returns, B.notSynchronized⟩) hf _ _ _ hR va_S.rf (lv_entry [.ref o, .int x1, .int x2] (n := 4) (Nat.le_of_ble_eq_true rfl))

abbrev rmX9_chair : Room := { frames := 6, cells := 0, slots := 0, locals := 123 }
def fX9_chair  (σ : MS) (x1 : Int32) (x2 : Int32) : Option (Int32 × MS) :=
  (fX9_isChair σ x1).bind fun (v2, σ1) =>
  if v2 = 0 then (some ((-1000001), σ1)) else (if x2 = 0 then ((rd (σ1 4) 41 (11 + x1)).bind fun v5 =>
  some (v5, σ1)) else (if x2 = 1 then ((rd (σ1 4) 41 (29 + x1)).bind fun v7 =>
  some (v7, σ1)) else (if x2 = 2 then ((fX9_highOf σ1 x1).bind fun (v10, σ9) =>
  some (v10, σ9)) else (if x2 = 3 then ((fX9_rankOf σ1 x1).bind fun (v13, σ12) =>
  some (v13, σ12)) else (if x2 = 4 then ((rd (σ1 4) 41 4).bind fun v15 =>
  (fX9_has v15 x1).bind fun v16 =>
  if v16 = 0 then (some (0, σ1)) else (some (1, σ1))) else (if x2 = 5 then ((rd (σ1 4) 41 (17 + x1)).bind fun v19 =>
  some (v19, σ1)) else (if x2 = 6 then ((rd (σ1 4) 41 (23 + x1)).bind fun v21 =>
  some (v21, σ1)) else (if x2 = 7 then ((fX9_targetOf σ1 x1).bind fun (v24, σ23) =>
  some (v24, σ23)) else (if x2 = 8 then ((rd (σ1 4) 41 (35 + x1)).bind fun v26 =>
  some (v26, σ1)) else (some ((-1000001), σ1)))))))))))
theorem wX9_chair_0 (E : mE p m c cX9_chair 3 s args G cI cZ meth (some .int)) {σ : MS} {x1 : Int32} {x2 : Int32} (hf : fX9_chair σ x1 x2 = some (r, σf)) : ∀ (H : Heap) (locs : List Loc) (ls : Array Slot), mR G cI cZ o σ H → va_S (mA o) s.heap H locs → lv_has ls 3 [(0, .ref o), (1, .int x1), (2, .int x2)] → W p l e rmX9_chair s m args below meth c H locs 0 0 (MQ below (mQi G cI cZ o r σf) args s 0 0 (mA o)) (F0 m 0 ls []) := by
  intro H locs ls hR hS hl
  refine lv_aload_n E.hx E.hb dX9_chair_0 rfl (lv_at hl 0 rfl) ?_
  refine lv_iload_n E.hx E.hb dX9_chair_1 rfl (lv_at hl 1 rfl) ?_
  obtain ⟨⟨v2, σ1⟩, hv2, hf⟩ := bd_e hf
  refine mcall_i (rest := []) E hR hS (tX9_isChair l hv2) (cwX9_178 E.ht ⟨Nat.le_of_ble_eq_true rfl, Nat.le_of_ble_eq_true rfl⟩) rfl hl.1 rfl (Nat.le_of_ble_eq_true rfl) dX9_chair_2 ⟨Nat.le_refl 0, Nat.le_refl 0⟩ (fun H locs hR hS => ?_)
  refine lv_if_ne (tgt := 11) E.hx E.hb dX9_chair_5 (by decide) (fun c3 => ?_) (fun c3 => ?_)
  · have hf := it_f hf c3
    refine lv_iload_n E.hx E.hb dX9_chair_11 rfl (lv_at hl 2 rfl) ?_
    by_cases c4 : x2 = 0
    · have hf := it_t hf c4
      refine lv_tableIn (tgt := 64) (off := 52) E.hx E.hb dX9_chair_12 (by rw [c4]; decide) (by rw [c4]; decide) (by rw [c4]; rfl) (by decide) ?_
      refine lv_aload_n E.hx E.hb dX9_chair_64 rfl (lv_at hl 0 rfl) ?_
      refine mg_st E hR dX9_chair_65 ?_
      refine lv_bipush (v := 11) E.hx E.hb dX9_chair_68 (by decide) ?_
      refine lv_iload_n E.hx E.hb dX9_chair_70 rfl (lv_at hl 1 rfl) ?_
      refine lv_iadd E.hx E.hb dX9_chair_71 ?_
      obtain ⟨v5, hv5, hf⟩ := bd_e hf
      refine ml_st E hR hv5 dX9_chair_72 ?_
      obtain ⟨rfl, rfl⟩ := rt_e hf
      exact mret_i E hR hS dX9_chair_73
    · have hf := it_f hf c4
      by_cases c6 : x2 = 1
      · have hf := it_t hf c6
        refine lv_tableIn (tgt := 74) (off := 62) E.hx E.hb dX9_chair_12 (by rw [c6]; decide) (by rw [c6]; decide) (by rw [c6]; rfl) (by decide) ?_
        refine lv_aload_n E.hx E.hb dX9_chair_74 rfl (lv_at hl 0 rfl) ?_
        refine mg_st E hR dX9_chair_75 ?_
        refine lv_bipush (v := 29) E.hx E.hb dX9_chair_78 (by decide) ?_
        refine lv_iload_n E.hx E.hb dX9_chair_80 rfl (lv_at hl 1 rfl) ?_
        refine lv_iadd E.hx E.hb dX9_chair_81 ?_
        obtain ⟨v7, hv7, hf⟩ := bd_e hf
        refine ml_st E hR hv7 dX9_chair_82 ?_
        obtain ⟨rfl, rfl⟩ := rt_e hf
        exact mret_i E hR hS dX9_chair_83
      · have hf := it_f hf c6
        by_cases c8 : x2 = 2
        · have hf := it_t hf c8
          refine lv_tableIn (tgt := 84) (off := 72) E.hx E.hb dX9_chair_12 (by rw [c8]; decide) (by rw [c8]; decide) (by rw [c8]; rfl) (by decide) ?_
          refine lv_aload_n E.hx E.hb dX9_chair_84 rfl (lv_at hl 0 rfl) ?_
          refine lv_iload_n E.hx E.hb dX9_chair_85 rfl (lv_at hl 1 rfl) ?_
          obtain ⟨⟨v10, σ9⟩, hv10, hf⟩ := bd_e hf
          refine mcall_i (rest := []) E hR hS (tX9_highOf l hv10) (cwX9_146 E.ht ⟨Nat.le_of_ble_eq_true rfl, Nat.le_of_ble_eq_true rfl⟩) rfl hl.1 rfl (Nat.le_of_ble_eq_true rfl) dX9_chair_86 ⟨Nat.le_refl 0, Nat.le_refl 0⟩ (fun H locs hR hS => ?_)
          obtain ⟨rfl, rfl⟩ := rt_e hf
          exact mret_i E hR hS dX9_chair_89
        · have hf := it_f hf c8
          by_cases c11 : x2 = 3
          · have hf := it_t hf c11
            refine lv_tableIn (tgt := 90) (off := 78) E.hx E.hb dX9_chair_12 (by rw [c11]; decide) (by rw [c11]; decide) (by rw [c11]; rfl) (by decide) ?_
            refine lv_aload_n E.hx E.hb dX9_chair_90 rfl (lv_at hl 0 rfl) ?_
            refine lv_iload_n E.hx E.hb dX9_chair_91 rfl (lv_at hl 1 rfl) ?_
            obtain ⟨⟨v13, σ12⟩, hv13, hf⟩ := bd_e hf
            refine mcall_i (rest := []) E hR hS (tX9_rankOf l hv13) (cwX9_150 E.ht ⟨Nat.le_of_ble_eq_true rfl, Nat.le_of_ble_eq_true rfl⟩) rfl hl.1 rfl (Nat.le_of_ble_eq_true rfl) dX9_chair_92 ⟨Nat.le_refl 0, Nat.le_refl 0⟩ (fun H locs hR hS => ?_)
            obtain ⟨rfl, rfl⟩ := rt_e hf
            exact mret_i E hR hS dX9_chair_95
          · have hf := it_f hf c11
            by_cases c14 : x2 = 4
            · have hf := it_t hf c14
              refine lv_tableIn (tgt := 96) (off := 84) E.hx E.hb dX9_chair_12 (by rw [c14]; decide) (by rw [c14]; decide) (by rw [c14]; rfl) (by decide) ?_
              refine lv_aload_n E.hx E.hb dX9_chair_96 rfl (lv_at hl 0 rfl) ?_
              refine mg_st E hR dX9_chair_97 ?_
              refine lv_iconst (v := 4) E.hx E.hb dX9_chair_100 (by decide) ?_
              obtain ⟨v15, hv15, hf⟩ := bd_e hf
              refine ml_st E hR hv15 dX9_chair_101 ?_
              refine lv_iload_n E.hx E.hb dX9_chair_102 rfl (lv_at hl 1 rfl) ?_
              obtain ⟨v16, hv16, hf⟩ := bd_e hf
              refine scall_i (rest := []) E.1 (tX9_has l hv16) (cwX9_162 E.ht ⟨Nat.le_of_ble_eq_true rfl, Nat.le_of_ble_eq_true rfl⟩) rfl hl.1 rfl (Nat.le_of_ble_eq_true rfl) dX9_chair_103 ⟨Nat.le_refl 0, Nat.le_refl 0⟩ ?_
              refine lv_if_eq (tgt := 113) E.hx E.hb dX9_chair_106 (by decide) (fun c17 => ?_) (fun c17 => ?_)
              · have hf := it_t hf c17
                refine lv_iconst (v := 0) E.hx E.hb dX9_chair_113 (by decide) ?_
                obtain ⟨rfl, rfl⟩ := rt_e hf
                exact mret_i E hR hS dX9_chair_114
              · have hf := it_f hf c17
                refine lv_iconst (v := 1) E.hx E.hb dX9_chair_109 (by decide) ?_
                refine lv_goto (tgt := 114) E.hx E.hb dX9_chair_110 (by decide) ?_
                obtain ⟨rfl, rfl⟩ := rt_e hf
                exact mret_i E hR hS dX9_chair_114
            · have hf := it_f hf c14
              by_cases c18 : x2 = 5
              · have hf := it_t hf c18
                refine lv_tableIn (tgt := 115) (off := 103) E.hx E.hb dX9_chair_12 (by rw [c18]; decide) (by rw [c18]; decide) (by rw [c18]; rfl) (by decide) ?_
                refine lv_aload_n E.hx E.hb dX9_chair_115 rfl (lv_at hl 0 rfl) ?_
                refine mg_st E hR dX9_chair_116 ?_
                refine lv_bipush (v := 17) E.hx E.hb dX9_chair_119 (by decide) ?_
                refine lv_iload_n E.hx E.hb dX9_chair_121 rfl (lv_at hl 1 rfl) ?_
                refine lv_iadd E.hx E.hb dX9_chair_122 ?_
                obtain ⟨v19, hv19, hf⟩ := bd_e hf
                refine ml_st E hR hv19 dX9_chair_123 ?_
                obtain ⟨rfl, rfl⟩ := rt_e hf
                exact mret_i E hR hS dX9_chair_124
              · have hf := it_f hf c18
                by_cases c20 : x2 = 6
                · have hf := it_t hf c20
                  refine lv_tableIn (tgt := 125) (off := 113) E.hx E.hb dX9_chair_12 (by rw [c20]; decide) (by rw [c20]; decide) (by rw [c20]; rfl) (by decide) ?_
                  refine lv_aload_n E.hx E.hb dX9_chair_125 rfl (lv_at hl 0 rfl) ?_
                  refine mg_st E hR dX9_chair_126 ?_
                  refine lv_bipush (v := 23) E.hx E.hb dX9_chair_129 (by decide) ?_
                  refine lv_iload_n E.hx E.hb dX9_chair_131 rfl (lv_at hl 1 rfl) ?_
                  refine lv_iadd E.hx E.hb dX9_chair_132 ?_
                  obtain ⟨v21, hv21, hf⟩ := bd_e hf
                  refine ml_st E hR hv21 dX9_chair_133 ?_
                  obtain ⟨rfl, rfl⟩ := rt_e hf
                  exact mret_i E hR hS dX9_chair_134
                · have hf := it_f hf c20
                  by_cases c22 : x2 = 7
                  · have hf := it_t hf c22
                    refine lv_tableIn (tgt := 135) (off := 123) E.hx E.hb dX9_chair_12 (by rw [c22]; decide) (by rw [c22]; decide) (by rw [c22]; rfl) (by decide) ?_
                    refine lv_aload_n E.hx E.hb dX9_chair_135 rfl (lv_at hl 0 rfl) ?_
                    refine lv_iload_n E.hx E.hb dX9_chair_136 rfl (lv_at hl 1 rfl) ?_
                    obtain ⟨⟨v24, σ23⟩, hv24, hf⟩ := bd_e hf
                    refine mcall_i (rest := []) E hR hS (tX9_targetOf l hv24) (cwX9_159 E.ht ⟨Nat.le_of_ble_eq_true rfl, Nat.le_of_ble_eq_true rfl⟩) rfl hl.1 rfl (Nat.le_of_ble_eq_true rfl) dX9_chair_137 ⟨Nat.le_refl 0, Nat.le_refl 0⟩ (fun H locs hR hS => ?_)
                    obtain ⟨rfl, rfl⟩ := rt_e hf
                    exact mret_i E hR hS dX9_chair_140
                  · have hf := it_f hf c22
                    by_cases c25 : x2 = 8
                    · have hf := it_t hf c25
                      refine lv_tableIn (tgt := 141) (off := 129) E.hx E.hb dX9_chair_12 (by rw [c25]; decide) (by rw [c25]; decide) (by rw [c25]; rfl) (by decide) ?_
                      refine lv_aload_n E.hx E.hb dX9_chair_141 rfl (lv_at hl 0 rfl) ?_
                      refine mg_st E hR dX9_chair_142 ?_
                      refine lv_bipush (v := 35) E.hx E.hb dX9_chair_145 (by decide) ?_
                      refine lv_iload_n E.hx E.hb dX9_chair_147 rfl (lv_at hl 1 rfl) ?_
                      refine lv_iadd E.hx E.hb dX9_chair_148 ?_
                      obtain ⟨v26, hv26, hf⟩ := bd_e hf
                      refine ml_st E hR hv26 dX9_chair_149 ?_
                      obtain ⟨rfl, rfl⟩ := rt_e hf
                      exact mret_i E hR hS dX9_chair_150
                    · have hf := it_f hf c25
                      have ec4 : ¬ x2.toInt = 0 := fun h => c4 (Int32.toInt_inj.mp h)
                      have ec6 : ¬ x2.toInt = 1 := fun h => c6 (Int32.toInt_inj.mp h)
                      have ec8 : ¬ x2.toInt = 2 := fun h => c8 (Int32.toInt_inj.mp h)
                      have ec11 : ¬ x2.toInt = 3 := fun h => c11 (Int32.toInt_inj.mp h)
                      have ec14 : ¬ x2.toInt = 4 := fun h => c14 (Int32.toInt_inj.mp h)
                      have ec18 : ¬ x2.toInt = 5 := fun h => c18 (Int32.toInt_inj.mp h)
                      have ec20 : ¬ x2.toInt = 6 := fun h => c20 (Int32.toInt_inj.mp h)
                      have ec22 : ¬ x2.toInt = 7 := fun h => c22 (Int32.toInt_inj.mp h)
                      have ec25 : ¬ x2.toInt = 8 := fun h => c25 (Int32.toInt_inj.mp h)
                      refine lv_tableOut (tgt := 151) E.hx E.hb dX9_chair_12 (by omega) (by decide) ?_
                      refine lv_ldc (v := (-1000001)) E.hx E.hb E.ho (E.ht _ q1319) dX9_chair_151 ?_
                      obtain ⟨rfl, rfl⟩ := rt_e hf
                      exact mret_i E hR hS dX9_chair_153
  · have hf := it_t hf c3
    refine lv_ldc (v := (-1000001)) E.hx E.hb E.ho (E.ht _ q1319) dX9_chair_8 ?_
    obtain ⟨rfl, rfl⟩ := rt_e hf
    exact mret_i E hR hS dX9_chair_10
theorem tX9_chair (l : Launch) {G : va_G} {cI cZ : ClassId} {o : Nat} {σ σf : MS} {x1 : Int32} {x2 : Int32} {r : Int32} (hf : fX9_chair σ x1 x2 = some (r, σf)) : Met l yX9_chair (ws_ yX9_chair cX9_chair 3 (some .int)) rmX9_chair (mPc G cI cZ o σ [.ref o, .int x1, .int x2]) (mQi G cI cZ o r σf) 0 0 (mA o) := by
  refine Met.ofW (cc := cX9_chair) (maxL := 3) (ret := (some .int)) (by decide) rfl ?_
  intro p e s m args below meth c s₁ B hml hv
  obtain ⟨rfl, hR, hK⟩ := hv
  have hts := atoms_spec (ws := (ws_ yX9_chair cX9_chair 3 (some .int))) B.pre
  rw [lg_entry_eq]
  exact wX9_chair_0 (E := ⟨⟨B.exec, B.bytes, hml, findClass_of_methodNamed B.named, fun w h => hts w (List.mem_cons_of_mem _ h)⟩, hK, B.returns, B.notSynchronized⟩) hf _ _ _ hR va_S.rf (lv_entry [.ref o, .int x1, .int x2] (n := 3) (Nat.le_of_ble_eq_true rfl))

abbrev rmX9_ranked : Room := { frames := 5, cells := 0, slots := 0, locals := 101 }
def fX9_ranked  (σ : MS) (x1 : Int32) : Option (Int32 × MS) :=
  (rd (σ 4) 41 2).bind fun v1 =>
  (fX9_in (x1.toInt64) 0 ((v1 - 1).toInt64)).bind fun v2 =>
  if v2 = 0 then (some ((-1000001), σ)) else ((fX9_atRank σ x1).bind fun (v5, σ4) =>
  some (v5, σ4))
theorem wX9_ranked_0 (E : mE p m c cX9_ranked 2 s args G cI cZ meth (some .int)) {σ : MS} {x1 : Int32} (hf : fX9_ranked σ x1 = some (r, σf)) : ∀ (H : Heap) (locs : List Loc) (ls : Array Slot), mR G cI cZ o σ H → va_S (mA o) s.heap H locs → lv_has ls 2 [(0, .ref o), (1, .int x1)] → W p l e rmX9_ranked s m args below meth c H locs 0 0 (MQ below (mQi G cI cZ o r σf) args s 0 0 (mA o)) (F0 m 0 ls []) := by
  intro H locs ls hR hS hl
  refine lv_iload_n E.hx E.hb dX9_ranked_0 rfl (lv_at hl 1 rfl) ?_
  refine lv_i2l E.hx E.hb dX9_ranked_1 rfl ?_
  refine lv_lconst (v := 0) E.hx E.hb dX9_ranked_2 (by decide) ?_
  refine lv_aload_n E.hx E.hb dX9_ranked_3 rfl (lv_at hl 0 rfl) ?_
  refine mg_st E hR dX9_ranked_4 ?_
  refine lv_iconst (v := 2) E.hx E.hb dX9_ranked_7 (by decide) ?_
  obtain ⟨v1, hv1, hf⟩ := bd_e hf
  refine ml_st E hR hv1 dX9_ranked_8 ?_
  refine lv_iconst (v := 1) E.hx E.hb dX9_ranked_9 (by decide) ?_
  refine lv_isub E.hx E.hb dX9_ranked_10 ?_
  refine lv_i2l E.hx E.hb dX9_ranked_11 rfl ?_
  obtain ⟨v2, hv2, hf⟩ := bd_e hf
  refine scall_i (rest := []) E.1 (tX9_in l hv2) (cwX9_57 E.ht ⟨Nat.le_of_ble_eq_true rfl, Nat.le_of_ble_eq_true rfl⟩) rfl hl.1 rfl (Nat.le_of_ble_eq_true rfl) dX9_ranked_12 ⟨Nat.le_refl 0, Nat.le_refl 0⟩ ?_
  refine lv_if_eq (tgt := 26) E.hx E.hb dX9_ranked_15 (by decide) (fun c3 => ?_) (fun c3 => ?_)
  · have hf := it_t hf c3
    refine lv_ldc (v := (-1000001)) E.hx E.hb E.ho (E.ht _ q1319) dX9_ranked_26 ?_
    obtain ⟨rfl, rfl⟩ := rt_e hf
    exact mret_i E hR hS dX9_ranked_28
  · have hf := it_f hf c3
    refine lv_aload_n E.hx E.hb dX9_ranked_18 rfl (lv_at hl 0 rfl) ?_
    refine lv_iload_n E.hx E.hb dX9_ranked_19 rfl (lv_at hl 1 rfl) ?_
    obtain ⟨⟨v5, σ4⟩, hv5, hf⟩ := bd_e hf
    refine mcall_i (rest := []) E hR hS (tX9_atRank l hv5) (cwX9_153 E.ht ⟨Nat.le_of_ble_eq_true rfl, Nat.le_of_ble_eq_true rfl⟩) rfl hl.1 rfl (Nat.le_of_ble_eq_true rfl) dX9_ranked_20 ⟨Nat.le_refl 0, Nat.le_refl 0⟩ (fun H locs hR hS => ?_)
    refine lv_goto (tgt := 28) E.hx E.hb dX9_ranked_23 (by decide) ?_
    obtain ⟨rfl, rfl⟩ := rt_e hf
    exact mret_i E hR hS dX9_ranked_28
theorem tX9_ranked (l : Launch) {G : va_G} {cI cZ : ClassId} {o : Nat} {σ σf : MS} {x1 : Int32} {r : Int32} (hf : fX9_ranked σ x1 = some (r, σf)) : Met l yX9_ranked (ws_ yX9_ranked cX9_ranked 2 (some .int)) rmX9_ranked (mPc G cI cZ o σ [.ref o, .int x1]) (mQi G cI cZ o r σf) 0 0 (mA o) := by
  refine Met.ofW (cc := cX9_ranked) (maxL := 2) (ret := (some .int)) (by decide) rfl ?_
  intro p e s m args below meth c s₁ B hml hv
  obtain ⟨rfl, hR, hK⟩ := hv
  have hts := atoms_spec (ws := (ws_ yX9_ranked cX9_ranked 2 (some .int))) B.pre
  rw [lg_entry_eq]
  exact wX9_ranked_0 (E := ⟨⟨B.exec, B.bytes, hml, findClass_of_methodNamed B.named, fun w h => hts w (List.mem_cons_of_mem _ h)⟩, hK, B.returns, B.notSynchronized⟩) hf _ _ _ hR va_S.rf (lv_entry [.ref o, .int x1] (n := 2) (Nat.le_of_ble_eq_true rfl))

abbrev rmX9_goOn : Room := { frames := 7, cells := 0, slots := 0, locals := 146 }
def fX9_goOn_L2  : Nat → MS → Int32 → Int32 → Option MS
  | 0, _, _, _ => none
  | n + 1, σ, x1, x2 =>
    if x1 ≤ x2 then (some σ) else ((fX9_oneNight σ).bind fun σ2 =>
    (fX9_goOn_L2 n) σ2 x1 (x2 + 1))
theorem wX9_goOn_L2 (E : mE p m c cX9_goOn 3 s args G cI cZ meth none) : ∀ (n : Nat) (σ : MS) (x1 : Int32) (x2 : Int32), fX9_goOn_L2 n σ x1 x2 = some σf → ∀ (H : Heap) (locs : List Loc) (ls : Array Slot), mR G cI cZ o σ H → va_S (mA o) s.heap H locs → lv_has ls 3 [(0, .ref o), (1, .int x1), (2, .int x2)] → W p l e rmX9_goOn s m args below meth c H locs 0 0 (MQ below (mQv G cI cZ o σf) args s 0 0 (mA o)) (F0 m 2 ls []) := by
  intro n
  induction n with
  | zero =>
    intro σ x1 x2 hf
    have hf : none = some σf := hf
    cases hf
  | succ n ih =>
    intro σ x1 x2 hf H locs ls hR hS hl
    refine lv_iload_n E.hx E.hb dX9_goOn_2 rfl (lv_at hl 2 rfl) ?_
    refine lv_iload_n E.hx E.hb dX9_goOn_3 rfl (lv_at hl 1 rfl) ?_
    refine lv_icmp_ge (tgt := 17) E.hx E.hb dX9_goOn_4 (by decide) (fun c1 => ?_) (fun c1 => ?_)
    · have hf := it_t hf c1
      obtain rfl := Option.some.inj hf
      exact mret_v E hR hS dX9_goOn_17
    · have hf := it_f hf c1
      refine lv_aload_n E.hx E.hb dX9_goOn_7 rfl (lv_at hl 0 rfl) ?_
      obtain ⟨σ2, hσ2, hf⟩ := bd_e hf
      refine mcall_v (rest := []) E hR hS (tX9_oneNight l hσ2) (cwX9_175 E.ht ⟨Nat.le_of_ble_eq_true rfl, Nat.le_of_ble_eq_true rfl⟩) rfl hl.1 rfl (Nat.le_of_ble_eq_true rfl) dX9_goOn_8 ⟨Nat.le_refl 0, Nat.le_refl 0⟩ (fun H locs hR hS => ?_)
      refine lv_iinc (v := (x2 + 1)) (lv' := [(2, .int (x2 + 1)), (0, .ref o), (1, .int x1)]) E.hx E.hb dX9_goOn_11 hl (k := 2) rfl rfl (by decide) rfl (fun ls hl => ?_)
      refine lv_goto (tgt := 2) E.hx E.hb dX9_goOn_14 (by decide) ?_
      exact ih σ2 _ _ hf _ _ _ hR hS (lv_sub hl [1, 2, 0] rfl)
def fX9_goOn  (σ : MS) (x1 : Int32) : Option MS :=
  fX9_goOn_L2 2000 σ x1 0
theorem wX9_goOn_0 (E : mE p m c cX9_goOn 3 s args G cI cZ meth none) {σ : MS} {x1 : Int32} (hf : fX9_goOn σ x1 = some σf) : ∀ (H : Heap) (locs : List Loc) (ls : Array Slot), mR G cI cZ o σ H → va_S (mA o) s.heap H locs → lv_has ls 3 [(0, .ref o), (1, .int x1)] → W p l e rmX9_goOn s m args below meth c H locs 0 0 (MQ below (mQv G cI cZ o σf) args s 0 0 (mA o)) (F0 m 0 ls []) := by
  intro H locs ls hR hS hl
  refine lv_iconst (v := 0) E.hx E.hb dX9_goOn_0 (by decide) ?_
  refine lv_istore_n (lv' := [(2, .int 0), (0, .ref o), (1, .int x1)]) E.hx E.hb dX9_goOn_1 rfl hl (by decide) rfl (fun ls hl => ?_)
  exact wX9_goOn_L2 E  2000 σ _ _ hf _ _ _ hR hS (lv_sub hl [1, 2, 0] rfl)
theorem tX9_goOn (l : Launch) {G : va_G} {cI cZ : ClassId} {o : Nat} {σ σf : MS} {x1 : Int32}  (hf : fX9_goOn σ x1 = some σf) : Met l yX9_goOn (ws_ yX9_goOn cX9_goOn 3 none) rmX9_goOn (mPc G cI cZ o σ [.ref o, .int x1]) (mQv G cI cZ o σf) 0 0 (mA o) := by
  refine Met.ofW (cc := cX9_goOn) (maxL := 3) (ret := none) (by decide) rfl ?_
  intro p e s m args below meth c s₁ B hml hv
  obtain ⟨rfl, hR, hK⟩ := hv
  have hts := atoms_spec (ws := (ws_ yX9_goOn cX9_goOn 3 none)) B.pre
  rw [lg_entry_eq]
  exact wX9_goOn_0 (E := ⟨⟨B.exec, B.bytes, hml, findClass_of_methodNamed B.named, fun w h => hts w (List.mem_cons_of_mem _ h)⟩, hK, B.returns, B.notSynchronized⟩) hf _ _ _ hR va_S.rf (lv_entry [.ref o, .int x1] (n := 3) (Nat.le_of_ble_eq_true rfl))

abbrev rmX9_putAside : Room := { frames := 1, cells := 0, slots := 0, locals := 12 }
def fX9_putAside_L2  : Nat → MS → Int32 → Option MS
  | 0, _, _ => none
  | n + 1, σ, x1 =>
    if 41 ≤ x1 then (some σ) else ((rd (σ 4) 41 x1).bind fun v2 =>
    (mwr σ 10 41 x1 v2).bind fun σ3 =>
    (fX9_putAside_L2 n) σ3 (x1 + 1))
theorem wX9_putAside_L2 (E : mE p m c cX9_putAside 2 s args G cI cZ meth none) : ∀ (n : Nat) (σ : MS) (x1 : Int32), fX9_putAside_L2 n σ x1 = some σf → ∀ (H : Heap) (locs : List Loc) (ls : Array Slot), mR G cI cZ o σ H → va_S (mA o) s.heap H locs → lv_has ls 2 [(0, .ref o), (1, .int x1)] → W p l e rmX9_putAside s m args below meth c H locs 0 0 (MQ below (mQv G cI cZ o σf) args s 0 0 (mA o)) (F0 m 2 ls []) := by
  intro n
  induction n with
  | zero =>
    intro σ x1 hf
    have hf : none = some σf := hf
    cases hf
  | succ n ih =>
    intro σ x1 hf H locs ls hR hS hl
    refine lv_iload_n E.hx E.hb dX9_putAside_2 rfl (lv_at hl 1 rfl) ?_
    refine lv_bipush (v := 41) E.hx E.hb dX9_putAside_3 (by decide) ?_
    refine lv_icmp_ge (tgt := 26) E.hx E.hb dX9_putAside_5 (by decide) (fun c1 => ?_) (fun c1 => ?_)
    · have hf := it_t hf c1
      obtain rfl := Option.some.inj hf
      exact mret_v E hR hS dX9_putAside_26
    · have hf := it_f hf c1
      refine lv_aload_n E.hx E.hb dX9_putAside_8 rfl (lv_at hl 0 rfl) ?_
      refine mg_aside E hR dX9_putAside_9 ?_
      refine lv_iload_n E.hx E.hb dX9_putAside_12 rfl (lv_at hl 1 rfl) ?_
      refine lv_aload_n E.hx E.hb dX9_putAside_13 rfl (lv_at hl 0 rfl) ?_
      refine mg_st E hR dX9_putAside_14 ?_
      refine lv_iload_n E.hx E.hb dX9_putAside_17 rfl (lv_at hl 1 rfl) ?_
      obtain ⟨v2, hv2, hf⟩ := bd_e hf
      refine ml_st E hR hv2 dX9_putAside_18 ?_
      obtain ⟨σ3, hσ3, hf⟩ := bd_e hf
      refine ms_aside E hR hS hσ3 dX9_putAside_19 (fun H locs hR hS => ?_)
      refine lv_iinc (v := (x1 + 1)) (lv' := [(1, .int (x1 + 1)), (0, .ref o)]) E.hx E.hb dX9_putAside_20 hl (k := 1) rfl rfl (by decide) rfl (fun ls hl => ?_)
      refine lv_goto (tgt := 2) E.hx E.hb dX9_putAside_23 (by decide) ?_
      exact ih σ3 _ hf _ _ _ hR hS (lv_sub hl [1, 0] rfl)
def fX9_putAside  (σ : MS)  : Option MS :=
  fX9_putAside_L2 2000 σ 0
theorem wX9_putAside_0 (E : mE p m c cX9_putAside 2 s args G cI cZ meth none) {σ : MS}  (hf : fX9_putAside σ = some σf) : ∀ (H : Heap) (locs : List Loc) (ls : Array Slot), mR G cI cZ o σ H → va_S (mA o) s.heap H locs → lv_has ls 2 [(0, .ref o)] → W p l e rmX9_putAside s m args below meth c H locs 0 0 (MQ below (mQv G cI cZ o σf) args s 0 0 (mA o)) (F0 m 0 ls []) := by
  intro H locs ls hR hS hl
  refine lv_iconst (v := 0) E.hx E.hb dX9_putAside_0 (by decide) ?_
  refine lv_istore_n (lv' := [(1, .int 0), (0, .ref o)]) E.hx E.hb dX9_putAside_1 rfl hl (by decide) rfl (fun ls hl => ?_)
  exact wX9_putAside_L2 E  2000 σ _ hf _ _ _ hR hS (lv_sub hl [1, 0] rfl)
theorem tX9_putAside (l : Launch) {G : va_G} {cI cZ : ClassId} {o : Nat} {σ σf : MS}   (hf : fX9_putAside σ  = some σf) : Met l yX9_putAside (ws_ yX9_putAside cX9_putAside 2 none) rmX9_putAside (mPc G cI cZ o σ [.ref o]) (mQv G cI cZ o σf) 0 0 (mA o) := by
  refine Met.ofW (cc := cX9_putAside) (maxL := 2) (ret := none) (by decide) rfl ?_
  intro p e s m args below meth c s₁ B hml hv
  obtain ⟨rfl, hR, hK⟩ := hv
  have hts := atoms_spec (ws := (ws_ yX9_putAside cX9_putAside 2 none)) B.pre
  rw [lg_entry_eq]
  exact wX9_putAside_0 (E := ⟨⟨B.exec, B.bytes, hml, findClass_of_methodNamed B.named, fun w h => hts w (List.mem_cons_of_mem _ h)⟩, hK, B.returns, B.notSynchronized⟩) hf _ _ _ hR va_S.rf (lv_entry [.ref o] (n := 2) (Nat.le_of_ble_eq_true rfl))

abbrev rmX9_takeBack : Room := { frames := 1, cells := 0, slots := 0, locals := 12 }
def fX9_takeBack_L2  : Nat → MS → Int32 → Option MS
  | 0, _, _ => none
  | n + 1, σ, x1 =>
    if 41 ≤ x1 then (some σ) else ((rd (σ 10) 41 x1).bind fun v2 =>
    (mwr σ 4 41 x1 v2).bind fun σ3 =>
    (fX9_takeBack_L2 n) σ3 (x1 + 1))
theorem wX9_takeBack_L2 (E : mE p m c cX9_takeBack 2 s args G cI cZ meth none) : ∀ (n : Nat) (σ : MS) (x1 : Int32), fX9_takeBack_L2 n σ x1 = some σf → ∀ (H : Heap) (locs : List Loc) (ls : Array Slot), mR G cI cZ o σ H → va_S (mA o) s.heap H locs → lv_has ls 2 [(0, .ref o), (1, .int x1)] → W p l e rmX9_takeBack s m args below meth c H locs 0 0 (MQ below (mQv G cI cZ o σf) args s 0 0 (mA o)) (F0 m 2 ls []) := by
  intro n
  induction n with
  | zero =>
    intro σ x1 hf
    have hf : none = some σf := hf
    cases hf
  | succ n ih =>
    intro σ x1 hf H locs ls hR hS hl
    refine lv_iload_n E.hx E.hb dX9_takeBack_2 rfl (lv_at hl 1 rfl) ?_
    refine lv_bipush (v := 41) E.hx E.hb dX9_takeBack_3 (by decide) ?_
    refine lv_icmp_ge (tgt := 26) E.hx E.hb dX9_takeBack_5 (by decide) (fun c1 => ?_) (fun c1 => ?_)
    · have hf := it_t hf c1
      obtain rfl := Option.some.inj hf
      exact mret_v E hR hS dX9_takeBack_26
    · have hf := it_f hf c1
      refine lv_aload_n E.hx E.hb dX9_takeBack_8 rfl (lv_at hl 0 rfl) ?_
      refine mg_st E hR dX9_takeBack_9 ?_
      refine lv_iload_n E.hx E.hb dX9_takeBack_12 rfl (lv_at hl 1 rfl) ?_
      refine lv_aload_n E.hx E.hb dX9_takeBack_13 rfl (lv_at hl 0 rfl) ?_
      refine mg_aside E hR dX9_takeBack_14 ?_
      refine lv_iload_n E.hx E.hb dX9_takeBack_17 rfl (lv_at hl 1 rfl) ?_
      obtain ⟨v2, hv2, hf⟩ := bd_e hf
      refine ml_aside E hR hv2 dX9_takeBack_18 ?_
      obtain ⟨σ3, hσ3, hf⟩ := bd_e hf
      refine ms_st E hR hS hσ3 dX9_takeBack_19 (fun H locs hR hS => ?_)
      refine lv_iinc (v := (x1 + 1)) (lv' := [(1, .int (x1 + 1)), (0, .ref o)]) E.hx E.hb dX9_takeBack_20 hl (k := 1) rfl rfl (by decide) rfl (fun ls hl => ?_)
      refine lv_goto (tgt := 2) E.hx E.hb dX9_takeBack_23 (by decide) ?_
      exact ih σ3 _ hf _ _ _ hR hS (lv_sub hl [1, 0] rfl)
def fX9_takeBack  (σ : MS)  : Option MS :=
  fX9_takeBack_L2 2000 σ 0
theorem wX9_takeBack_0 (E : mE p m c cX9_takeBack 2 s args G cI cZ meth none) {σ : MS}  (hf : fX9_takeBack σ = some σf) : ∀ (H : Heap) (locs : List Loc) (ls : Array Slot), mR G cI cZ o σ H → va_S (mA o) s.heap H locs → lv_has ls 2 [(0, .ref o)] → W p l e rmX9_takeBack s m args below meth c H locs 0 0 (MQ below (mQv G cI cZ o σf) args s 0 0 (mA o)) (F0 m 0 ls []) := by
  intro H locs ls hR hS hl
  refine lv_iconst (v := 0) E.hx E.hb dX9_takeBack_0 (by decide) ?_
  refine lv_istore_n (lv' := [(1, .int 0), (0, .ref o)]) E.hx E.hb dX9_takeBack_1 rfl hl (by decide) rfl (fun ls hl => ?_)
  exact wX9_takeBack_L2 E  2000 σ _ hf _ _ _ hR hS (lv_sub hl [1, 0] rfl)
theorem tX9_takeBack (l : Launch) {G : va_G} {cI cZ : ClassId} {o : Nat} {σ σf : MS}   (hf : fX9_takeBack σ  = some σf) : Met l yX9_takeBack (ws_ yX9_takeBack cX9_takeBack 2 none) rmX9_takeBack (mPc G cI cZ o σ [.ref o]) (mQv G cI cZ o σf) 0 0 (mA o) := by
  refine Met.ofW (cc := cX9_takeBack) (maxL := 2) (ret := none) (by decide) rfl ?_
  intro p e s m args below meth c s₁ B hml hv
  obtain ⟨rfl, hR, hK⟩ := hv
  have hts := atoms_spec (ws := (ws_ yX9_takeBack cX9_takeBack 2 none)) B.pre
  rw [lg_entry_eq]
  exact wX9_takeBack_0 (E := ⟨⟨B.exec, B.bytes, hml, findClass_of_methodNamed B.named, fun w h => hts w (List.mem_cons_of_mem _ h)⟩, hK, B.returns, B.notSynchronized⟩) hf _ _ _ hR va_S.rf (lv_entry [.ref o] (n := 2) (Nat.le_of_ble_eq_true rfl))

theorem cwX9_196 {R : Room} {s : State} {args : Array Value} (ht : ∀ w ∈ lw_all, w.before args s = true) (hR : rmX9_goOn.frames + 1 ≤ R.frames ∧ 8 + (3 + 11) + rmX9_goOn.locals ≤ R.locals) : CallW R s args RX9 RX9 196 yX9_goOn cX9_goOn 3 none (ws_ yX9_goOn cX9_goOn 3 none) rmX9_goOn 0 0 1 :=
  cwV 1 ht (lw_V q1490 q1492 qs52 q80 q1493) rfl rfl rfl (by decide +kernel) hR
theorem cwX9_199 {R : Room} {s : State} {args : Array Value} (ht : ∀ w ∈ lw_all, w.before args s = true) (hR : rmX9_takeBack.frames + 1 ≤ R.frames ∧ 8 + (2 + 11) + rmX9_takeBack.locals ≤ R.locals) : CallW R s args RX9 RX9 199 yX9_takeBack cX9_takeBack 2 none (ws_ yX9_takeBack cX9_takeBack 2 none) rmX9_takeBack 0 0 0 :=
  cwV 0 ht (lw_V q1494 q1496 qs53 q80 q1497) rfl rfl rfl (by decide +kernel) hR
theorem cwX9_204 {R : Room} {s : State} {args : Array Value} (ht : ∀ w ∈ lw_all, w.before args s = true) (hR : rmX9_putAside.frames + 1 ≤ R.frames ∧ 8 + (2 + 11) + rmX9_putAside.locals ≤ R.locals) : CallW R s args RX9 RX9 204 yX9_putAside cX9_putAside 2 none (ws_ yX9_putAside cX9_putAside 2 none) rmX9_putAside 0 0 0 :=
  cwV 0 ht (lw_V q1486 q1488 qs51 q80 q1489) rfl rfl rfl (by decide +kernel) hR
abbrev rmX9_ahead : Room := { frames := 8, cells := 0, slots := 0, locals := 168 }
def fX9_ahead_b78  (σ : MS) (s0 : Int32) : Option (Int32 × MS) :=
  (fX9_takeBack σ).bind fun σ1 =>
  some (s0, σ1)
theorem wX9_ahead_b78 (E : mE p m c cX9_ahead 5 s args G cI cZ meth (some .int)) {σ : MS} {s0 : Int32} (hf : fX9_ahead_b78 σ s0 = some (r, σf)) : ∀ (H : Heap) (locs : List Loc) (ls : Array Slot), mR G cI cZ o σ H → va_S (mA o) s.heap H locs → lv_has ls 5 [(0, .ref o)] → W p l e rmX9_ahead s m args below meth c H locs 0 0 (MQ below (mQi G cI cZ o r σf) args s 0 0 (mA o)) (F0 m 78 ls [.int s0]) := by
  intro H locs ls hR hS hl
  refine lv_istore (lv' := [(4, .int s0), (0, .ref o)]) E.hx E.hb dX9_ahead_78 hl (by decide) rfl (fun ls hl => ?_)
  refine lv_aload_n E.hx E.hb dX9_ahead_80 rfl (lv_at hl 1 rfl) ?_
  obtain ⟨σ1, hσ1, hf⟩ := bd_e hf
  refine mcall_v (rest := []) E hR hS (tX9_takeBack l hσ1) (cwX9_199 E.ht ⟨Nat.le_of_ble_eq_true rfl, Nat.le_of_ble_eq_true rfl⟩) rfl hl.1 rfl (Nat.le_of_ble_eq_true rfl) dX9_ahead_81 ⟨Nat.le_refl 0, Nat.le_refl 0⟩ (fun H locs hR hS => ?_)
  refine lv_iload E.hx E.hb dX9_ahead_84 (lv_at hl 0 rfl) ?_
  obtain ⟨rfl, rfl⟩ := rt_e hf
  exact mret_i E hR hS dX9_ahead_86
def fX9_ahead  (σ : MS) (x1 : Int32) (x2 : Int32) (x3 : Int32) : Option (Int32 × MS) :=
  (fX9_isChair σ x1).bind fun (v2, σ1) =>
  if v2 = 0 then (some ((-1000001), σ1)) else ((fX9_in (x2.toInt64) 0 60).bind fun v4 =>
  if v4 = 0 then (some ((-1000001), σ1)) else ((fX9_in (x3.toInt64) 0 2).bind fun v6 =>
  if v6 = 0 then (some ((-1000001), σ1)) else ((fX9_putAside σ1).bind fun σ8 =>
  (fX9_goOn σ8 x2).bind fun σ9 =>
  if x3 = 0 then ((fX9_highOf σ9 x1).bind fun (v16, σ15) =>
  fX9_ahead_b78 σ15 v16) else (if x3 = 1 then ((fX9_rankOf σ9 x1).bind fun (v14, σ13) =>
  fX9_ahead_b78 σ13 v14) else ((rd (σ9 4) 41 (11 + x1)).bind fun v12 =>
  fX9_ahead_b78 σ9 v12)))))
theorem wX9_ahead_0 (E : mE p m c cX9_ahead 5 s args G cI cZ meth (some .int)) {σ : MS} {x1 : Int32} {x2 : Int32} {x3 : Int32} (hf : fX9_ahead σ x1 x2 x3 = some (r, σf)) : ∀ (H : Heap) (locs : List Loc) (ls : Array Slot), mR G cI cZ o σ H → va_S (mA o) s.heap H locs → lv_has ls 5 [(0, .ref o), (1, .int x1), (2, .int x2), (3, .int x3)] → W p l e rmX9_ahead s m args below meth c H locs 0 0 (MQ below (mQi G cI cZ o r σf) args s 0 0 (mA o)) (F0 m 0 ls []) := by
  intro H locs ls hR hS hl
  refine lv_aload_n E.hx E.hb dX9_ahead_0 rfl (lv_at hl 0 rfl) ?_
  refine lv_iload_n E.hx E.hb dX9_ahead_1 rfl (lv_at hl 1 rfl) ?_
  obtain ⟨⟨v2, σ1⟩, hv2, hf⟩ := bd_e hf
  refine mcall_i (rest := []) E hR hS (tX9_isChair l hv2) (cwX9_178 E.ht ⟨Nat.le_of_ble_eq_true rfl, Nat.le_of_ble_eq_true rfl⟩) rfl hl.1 rfl (Nat.le_of_ble_eq_true rfl) dX9_ahead_2 ⟨Nat.le_refl 0, Nat.le_refl 0⟩ (fun H locs hR hS => ?_)
  refine lv_if_eq (tgt := 32) E.hx E.hb dX9_ahead_5 (by decide) (fun c3 => ?_) (fun c3 => ?_)
  · have hf := it_t hf c3
    refine lv_ldc (v := (-1000001)) E.hx E.hb E.ho (E.ht _ q1319) dX9_ahead_32 ?_
    obtain ⟨rfl, rfl⟩ := rt_e hf
    exact mret_i E hR hS dX9_ahead_34
  · have hf := it_f hf c3
    refine lv_iload_n E.hx E.hb dX9_ahead_8 rfl (lv_at hl 2 rfl) ?_
    refine lv_i2l E.hx E.hb dX9_ahead_9 rfl ?_
    refine lv_lconst (v := 0) E.hx E.hb dX9_ahead_10 (by decide) ?_
    refine lv_ldc2 (v := 60) E.hx E.hb E.ho (E.ht _ q1485) dX9_ahead_11 ?_
    obtain ⟨v4, hv4, hf⟩ := bd_e hf
    refine scall_i (rest := []) E.1 (tX9_in l hv4) (cwX9_57 E.ht ⟨Nat.le_of_ble_eq_true rfl, Nat.le_of_ble_eq_true rfl⟩) rfl hl.1 rfl (Nat.le_of_ble_eq_true rfl) dX9_ahead_14 ⟨Nat.le_refl 0, Nat.le_refl 0⟩ ?_
    refine lv_if_eq (tgt := 32) E.hx E.hb dX9_ahead_17 (by decide) (fun c5 => ?_) (fun c5 => ?_)
    · have hf := it_t hf c5
      refine lv_ldc (v := (-1000001)) E.hx E.hb E.ho (E.ht _ q1319) dX9_ahead_32 ?_
      obtain ⟨rfl, rfl⟩ := rt_e hf
      exact mret_i E hR hS dX9_ahead_34
    · have hf := it_f hf c5
      refine lv_iload_n E.hx E.hb dX9_ahead_20 rfl (lv_at hl 3 rfl) ?_
      refine lv_i2l E.hx E.hb dX9_ahead_21 rfl ?_
      refine lv_lconst (v := 0) E.hx E.hb dX9_ahead_22 (by decide) ?_
      refine lv_ldc2 (v := 2) E.hx E.hb E.ho (E.ht _ q1318) dX9_ahead_23 ?_
      obtain ⟨v6, hv6, hf⟩ := bd_e hf
      refine scall_i (rest := []) E.1 (tX9_in l hv6) (cwX9_57 E.ht ⟨Nat.le_of_ble_eq_true rfl, Nat.le_of_ble_eq_true rfl⟩) rfl hl.1 rfl (Nat.le_of_ble_eq_true rfl) dX9_ahead_26 ⟨Nat.le_refl 0, Nat.le_refl 0⟩ ?_
      refine lv_if_ne (tgt := 35) E.hx E.hb dX9_ahead_29 (by decide) (fun c7 => ?_) (fun c7 => ?_)
      · have hf := it_f hf c7
        refine lv_aload_n E.hx E.hb dX9_ahead_35 rfl (lv_at hl 0 rfl) ?_
        obtain ⟨σ8, hσ8, hf⟩ := bd_e hf
        refine mcall_v (rest := []) E hR hS (tX9_putAside l hσ8) (cwX9_204 E.ht ⟨Nat.le_of_ble_eq_true rfl, Nat.le_of_ble_eq_true rfl⟩) rfl hl.1 rfl (Nat.le_of_ble_eq_true rfl) dX9_ahead_36 ⟨Nat.le_refl 0, Nat.le_refl 0⟩ (fun H locs hR hS => ?_)
        refine lv_aload_n E.hx E.hb dX9_ahead_39 rfl (lv_at hl 0 rfl) ?_
        refine lv_iload_n E.hx E.hb dX9_ahead_40 rfl (lv_at hl 2 rfl) ?_
        obtain ⟨σ9, hσ9, hf⟩ := bd_e hf
        refine mcall_v (rest := []) E hR hS (tX9_goOn l hσ9) (cwX9_196 E.ht ⟨Nat.le_of_ble_eq_true rfl, Nat.le_of_ble_eq_true rfl⟩) rfl hl.1 rfl (Nat.le_of_ble_eq_true rfl) dX9_ahead_41 ⟨Nat.le_refl 0, Nat.le_refl 0⟩ (fun H locs hR hS => ?_)
        refine lv_iload_n E.hx E.hb dX9_ahead_44 rfl (lv_at hl 3 rfl) ?_
        refine lv_if_ne (tgt := 56) E.hx E.hb dX9_ahead_45 (by decide) (fun c10 => ?_) (fun c10 => ?_)
        · have hf := it_f hf c10
          refine lv_iload_n E.hx E.hb dX9_ahead_56 rfl (lv_at hl 3 rfl) ?_
          refine lv_iconst (v := 1) E.hx E.hb dX9_ahead_57 (by decide) ?_
          refine lv_icmp_ne (tgt := 69) E.hx E.hb dX9_ahead_58 (by decide) (fun c11 => ?_) (fun c11 => ?_)
          · have hf := it_f hf c11
            refine lv_aload_n E.hx E.hb dX9_ahead_69 rfl (lv_at hl 0 rfl) ?_
            refine mg_st E hR dX9_ahead_70 ?_
            refine lv_bipush (v := 11) E.hx E.hb dX9_ahead_73 (by decide) ?_
            refine lv_iload_n E.hx E.hb dX9_ahead_75 rfl (lv_at hl 1 rfl) ?_
            refine lv_iadd E.hx E.hb dX9_ahead_76 ?_
            obtain ⟨v12, hv12, hf⟩ := bd_e hf
            refine ml_st E hR hv12 dX9_ahead_77 ?_
            exact wX9_ahead_b78 E  hf _ _ _ hR hS (lv_sub hl [0] rfl)
          · have hf := it_t hf c11
            refine lv_aload_n E.hx E.hb dX9_ahead_61 rfl (lv_at hl 0 rfl) ?_
            refine lv_iload_n E.hx E.hb dX9_ahead_62 rfl (lv_at hl 1 rfl) ?_
            obtain ⟨⟨v14, σ13⟩, hv14, hf⟩ := bd_e hf
            refine mcall_i (rest := []) E hR hS (tX9_rankOf l hv14) (cwX9_150 E.ht ⟨Nat.le_of_ble_eq_true rfl, Nat.le_of_ble_eq_true rfl⟩) rfl hl.1 rfl (Nat.le_of_ble_eq_true rfl) dX9_ahead_63 ⟨Nat.le_refl 0, Nat.le_refl 0⟩ (fun H locs hR hS => ?_)
            refine lv_goto (tgt := 78) E.hx E.hb dX9_ahead_66 (by decide) ?_
            exact wX9_ahead_b78 E  hf _ _ _ hR hS (lv_sub hl [0] rfl)
        · have hf := it_t hf c10
          refine lv_aload_n E.hx E.hb dX9_ahead_48 rfl (lv_at hl 0 rfl) ?_
          refine lv_iload_n E.hx E.hb dX9_ahead_49 rfl (lv_at hl 1 rfl) ?_
          obtain ⟨⟨v16, σ15⟩, hv16, hf⟩ := bd_e hf
          refine mcall_i (rest := []) E hR hS (tX9_highOf l hv16) (cwX9_146 E.ht ⟨Nat.le_of_ble_eq_true rfl, Nat.le_of_ble_eq_true rfl⟩) rfl hl.1 rfl (Nat.le_of_ble_eq_true rfl) dX9_ahead_50 ⟨Nat.le_refl 0, Nat.le_refl 0⟩ (fun H locs hR hS => ?_)
          refine lv_goto (tgt := 78) E.hx E.hb dX9_ahead_53 (by decide) ?_
          exact wX9_ahead_b78 E  hf _ _ _ hR hS (lv_sub hl [0] rfl)
      · have hf := it_t hf c7
        refine lv_ldc (v := (-1000001)) E.hx E.hb E.ho (E.ht _ q1319) dX9_ahead_32 ?_
        obtain ⟨rfl, rfl⟩ := rt_e hf
        exact mret_i E hR hS dX9_ahead_34
theorem tX9_ahead (l : Launch) {G : va_G} {cI cZ : ClassId} {o : Nat} {σ σf : MS} {x1 : Int32} {x2 : Int32} {x3 : Int32} {r : Int32} (hf : fX9_ahead σ x1 x2 x3 = some (r, σf)) : Met l yX9_ahead (ws_ yX9_ahead cX9_ahead 5 (some .int)) rmX9_ahead (mPc G cI cZ o σ [.ref o, .int x1, .int x2, .int x3]) (mQi G cI cZ o r σf) 0 0 (mA o) := by
  refine Met.ofW (cc := cX9_ahead) (maxL := 5) (ret := (some .int)) (by decide) rfl ?_
  intro p e s m args below meth c s₁ B hml hv
  obtain ⟨rfl, hR, hK⟩ := hv
  have hts := atoms_spec (ws := (ws_ yX9_ahead cX9_ahead 5 (some .int))) B.pre
  rw [lg_entry_eq]
  exact wX9_ahead_0 (E := ⟨⟨B.exec, B.bytes, hml, findClass_of_methodNamed B.named, fun w h => hts w (List.mem_cons_of_mem _ h)⟩, hK, B.returns, B.notSynchronized⟩) hf _ _ _ hR va_S.rf (lv_entry [.ref o, .int x1, .int x2, .int x3] (n := 5) (Nat.le_of_ble_eq_true rfl))

abbrev rmX9_minister : Room := { frames := 8, cells := 0, slots := 0, locals := 168 }
def fX9_minister  (σ : MS) (x1 : Int32) : Option (Int32 × MS) :=
  if (σ 0 4) = 0 then (some ((-1000002), σ)) else ((fX9_in (x1.toInt64) 0 60).bind fun v2 =>
  if v2 = 0 then (some ((-1000001), σ)) else ((fX9_putAside σ).bind fun σ4 =>
  (fX9_goOn σ4 x1).bind fun σ5 =>
  (fX9_atRank σ5 0).bind fun (v7, σ6) =>
  (fX9_takeBack σ6).bind fun σ8 =>
  some (v7, σ8)))
theorem wX9_minister_0 (E : mE p m c cX9_minister 3 s args G cI cZ meth (some .int)) {σ : MS} {x1 : Int32} (hf : fX9_minister σ x1 = some (r, σf)) : ∀ (H : Heap) (locs : List Loc) (ls : Array Slot), mR G cI cZ o σ H → va_S (mA o) s.heap H locs → lv_has ls 3 [(0, .ref o), (1, .int x1)] → W p l e rmX9_minister s m args below meth c H locs 0 0 (MQ below (mQi G cI cZ o r σf) args s 0 0 (mA o)) (F0 m 0 ls []) := by
  intro H locs ls hR hS hl
  refine lv_aload_n E.hx E.hb dX9_minister_0 rfl (lv_at hl 0 rfl) ?_
  refine mg_isThere E hR dX9_minister_1 ?_
  refine lv_if_ne (tgt := 10) E.hx E.hb dX9_minister_4 (by decide) (fun c1 => ?_) (fun c1 => ?_)
  · have hf := it_f hf c1
    refine lv_iload_n E.hx E.hb dX9_minister_10 rfl (lv_at hl 1 rfl) ?_
    refine lv_i2l E.hx E.hb dX9_minister_11 rfl ?_
    refine lv_lconst (v := 0) E.hx E.hb dX9_minister_12 (by decide) ?_
    refine lv_ldc2 (v := 60) E.hx E.hb E.ho (E.ht _ q1485) dX9_minister_13 ?_
    obtain ⟨v2, hv2, hf⟩ := bd_e hf
    refine scall_i (rest := []) E.1 (tX9_in l hv2) (cwX9_57 E.ht ⟨Nat.le_of_ble_eq_true rfl, Nat.le_of_ble_eq_true rfl⟩) rfl hl.1 rfl (Nat.le_of_ble_eq_true rfl) dX9_minister_16 ⟨Nat.le_refl 0, Nat.le_refl 0⟩ ?_
    refine lv_if_ne (tgt := 25) E.hx E.hb dX9_minister_19 (by decide) (fun c3 => ?_) (fun c3 => ?_)
    · have hf := it_f hf c3
      refine lv_aload_n E.hx E.hb dX9_minister_25 rfl (lv_at hl 0 rfl) ?_
      obtain ⟨σ4, hσ4, hf⟩ := bd_e hf
      refine mcall_v (rest := []) E hR hS (tX9_putAside l hσ4) (cwX9_204 E.ht ⟨Nat.le_of_ble_eq_true rfl, Nat.le_of_ble_eq_true rfl⟩) rfl hl.1 rfl (Nat.le_of_ble_eq_true rfl) dX9_minister_26 ⟨Nat.le_refl 0, Nat.le_refl 0⟩ (fun H locs hR hS => ?_)
      refine lv_aload_n E.hx E.hb dX9_minister_29 rfl (lv_at hl 0 rfl) ?_
      refine lv_iload_n E.hx E.hb dX9_minister_30 rfl (lv_at hl 1 rfl) ?_
      obtain ⟨σ5, hσ5, hf⟩ := bd_e hf
      refine mcall_v (rest := []) E hR hS (tX9_goOn l hσ5) (cwX9_196 E.ht ⟨Nat.le_of_ble_eq_true rfl, Nat.le_of_ble_eq_true rfl⟩) rfl hl.1 rfl (Nat.le_of_ble_eq_true rfl) dX9_minister_31 ⟨Nat.le_refl 0, Nat.le_refl 0⟩ (fun H locs hR hS => ?_)
      refine lv_aload_n E.hx E.hb dX9_minister_34 rfl (lv_at hl 0 rfl) ?_
      refine lv_iconst (v := 0) E.hx E.hb dX9_minister_35 (by decide) ?_
      obtain ⟨⟨v7, σ6⟩, hv7, hf⟩ := bd_e hf
      refine mcall_i (rest := []) E hR hS (tX9_atRank l hv7) (cwX9_153 E.ht ⟨Nat.le_of_ble_eq_true rfl, Nat.le_of_ble_eq_true rfl⟩) rfl hl.1 rfl (Nat.le_of_ble_eq_true rfl) dX9_minister_36 ⟨Nat.le_refl 0, Nat.le_refl 0⟩ (fun H locs hR hS => ?_)
      refine lv_istore_n (lv' := [(2, .int v7), (0, .ref o), (1, .int x1)]) E.hx E.hb dX9_minister_39 rfl hl (by decide) rfl (fun ls hl => ?_)
      refine lv_aload_n E.hx E.hb dX9_minister_40 rfl (lv_at hl 1 rfl) ?_
      obtain ⟨σ8, hσ8, hf⟩ := bd_e hf
      refine mcall_v (rest := []) E hR hS (tX9_takeBack l hσ8) (cwX9_199 E.ht ⟨Nat.le_of_ble_eq_true rfl, Nat.le_of_ble_eq_true rfl⟩) rfl hl.1 rfl (Nat.le_of_ble_eq_true rfl) dX9_minister_41 ⟨Nat.le_refl 0, Nat.le_refl 0⟩ (fun H locs hR hS => ?_)
      refine lv_iload_n E.hx E.hb dX9_minister_44 rfl (lv_at hl 0 rfl) ?_
      obtain ⟨rfl, rfl⟩ := rt_e hf
      exact mret_i E hR hS dX9_minister_45
    · have hf := it_t hf c3
      refine lv_ldc (v := (-1000001)) E.hx E.hb E.ho (E.ht _ q1319) dX9_minister_22 ?_
      obtain ⟨rfl, rfl⟩ := rt_e hf
      exact mret_i E hR hS dX9_minister_24
  · have hf := it_t hf c1
    refine lv_ldc (v := (-1000002)) E.hx E.hb E.ho (E.ht _ q1395) dX9_minister_7 ?_
    obtain ⟨rfl, rfl⟩ := rt_e hf
    exact mret_i E hR hS dX9_minister_9
theorem tX9_minister (l : Launch) {G : va_G} {cI cZ : ClassId} {o : Nat} {σ σf : MS} {x1 : Int32} {r : Int32} (hf : fX9_minister σ x1 = some (r, σf)) : Met l yX9_minister (ws_ yX9_minister cX9_minister 3 (some .int)) rmX9_minister (mPc G cI cZ o σ [.ref o, .int x1]) (mQi G cI cZ o r σf) 0 0 (mA o) := by
  refine Met.ofW (cc := cX9_minister) (maxL := 3) (ret := (some .int)) (by decide) rfl ?_
  intro p e s m args below meth c s₁ B hml hv
  obtain ⟨rfl, hR, hK⟩ := hv
  have hts := atoms_spec (ws := (ws_ yX9_minister cX9_minister 3 (some .int))) B.pre
  rw [lg_entry_eq]
  exact wX9_minister_0 (E := ⟨⟨B.exec, B.bytes, hml, findClass_of_methodNamed B.named, fun w h => hts w (List.mem_cons_of_mem _ h)⟩, hK, B.returns, B.notSynchronized⟩) hf _ _ _ hR va_S.rf (lv_entry [.ref o, .int x1] (n := 3) (Nat.le_of_ble_eq_true rfl))
end
