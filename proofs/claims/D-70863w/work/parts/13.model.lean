set_option maxRecDepth 100000
section
variable {p : Program} {l : Launch} {e : Env} {s : State} {m : MethodId} {args : Array Value} {below : List Frame} {meth : Method} {c : Code} {G : va_G} {cI cZ : ClassId} {o : Nat} {σf : MS} {r : Int32} {rl : Int64}
abbrev rmX9_sawnBy : Room := { frames := 6, cells := 0, slots := 0, locals := 123 }
def fX9_sawnBy_L15  : Nat → MS → Int32 → Int32 → Int32 → Option (Int32 × MS)
  | 0, _, _, _, _ => none
  | n + 1, σ, x1, x2, x3 =>
    (rd (σ 4) 41 2).bind fun v1 =>
    if v1 ≤ x3 then (some (x2, σ)) else ((fX9_targetOf σ x3).bind fun (v4, σ3) =>
    if v4 = x1 then ((fX9_sawnBy_L15 n) σ3 x1 (x2 ||| (1 <<< (x3 &&& 31))) (x3 + 1)) else ((fX9_sawnBy_L15 n) σ3 x1 (x2 ||| 0) (x3 + 1)))
theorem wX9_sawnBy_L15 (E : mE p m c cX9_sawnBy 4 s args G cI cZ meth (some .int)) : ∀ (n : Nat) (σ : MS) (x1 : Int32) (x2 : Int32) (x3 : Int32), fX9_sawnBy_L15 n σ x1 x2 x3 = some (r, σf) → ∀ (H : Heap) (locs : List Loc) (ls : Array Slot), mR G cI cZ o σ H → va_S (mA o) s.heap H locs → lv_has ls 4 [(0, .ref o), (1, .int x1), (2, .int x2), (3, .int x3)] → W p l e rmX9_sawnBy s m args below meth c H locs 0 0 (MQ below (mQi G cI cZ o r σf) args s 0 0 (mA o)) (F0 m 15 ls []) := by
  intro n
  induction n with
  | zero =>
    intro σ x1 x2 x3 hf
    have hf : none = some (r, σf) := hf
    cases hf
  | succ n ih =>
    intro σ x1 x2 x3 hf H locs ls hR hS hl
    refine lv_iload_n E.hx E.hb dX9_sawnBy_15 rfl (lv_at hl 3 rfl) ?_
    refine lv_aload_n E.hx E.hb dX9_sawnBy_16 rfl (lv_at hl 0 rfl) ?_
    refine mg_st E hR dX9_sawnBy_17 ?_
    refine lv_iconst (v := 2) E.hx E.hb dX9_sawnBy_20 (by decide) ?_
    obtain ⟨v1, hv1, hf⟩ := bd_e hf
    refine ml_st E hR hv1 dX9_sawnBy_21 ?_
    refine lv_icmp_ge (tgt := 50) E.hx E.hb dX9_sawnBy_22 (by decide) (fun c2 => ?_) (fun c2 => ?_)
    · have hf := it_t hf c2
      refine lv_iload_n E.hx E.hb dX9_sawnBy_50 rfl (lv_at hl 2 rfl) ?_
      obtain ⟨rfl, rfl⟩ := rt_e hf
      exact mret_i E hR hS dX9_sawnBy_51
    · have hf := it_f hf c2
      refine lv_iload_n E.hx E.hb dX9_sawnBy_25 rfl (lv_at hl 2 rfl) ?_
      refine lv_aload_n E.hx E.hb dX9_sawnBy_26 rfl (lv_at hl 0 rfl) ?_
      refine lv_iload_n E.hx E.hb dX9_sawnBy_27 rfl (lv_at hl 3 rfl) ?_
      obtain ⟨⟨v4, σ3⟩, hv4, hf⟩ := bd_e hf
      refine mcall_i (rest := [.int x2]) E hR hS (tX9_targetOf l hv4) (cwX9_159 E.ht ⟨Nat.le_of_ble_eq_true rfl, Nat.le_of_ble_eq_true rfl⟩) rfl hl.1 rfl (Nat.le_of_ble_eq_true rfl) dX9_sawnBy_28 ⟨Nat.le_refl 0, Nat.le_refl 0⟩ (fun H locs hR hS => ?_)
      refine lv_iload_n E.hx E.hb dX9_sawnBy_31 rfl (lv_at hl 1 rfl) ?_
      refine lv_icmp_ne (tgt := 41) E.hx E.hb dX9_sawnBy_32 (by decide) (fun c5 => ?_) (fun c5 => ?_)
      · have hf := it_f hf c5
        refine lv_iconst (v := 0) E.hx E.hb dX9_sawnBy_41 (by decide) ?_
        refine lv_ior E.hx E.hb dX9_sawnBy_42 ?_
        refine lv_istore_n (lv' := [(2, .int (x2 ||| 0)), (0, .ref o), (1, .int x1), (3, .int x3)]) E.hx E.hb dX9_sawnBy_43 rfl hl (by decide) rfl (fun ls hl => ?_)
        refine lv_iinc (v := (x3 + 1)) (lv' := [(3, .int (x3 + 1)), (2, .int (x2 ||| 0)), (0, .ref o), (1, .int x1)]) E.hx E.hb dX9_sawnBy_44 hl (k := 3) rfl rfl (by decide) rfl (fun ls hl => ?_)
        refine lv_goto (tgt := 15) E.hx E.hb dX9_sawnBy_47 (by decide) ?_
        exact ih σ3 _ _ _ hf _ _ _ hR hS (lv_sub hl [2, 3, 1, 0] rfl)
      · have hf := it_t hf c5
        refine lv_iconst (v := 1) E.hx E.hb dX9_sawnBy_35 (by decide) ?_
        refine lv_iload_n E.hx E.hb dX9_sawnBy_36 rfl (lv_at hl 3 rfl) ?_
        refine lv_ishl E.hx E.hb dX9_sawnBy_37 ?_
        refine lv_goto (tgt := 42) E.hx E.hb dX9_sawnBy_38 (by decide) ?_
        refine lv_ior E.hx E.hb dX9_sawnBy_42 ?_
        refine lv_istore_n (lv' := [(2, .int (x2 ||| (1 <<< (x3 &&& 31)))), (0, .ref o), (1, .int x1), (3, .int x3)]) E.hx E.hb dX9_sawnBy_43 rfl hl (by decide) rfl (fun ls hl => ?_)
        refine lv_iinc (v := (x3 + 1)) (lv' := [(3, .int (x3 + 1)), (2, .int (x2 ||| (1 <<< (x3 &&& 31)))), (0, .ref o), (1, .int x1)]) E.hx E.hb dX9_sawnBy_44 hl (k := 3) rfl rfl (by decide) rfl (fun ls hl => ?_)
        refine lv_goto (tgt := 15) E.hx E.hb dX9_sawnBy_47 (by decide) ?_
        exact ih σ3 _ _ _ hf _ _ _ hR hS (lv_sub hl [2, 3, 1, 0] rfl)
def fX9_sawnBy  (σ : MS) (x1 : Int32) : Option (Int32 × MS) :=
  (fX9_isChair σ x1).bind fun (v2, σ1) =>
  if v2 = 0 then (some ((-1000001), σ1)) else (fX9_sawnBy_L15 2000 σ1 x1 0 0)
theorem wX9_sawnBy_0 (E : mE p m c cX9_sawnBy 4 s args G cI cZ meth (some .int)) {σ : MS} {x1 : Int32} (hf : fX9_sawnBy σ x1 = some (r, σf)) : ∀ (H : Heap) (locs : List Loc) (ls : Array Slot), mR G cI cZ o σ H → va_S (mA o) s.heap H locs → lv_has ls 4 [(0, .ref o), (1, .int x1)] → W p l e rmX9_sawnBy s m args below meth c H locs 0 0 (MQ below (mQi G cI cZ o r σf) args s 0 0 (mA o)) (F0 m 0 ls []) := by
  intro H locs ls hR hS hl
  refine lv_aload_n E.hx E.hb dX9_sawnBy_0 rfl (lv_at hl 0 rfl) ?_
  refine lv_iload_n E.hx E.hb dX9_sawnBy_1 rfl (lv_at hl 1 rfl) ?_
  obtain ⟨⟨v2, σ1⟩, hv2, hf⟩ := bd_e hf
  refine mcall_i (rest := []) E hR hS (tX9_isChair l hv2) (cwX9_178 E.ht ⟨Nat.le_of_ble_eq_true rfl, Nat.le_of_ble_eq_true rfl⟩) rfl hl.1 rfl (Nat.le_of_ble_eq_true rfl) dX9_sawnBy_2 ⟨Nat.le_refl 0, Nat.le_refl 0⟩ (fun H locs hR hS => ?_)
  refine lv_if_ne (tgt := 11) E.hx E.hb dX9_sawnBy_5 (by decide) (fun c3 => ?_) (fun c3 => ?_)
  · have hf := it_f hf c3
    refine lv_iconst (v := 0) E.hx E.hb dX9_sawnBy_11 (by decide) ?_
    refine lv_istore_n (lv' := [(2, .int 0), (0, .ref o), (1, .int x1)]) E.hx E.hb dX9_sawnBy_12 rfl hl (by decide) rfl (fun ls hl => ?_)
    refine lv_iconst (v := 0) E.hx E.hb dX9_sawnBy_13 (by decide) ?_
    refine lv_istore_n (lv' := [(3, .int 0), (2, .int 0), (0, .ref o), (1, .int x1)]) E.hx E.hb dX9_sawnBy_14 rfl hl (by decide) rfl (fun ls hl => ?_)
    exact wX9_sawnBy_L15 E  2000 σ1 _ _ _ hf _ _ _ hR hS (lv_sub hl [2, 3, 1, 0] rfl)
  · have hf := it_t hf c3
    refine lv_ldc (v := (-1000001)) E.hx E.hb E.ho (E.ht _ q1319) dX9_sawnBy_8 ?_
    obtain ⟨rfl, rfl⟩ := rt_e hf
    exact mret_i E hR hS dX9_sawnBy_10
theorem tX9_sawnBy (l : Launch) {G : va_G} {cI cZ : ClassId} {o : Nat} {σ σf : MS} {x1 : Int32} {r : Int32} (hf : fX9_sawnBy σ x1 = some (r, σf)) : Met l yX9_sawnBy (ws_ yX9_sawnBy cX9_sawnBy 4 (some .int)) rmX9_sawnBy (mPc G cI cZ o σ [.ref o, .int x1]) (mQi G cI cZ o r σf) 0 0 (mA o) := by
  refine Met.ofW (cc := cX9_sawnBy) (maxL := 4) (ret := (some .int)) (by decide) rfl ?_
  intro p e s m args below meth c s₁ B hml hv
  obtain ⟨rfl, hR, hK⟩ := hv
  have hts := atoms_spec (ws := (ws_ yX9_sawnBy cX9_sawnBy 4 (some .int))) B.pre
  rw [lg_entry_eq]
  exact wX9_sawnBy_0 (E := ⟨⟨B.exec, B.bytes, hml, findClass_of_methodNamed B.named, fun w h => hts w (List.mem_cons_of_mem _ h)⟩, hK, B.returns, B.notSynchronized⟩) hf _ _ _ hR va_S.rf (lv_entry [.ref o, .int x1] (n := 4) (Nat.le_of_ble_eq_true rfl))

abbrev rmX9_round : Room := { frames := 6, cells := 0, slots := 0, locals := 123 }
def fX9_round_L14  : Nat → MS → Int32 → Int32 → Option (Int32 × MS)
  | 0, _, _, _ => none
  | n + 1, σ, x1, x2 =>
    (rd (σ 4) 41 2).bind fun v1 =>
    if v1 ≤ x2 then (some (x1, σ)) else ((fX9_targetOf σ x2).bind fun (v4, σ3) =>
    if v4 < 0 then ((fX9_round_L14 n) σ3 (x1 ||| 0) (x2 + 1)) else ((fX9_targetOf σ3 v4).bind fun (v7, σ6) =>
    if v7 = x2 then ((fX9_round_L14 n) σ6 (x1 ||| (1 <<< (x2 &&& 31))) (x2 + 1)) else ((fX9_round_L14 n) σ6 (x1 ||| 0) (x2 + 1))))
theorem wX9_round_L14 (E : mE p m c cX9_round 4 s args G cI cZ meth (some .int)) : ∀ (n : Nat) (σ : MS) (x1 : Int32) (x2 : Int32), fX9_round_L14 n σ x1 x2 = some (r, σf) → ∀ (H : Heap) (locs : List Loc) (ls : Array Slot), mR G cI cZ o σ H → va_S (mA o) s.heap H locs → lv_has ls 4 [(0, .ref o), (1, .int x1), (2, .int x2)] → W p l e rmX9_round s m args below meth c H locs 0 0 (MQ below (mQi G cI cZ o r σf) args s 0 0 (mA o)) (F0 m 14 ls []) := by
  intro n
  induction n with
  | zero =>
    intro σ x1 x2 hf
    have hf : none = some (r, σf) := hf
    cases hf
  | succ n ih =>
    intro σ x1 x2 hf H locs ls hR hS hl
    refine lv_iload_n E.hx E.hb dX9_round_14 rfl (lv_at hl 2 rfl) ?_
    refine lv_aload_n E.hx E.hb dX9_round_15 rfl (lv_at hl 0 rfl) ?_
    refine mg_st E hR dX9_round_16 ?_
    refine lv_iconst (v := 2) E.hx E.hb dX9_round_19 (by decide) ?_
    obtain ⟨v1, hv1, hf⟩ := bd_e hf
    refine ml_st E hR hv1 dX9_round_20 ?_
    refine lv_icmp_ge (tgt := 59) E.hx E.hb dX9_round_21 (by decide) (fun c2 => ?_) (fun c2 => ?_)
    · have hf := it_t hf c2
      refine lv_iload_n E.hx E.hb dX9_round_59 rfl (lv_at hl 1 rfl) ?_
      obtain ⟨rfl, rfl⟩ := rt_e hf
      exact mret_i E hR hS dX9_round_60
    · have hf := it_f hf c2
      refine lv_aload_n E.hx E.hb dX9_round_24 rfl (lv_at hl 0 rfl) ?_
      refine lv_iload_n E.hx E.hb dX9_round_25 rfl (lv_at hl 2 rfl) ?_
      obtain ⟨⟨v4, σ3⟩, hv4, hf⟩ := bd_e hf
      refine mcall_i (rest := []) E hR hS (tX9_targetOf l hv4) (cwX9_159 E.ht ⟨Nat.le_of_ble_eq_true rfl, Nat.le_of_ble_eq_true rfl⟩) rfl hl.1 rfl (Nat.le_of_ble_eq_true rfl) dX9_round_26 ⟨Nat.le_refl 0, Nat.le_refl 0⟩ (fun H locs hR hS => ?_)
      refine lv_istore_n (lv' := [(3, .int v4), (0, .ref o), (1, .int x1), (2, .int x2)]) E.hx E.hb dX9_round_29 rfl hl (by decide) rfl (fun ls hl => ?_)
      refine lv_iload_n E.hx E.hb dX9_round_30 rfl (lv_at hl 2 rfl) ?_
      refine lv_iload_n E.hx E.hb dX9_round_31 rfl (lv_at hl 0 rfl) ?_
      refine lv_if_lt (tgt := 50) E.hx E.hb dX9_round_32 (by decide) (fun c5 => ?_) (fun c5 => ?_)
      · have hf := it_t hf c5
        refine lv_iconst (v := 0) E.hx E.hb dX9_round_50 (by decide) ?_
        refine lv_ior E.hx E.hb dX9_round_51 ?_
        refine lv_istore_n (lv' := [(1, .int (x1 ||| 0)), (3, .int v4), (0, .ref o), (2, .int x2)]) E.hx E.hb dX9_round_52 rfl hl (by decide) rfl (fun ls hl => ?_)
        refine lv_iinc (v := (x2 + 1)) (lv' := [(2, .int (x2 + 1)), (1, .int (x1 ||| 0)), (3, .int v4), (0, .ref o)]) E.hx E.hb dX9_round_53 hl (k := 3) rfl rfl (by decide) rfl (fun ls hl => ?_)
        refine lv_goto (tgt := 14) E.hx E.hb dX9_round_56 (by decide) ?_
        exact ih σ3 _ _ hf _ _ _ hR hS (lv_sub hl [3, 1, 0] rfl)
      · have hf := it_f hf c5
        refine lv_aload_n E.hx E.hb dX9_round_35 rfl (lv_at hl 1 rfl) ?_
        refine lv_iload_n E.hx E.hb dX9_round_36 rfl (lv_at hl 0 rfl) ?_
        obtain ⟨⟨v7, σ6⟩, hv7, hf⟩ := bd_e hf
        refine mcall_i (rest := [.int x1]) E hR hS (tX9_targetOf l hv7) (cwX9_159 E.ht ⟨Nat.le_of_ble_eq_true rfl, Nat.le_of_ble_eq_true rfl⟩) rfl hl.1 rfl (Nat.le_of_ble_eq_true rfl) dX9_round_37 ⟨Nat.le_refl 0, Nat.le_refl 0⟩ (fun H locs hR hS => ?_)
        refine lv_iload_n E.hx E.hb dX9_round_40 rfl (lv_at hl 3 rfl) ?_
        refine lv_icmp_ne (tgt := 50) E.hx E.hb dX9_round_41 (by decide) (fun c8 => ?_) (fun c8 => ?_)
        · have hf := it_f hf c8
          refine lv_iconst (v := 0) E.hx E.hb dX9_round_50 (by decide) ?_
          refine lv_ior E.hx E.hb dX9_round_51 ?_
          refine lv_istore_n (lv' := [(1, .int (x1 ||| 0)), (3, .int v4), (0, .ref o), (2, .int x2)]) E.hx E.hb dX9_round_52 rfl hl (by decide) rfl (fun ls hl => ?_)
          refine lv_iinc (v := (x2 + 1)) (lv' := [(2, .int (x2 + 1)), (1, .int (x1 ||| 0)), (3, .int v4), (0, .ref o)]) E.hx E.hb dX9_round_53 hl (k := 3) rfl rfl (by decide) rfl (fun ls hl => ?_)
          refine lv_goto (tgt := 14) E.hx E.hb dX9_round_56 (by decide) ?_
          exact ih σ6 _ _ hf _ _ _ hR hS (lv_sub hl [3, 1, 0] rfl)
        · have hf := it_t hf c8
          refine lv_iconst (v := 1) E.hx E.hb dX9_round_44 (by decide) ?_
          refine lv_iload_n E.hx E.hb dX9_round_45 rfl (lv_at hl 3 rfl) ?_
          refine lv_ishl E.hx E.hb dX9_round_46 ?_
          refine lv_goto (tgt := 51) E.hx E.hb dX9_round_47 (by decide) ?_
          refine lv_ior E.hx E.hb dX9_round_51 ?_
          refine lv_istore_n (lv' := [(1, .int (x1 ||| (1 <<< (x2 &&& 31)))), (3, .int v4), (0, .ref o), (2, .int x2)]) E.hx E.hb dX9_round_52 rfl hl (by decide) rfl (fun ls hl => ?_)
          refine lv_iinc (v := (x2 + 1)) (lv' := [(2, .int (x2 + 1)), (1, .int (x1 ||| (1 <<< (x2 &&& 31)))), (3, .int v4), (0, .ref o)]) E.hx E.hb dX9_round_53 hl (k := 3) rfl rfl (by decide) rfl (fun ls hl => ?_)
          refine lv_goto (tgt := 14) E.hx E.hb dX9_round_56 (by decide) ?_
          exact ih σ6 _ _ hf _ _ _ hR hS (lv_sub hl [3, 1, 0] rfl)
def fX9_round  (σ : MS)  : Option (Int32 × MS) :=
  if (σ 0 4) = 0 then (some ((-1000002), σ)) else (fX9_round_L14 2000 σ 0 0)
theorem wX9_round_0 (E : mE p m c cX9_round 4 s args G cI cZ meth (some .int)) {σ : MS}  (hf : fX9_round σ = some (r, σf)) : ∀ (H : Heap) (locs : List Loc) (ls : Array Slot), mR G cI cZ o σ H → va_S (mA o) s.heap H locs → lv_has ls 4 [(0, .ref o)] → W p l e rmX9_round s m args below meth c H locs 0 0 (MQ below (mQi G cI cZ o r σf) args s 0 0 (mA o)) (F0 m 0 ls []) := by
  intro H locs ls hR hS hl
  refine lv_aload_n E.hx E.hb dX9_round_0 rfl (lv_at hl 0 rfl) ?_
  refine mg_isThere E hR dX9_round_1 ?_
  refine lv_if_ne (tgt := 10) E.hx E.hb dX9_round_4 (by decide) (fun c1 => ?_) (fun c1 => ?_)
  · have hf := it_f hf c1
    refine lv_iconst (v := 0) E.hx E.hb dX9_round_10 (by decide) ?_
    refine lv_istore_n (lv' := [(1, .int 0), (0, .ref o)]) E.hx E.hb dX9_round_11 rfl hl (by decide) rfl (fun ls hl => ?_)
    refine lv_iconst (v := 0) E.hx E.hb dX9_round_12 (by decide) ?_
    refine lv_istore_n (lv' := [(2, .int 0), (1, .int 0), (0, .ref o)]) E.hx E.hb dX9_round_13 rfl hl (by decide) rfl (fun ls hl => ?_)
    exact wX9_round_L14 E  2000 σ _ _ hf _ _ _ hR hS (lv_sub hl [2, 1, 0] rfl)
  · have hf := it_t hf c1
    refine lv_ldc (v := (-1000002)) E.hx E.hb E.ho (E.ht _ q1395) dX9_round_7 ?_
    obtain ⟨rfl, rfl⟩ := rt_e hf
    exact mret_i E hR hS dX9_round_9
theorem tX9_round (l : Launch) {G : va_G} {cI cZ : ClassId} {o : Nat} {σ σf : MS}  {r : Int32} (hf : fX9_round σ  = some (r, σf)) : Met l yX9_round (ws_ yX9_round cX9_round 4 (some .int)) rmX9_round (mPc G cI cZ o σ [.ref o]) (mQi G cI cZ o r σf) 0 0 (mA o) := by
  refine Met.ofW (cc := cX9_round) (maxL := 4) (ret := (some .int)) (by decide) rfl ?_
  intro p e s m args below meth c s₁ B hml hv
  obtain ⟨rfl, hR, hK⟩ := hv
  have hts := atoms_spec (ws := (ws_ yX9_round cX9_round 4 (some .int))) B.pre
  rw [lg_entry_eq]
  exact wX9_round_0 (E := ⟨⟨B.exec, B.bytes, hml, findClass_of_methodNamed B.named, fun w h => hts w (List.mem_cons_of_mem _ h)⟩, hK, B.returns, B.notSynchronized⟩) hf _ _ _ hR va_S.rf (lv_entry [.ref o] (n := 4) (Nat.le_of_ble_eq_true rfl))

abbrev rmX9_enemy : Room := { frames := 8, cells := 0, slots := 0, locals := 168 }
def fX9_enemy_b95 (k43 : MS → Int32 → Int32 → Int32 → Int32 → Int32 → Int32 → Option (Int32 × MS)) (σ : MS) (s0 : Int32) (x1 : Int32) (x2 : Int32) (x3 : Int32) (x5 : Int32) (x6 : Int32) (x7 : Int32) : Option (Int32 × MS) :=
  if x7 ≤ x5 then (k43 σ x1 x2 x3 s0 x5 (x6 + 1)) else (k43 σ x1 x2 x3 s0 x7 (x6 + 1))
theorem wX9_enemy_b95 (E : mE p m c cX9_enemy 8 s args G cI cZ meth (some .int)) {k43 : MS → Int32 → Int32 → Int32 → Int32 → Int32 → Int32 → Option (Int32 × MS)} (hk43 : ∀ (σ : MS) (x1 : Int32) (x2 : Int32) (x3 : Int32) (x4 : Int32) (x5 : Int32) (x6 : Int32), k43 σ x1 x2 x3 x4 x5 x6 = some (r, σf) → ∀ (H : Heap) (locs : List Loc) (ls : Array Slot), mR G cI cZ o σ H → va_S (mA o) s.heap H locs → lv_has ls 8 [(0, .ref o), (1, .int x1), (2, .int x2), (3, .int x3), (4, .int x4), (5, .int x5), (6, .int x6)] → W p l e rmX9_enemy s m args below meth c H locs 0 0 (MQ below (mQi G cI cZ o r σf) args s 0 0 (mA o)) (F0 m 43 ls [])) {σ : MS} {s0 : Int32} {x1 : Int32} {x2 : Int32} {x3 : Int32} {x5 : Int32} {x6 : Int32} {x7 : Int32} (hf : fX9_enemy_b95 k43 σ s0 x1 x2 x3 x5 x6 x7 = some (r, σf)) : ∀ (H : Heap) (locs : List Loc) (ls : Array Slot), mR G cI cZ o σ H → va_S (mA o) s.heap H locs → lv_has ls 8 [(0, .ref o), (1, .int x1), (2, .int x2), (3, .int x3), (5, .int x5), (6, .int x6), (7, .int x7)] → W p l e rmX9_enemy s m args below meth c H locs 0 0 (MQ below (mQi G cI cZ o r σf) args s 0 0 (mA o)) (F0 m 95 ls [.int s0]) := by
  intro H locs ls hR hS hl
  refine lv_istore (lv' := [(4, .int s0), (0, .ref o), (1, .int x1), (2, .int x2), (3, .int x3), (5, .int x5), (6, .int x6), (7, .int x7)]) E.hx E.hb dX9_enemy_95 hl (by decide) rfl (fun ls hl => ?_)
  refine lv_iload E.hx E.hb dX9_enemy_97 (lv_at hl 7 rfl) ?_
  refine lv_iload E.hx E.hb dX9_enemy_99 (lv_at hl 5 rfl) ?_
  refine lv_icmp_le (tgt := 109) E.hx E.hb dX9_enemy_101 (by decide) (fun c1 => ?_) (fun c1 => ?_)
  · have hf := it_t hf c1
    refine lv_iload E.hx E.hb dX9_enemy_109 (lv_at hl 5 rfl) ?_
    refine lv_istore (lv' := [(5, .int x5), (4, .int s0), (0, .ref o), (1, .int x1), (2, .int x2), (3, .int x3), (6, .int x6), (7, .int x7)]) E.hx E.hb dX9_enemy_111 hl (by decide) rfl (fun ls hl => ?_)
    refine lv_iinc (v := (x6 + 1)) (lv' := [(6, .int (x6 + 1)), (5, .int x5), (4, .int s0), (0, .ref o), (1, .int x1), (2, .int x2), (3, .int x3), (7, .int x7)]) E.hx E.hb dX9_enemy_113 hl (k := 6) rfl rfl (by decide) rfl (fun ls hl => ?_)
    refine lv_goto (tgt := 43) E.hx E.hb dX9_enemy_116 (by decide) ?_
    exact hk43 σ _ _ _ _ _ _ hf _ _ _ hR hS (lv_sub hl [3, 4, 5, 6, 2, 1, 0] rfl)
  · have hf := it_f hf c1
    refine lv_iload E.hx E.hb dX9_enemy_104 (lv_at hl 7 rfl) ?_
    refine lv_goto (tgt := 111) E.hx E.hb dX9_enemy_106 (by decide) ?_
    refine lv_istore (lv' := [(5, .int x7), (4, .int s0), (0, .ref o), (1, .int x1), (2, .int x2), (3, .int x3), (6, .int x6), (7, .int x7)]) E.hx E.hb dX9_enemy_111 hl (by decide) rfl (fun ls hl => ?_)
    refine lv_iinc (v := (x6 + 1)) (lv' := [(6, .int (x6 + 1)), (5, .int x7), (4, .int s0), (0, .ref o), (1, .int x1), (2, .int x2), (3, .int x3), (7, .int x7)]) E.hx E.hb dX9_enemy_113 hl (k := 6) rfl rfl (by decide) rfl (fun ls hl => ?_)
    refine lv_goto (tgt := 43) E.hx E.hb dX9_enemy_116 (by decide) ?_
    exact hk43 σ _ _ _ _ _ _ hf _ _ _ hR hS (lv_sub hl [3, 4, 5, 6, 2, 1, 0] rfl)
def fX9_enemy_L43  : Nat → MS → Int32 → Int32 → Int32 → Int32 → Int32 → Int32 → Option (Int32 × MS)
  | 0, _, _, _, _, _, _, _ => none
  | n + 1, σ, x1, x2, x3, x4, x5, x6 =>
    (rd (σ 4) 41 2).bind fun v1 =>
    if v1 ≤ x6 then (if x3 = 0 then (some (x4, σ)) else (some (x5, σ))) else ((mwr σ 4 41 (17 + x6) 0).bind fun σ4 =>
    (fX9_goOn σ4 x2).bind fun σ5 =>
    (fX9_highOf σ5 x1).bind fun (v7, σ6) =>
    (fX9_takeBack σ6).bind fun σ8 =>
    if v7 ≤ x5 then (fX9_enemy_b95 (fX9_enemy_L43 n) σ8 x4 x1 x2 x3 x5 x6 v7) else (fX9_enemy_b95 (fX9_enemy_L43 n) σ8 x6 x1 x2 x3 x5 x6 v7))
theorem wX9_enemy_L43 (E : mE p m c cX9_enemy 8 s args G cI cZ meth (some .int)) : ∀ (n : Nat) (σ : MS) (x1 : Int32) (x2 : Int32) (x3 : Int32) (x4 : Int32) (x5 : Int32) (x6 : Int32), fX9_enemy_L43 n σ x1 x2 x3 x4 x5 x6 = some (r, σf) → ∀ (H : Heap) (locs : List Loc) (ls : Array Slot), mR G cI cZ o σ H → va_S (mA o) s.heap H locs → lv_has ls 8 [(0, .ref o), (1, .int x1), (2, .int x2), (3, .int x3), (4, .int x4), (5, .int x5), (6, .int x6)] → W p l e rmX9_enemy s m args below meth c H locs 0 0 (MQ below (mQi G cI cZ o r σf) args s 0 0 (mA o)) (F0 m 43 ls []) := by
  intro n
  induction n with
  | zero =>
    intro σ x1 x2 x3 x4 x5 x6 hf
    have hf : none = some (r, σf) := hf
    cases hf
  | succ n ih =>
    intro σ x1 x2 x3 x4 x5 x6 hf H locs ls hR hS hl
    refine lv_iload E.hx E.hb dX9_enemy_43 (lv_at hl 6 rfl) ?_
    refine lv_aload_n E.hx E.hb dX9_enemy_45 rfl (lv_at hl 0 rfl) ?_
    refine mg_st E hR dX9_enemy_46 ?_
    refine lv_iconst (v := 2) E.hx E.hb dX9_enemy_49 (by decide) ?_
    obtain ⟨v1, hv1, hf⟩ := bd_e hf
    refine ml_st E hR hv1 dX9_enemy_50 ?_
    refine lv_icmp_ge (tgt := 119) E.hx E.hb dX9_enemy_51 (by decide) (fun c2 => ?_) (fun c2 => ?_)
    · have hf := it_t hf c2
      refine lv_iload_n E.hx E.hb dX9_enemy_119 rfl (lv_at hl 3 rfl) ?_
      refine lv_if_ne (tgt := 128) E.hx E.hb dX9_enemy_120 (by decide) (fun c3 => ?_) (fun c3 => ?_)
      · have hf := it_f hf c3
        refine lv_iload E.hx E.hb dX9_enemy_128 (lv_at hl 5 rfl) ?_
        obtain ⟨rfl, rfl⟩ := rt_e hf
        exact mret_i E hR hS dX9_enemy_130
      · have hf := it_t hf c3
        refine lv_iload E.hx E.hb dX9_enemy_123 (lv_at hl 4 rfl) ?_
        refine lv_goto (tgt := 130) E.hx E.hb dX9_enemy_125 (by decide) ?_
        obtain ⟨rfl, rfl⟩ := rt_e hf
        exact mret_i E hR hS dX9_enemy_130
    · have hf := it_f hf c2
      refine lv_aload_n E.hx E.hb dX9_enemy_54 rfl (lv_at hl 0 rfl) ?_
      refine mg_st E hR dX9_enemy_55 ?_
      refine lv_bipush (v := 17) E.hx E.hb dX9_enemy_58 (by decide) ?_
      refine lv_iload E.hx E.hb dX9_enemy_60 (lv_at hl 6 rfl) ?_
      refine lv_iadd E.hx E.hb dX9_enemy_62 ?_
      refine lv_iconst (v := 0) E.hx E.hb dX9_enemy_63 (by decide) ?_
      obtain ⟨σ4, hσ4, hf⟩ := bd_e hf
      refine ms_st E hR hS hσ4 dX9_enemy_64 (fun H locs hR hS => ?_)
      refine lv_aload_n E.hx E.hb dX9_enemy_65 rfl (lv_at hl 0 rfl) ?_
      refine lv_iload_n E.hx E.hb dX9_enemy_66 rfl (lv_at hl 2 rfl) ?_
      obtain ⟨σ5, hσ5, hf⟩ := bd_e hf
      refine mcall_v (rest := []) E hR hS (tX9_goOn l hσ5) (cwX9_196 E.ht ⟨Nat.le_of_ble_eq_true rfl, Nat.le_of_ble_eq_true rfl⟩) rfl hl.1 rfl (Nat.le_of_ble_eq_true rfl) dX9_enemy_67 ⟨Nat.le_refl 0, Nat.le_refl 0⟩ (fun H locs hR hS => ?_)
      refine lv_aload_n E.hx E.hb dX9_enemy_70 rfl (lv_at hl 0 rfl) ?_
      refine lv_iload_n E.hx E.hb dX9_enemy_71 rfl (lv_at hl 1 rfl) ?_
      obtain ⟨⟨v7, σ6⟩, hv7, hf⟩ := bd_e hf
      refine mcall_i (rest := []) E hR hS (tX9_highOf l hv7) (cwX9_146 E.ht ⟨Nat.le_of_ble_eq_true rfl, Nat.le_of_ble_eq_true rfl⟩) rfl hl.1 rfl (Nat.le_of_ble_eq_true rfl) dX9_enemy_72 ⟨Nat.le_refl 0, Nat.le_refl 0⟩ (fun H locs hR hS => ?_)
      refine lv_istore (lv' := [(7, .int v7), (0, .ref o), (1, .int x1), (2, .int x2), (3, .int x3), (4, .int x4), (5, .int x5), (6, .int x6)]) E.hx E.hb dX9_enemy_75 hl (by decide) rfl (fun ls hl => ?_)
      refine lv_aload_n E.hx E.hb dX9_enemy_77 rfl (lv_at hl 1 rfl) ?_
      obtain ⟨σ8, hσ8, hf⟩ := bd_e hf
      refine mcall_v (rest := []) E hR hS (tX9_takeBack l hσ8) (cwX9_199 E.ht ⟨Nat.le_of_ble_eq_true rfl, Nat.le_of_ble_eq_true rfl⟩) rfl hl.1 rfl (Nat.le_of_ble_eq_true rfl) dX9_enemy_78 ⟨Nat.le_refl 0, Nat.le_refl 0⟩ (fun H locs hR hS => ?_)
      refine lv_iload E.hx E.hb dX9_enemy_81 (lv_at hl 0 rfl) ?_
      refine lv_iload E.hx E.hb dX9_enemy_83 (lv_at hl 6 rfl) ?_
      refine lv_icmp_le (tgt := 93) E.hx E.hb dX9_enemy_85 (by decide) (fun c9 => ?_) (fun c9 => ?_)
      · have hf := it_t hf c9
        refine lv_iload E.hx E.hb dX9_enemy_93 (lv_at hl 5 rfl) ?_
        exact wX9_enemy_b95 E ih hf _ _ _ hR hS (lv_sub hl [1, 2, 3, 4, 6, 7, 0] rfl)
      · have hf := it_f hf c9
        refine lv_iload E.hx E.hb dX9_enemy_88 (lv_at hl 7 rfl) ?_
        refine lv_goto (tgt := 95) E.hx E.hb dX9_enemy_90 (by decide) ?_
        exact wX9_enemy_b95 E ih hf _ _ _ hR hS (lv_sub hl [1, 2, 3, 4, 6, 7, 0] rfl)
def fX9_enemy  (σ : MS) (x1 : Int32) (x2 : Int32) (x3 : Int32) : Option (Int32 × MS) :=
  (fX9_isChair σ x1).bind fun (v2, σ1) =>
  if v2 = 0 then (some ((-1000001), σ1)) else ((fX9_in (x2.toInt64) 1 30).bind fun v4 =>
  if v4 = 0 then (some ((-1000001), σ1)) else ((fX9_isWhat x3).bind fun v6 =>
  if v6 = 0 then (some ((-1000001), σ1)) else ((fX9_putAside σ1).bind fun σ8 =>
  fX9_enemy_L43 2000 σ8 x1 x2 x3 0 (-1) 0)))
theorem wX9_enemy_0 (E : mE p m c cX9_enemy 8 s args G cI cZ meth (some .int)) {σ : MS} {x1 : Int32} {x2 : Int32} {x3 : Int32} (hf : fX9_enemy σ x1 x2 x3 = some (r, σf)) : ∀ (H : Heap) (locs : List Loc) (ls : Array Slot), mR G cI cZ o σ H → va_S (mA o) s.heap H locs → lv_has ls 8 [(0, .ref o), (1, .int x1), (2, .int x2), (3, .int x3)] → W p l e rmX9_enemy s m args below meth c H locs 0 0 (MQ below (mQi G cI cZ o r σf) args s 0 0 (mA o)) (F0 m 0 ls []) := by
  intro H locs ls hR hS hl
  refine lv_aload_n E.hx E.hb dX9_enemy_0 rfl (lv_at hl 0 rfl) ?_
  refine lv_iload_n E.hx E.hb dX9_enemy_1 rfl (lv_at hl 1 rfl) ?_
  obtain ⟨⟨v2, σ1⟩, hv2, hf⟩ := bd_e hf
  refine mcall_i (rest := []) E hR hS (tX9_isChair l hv2) (cwX9_178 E.ht ⟨Nat.le_of_ble_eq_true rfl, Nat.le_of_ble_eq_true rfl⟩) rfl hl.1 rfl (Nat.le_of_ble_eq_true rfl) dX9_enemy_2 ⟨Nat.le_refl 0, Nat.le_refl 0⟩ (fun H locs hR hS => ?_)
  refine lv_if_eq (tgt := 27) E.hx E.hb dX9_enemy_5 (by decide) (fun c3 => ?_) (fun c3 => ?_)
  · have hf := it_t hf c3
    refine lv_ldc (v := (-1000001)) E.hx E.hb E.ho (E.ht _ q1319) dX9_enemy_27 ?_
    obtain ⟨rfl, rfl⟩ := rt_e hf
    exact mret_i E hR hS dX9_enemy_29
  · have hf := it_f hf c3
    refine lv_iload_n E.hx E.hb dX9_enemy_8 rfl (lv_at hl 2 rfl) ?_
    refine lv_i2l E.hx E.hb dX9_enemy_9 rfl ?_
    refine lv_lconst (v := 1) E.hx E.hb dX9_enemy_10 (by decide) ?_
    refine lv_ldc2 (v := 30) E.hx E.hb E.ho (E.ht _ q1523) dX9_enemy_11 ?_
    obtain ⟨v4, hv4, hf⟩ := bd_e hf
    refine scall_i (rest := []) E.1 (tX9_in l hv4) (cwX9_57 E.ht ⟨Nat.le_of_ble_eq_true rfl, Nat.le_of_ble_eq_true rfl⟩) rfl hl.1 rfl (Nat.le_of_ble_eq_true rfl) dX9_enemy_14 ⟨Nat.le_refl 0, Nat.le_refl 0⟩ ?_
    refine lv_if_eq (tgt := 27) E.hx E.hb dX9_enemy_17 (by decide) (fun c5 => ?_) (fun c5 => ?_)
    · have hf := it_t hf c5
      refine lv_ldc (v := (-1000001)) E.hx E.hb E.ho (E.ht _ q1319) dX9_enemy_27 ?_
      obtain ⟨rfl, rfl⟩ := rt_e hf
      exact mret_i E hR hS dX9_enemy_29
    · have hf := it_f hf c5
      refine lv_iload_n E.hx E.hb dX9_enemy_20 rfl (lv_at hl 3 rfl) ?_
      obtain ⟨v6, hv6, hf⟩ := bd_e hf
      refine scall_i (rest := []) E.1 (tX9_isWhat l hv6) (cwX9_217 E.ht ⟨Nat.le_of_ble_eq_true rfl, Nat.le_of_ble_eq_true rfl⟩) rfl hl.1 rfl (Nat.le_of_ble_eq_true rfl) dX9_enemy_21 ⟨Nat.le_refl 0, Nat.le_refl 0⟩ ?_
      refine lv_if_ne (tgt := 30) E.hx E.hb dX9_enemy_24 (by decide) (fun c7 => ?_) (fun c7 => ?_)
      · have hf := it_f hf c7
        refine lv_aload_n E.hx E.hb dX9_enemy_30 rfl (lv_at hl 0 rfl) ?_
        obtain ⟨σ8, hσ8, hf⟩ := bd_e hf
        refine mcall_v (rest := []) E hR hS (tX9_putAside l hσ8) (cwX9_204 E.ht ⟨Nat.le_of_ble_eq_true rfl, Nat.le_of_ble_eq_true rfl⟩) rfl hl.1 rfl (Nat.le_of_ble_eq_true rfl) dX9_enemy_31 ⟨Nat.le_refl 0, Nat.le_refl 0⟩ (fun H locs hR hS => ?_)
        refine lv_iconst (v := 0) E.hx E.hb dX9_enemy_34 (by decide) ?_
        refine lv_istore (lv' := [(4, .int 0), (0, .ref o), (1, .int x1), (2, .int x2), (3, .int x3)]) E.hx E.hb dX9_enemy_35 hl (by decide) rfl (fun ls hl => ?_)
        refine lv_iconst (v := (-1)) E.hx E.hb dX9_enemy_37 (by decide) ?_
        refine lv_istore (lv' := [(5, .int (-1)), (4, .int 0), (0, .ref o), (1, .int x1), (2, .int x2), (3, .int x3)]) E.hx E.hb dX9_enemy_38 hl (by decide) rfl (fun ls hl => ?_)
        refine lv_iconst (v := 0) E.hx E.hb dX9_enemy_40 (by decide) ?_
        refine lv_istore (lv' := [(6, .int 0), (5, .int (-1)), (4, .int 0), (0, .ref o), (1, .int x1), (2, .int x2), (3, .int x3)]) E.hx E.hb dX9_enemy_41 hl (by decide) rfl (fun ls hl => ?_)
        exact wX9_enemy_L43 E  2000 σ8 _ _ _ _ _ _ hf _ _ _ hR hS (lv_sub hl [3, 4, 5, 6, 2, 1, 0] rfl)
      · have hf := it_t hf c7
        refine lv_ldc (v := (-1000001)) E.hx E.hb E.ho (E.ht _ q1319) dX9_enemy_27 ?_
        obtain ⟨rfl, rfl⟩ := rt_e hf
        exact mret_i E hR hS dX9_enemy_29
theorem tX9_enemy (l : Launch) {G : va_G} {cI cZ : ClassId} {o : Nat} {σ σf : MS} {x1 : Int32} {x2 : Int32} {x3 : Int32} {r : Int32} (hf : fX9_enemy σ x1 x2 x3 = some (r, σf)) : Met l yX9_enemy (ws_ yX9_enemy cX9_enemy 8 (some .int)) rmX9_enemy (mPc G cI cZ o σ [.ref o, .int x1, .int x2, .int x3]) (mQi G cI cZ o r σf) 0 0 (mA o) := by
  refine Met.ofW (cc := cX9_enemy) (maxL := 8) (ret := (some .int)) (by decide) rfl ?_
  intro p e s m args below meth c s₁ B hml hv
  obtain ⟨rfl, hR, hK⟩ := hv
  have hts := atoms_spec (ws := (ws_ yX9_enemy cX9_enemy 8 (some .int))) B.pre
  rw [lg_entry_eq]
  exact wX9_enemy_0 (E := ⟨⟨B.exec, B.bytes, hml, findClass_of_methodNamed B.named, fun w h => hts w (List.mem_cons_of_mem _ h)⟩, hK, B.returns, B.notSynchronized⟩) hf _ _ _ hR va_S.rf (lv_entry [.ref o, .int x1, .int x2, .int x3] (n := 8) (Nat.le_of_ble_eq_true rfl))

abbrev rmX9_isSo : Room := { frames := 7, cells := 0, slots := 0, locals := 146 }
def fX9_isSo_L6  : Nat → MS → Int32 → Int32 → Int32 → Int32 → Int32 → Option (Int32 × MS)
  | 0, _, _, _, _, _, _ => none
  | n + 1, σ, x1, x2, x3, x4, x5 =>
    if x3 ≤ x5 then ((fX9_takeBack σ).bind fun σ2 =>
    (bz x4).bind fun v3 =>
    some (v3, σ2)) else ((fX9_oneNight σ).bind fun σ4 =>
    if x4 = 0 then ((fX9_isSo_L6 n) σ4 x1 x2 x3 0 (x5 + 1)) else ((rd (σ4 3) 320 (x2 + x5)).bind fun v6 =>
    (fX9_highOf σ4 x1).bind fun (v8, σ7) =>
    if v6 = v8 then ((fX9_isSo_L6 n) σ7 x1 x2 x3 1 (x5 + 1)) else ((fX9_isSo_L6 n) σ7 x1 x2 x3 0 (x5 + 1))))
theorem wX9_isSo_L6 (E : mE p m c cX9_isSo 6 s args G cI cZ meth (some .boolean)) : ∀ (n : Nat) (σ : MS) (x1 : Int32) (x2 : Int32) (x3 : Int32) (x4 : Int32) (x5 : Int32), fX9_isSo_L6 n σ x1 x2 x3 x4 x5 = some (r, σf) → ∀ (H : Heap) (locs : List Loc) (ls : Array Slot), mR G cI cZ o σ H → va_S (mA o) s.heap H locs → lv_has ls 6 [(0, .ref o), (1, .int x1), (2, .int x2), (3, .int x3), (4, .int x4), (5, .int x5)] → W p l e rmX9_isSo s m args below meth c H locs 0 0 (MQ below (mQi G cI cZ o r σf) args s 0 0 (mA o)) (F0 m 6 ls []) := by
  intro n
  induction n with
  | zero =>
    intro σ x1 x2 x3 x4 x5 hf
    have hf : none = some (r, σf) := hf
    cases hf
  | succ n ih =>
    intro σ x1 x2 x3 x4 x5 hf H locs ls hR hS hl
    refine lv_iload E.hx E.hb dX9_isSo_6 (lv_at hl 5 rfl) ?_
    refine lv_iload_n E.hx E.hb dX9_isSo_8 rfl (lv_at hl 3 rfl) ?_
    refine lv_icmp_ge (tgt := 51) E.hx E.hb dX9_isSo_9 (by decide) (fun c1 => ?_) (fun c1 => ?_)
    · have hf := it_t hf c1
      refine lv_aload_n E.hx E.hb dX9_isSo_51 rfl (lv_at hl 0 rfl) ?_
      obtain ⟨σ2, hσ2, hf⟩ := bd_e hf
      refine mcall_v (rest := []) E hR hS (tX9_takeBack l hσ2) (cwX9_199 E.ht ⟨Nat.le_of_ble_eq_true rfl, Nat.le_of_ble_eq_true rfl⟩) rfl hl.1 rfl (Nat.le_of_ble_eq_true rfl) dX9_isSo_52 ⟨Nat.le_refl 0, Nat.le_refl 0⟩ (fun H locs hR hS => ?_)
      refine lv_iload E.hx E.hb dX9_isSo_55 (lv_at hl 4 rfl) ?_
      obtain ⟨v3, hv3, hf⟩ := bd_e hf
      obtain ⟨hz, rfl⟩ := bz_e hv3
      obtain ⟨rfl, rfl⟩ := rt_e hf
      exact mret_z E hz hR hS dX9_isSo_57
    · have hf := it_f hf c1
      refine lv_aload_n E.hx E.hb dX9_isSo_12 rfl (lv_at hl 0 rfl) ?_
      obtain ⟨σ4, hσ4, hf⟩ := bd_e hf
      refine mcall_v (rest := []) E hR hS (tX9_oneNight l hσ4) (cwX9_175 E.ht ⟨Nat.le_of_ble_eq_true rfl, Nat.le_of_ble_eq_true rfl⟩) rfl hl.1 rfl (Nat.le_of_ble_eq_true rfl) dX9_isSo_13 ⟨Nat.le_refl 0, Nat.le_refl 0⟩ (fun H locs hR hS => ?_)
      refine lv_iload E.hx E.hb dX9_isSo_16 (lv_at hl 4 rfl) ?_
      refine lv_if_eq (tgt := 42) E.hx E.hb dX9_isSo_18 (by decide) (fun c5 => ?_) (fun c5 => ?_)
      · have hf := it_t hf c5
        refine lv_iconst (v := 0) E.hx E.hb dX9_isSo_42 (by decide) ?_
        refine lv_istore (lv' := [(4, .int 0), (0, .ref o), (1, .int x1), (2, .int x2), (3, .int x3), (5, .int x5)]) E.hx E.hb dX9_isSo_43 hl (by decide) rfl (fun ls hl => ?_)
        refine lv_iinc (v := (x5 + 1)) (lv' := [(5, .int (x5 + 1)), (4, .int 0), (0, .ref o), (1, .int x1), (2, .int x2), (3, .int x3)]) E.hx E.hb dX9_isSo_45 hl (k := 5) rfl rfl (by decide) rfl (fun ls hl => ?_)
        refine lv_goto (tgt := 6) E.hx E.hb dX9_isSo_48 (by decide) ?_
        exact ih σ4 _ _ _ _ _ hf _ _ _ hR hS (lv_sub hl [2, 3, 4, 5, 1, 0] rfl)
      · have hf := it_f hf c5
        refine lv_aload_n E.hx E.hb dX9_isSo_21 rfl (lv_at hl 0 rfl) ?_
        refine mg_items E hR dX9_isSo_22 ?_
        refine lv_iload_n E.hx E.hb dX9_isSo_25 rfl (lv_at hl 2 rfl) ?_
        refine lv_iload E.hx E.hb dX9_isSo_26 (lv_at hl 5 rfl) ?_
        refine lv_iadd E.hx E.hb dX9_isSo_28 ?_
        obtain ⟨v6, hv6, hf⟩ := bd_e hf
        refine ml_items E hR hv6 dX9_isSo_29 ?_
        refine lv_aload_n E.hx E.hb dX9_isSo_30 rfl (lv_at hl 0 rfl) ?_
        refine lv_iload_n E.hx E.hb dX9_isSo_31 rfl (lv_at hl 1 rfl) ?_
        obtain ⟨⟨v8, σ7⟩, hv8, hf⟩ := bd_e hf
        refine mcall_i (rest := [.int v6]) E hR hS (tX9_highOf l hv8) (cwX9_146 E.ht ⟨Nat.le_of_ble_eq_true rfl, Nat.le_of_ble_eq_true rfl⟩) rfl hl.1 rfl (Nat.le_of_ble_eq_true rfl) dX9_isSo_32 ⟨Nat.le_refl 0, Nat.le_refl 0⟩ (fun H locs hR hS => ?_)
        refine lv_icmp_ne (tgt := 42) E.hx E.hb dX9_isSo_35 (by decide) (fun c9 => ?_) (fun c9 => ?_)
        · have hf := it_f hf c9
          refine lv_iconst (v := 0) E.hx E.hb dX9_isSo_42 (by decide) ?_
          refine lv_istore (lv' := [(4, .int 0), (0, .ref o), (1, .int x1), (2, .int x2), (3, .int x3), (5, .int x5)]) E.hx E.hb dX9_isSo_43 hl (by decide) rfl (fun ls hl => ?_)
          refine lv_iinc (v := (x5 + 1)) (lv' := [(5, .int (x5 + 1)), (4, .int 0), (0, .ref o), (1, .int x1), (2, .int x2), (3, .int x3)]) E.hx E.hb dX9_isSo_45 hl (k := 5) rfl rfl (by decide) rfl (fun ls hl => ?_)
          refine lv_goto (tgt := 6) E.hx E.hb dX9_isSo_48 (by decide) ?_
          exact ih σ7 _ _ _ _ _ hf _ _ _ hR hS (lv_sub hl [2, 3, 4, 5, 1, 0] rfl)
        · have hf := it_t hf c9
          refine lv_iconst (v := 1) E.hx E.hb dX9_isSo_38 (by decide) ?_
          refine lv_goto (tgt := 43) E.hx E.hb dX9_isSo_39 (by decide) ?_
          refine lv_istore (lv' := [(4, .int 1), (0, .ref o), (1, .int x1), (2, .int x2), (3, .int x3), (5, .int x5)]) E.hx E.hb dX9_isSo_43 hl (by decide) rfl (fun ls hl => ?_)
          refine lv_iinc (v := (x5 + 1)) (lv' := [(5, .int (x5 + 1)), (4, .int 1), (0, .ref o), (1, .int x1), (2, .int x2), (3, .int x3)]) E.hx E.hb dX9_isSo_45 hl (k := 5) rfl rfl (by decide) rfl (fun ls hl => ?_)
          refine lv_goto (tgt := 6) E.hx E.hb dX9_isSo_48 (by decide) ?_
          exact ih σ7 _ _ _ _ _ hf _ _ _ hR hS (lv_sub hl [2, 3, 4, 5, 1, 0] rfl)
def fX9_isSo  (σ : MS) (x1 : Int32) (x2 : Int32) (x3 : Int32) : Option (Int32 × MS) :=
  fX9_isSo_L6 2000 σ x1 x2 x3 1 0
theorem wX9_isSo_0 (E : mE p m c cX9_isSo 6 s args G cI cZ meth (some .boolean)) {σ : MS} {x1 : Int32} {x2 : Int32} {x3 : Int32} (hf : fX9_isSo σ x1 x2 x3 = some (r, σf)) : ∀ (H : Heap) (locs : List Loc) (ls : Array Slot), mR G cI cZ o σ H → va_S (mA o) s.heap H locs → lv_has ls 6 [(0, .ref o), (1, .int x1), (2, .int x2), (3, .int x3)] → W p l e rmX9_isSo s m args below meth c H locs 0 0 (MQ below (mQi G cI cZ o r σf) args s 0 0 (mA o)) (F0 m 0 ls []) := by
  intro H locs ls hR hS hl
  refine lv_iconst (v := 1) E.hx E.hb dX9_isSo_0 (by decide) ?_
  refine lv_istore (lv' := [(4, .int 1), (0, .ref o), (1, .int x1), (2, .int x2), (3, .int x3)]) E.hx E.hb dX9_isSo_1 hl (by decide) rfl (fun ls hl => ?_)
  refine lv_iconst (v := 0) E.hx E.hb dX9_isSo_3 (by decide) ?_
  refine lv_istore (lv' := [(5, .int 0), (4, .int 1), (0, .ref o), (1, .int x1), (2, .int x2), (3, .int x3)]) E.hx E.hb dX9_isSo_4 hl (by decide) rfl (fun ls hl => ?_)
  exact wX9_isSo_L6 E  2000 σ _ _ _ _ _ hf _ _ _ hR hS (lv_sub hl [2, 3, 4, 5, 1, 0] rfl)
theorem tX9_isSo (l : Launch) {G : va_G} {cI cZ : ClassId} {o : Nat} {σ σf : MS} {x1 : Int32} {x2 : Int32} {x3 : Int32} {r : Int32} (hf : fX9_isSo σ x1 x2 x3 = some (r, σf)) : Met l yX9_isSo (ws_ yX9_isSo cX9_isSo 6 (some .boolean)) rmX9_isSo (mPc G cI cZ o σ [.ref o, .int x1, .int x2, .int x3]) (mQi G cI cZ o r σf) 0 0 (mA o) := by
  refine Met.ofW (cc := cX9_isSo) (maxL := 6) (ret := (some .boolean)) (by decide) rfl ?_
  intro p e s m args below meth c s₁ B hml hv
  obtain ⟨rfl, hR, hK⟩ := hv
  have hts := atoms_spec (ws := (ws_ yX9_isSo cX9_isSo 6 (some .boolean))) B.pre
  rw [lg_entry_eq]
  exact wX9_isSo_0 (E := ⟨⟨B.exec, B.bytes, hml, findClass_of_methodNamed B.named, fun w h => hts w (List.mem_cons_of_mem _ h)⟩, hK, B.returns, B.notSynchronized⟩) hf _ _ _ hR va_S.rf (lv_entry [.ref o, .int x1, .int x2, .int x3] (n := 6) (Nat.le_of_ble_eq_true rfl))

theorem cwX9_231 {R : Room} {s : State} {args : Array Value} (ht : ∀ w ∈ lw_all, w.before args s = true) (hR : rmX9_isSo.frames + 1 ≤ R.frames ∧ 8 + (6 + 11) + rmX9_isSo.locals ≤ R.locals) : CallW R s args RX9 RX9 231 yX9_isSo cX9_isSo 6 (some .boolean) (ws_ yX9_isSo cX9_isSo 6 (some .boolean)) rmX9_isSo 0 0 3 :=
  cwV 3 ht (lw_V q1583 q1585 qs58 q80 q1586) rfl rfl rfl (by decide +kernel) hR
abbrev rmX9_who : Room := { frames := 8, cells := 0, slots := 0, locals := 171 }
def fX9_who_b141 (k120 : MS → Int32 → Int32 → Int32 → Int32 → Int32 → Int32 → Int32 → Int32 → Option (Int32 × MS)) (σ : MS) (s0 : Int32) (s1 : Int32) (x2 : Int32) (x3 : Int32) (x4 : Int32) (x5 : Int32) (x6 : Int32) (x8 : Int32) (x9 : Int32) (x10 : Int32) : Option (Int32 × MS) :=
  if s1 < s0 then ((fX9_well σ x9).bind fun (v3, σ2) =>
  some (v3, σ2)) else ((mwr σ 4 41 x8 x10).bind fun σ4 =>
  (fX9_isSo σ4 x3 ((40 * x4) + x5) x6).bind fun (v6, σ5) =>
  if v6 = 0 then (k120 σ5 x2 x3 x4 x5 x6 x8 (x9 ||| 0) (x10 + 1)) else (k120 σ5 x2 x3 x4 x5 x6 x8 (x9 ||| (1 <<< (x10 &&& 31))) (x10 + 1)))
theorem wX9_who_b141 (E : mE p m c cX9_who 11 s args G cI cZ meth (some .int)) {k120 : MS → Int32 → Int32 → Int32 → Int32 → Int32 → Int32 → Int32 → Int32 → Option (Int32 × MS)} (hk120 : ∀ (σ : MS) (x2 : Int32) (x3 : Int32) (x4 : Int32) (x5 : Int32) (x6 : Int32) (x8 : Int32) (x9 : Int32) (x10 : Int32), k120 σ x2 x3 x4 x5 x6 x8 x9 x10 = some (r, σf) → ∀ (H : Heap) (locs : List Loc) (ls : Array Slot), mR G cI cZ o σ H → va_S (mA o) s.heap H locs → lv_has ls 11 [(0, .ref o), (2, .int x2), (3, .int x3), (4, .int x4), (5, .int x5), (6, .int x6), (8, .int x8), (9, .int x9), (10, .int x10)] → W p l e rmX9_who s m args below meth c H locs 0 0 (MQ below (mQi G cI cZ o r σf) args s 0 0 (mA o)) (F0 m 120 ls [])) {σ : MS} {s0 : Int32} {s1 : Int32} {x2 : Int32} {x3 : Int32} {x4 : Int32} {x5 : Int32} {x6 : Int32} {x8 : Int32} {x9 : Int32} {x10 : Int32} (hf : fX9_who_b141 k120 σ s0 s1 x2 x3 x4 x5 x6 x8 x9 x10 = some (r, σf)) : ∀ (H : Heap) (locs : List Loc) (ls : Array Slot), mR G cI cZ o σ H → va_S (mA o) s.heap H locs → lv_has ls 11 [(0, .ref o), (2, .int x2), (3, .int x3), (4, .int x4), (5, .int x5), (6, .int x6), (8, .int x8), (9, .int x9), (10, .int x10)] → W p l e rmX9_who s m args below meth c H locs 0 0 (MQ below (mQi G cI cZ o r σf) args s 0 0 (mA o)) (F0 m 141 ls [.int s1, .int s0]) := by
  intro H locs ls hR hS hl
  refine lv_icmp_gt (tgt := 190) E.hx E.hb dX9_who_141 (by decide) (fun c1 => ?_) (fun c1 => ?_)
  · have hf := it_t hf c1
    refine lv_aload_n E.hx E.hb dX9_who_190 rfl (lv_at hl 0 rfl) ?_
    refine lv_iload E.hx E.hb dX9_who_191 (lv_at hl 7 rfl) ?_
    obtain ⟨⟨v3, σ2⟩, hv3, hf⟩ := bd_e hf
    refine mcall_i (rest := []) E hR hS (tX9_well l hv3) (cwX9_72 E.ht ⟨Nat.le_of_ble_eq_true rfl, Nat.le_of_ble_eq_true rfl⟩) rfl hl.1 rfl (Nat.le_of_ble_eq_true rfl) dX9_who_193 ⟨Nat.le_refl 0, Nat.le_refl 0⟩ (fun H locs hR hS => ?_)
    obtain ⟨rfl, rfl⟩ := rt_e hf
    exact mret_i E hR hS dX9_who_196
  · have hf := it_f hf c1
    refine lv_aload_n E.hx E.hb dX9_who_144 rfl (lv_at hl 0 rfl) ?_
    refine mg_st E hR dX9_who_145 ?_
    refine lv_iload E.hx E.hb dX9_who_148 (lv_at hl 6 rfl) ?_
    refine lv_iload E.hx E.hb dX9_who_150 (lv_at hl 8 rfl) ?_
    obtain ⟨σ4, hσ4, hf⟩ := bd_e hf
    refine ms_st E hR hS hσ4 dX9_who_152 (fun H locs hR hS => ?_)
    refine lv_iload E.hx E.hb dX9_who_153 (lv_at hl 7 rfl) ?_
    refine lv_aload_n E.hx E.hb dX9_who_155 rfl (lv_at hl 0 rfl) ?_
    refine lv_iload_n E.hx E.hb dX9_who_156 rfl (lv_at hl 2 rfl) ?_
    refine lv_bipush (v := 40) E.hx E.hb dX9_who_157 (by decide) ?_
    refine lv_iload E.hx E.hb dX9_who_159 (lv_at hl 3 rfl) ?_
    refine lv_imul E.hx E.hb dX9_who_161 ?_
    refine lv_iload E.hx E.hb dX9_who_162 (lv_at hl 4 rfl) ?_
    refine lv_iadd E.hx E.hb dX9_who_164 ?_
    refine lv_iload E.hx E.hb dX9_who_165 (lv_at hl 5 rfl) ?_
    obtain ⟨⟨v6, σ5⟩, hv6, hf⟩ := bd_e hf
    refine mcall_i (rest := [.int x9]) E hR hS (tX9_isSo l hv6) (cwX9_231 E.ht ⟨Nat.le_of_ble_eq_true rfl, Nat.le_of_ble_eq_true rfl⟩) rfl hl.1 rfl (Nat.le_of_ble_eq_true rfl) dX9_who_167 ⟨Nat.le_refl 0, Nat.le_refl 0⟩ (fun H locs hR hS => ?_)
    refine lv_if_eq (tgt := 180) E.hx E.hb dX9_who_170 (by decide) (fun c7 => ?_) (fun c7 => ?_)
    · have hf := it_t hf c7
      refine lv_iconst (v := 0) E.hx E.hb dX9_who_180 (by decide) ?_
      refine lv_ior E.hx E.hb dX9_who_181 ?_
      refine lv_istore (lv' := [(9, .int (x9 ||| 0)), (0, .ref o), (2, .int x2), (3, .int x3), (4, .int x4), (5, .int x5), (6, .int x6), (8, .int x8), (10, .int x10)]) E.hx E.hb dX9_who_182 hl (by decide) rfl (fun ls hl => ?_)
      refine lv_iinc (v := (x10 + 1)) (lv' := [(10, .int (x10 + 1)), (9, .int (x9 ||| 0)), (0, .ref o), (2, .int x2), (3, .int x3), (4, .int x4), (5, .int x5), (6, .int x6), (8, .int x8)]) E.hx E.hb dX9_who_184 hl (k := 8) rfl rfl (by decide) rfl (fun ls hl => ?_)
      refine lv_goto (tgt := 120) E.hx E.hb dX9_who_187 (by decide) ?_
      exact hk120 σ5 _ _ _ _ _ _ _ _ hf _ _ _ hR hS (lv_sub hl [2, 3, 4, 5, 6, 7, 8, 1, 0] rfl)
    · have hf := it_f hf c7
      refine lv_iconst (v := 1) E.hx E.hb dX9_who_173 (by decide) ?_
      refine lv_iload E.hx E.hb dX9_who_174 (lv_at hl 8 rfl) ?_
      refine lv_ishl E.hx E.hb dX9_who_176 ?_
      refine lv_goto (tgt := 181) E.hx E.hb dX9_who_177 (by decide) ?_
      refine lv_ior E.hx E.hb dX9_who_181 ?_
      refine lv_istore (lv' := [(9, .int (x9 ||| (1 <<< (x10 &&& 31)))), (0, .ref o), (2, .int x2), (3, .int x3), (4, .int x4), (5, .int x5), (6, .int x6), (8, .int x8), (10, .int x10)]) E.hx E.hb dX9_who_182 hl (by decide) rfl (fun ls hl => ?_)
      refine lv_iinc (v := (x10 + 1)) (lv' := [(10, .int (x10 + 1)), (9, .int (x9 ||| (1 <<< (x10 &&& 31)))), (0, .ref o), (2, .int x2), (3, .int x3), (4, .int x4), (5, .int x5), (6, .int x6), (8, .int x8)]) E.hx E.hb dX9_who_184 hl (k := 8) rfl rfl (by decide) rfl (fun ls hl => ?_)
      refine lv_goto (tgt := 120) E.hx E.hb dX9_who_187 (by decide) ?_
      exact hk120 σ5 _ _ _ _ _ _ _ _ hf _ _ _ hR hS (lv_sub hl [2, 3, 4, 5, 6, 7, 8, 1, 0] rfl)
def fX9_who_L120  : Nat → MS → Int32 → Int32 → Int32 → Int32 → Int32 → Int32 → Int32 → Int32 → Option (Int32 × MS)
  | 0, _, _, _, _, _, _, _, _, _ => none
  | n + 1, σ, x2, x3, x4, x5, x6, x8, x9, x10 =>
    if x2 = 0 then (fX9_who_b141 (fX9_who_L120 n) σ x10 5 x2 x3 x4 x5 x6 x8 x9 x10) else (if x2 = 1 then (fX9_who_b141 (fX9_who_L120 n) σ x10 9 x2 x3 x4 x5 x6 x8 x9 x10) else (fX9_who_b141 (fX9_who_L120 n) σ x10 3 x2 x3 x4 x5 x6 x8 x9 x10))
theorem wX9_who_L120 (E : mE p m c cX9_who 11 s args G cI cZ meth (some .int)) : ∀ (n : Nat) (σ : MS) (x2 : Int32) (x3 : Int32) (x4 : Int32) (x5 : Int32) (x6 : Int32) (x8 : Int32) (x9 : Int32) (x10 : Int32), fX9_who_L120 n σ x2 x3 x4 x5 x6 x8 x9 x10 = some (r, σf) → ∀ (H : Heap) (locs : List Loc) (ls : Array Slot), mR G cI cZ o σ H → va_S (mA o) s.heap H locs → lv_has ls 11 [(0, .ref o), (2, .int x2), (3, .int x3), (4, .int x4), (5, .int x5), (6, .int x6), (8, .int x8), (9, .int x9), (10, .int x10)] → W p l e rmX9_who s m args below meth c H locs 0 0 (MQ below (mQi G cI cZ o r σf) args s 0 0 (mA o)) (F0 m 120 ls []) := by
  intro n
  induction n with
  | zero =>
    intro σ x2 x3 x4 x5 x6 x8 x9 x10 hf
    have hf : none = some (r, σf) := hf
    cases hf
  | succ n ih =>
    intro σ x2 x3 x4 x5 x6 x8 x9 x10 hf H locs ls hR hS hl
    refine lv_iload E.hx E.hb dX9_who_120 (lv_at hl 8 rfl) ?_
    refine lv_iload_n E.hx E.hb dX9_who_122 rfl (lv_at hl 1 rfl) ?_
    refine lv_if_ne (tgt := 130) E.hx E.hb dX9_who_123 (by decide) (fun c1 => ?_) (fun c1 => ?_)
    · have hf := it_f hf c1
      refine lv_iload_n E.hx E.hb dX9_who_130 rfl (lv_at hl 1 rfl) ?_
      refine lv_iconst (v := 1) E.hx E.hb dX9_who_131 (by decide) ?_
      refine lv_icmp_ne (tgt := 140) E.hx E.hb dX9_who_132 (by decide) (fun c2 => ?_) (fun c2 => ?_)
      · have hf := it_f hf c2
        refine lv_iconst (v := 3) E.hx E.hb dX9_who_140 (by decide) ?_
        exact wX9_who_b141 E ih hf _ _ _ hR hS (lv_sub hl [0, 1, 2, 3, 4, 5, 6, 7, 8] rfl)
      · have hf := it_t hf c2
        refine lv_bipush (v := 9) E.hx E.hb dX9_who_135 (by decide) ?_
        refine lv_goto (tgt := 141) E.hx E.hb dX9_who_137 (by decide) ?_
        exact wX9_who_b141 E ih hf _ _ _ hR hS (lv_sub hl [0, 1, 2, 3, 4, 5, 6, 7, 8] rfl)
    · have hf := it_t hf c1
      refine lv_iconst (v := 5) E.hx E.hb dX9_who_126 (by decide) ?_
      refine lv_goto (tgt := 141) E.hx E.hb dX9_who_127 (by decide) ?_
      exact wX9_who_b141 E ih hf _ _ _ hR hS (lv_sub hl [0, 1, 2, 3, 4, 5, 6, 7, 8] rfl)
def fX9_who_b104  (σ : MS) (s0 : Int32) (x2 : Int32) (x3 : Int32) (x4 : Int32) (x5 : Int32) (x6 : Int32) : Option (Int32 × MS) :=
  if x2 = 0 then (fX9_who_L120 2000 σ x2 x3 x4 x5 x6 s0 0 1) else (fX9_who_L120 2000 σ x2 x3 x4 x5 x6 s0 0 0)
theorem wX9_who_b104 (E : mE p m c cX9_who 11 s args G cI cZ meth (some .int)) {σ : MS} {s0 : Int32} {x2 : Int32} {x3 : Int32} {x4 : Int32} {x5 : Int32} {x6 : Int32} (hf : fX9_who_b104 σ s0 x2 x3 x4 x5 x6 = some (r, σf)) : ∀ (H : Heap) (locs : List Loc) (ls : Array Slot), mR G cI cZ o σ H → va_S (mA o) s.heap H locs → lv_has ls 11 [(0, .ref o), (2, .int x2), (3, .int x3), (4, .int x4), (5, .int x5), (6, .int x6)] → W p l e rmX9_who s m args below meth c H locs 0 0 (MQ below (mQi G cI cZ o r σf) args s 0 0 (mA o)) (F0 m 104 ls [.int s0]) := by
  intro H locs ls hR hS hl
  refine lv_istore (lv' := [(8, .int s0), (0, .ref o), (2, .int x2), (3, .int x3), (4, .int x4), (5, .int x5), (6, .int x6)]) E.hx E.hb dX9_who_104 hl (by decide) rfl (fun ls hl => ?_)
  refine lv_iconst (v := 0) E.hx E.hb dX9_who_106 (by decide) ?_
  refine lv_istore (lv' := [(9, .int 0), (8, .int s0), (0, .ref o), (2, .int x2), (3, .int x3), (4, .int x4), (5, .int x5), (6, .int x6)]) E.hx E.hb dX9_who_107 hl (by decide) rfl (fun ls hl => ?_)
  refine lv_iload_n E.hx E.hb dX9_who_109 rfl (lv_at hl 3 rfl) ?_
  refine lv_if_ne (tgt := 117) E.hx E.hb dX9_who_110 (by decide) (fun c1 => ?_) (fun c1 => ?_)
  · have hf := it_f hf c1
    refine lv_iconst (v := 0) E.hx E.hb dX9_who_117 (by decide) ?_
    refine lv_istore (lv' := [(10, .int 0), (9, .int 0), (8, .int s0), (0, .ref o), (2, .int x2), (3, .int x3), (4, .int x4), (5, .int x5), (6, .int x6)]) E.hx E.hb dX9_who_118 hl (by decide) rfl (fun ls hl => ?_)
    exact wX9_who_L120 E  2000 σ _ _ _ _ _ _ _ _ hf _ _ _ hR hS (lv_sub hl [3, 4, 5, 6, 7, 8, 2, 1, 0] rfl)
  · have hf := it_t hf c1
    refine lv_iconst (v := 1) E.hx E.hb dX9_who_113 (by decide) ?_
    refine lv_goto (tgt := 118) E.hx E.hb dX9_who_114 (by decide) ?_
    refine lv_istore (lv' := [(10, .int 1), (9, .int 0), (8, .int s0), (0, .ref o), (2, .int x2), (3, .int x3), (4, .int x4), (5, .int x5), (6, .int x6)]) E.hx E.hb dX9_who_118 hl (by decide) rfl (fun ls hl => ?_)
    exact wX9_who_L120 E  2000 σ _ _ _ _ _ _ _ _ hf _ _ _ hR hS (lv_sub hl [3, 4, 5, 6, 7, 8, 2, 1, 0] rfl)
def fX9_who_b64  (σ : MS) (s0 : Int32) (x1 : Int32) (x2 : Int32) (x3 : Int32) (x4 : Int32) (x5 : Int32) (x6 : Int32) : Option (Int32 × MS) :=
  if 0 ≤ s0 then ((fX9_putAside σ).bind fun σ2 =>
  if x2 = 0 then (fX9_who_b104 σ2 (5 + x1) x2 x3 x4 x5 x6) else (if x2 = 1 then (fX9_who_b104 σ2 (17 + x1) x2 x3 x4 x5 x6) else (fX9_who_b104 σ2 (23 + x1) x2 x3 x4 x5 x6))) else (some (s0, σ))
theorem wX9_who_b64 (E : mE p m c cX9_who 11 s args G cI cZ meth (some .int)) {σ : MS} {s0 : Int32} {x1 : Int32} {x2 : Int32} {x3 : Int32} {x4 : Int32} {x5 : Int32} {x6 : Int32} (hf : fX9_who_b64 σ s0 x1 x2 x3 x4 x5 x6 = some (r, σf)) : ∀ (H : Heap) (locs : List Loc) (ls : Array Slot), mR G cI cZ o σ H → va_S (mA o) s.heap H locs → lv_has ls 11 [(0, .ref o), (1, .int x1), (2, .int x2), (3, .int x3), (4, .int x4), (5, .int x5), (6, .int x6)] → W p l e rmX9_who s m args below meth c H locs 0 0 (MQ below (mQi G cI cZ o r σf) args s 0 0 (mA o)) (F0 m 64 ls [.int s0]) := by
  intro H locs ls hR hS hl
  refine lv_istore (lv' := [(7, .int s0), (0, .ref o), (1, .int x1), (2, .int x2), (3, .int x3), (4, .int x4), (5, .int x5), (6, .int x6)]) E.hx E.hb dX9_who_64 hl (by decide) rfl (fun ls hl => ?_)
  refine lv_iload E.hx E.hb dX9_who_66 (lv_at hl 0 rfl) ?_
  refine lv_if_ge (tgt := 74) E.hx E.hb dX9_who_68 (by decide) (fun c1 => ?_) (fun c1 => ?_)
  · have hf := it_t hf c1
    refine lv_aload_n E.hx E.hb dX9_who_74 rfl (lv_at hl 1 rfl) ?_
    obtain ⟨σ2, hσ2, hf⟩ := bd_e hf
    refine mcall_v (rest := []) E hR hS (tX9_putAside l hσ2) (cwX9_204 E.ht ⟨Nat.le_of_ble_eq_true rfl, Nat.le_of_ble_eq_true rfl⟩) rfl hl.1 rfl (Nat.le_of_ble_eq_true rfl) dX9_who_75 ⟨Nat.le_refl 0, Nat.le_refl 0⟩ (fun H locs hR hS => ?_)
    refine lv_iload_n E.hx E.hb dX9_who_78 rfl (lv_at hl 3 rfl) ?_
    refine lv_if_ne (tgt := 88) E.hx E.hb dX9_who_79 (by decide) (fun c3 => ?_) (fun c3 => ?_)
    · have hf := it_f hf c3
      refine lv_iload_n E.hx E.hb dX9_who_88 rfl (lv_at hl 3 rfl) ?_
      refine lv_iconst (v := 1) E.hx E.hb dX9_who_89 (by decide) ?_
      refine lv_icmp_ne (tgt := 100) E.hx E.hb dX9_who_90 (by decide) (fun c4 => ?_) (fun c4 => ?_)
      · have hf := it_f hf c4
        refine lv_bipush (v := 23) E.hx E.hb dX9_who_100 (by decide) ?_
        refine lv_iload_n E.hx E.hb dX9_who_102 rfl (lv_at hl 2 rfl) ?_
        refine lv_iadd E.hx E.hb dX9_who_103 ?_
        exact wX9_who_b104 E  hf _ _ _ hR hS (lv_sub hl [1, 3, 4, 5, 6, 7] rfl)
      · have hf := it_t hf c4
        refine lv_bipush (v := 17) E.hx E.hb dX9_who_93 (by decide) ?_
        refine lv_iload_n E.hx E.hb dX9_who_95 rfl (lv_at hl 2 rfl) ?_
        refine lv_iadd E.hx E.hb dX9_who_96 ?_
        refine lv_goto (tgt := 104) E.hx E.hb dX9_who_97 (by decide) ?_
        exact wX9_who_b104 E  hf _ _ _ hR hS (lv_sub hl [1, 3, 4, 5, 6, 7] rfl)
    · have hf := it_t hf c3
      refine lv_iconst (v := 5) E.hx E.hb dX9_who_82 (by decide) ?_
      refine lv_iload_n E.hx E.hb dX9_who_83 rfl (lv_at hl 2 rfl) ?_
      refine lv_iadd E.hx E.hb dX9_who_84 ?_
      refine lv_goto (tgt := 104) E.hx E.hb dX9_who_85 (by decide) ?_
      exact wX9_who_b104 E  hf _ _ _ hR hS (lv_sub hl [1, 3, 4, 5, 6, 7] rfl)
  · have hf := it_f hf c1
    refine lv_iload E.hx E.hb dX9_who_71 (lv_at hl 0 rfl) ?_
    obtain ⟨rfl, rfl⟩ := rt_e hf
    exact mret_i E hR hS dX9_who_73
def fX9_who  (σ : MS) (x1 : Int32) (x2 : Int32) (x3 : Int32) (x4 : Int32) (x5 : Int32) (x6 : Int32) : Option (Int32 × MS) :=
  (fX9_isChair σ x1).bind fun (v2, σ1) =>
  if v2 = 0 then (fX9_who_b64 σ1 (-1000001) x1 x2 x3 x4 x5 x6) else ((fX9_in (x2.toInt64) 0 2).bind fun v4 =>
  if v4 = 0 then (fX9_who_b64 σ1 (-1000001) x1 x2 x3 x4 x5 x6) else ((fX9_isChair σ1 x3).bind fun (v7, σ6) =>
  if v7 = 0 then (fX9_who_b64 σ6 (-1000001) x1 x2 x3 x4 x5 x6) else ((fX9_isRow x4).bind fun v9 =>
  if v9 = 0 then (fX9_who_b64 σ6 (-1000001) x1 x2 x3 x4 x5 x6) else ((fX9_in (x6.toInt64) 1 12).bind fun v11 =>
  if v11 = 0 then (fX9_who_b64 σ6 (-1000001) x1 x2 x3 x4 x5 x6) else ((fX9_lacks σ6 x4 x5 x6).bind fun (v14, σ13) =>
  fX9_who_b64 σ13 v14 x1 x2 x3 x4 x5 x6)))))
theorem wX9_who_0 (E : mE p m c cX9_who 11 s args G cI cZ meth (some .int)) {σ : MS} {x1 : Int32} {x2 : Int32} {x3 : Int32} {x4 : Int32} {x5 : Int32} {x6 : Int32} (hf : fX9_who σ x1 x2 x3 x4 x5 x6 = some (r, σf)) : ∀ (H : Heap) (locs : List Loc) (ls : Array Slot), mR G cI cZ o σ H → va_S (mA o) s.heap H locs → lv_has ls 11 [(0, .ref o), (1, .int x1), (2, .int x2), (3, .int x3), (4, .int x4), (5, .int x5), (6, .int x6)] → W p l e rmX9_who s m args below meth c H locs 0 0 (MQ below (mQi G cI cZ o r σf) args s 0 0 (mA o)) (F0 m 0 ls []) := by
  intro H locs ls hR hS hl
  refine lv_aload_n E.hx E.hb dX9_who_0 rfl (lv_at hl 0 rfl) ?_
  refine lv_iload_n E.hx E.hb dX9_who_1 rfl (lv_at hl 1 rfl) ?_
  obtain ⟨⟨v2, σ1⟩, hv2, hf⟩ := bd_e hf
  refine mcall_i (rest := []) E hR hS (tX9_isChair l hv2) (cwX9_178 E.ht ⟨Nat.le_of_ble_eq_true rfl, Nat.le_of_ble_eq_true rfl⟩) rfl hl.1 rfl (Nat.le_of_ble_eq_true rfl) dX9_who_2 ⟨Nat.le_refl 0, Nat.le_refl 0⟩ (fun H locs hR hS => ?_)
  refine lv_if_eq (tgt := 49) E.hx E.hb dX9_who_5 (by decide) (fun c3 => ?_) (fun c3 => ?_)
  · have hf := it_t hf c3
    refine lv_ldc (v := (-1000001)) E.hx E.hb E.ho (E.ht _ q1319) dX9_who_49 ?_
    refine lv_goto (tgt := 64) E.hx E.hb dX9_who_51 (by decide) ?_
    exact wX9_who_b64 E  hf _ _ _ hR hS (lv_sub hl [0, 1, 2, 3, 4, 5, 6] rfl)
  · have hf := it_f hf c3
    refine lv_iload_n E.hx E.hb dX9_who_8 rfl (lv_at hl 2 rfl) ?_
    refine lv_i2l E.hx E.hb dX9_who_9 rfl ?_
    refine lv_lconst (v := 0) E.hx E.hb dX9_who_10 (by decide) ?_
    refine lv_ldc2 (v := 2) E.hx E.hb E.ho (E.ht _ q1318) dX9_who_11 ?_
    obtain ⟨v4, hv4, hf⟩ := bd_e hf
    refine scall_i (rest := []) E.1 (tX9_in l hv4) (cwX9_57 E.ht ⟨Nat.le_of_ble_eq_true rfl, Nat.le_of_ble_eq_true rfl⟩) rfl hl.1 rfl (Nat.le_of_ble_eq_true rfl) dX9_who_14 ⟨Nat.le_refl 0, Nat.le_refl 0⟩ ?_
    refine lv_if_eq (tgt := 49) E.hx E.hb dX9_who_17 (by decide) (fun c5 => ?_) (fun c5 => ?_)
    · have hf := it_t hf c5
      refine lv_ldc (v := (-1000001)) E.hx E.hb E.ho (E.ht _ q1319) dX9_who_49 ?_
      refine lv_goto (tgt := 64) E.hx E.hb dX9_who_51 (by decide) ?_
      exact wX9_who_b64 E  hf _ _ _ hR hS (lv_sub hl [0, 1, 2, 3, 4, 5, 6] rfl)
    · have hf := it_f hf c5
      refine lv_aload_n E.hx E.hb dX9_who_20 rfl (lv_at hl 0 rfl) ?_
      refine lv_iload_n E.hx E.hb dX9_who_21 rfl (lv_at hl 3 rfl) ?_
      obtain ⟨⟨v7, σ6⟩, hv7, hf⟩ := bd_e hf
      refine mcall_i (rest := []) E hR hS (tX9_isChair l hv7) (cwX9_178 E.ht ⟨Nat.le_of_ble_eq_true rfl, Nat.le_of_ble_eq_true rfl⟩) rfl hl.1 rfl (Nat.le_of_ble_eq_true rfl) dX9_who_22 ⟨Nat.le_refl 0, Nat.le_refl 0⟩ (fun H locs hR hS => ?_)
      refine lv_if_eq (tgt := 49) E.hx E.hb dX9_who_25 (by decide) (fun c8 => ?_) (fun c8 => ?_)
      · have hf := it_t hf c8
        refine lv_ldc (v := (-1000001)) E.hx E.hb E.ho (E.ht _ q1319) dX9_who_49 ?_
        refine lv_goto (tgt := 64) E.hx E.hb dX9_who_51 (by decide) ?_
        exact wX9_who_b64 E  hf _ _ _ hR hS (lv_sub hl [0, 1, 2, 3, 4, 5, 6] rfl)
      · have hf := it_f hf c8
        refine lv_iload E.hx E.hb dX9_who_28 (lv_at hl 4 rfl) ?_
        obtain ⟨v9, hv9, hf⟩ := bd_e hf
        refine scall_i (rest := []) E.1 (tX9_isRow l hv9) (cwX9_61 E.ht ⟨Nat.le_of_ble_eq_true rfl, Nat.le_of_ble_eq_true rfl⟩) rfl hl.1 rfl (Nat.le_of_ble_eq_true rfl) dX9_who_30 ⟨Nat.le_refl 0, Nat.le_refl 0⟩ ?_
        refine lv_if_eq (tgt := 49) E.hx E.hb dX9_who_33 (by decide) (fun c10 => ?_) (fun c10 => ?_)
        · have hf := it_t hf c10
          refine lv_ldc (v := (-1000001)) E.hx E.hb E.ho (E.ht _ q1319) dX9_who_49 ?_
          refine lv_goto (tgt := 64) E.hx E.hb dX9_who_51 (by decide) ?_
          exact wX9_who_b64 E  hf _ _ _ hR hS (lv_sub hl [0, 1, 2, 3, 4, 5, 6] rfl)
        · have hf := it_f hf c10
          refine lv_iload E.hx E.hb dX9_who_36 (lv_at hl 6 rfl) ?_
          refine lv_i2l E.hx E.hb dX9_who_38 rfl ?_
          refine lv_lconst (v := 1) E.hx E.hb dX9_who_39 (by decide) ?_
          refine lv_ldc2 (v := 12) E.hx E.hb E.ho (E.ht _ q1582) dX9_who_40 ?_
          obtain ⟨v11, hv11, hf⟩ := bd_e hf
          refine scall_i (rest := []) E.1 (tX9_in l hv11) (cwX9_57 E.ht ⟨Nat.le_of_ble_eq_true rfl, Nat.le_of_ble_eq_true rfl⟩) rfl hl.1 rfl (Nat.le_of_ble_eq_true rfl) dX9_who_43 ⟨Nat.le_refl 0, Nat.le_refl 0⟩ ?_
          refine lv_if_ne (tgt := 54) E.hx E.hb dX9_who_46 (by decide) (fun c12 => ?_) (fun c12 => ?_)
          · have hf := it_f hf c12
            refine lv_aload_n E.hx E.hb dX9_who_54 rfl (lv_at hl 0 rfl) ?_
            refine lv_iload E.hx E.hb dX9_who_55 (lv_at hl 4 rfl) ?_
            refine lv_iload E.hx E.hb dX9_who_57 (lv_at hl 5 rfl) ?_
            refine lv_iload E.hx E.hb dX9_who_59 (lv_at hl 6 rfl) ?_
            obtain ⟨⟨v14, σ13⟩, hv14, hf⟩ := bd_e hf
            refine mcall_i (rest := []) E hR hS (tX9_lacks l hv14) (cwX9_220 E.ht ⟨Nat.le_of_ble_eq_true rfl, Nat.le_of_ble_eq_true rfl⟩) rfl hl.1 rfl (Nat.le_of_ble_eq_true rfl) dX9_who_61 ⟨Nat.le_refl 0, Nat.le_refl 0⟩ (fun H locs hR hS => ?_)
            exact wX9_who_b64 E  hf _ _ _ hR hS (lv_sub hl [0, 1, 2, 3, 4, 5, 6] rfl)
          · have hf := it_t hf c12
            refine lv_ldc (v := (-1000001)) E.hx E.hb E.ho (E.ht _ q1319) dX9_who_49 ?_
            refine lv_goto (tgt := 64) E.hx E.hb dX9_who_51 (by decide) ?_
            exact wX9_who_b64 E  hf _ _ _ hR hS (lv_sub hl [0, 1, 2, 3, 4, 5, 6] rfl)
theorem tX9_who (l : Launch) {G : va_G} {cI cZ : ClassId} {o : Nat} {σ σf : MS} {x1 : Int32} {x2 : Int32} {x3 : Int32} {x4 : Int32} {x5 : Int32} {x6 : Int32} {r : Int32} (hf : fX9_who σ x1 x2 x3 x4 x5 x6 = some (r, σf)) : Met l yX9_who (ws_ yX9_who cX9_who 11 (some .int)) rmX9_who (mPc G cI cZ o σ [.ref o, .int x1, .int x2, .int x3, .int x4, .int x5, .int x6]) (mQi G cI cZ o r σf) 0 0 (mA o) := by
  refine Met.ofW (cc := cX9_who) (maxL := 11) (ret := (some .int)) (by decide) rfl ?_
  intro p e s m args below meth c s₁ B hml hv
  obtain ⟨rfl, hR, hK⟩ := hv
  have hts := atoms_spec (ws := (ws_ yX9_who cX9_who 11 (some .int))) B.pre
  rw [lg_entry_eq]
  exact wX9_who_0 (E := ⟨⟨B.exec, B.bytes, hml, findClass_of_methodNamed B.named, fun w h => hts w (List.mem_cons_of_mem _ h)⟩, hK, B.returns, B.notSynchronized⟩) hf _ _ _ hR va_S.rf (lv_entry [.ref o, .int x1, .int x2, .int x3, .int x4, .int x5, .int x6] (n := 11) (Nat.le_of_ble_eq_true rfl))

abbrev rmX9_guarded : Room := { frames := 8, cells := 0, slots := 0, locals := 171 }
def fX9_guarded_L82  : Nat → MS → Int32 → Int32 → Int32 → Int32 → Int32 → Int32 → Option (Int32 × MS)
  | 0, _, _, _, _, _, _, _ => none
  | n + 1, σ, x1, x2, x3, x4, x6, x7 =>
    (rd (σ 4) 41 2).bind fun v1 =>
    if v1 ≤ x7 then ((fX9_well σ x6).bind fun (v4, σ3) =>
    some (v4, σ3)) else ((rd (σ 4) 41 4).bind fun v5 =>
    (fX9_has v5 x7).bind fun v6 =>
    if v6 = 0 then ((rd (σ 4) 41 4).bind fun v8 =>
    (mwr σ 4 41 4 (v8 ||| (1 <<< (x7 &&& 31)))).bind fun σ9 =>
    (fX9_isSo σ9 x1 ((40 * x2) + x3) x4).bind fun (v11, σ10) =>
    if v11 = 0 then ((fX9_guarded_L82 n) σ10 x1 x2 x3 x4 (x6 ||| 0) (x7 + 1)) else ((fX9_guarded_L82 n) σ10 x1 x2 x3 x4 (x6 ||| (1 <<< (x7 &&& 31))) (x7 + 1))) else ((fX9_guarded_L82 n) σ x1 x2 x3 x4 x6 (x7 + 1)))
theorem wX9_guarded_L82 (E : mE p m c cX9_guarded 8 s args G cI cZ meth (some .int)) : ∀ (n : Nat) (σ : MS) (x1 : Int32) (x2 : Int32) (x3 : Int32) (x4 : Int32) (x6 : Int32) (x7 : Int32), fX9_guarded_L82 n σ x1 x2 x3 x4 x6 x7 = some (r, σf) → ∀ (H : Heap) (locs : List Loc) (ls : Array Slot), mR G cI cZ o σ H → va_S (mA o) s.heap H locs → lv_has ls 8 [(0, .ref o), (1, .int x1), (2, .int x2), (3, .int x3), (4, .int x4), (6, .int x6), (7, .int x7)] → W p l e rmX9_guarded s m args below meth c H locs 0 0 (MQ below (mQi G cI cZ o r σf) args s 0 0 (mA o)) (F0 m 82 ls []) := by
  intro n
  induction n with
  | zero =>
    intro σ x1 x2 x3 x4 x6 x7 hf
    have hf : none = some (r, σf) := hf
    cases hf
  | succ n ih =>
    intro σ x1 x2 x3 x4 x6 x7 hf H locs ls hR hS hl
    refine lv_iload E.hx E.hb dX9_guarded_82 (lv_at hl 6 rfl) ?_
    refine lv_aload_n E.hx E.hb dX9_guarded_84 rfl (lv_at hl 0 rfl) ?_
    refine mg_st E hR dX9_guarded_85 ?_
    refine lv_iconst (v := 2) E.hx E.hb dX9_guarded_88 (by decide) ?_
    obtain ⟨v1, hv1, hf⟩ := bd_e hf
    refine ml_st E hR hv1 dX9_guarded_89 ?_
    refine lv_icmp_ge (tgt := 155) E.hx E.hb dX9_guarded_90 (by decide) (fun c2 => ?_) (fun c2 => ?_)
    · have hf := it_t hf c2
      refine lv_aload_n E.hx E.hb dX9_guarded_155 rfl (lv_at hl 0 rfl) ?_
      refine lv_iload E.hx E.hb dX9_guarded_156 (lv_at hl 5 rfl) ?_
      obtain ⟨⟨v4, σ3⟩, hv4, hf⟩ := bd_e hf
      refine mcall_i (rest := []) E hR hS (tX9_well l hv4) (cwX9_72 E.ht ⟨Nat.le_of_ble_eq_true rfl, Nat.le_of_ble_eq_true rfl⟩) rfl hl.1 rfl (Nat.le_of_ble_eq_true rfl) dX9_guarded_158 ⟨Nat.le_refl 0, Nat.le_refl 0⟩ (fun H locs hR hS => ?_)
      obtain ⟨rfl, rfl⟩ := rt_e hf
      exact mret_i E hR hS dX9_guarded_161
    · have hf := it_f hf c2
      refine lv_aload_n E.hx E.hb dX9_guarded_93 rfl (lv_at hl 0 rfl) ?_
      refine mg_st E hR dX9_guarded_94 ?_
      refine lv_iconst (v := 4) E.hx E.hb dX9_guarded_97 (by decide) ?_
      obtain ⟨v5, hv5, hf⟩ := bd_e hf
      refine ml_st E hR hv5 dX9_guarded_98 ?_
      refine lv_iload E.hx E.hb dX9_guarded_99 (lv_at hl 6 rfl) ?_
      obtain ⟨v6, hv6, hf⟩ := bd_e hf
      refine scall_i (rest := []) E.1 (tX9_has l hv6) (cwX9_162 E.ht ⟨Nat.le_of_ble_eq_true rfl, Nat.le_of_ble_eq_true rfl⟩) rfl hl.1 rfl (Nat.le_of_ble_eq_true rfl) dX9_guarded_101 ⟨Nat.le_refl 0, Nat.le_refl 0⟩ ?_
      refine lv_if_ne (tgt := 149) E.hx E.hb dX9_guarded_104 (by decide) (fun c7 => ?_) (fun c7 => ?_)
      · have hf := it_f hf c7
        refine lv_iinc (v := (x7 + 1)) (lv' := [(7, .int (x7 + 1)), (0, .ref o), (1, .int x1), (2, .int x2), (3, .int x3), (4, .int x4), (6, .int x6)]) E.hx E.hb dX9_guarded_149 hl (k := 6) rfl rfl (by decide) rfl (fun ls hl => ?_)
        refine lv_goto (tgt := 82) E.hx E.hb dX9_guarded_152 (by decide) ?_
        exact ih σ _ _ _ _ _ _ hf _ _ _ hR hS (lv_sub hl [1, 2, 3, 4, 5, 6, 0] rfl)
      · have hf := it_t hf c7
        refine lv_aload_n E.hx E.hb dX9_guarded_107 rfl (lv_at hl 0 rfl) ?_
        refine mg_st E hR dX9_guarded_108 ?_
        refine lv_iconst (v := 4) E.hx E.hb dX9_guarded_111 (by decide) ?_
        refine lv_dup2_11 E.hx E.hb dX9_guarded_112 rfl rfl ?_
        obtain ⟨v8, hv8, hf⟩ := bd_e hf
        refine ml_st E hR hv8 dX9_guarded_113 ?_
        refine lv_iconst (v := 1) E.hx E.hb dX9_guarded_114 (by decide) ?_
        refine lv_iload E.hx E.hb dX9_guarded_115 (lv_at hl 6 rfl) ?_
        refine lv_ishl E.hx E.hb dX9_guarded_117 ?_
        refine lv_ior E.hx E.hb dX9_guarded_118 ?_
        obtain ⟨σ9, hσ9, hf⟩ := bd_e hf
        refine ms_st E hR hS hσ9 dX9_guarded_119 (fun H locs hR hS => ?_)
        refine lv_iload E.hx E.hb dX9_guarded_120 (lv_at hl 5 rfl) ?_
        refine lv_aload_n E.hx E.hb dX9_guarded_122 rfl (lv_at hl 0 rfl) ?_
        refine lv_iload_n E.hx E.hb dX9_guarded_123 rfl (lv_at hl 1 rfl) ?_
        refine lv_bipush (v := 40) E.hx E.hb dX9_guarded_124 (by decide) ?_
        refine lv_iload_n E.hx E.hb dX9_guarded_126 rfl (lv_at hl 2 rfl) ?_
        refine lv_imul E.hx E.hb dX9_guarded_127 ?_
        refine lv_iload_n E.hx E.hb dX9_guarded_128 rfl (lv_at hl 3 rfl) ?_
        refine lv_iadd E.hx E.hb dX9_guarded_129 ?_
        refine lv_iload E.hx E.hb dX9_guarded_130 (lv_at hl 4 rfl) ?_
        obtain ⟨⟨v11, σ10⟩, hv11, hf⟩ := bd_e hf
        refine mcall_i (rest := [.int x6]) E hR hS (tX9_isSo l hv11) (cwX9_231 E.ht ⟨Nat.le_of_ble_eq_true rfl, Nat.le_of_ble_eq_true rfl⟩) rfl hl.1 rfl (Nat.le_of_ble_eq_true rfl) dX9_guarded_132 ⟨Nat.le_refl 0, Nat.le_refl 0⟩ (fun H locs hR hS => ?_)
        refine lv_if_eq (tgt := 145) E.hx E.hb dX9_guarded_135 (by decide) (fun c12 => ?_) (fun c12 => ?_)
        · have hf := it_t hf c12
          refine lv_iconst (v := 0) E.hx E.hb dX9_guarded_145 (by decide) ?_
          refine lv_ior E.hx E.hb dX9_guarded_146 ?_
          refine lv_istore (lv' := [(6, .int (x6 ||| 0)), (0, .ref o), (1, .int x1), (2, .int x2), (3, .int x3), (4, .int x4), (7, .int x7)]) E.hx E.hb dX9_guarded_147 hl (by decide) rfl (fun ls hl => ?_)
          refine lv_iinc (v := (x7 + 1)) (lv' := [(7, .int (x7 + 1)), (6, .int (x6 ||| 0)), (0, .ref o), (1, .int x1), (2, .int x2), (3, .int x3), (4, .int x4)]) E.hx E.hb dX9_guarded_149 hl (k := 6) rfl rfl (by decide) rfl (fun ls hl => ?_)
          refine lv_goto (tgt := 82) E.hx E.hb dX9_guarded_152 (by decide) ?_
          exact ih σ10 _ _ _ _ _ _ hf _ _ _ hR hS (lv_sub hl [2, 3, 4, 5, 6, 1, 0] rfl)
        · have hf := it_f hf c12
          refine lv_iconst (v := 1) E.hx E.hb dX9_guarded_138 (by decide) ?_
          refine lv_iload E.hx E.hb dX9_guarded_139 (lv_at hl 6 rfl) ?_
          refine lv_ishl E.hx E.hb dX9_guarded_141 ?_
          refine lv_goto (tgt := 146) E.hx E.hb dX9_guarded_142 (by decide) ?_
          refine lv_ior E.hx E.hb dX9_guarded_146 ?_
          refine lv_istore (lv' := [(6, .int (x6 ||| (1 <<< (x7 &&& 31)))), (0, .ref o), (1, .int x1), (2, .int x2), (3, .int x3), (4, .int x4), (7, .int x7)]) E.hx E.hb dX9_guarded_147 hl (by decide) rfl (fun ls hl => ?_)
          refine lv_iinc (v := (x7 + 1)) (lv' := [(7, .int (x7 + 1)), (6, .int (x6 ||| (1 <<< (x7 &&& 31)))), (0, .ref o), (1, .int x1), (2, .int x2), (3, .int x3), (4, .int x4)]) E.hx E.hb dX9_guarded_149 hl (k := 6) rfl rfl (by decide) rfl (fun ls hl => ?_)
          refine lv_goto (tgt := 82) E.hx E.hb dX9_guarded_152 (by decide) ?_
          exact ih σ10 _ _ _ _ _ _ hf _ _ _ hR hS (lv_sub hl [2, 3, 4, 5, 6, 1, 0] rfl)
def fX9_guarded_b41  (σ : MS) (s0 : Int32) (x1 : Int32) (x2 : Int32) (x3 : Int32) (x4 : Int32) : Option (Int32 × MS) :=
  if 0 ≤ s0 then ((fX9_putAside σ).bind fun σ2 =>
  (fX9_isSo σ2 x1 ((40 * x2) + x3) x4).bind fun (v4, σ3) =>
  if v4 = 0 then (fX9_guarded_L82 2000 σ3 x1 x2 x3 x4 0 0) else (fX9_guarded_L82 2000 σ3 x1 x2 x3 x4 64 0)) else (some (s0, σ))
theorem wX9_guarded_b41 (E : mE p m c cX9_guarded 8 s args G cI cZ meth (some .int)) {σ : MS} {s0 : Int32} {x1 : Int32} {x2 : Int32} {x3 : Int32} {x4 : Int32} (hf : fX9_guarded_b41 σ s0 x1 x2 x3 x4 = some (r, σf)) : ∀ (H : Heap) (locs : List Loc) (ls : Array Slot), mR G cI cZ o σ H → va_S (mA o) s.heap H locs → lv_has ls 8 [(0, .ref o), (1, .int x1), (2, .int x2), (3, .int x3), (4, .int x4)] → W p l e rmX9_guarded s m args below meth c H locs 0 0 (MQ below (mQi G cI cZ o r σf) args s 0 0 (mA o)) (F0 m 41 ls [.int s0]) := by
  intro H locs ls hR hS hl
  refine lv_istore (lv' := [(5, .int s0), (0, .ref o), (1, .int x1), (2, .int x2), (3, .int x3), (4, .int x4)]) E.hx E.hb dX9_guarded_41 hl (by decide) rfl (fun ls hl => ?_)
  refine lv_iload E.hx E.hb dX9_guarded_43 (lv_at hl 0 rfl) ?_
  refine lv_if_ge (tgt := 51) E.hx E.hb dX9_guarded_45 (by decide) (fun c1 => ?_) (fun c1 => ?_)
  · have hf := it_t hf c1
    refine lv_aload_n E.hx E.hb dX9_guarded_51 rfl (lv_at hl 1 rfl) ?_
    obtain ⟨σ2, hσ2, hf⟩ := bd_e hf
    refine mcall_v (rest := []) E hR hS (tX9_putAside l hσ2) (cwX9_204 E.ht ⟨Nat.le_of_ble_eq_true rfl, Nat.le_of_ble_eq_true rfl⟩) rfl hl.1 rfl (Nat.le_of_ble_eq_true rfl) dX9_guarded_52 ⟨Nat.le_refl 0, Nat.le_refl 0⟩ (fun H locs hR hS => ?_)
    refine lv_aload_n E.hx E.hb dX9_guarded_55 rfl (lv_at hl 1 rfl) ?_
    refine lv_iload_n E.hx E.hb dX9_guarded_56 rfl (lv_at hl 2 rfl) ?_
    refine lv_bipush (v := 40) E.hx E.hb dX9_guarded_57 (by decide) ?_
    refine lv_iload_n E.hx E.hb dX9_guarded_59 rfl (lv_at hl 3 rfl) ?_
    refine lv_imul E.hx E.hb dX9_guarded_60 ?_
    refine lv_iload_n E.hx E.hb dX9_guarded_61 rfl (lv_at hl 4 rfl) ?_
    refine lv_iadd E.hx E.hb dX9_guarded_62 ?_
    refine lv_iload E.hx E.hb dX9_guarded_63 (lv_at hl 5 rfl) ?_
    obtain ⟨⟨v4, σ3⟩, hv4, hf⟩ := bd_e hf
    refine mcall_i (rest := []) E hR hS (tX9_isSo l hv4) (cwX9_231 E.ht ⟨Nat.le_of_ble_eq_true rfl, Nat.le_of_ble_eq_true rfl⟩) rfl hl.1 rfl (Nat.le_of_ble_eq_true rfl) dX9_guarded_65 ⟨Nat.le_refl 0, Nat.le_refl 0⟩ (fun H locs hR hS => ?_)
    refine lv_if_eq (tgt := 76) E.hx E.hb dX9_guarded_68 (by decide) (fun c5 => ?_) (fun c5 => ?_)
    · have hf := it_t hf c5
      refine lv_iconst (v := 0) E.hx E.hb dX9_guarded_76 (by decide) ?_
      refine lv_istore (lv' := [(6, .int 0), (5, .int s0), (0, .ref o), (1, .int x1), (2, .int x2), (3, .int x3), (4, .int x4)]) E.hx E.hb dX9_guarded_77 hl (by decide) rfl (fun ls hl => ?_)
      refine lv_iconst (v := 0) E.hx E.hb dX9_guarded_79 (by decide) ?_
      refine lv_istore (lv' := [(7, .int 0), (6, .int 0), (5, .int s0), (0, .ref o), (1, .int x1), (2, .int x2), (3, .int x3), (4, .int x4)]) E.hx E.hb dX9_guarded_80 hl (by decide) rfl (fun ls hl => ?_)
      exact wX9_guarded_L82 E  2000 σ3 _ _ _ _ _ _ hf _ _ _ hR hS (lv_sub hl [3, 4, 5, 6, 7, 1, 0] rfl)
    · have hf := it_f hf c5
      refine lv_bipush (v := 64) E.hx E.hb dX9_guarded_71 (by decide) ?_
      refine lv_goto (tgt := 77) E.hx E.hb dX9_guarded_73 (by decide) ?_
      refine lv_istore (lv' := [(6, .int 64), (5, .int s0), (0, .ref o), (1, .int x1), (2, .int x2), (3, .int x3), (4, .int x4)]) E.hx E.hb dX9_guarded_77 hl (by decide) rfl (fun ls hl => ?_)
      refine lv_iconst (v := 0) E.hx E.hb dX9_guarded_79 (by decide) ?_
      refine lv_istore (lv' := [(7, .int 0), (6, .int 64), (5, .int s0), (0, .ref o), (1, .int x1), (2, .int x2), (3, .int x3), (4, .int x4)]) E.hx E.hb dX9_guarded_80 hl (by decide) rfl (fun ls hl => ?_)
      exact wX9_guarded_L82 E  2000 σ3 _ _ _ _ _ _ hf _ _ _ hR hS (lv_sub hl [3, 4, 5, 6, 7, 1, 0] rfl)
  · have hf := it_f hf c1
    refine lv_iload E.hx E.hb dX9_guarded_48 (lv_at hl 0 rfl) ?_
    obtain ⟨rfl, rfl⟩ := rt_e hf
    exact mret_i E hR hS dX9_guarded_50
def fX9_guarded  (σ : MS) (x1 : Int32) (x2 : Int32) (x3 : Int32) (x4 : Int32) : Option (Int32 × MS) :=
  (fX9_isChair σ x1).bind fun (v2, σ1) =>
  if v2 = 0 then (fX9_guarded_b41 σ1 (-1000001) x1 x2 x3 x4) else ((fX9_isRow x2).bind fun v4 =>
  if v4 = 0 then (fX9_guarded_b41 σ1 (-1000001) x1 x2 x3 x4) else ((fX9_in (x4.toInt64) 1 12).bind fun v6 =>
  if v6 = 0 then (fX9_guarded_b41 σ1 (-1000001) x1 x2 x3 x4) else ((fX9_lacks σ1 x2 x3 x4).bind fun (v9, σ8) =>
  fX9_guarded_b41 σ8 v9 x1 x2 x3 x4)))
theorem wX9_guarded_0 (E : mE p m c cX9_guarded 8 s args G cI cZ meth (some .int)) {σ : MS} {x1 : Int32} {x2 : Int32} {x3 : Int32} {x4 : Int32} (hf : fX9_guarded σ x1 x2 x3 x4 = some (r, σf)) : ∀ (H : Heap) (locs : List Loc) (ls : Array Slot), mR G cI cZ o σ H → va_S (mA o) s.heap H locs → lv_has ls 8 [(0, .ref o), (1, .int x1), (2, .int x2), (3, .int x3), (4, .int x4)] → W p l e rmX9_guarded s m args below meth c H locs 0 0 (MQ below (mQi G cI cZ o r σf) args s 0 0 (mA o)) (F0 m 0 ls []) := by
  intro H locs ls hR hS hl
  refine lv_aload_n E.hx E.hb dX9_guarded_0 rfl (lv_at hl 0 rfl) ?_
  refine lv_iload_n E.hx E.hb dX9_guarded_1 rfl (lv_at hl 1 rfl) ?_
  obtain ⟨⟨v2, σ1⟩, hv2, hf⟩ := bd_e hf
  refine mcall_i (rest := []) E hR hS (tX9_isChair l hv2) (cwX9_178 E.ht ⟨Nat.le_of_ble_eq_true rfl, Nat.le_of_ble_eq_true rfl⟩) rfl hl.1 rfl (Nat.le_of_ble_eq_true rfl) dX9_guarded_2 ⟨Nat.le_refl 0, Nat.le_refl 0⟩ (fun H locs hR hS => ?_)
  refine lv_if_eq (tgt := 28) E.hx E.hb dX9_guarded_5 (by decide) (fun c3 => ?_) (fun c3 => ?_)
  · have hf := it_t hf c3
    refine lv_ldc (v := (-1000001)) E.hx E.hb E.ho (E.ht _ q1319) dX9_guarded_28 ?_
    refine lv_goto (tgt := 41) E.hx E.hb dX9_guarded_30 (by decide) ?_
    exact wX9_guarded_b41 E  hf _ _ _ hR hS (lv_sub hl [0, 1, 2, 3, 4] rfl)
  · have hf := it_f hf c3
    refine lv_iload_n E.hx E.hb dX9_guarded_8 rfl (lv_at hl 2 rfl) ?_
    obtain ⟨v4, hv4, hf⟩ := bd_e hf
    refine scall_i (rest := []) E.1 (tX9_isRow l hv4) (cwX9_61 E.ht ⟨Nat.le_of_ble_eq_true rfl, Nat.le_of_ble_eq_true rfl⟩) rfl hl.1 rfl (Nat.le_of_ble_eq_true rfl) dX9_guarded_9 ⟨Nat.le_refl 0, Nat.le_refl 0⟩ ?_
    refine lv_if_eq (tgt := 28) E.hx E.hb dX9_guarded_12 (by decide) (fun c5 => ?_) (fun c5 => ?_)
    · have hf := it_t hf c5
      refine lv_ldc (v := (-1000001)) E.hx E.hb E.ho (E.ht _ q1319) dX9_guarded_28 ?_
      refine lv_goto (tgt := 41) E.hx E.hb dX9_guarded_30 (by decide) ?_
      exact wX9_guarded_b41 E  hf _ _ _ hR hS (lv_sub hl [0, 1, 2, 3, 4] rfl)
    · have hf := it_f hf c5
      refine lv_iload E.hx E.hb dX9_guarded_15 (lv_at hl 4 rfl) ?_
      refine lv_i2l E.hx E.hb dX9_guarded_17 rfl ?_
      refine lv_lconst (v := 1) E.hx E.hb dX9_guarded_18 (by decide) ?_
      refine lv_ldc2 (v := 12) E.hx E.hb E.ho (E.ht _ q1582) dX9_guarded_19 ?_
      obtain ⟨v6, hv6, hf⟩ := bd_e hf
      refine scall_i (rest := []) E.1 (tX9_in l hv6) (cwX9_57 E.ht ⟨Nat.le_of_ble_eq_true rfl, Nat.le_of_ble_eq_true rfl⟩) rfl hl.1 rfl (Nat.le_of_ble_eq_true rfl) dX9_guarded_22 ⟨Nat.le_refl 0, Nat.le_refl 0⟩ ?_
      refine lv_if_ne (tgt := 33) E.hx E.hb dX9_guarded_25 (by decide) (fun c7 => ?_) (fun c7 => ?_)
      · have hf := it_f hf c7
        refine lv_aload_n E.hx E.hb dX9_guarded_33 rfl (lv_at hl 0 rfl) ?_
        refine lv_iload_n E.hx E.hb dX9_guarded_34 rfl (lv_at hl 2 rfl) ?_
        refine lv_iload_n E.hx E.hb dX9_guarded_35 rfl (lv_at hl 3 rfl) ?_
        refine lv_iload E.hx E.hb dX9_guarded_36 (lv_at hl 4 rfl) ?_
        obtain ⟨⟨v9, σ8⟩, hv9, hf⟩ := bd_e hf
        refine mcall_i (rest := []) E hR hS (tX9_lacks l hv9) (cwX9_220 E.ht ⟨Nat.le_of_ble_eq_true rfl, Nat.le_of_ble_eq_true rfl⟩) rfl hl.1 rfl (Nat.le_of_ble_eq_true rfl) dX9_guarded_38 ⟨Nat.le_refl 0, Nat.le_refl 0⟩ (fun H locs hR hS => ?_)
        exact wX9_guarded_b41 E  hf _ _ _ hR hS (lv_sub hl [0, 1, 2, 3, 4] rfl)
      · have hf := it_t hf c7
        refine lv_ldc (v := (-1000001)) E.hx E.hb E.ho (E.ht _ q1319) dX9_guarded_28 ?_
        refine lv_goto (tgt := 41) E.hx E.hb dX9_guarded_30 (by decide) ?_
        exact wX9_guarded_b41 E  hf _ _ _ hR hS (lv_sub hl [0, 1, 2, 3, 4] rfl)
theorem tX9_guarded (l : Launch) {G : va_G} {cI cZ : ClassId} {o : Nat} {σ σf : MS} {x1 : Int32} {x2 : Int32} {x3 : Int32} {x4 : Int32} {r : Int32} (hf : fX9_guarded σ x1 x2 x3 x4 = some (r, σf)) : Met l yX9_guarded (ws_ yX9_guarded cX9_guarded 8 (some .int)) rmX9_guarded (mPc G cI cZ o σ [.ref o, .int x1, .int x2, .int x3, .int x4]) (mQi G cI cZ o r σf) 0 0 (mA o) := by
  refine Met.ofW (cc := cX9_guarded) (maxL := 8) (ret := (some .int)) (by decide) rfl ?_
  intro p e s m args below meth c s₁ B hml hv
  obtain ⟨rfl, hR, hK⟩ := hv
  have hts := atoms_spec (ws := (ws_ yX9_guarded cX9_guarded 8 (some .int))) B.pre
  rw [lg_entry_eq]
  exact wX9_guarded_0 (E := ⟨⟨B.exec, B.bytes, hml, findClass_of_methodNamed B.named, fun w h => hts w (List.mem_cons_of_mem _ h)⟩, hK, B.returns, B.notSynchronized⟩) hf _ _ _ hR va_S.rf (lv_entry [.ref o, .int x1, .int x2, .int x3, .int x4] (n := 8) (Nat.le_of_ble_eq_true rfl))

abbrev rmX9_doze : Room := { frames := 9, cells := 0, slots := 0, locals := 191 }
def fX9_doze_L143 (k120 : MS → Int32 → Int32 → Int32 → Int32 → Int32 → Int32 → Int64 → Int64 → Int32 → Option (Int64 × MS)) : Nat → MS → Int32 → Int32 → Int32 → Int32 → Int32 → Int32 → Int64 → Int64 → Int32 → Int64 → Int32 → Option (Int64 × MS)
  | 0, _, _, _, _, _, _, _, _, _, _, _, _ => none
  | n + 1, σ, x1, x2, x3, x4, x5, x6, x7, x9, x11, x12, x14 =>
    (rd (σ 4) 41 2).bind fun v1 =>
    if v1 ≤ x14 then ((mwr σ 4 41 4 (x6 &&& (x11 ^^^ (-1)))).bind fun σ3 =>
    (fX9_rankBy σ3 x1 x3).bind fun (v5, σ4) =>
    if x2 < v5 then (k120 σ4 x1 x2 x3 x4 x5 x6 (x7 + 0) x9 (x11 + 1)) else (k120 σ4 x1 x2 x3 x4 x5 x6 (x7 + x12) x9 (x11 + 1))) else ((fX9_has x6 x14).bind fun v7 =>
    if v7 = 0 then ((fX9_doze_L143 k120 n) σ x1 x2 x3 x4 x5 x6 x7 x9 x11 (x12 * 1) (x14 + 1)) else ((fX9_has x11 x14).bind fun v9 =>
    if v9 = 0 then ((fX9_doze_L143 k120 n) σ x1 x2 x3 x4 x5 x6 x7 x9 x11 (x12 * ((10 - x4).toInt64)) (x14 + 1)) else ((fX9_doze_L143 k120 n) σ x1 x2 x3 x4 x5 x6 x7 x9 x11 (x12 * (x4.toInt64)) (x14 + 1))))
theorem wX9_doze_L143 (E : mE p m c cX9_doze 17 s args G cI cZ meth (some .long)) {k120 : MS → Int32 → Int32 → Int32 → Int32 → Int32 → Int32 → Int64 → Int64 → Int32 → Option (Int64 × MS)} (hk120 : ∀ (σ : MS) (x1 : Int32) (x2 : Int32) (x3 : Int32) (x4 : Int32) (x5 : Int32) (x6 : Int32) (x7 : Int64) (x9 : Int64) (x11 : Int32), k120 σ x1 x2 x3 x4 x5 x6 x7 x9 x11 = some (rl, σf) → ∀ (H : Heap) (locs : List Loc) (ls : Array Slot), mR G cI cZ o σ H → va_S (mA o) s.heap H locs → lv_has ls 17 [(0, .ref o), (1, .int x1), (2, .int x2), (3, .int x3), (4, .int x4), (5, .int x5), (6, .int x6), (7, .long x7), (9, .long x9), (11, .int x11)] → W p l e rmX9_doze s m args below meth c H locs 0 0 (MQ below (mQl G cI cZ o rl σf) args s 0 0 (mA o)) (F0 m 120 ls [])) : ∀ (n : Nat) (σ : MS) (x1 : Int32) (x2 : Int32) (x3 : Int32) (x4 : Int32) (x5 : Int32) (x6 : Int32) (x7 : Int64) (x9 : Int64) (x11 : Int32) (x12 : Int64) (x14 : Int32), fX9_doze_L143 k120 n σ x1 x2 x3 x4 x5 x6 x7 x9 x11 x12 x14 = some (rl, σf) → ∀ (H : Heap) (locs : List Loc) (ls : Array Slot), mR G cI cZ o σ H → va_S (mA o) s.heap H locs → lv_has ls 17 [(0, .ref o), (1, .int x1), (2, .int x2), (3, .int x3), (4, .int x4), (5, .int x5), (6, .int x6), (7, .long x7), (9, .long x9), (11, .int x11), (12, .long x12), (14, .int x14)] → W p l e rmX9_doze s m args below meth c H locs 0 0 (MQ below (mQl G cI cZ o rl σf) args s 0 0 (mA o)) (F0 m 143 ls []) := by
  intro n
  induction n with
  | zero =>
    intro σ x1 x2 x3 x4 x5 x6 x7 x9 x11 x12 x14 hf
    have hf : none = some (rl, σf) := hf
    cases hf
  | succ n ih =>
    intro σ x1 x2 x3 x4 x5 x6 x7 x9 x11 x12 x14 hf H locs ls hR hS hl
    refine lv_iload E.hx E.hb dX9_doze_143 (lv_at hl 11 rfl) ?_
    refine lv_aload_n E.hx E.hb dX9_doze_145 rfl (lv_at hl 0 rfl) ?_
    refine mg_st E hR dX9_doze_146 ?_
    refine lv_iconst (v := 2) E.hx E.hb dX9_doze_149 (by decide) ?_
    obtain ⟨v1, hv1, hf⟩ := bd_e hf
    refine ml_st E hR hv1 dX9_doze_150 ?_
    refine lv_icmp_ge (tgt := 201) E.hx E.hb dX9_doze_151 (by decide) (fun c2 => ?_) (fun c2 => ?_)
    · have hf := it_t hf c2
      refine lv_aload_n E.hx E.hb dX9_doze_201 rfl (lv_at hl 0 rfl) ?_
      refine mg_st E hR dX9_doze_202 ?_
      refine lv_iconst (v := 4) E.hx E.hb dX9_doze_205 (by decide) ?_
      refine lv_iload E.hx E.hb dX9_doze_206 (lv_at hl 6 rfl) ?_
      refine lv_iload E.hx E.hb dX9_doze_208 (lv_at hl 9 rfl) ?_
      refine lv_iconst (v := (-1)) E.hx E.hb dX9_doze_210 (by decide) ?_
      refine lv_ixor E.hx E.hb dX9_doze_211 ?_
      refine lv_iand E.hx E.hb dX9_doze_212 ?_
      obtain ⟨σ3, hσ3, hf⟩ := bd_e hf
      refine ms_st E hR hS hσ3 dX9_doze_213 (fun H locs hR hS => ?_)
      refine lv_lload E.hx E.hb dX9_doze_214 (lv_at hl 7 rfl) ?_
      refine lv_aload_n E.hx E.hb dX9_doze_216 rfl (lv_at hl 0 rfl) ?_
      refine lv_iload_n E.hx E.hb dX9_doze_217 rfl (lv_at hl 1 rfl) ?_
      refine lv_iload_n E.hx E.hb dX9_doze_218 rfl (lv_at hl 3 rfl) ?_
      obtain ⟨⟨v5, σ4⟩, hv5, hf⟩ := bd_e hf
      refine mcall_i (rest := [.long x7]) E hR hS (tX9_rankBy l hv5) (cwX9_214 E.ht ⟨Nat.le_of_ble_eq_true rfl, Nat.le_of_ble_eq_true rfl⟩) rfl hl.1 rfl (Nat.le_of_ble_eq_true rfl) dX9_doze_219 ⟨Nat.le_refl 0, Nat.le_refl 0⟩ (fun H locs hR hS => ?_)
      refine lv_iload_n E.hx E.hb dX9_doze_222 rfl (lv_at hl 2 rfl) ?_
      refine lv_icmp_gt (tgt := 231) E.hx E.hb dX9_doze_223 (by decide) (fun c6 => ?_) (fun c6 => ?_)
      · have hf := it_t hf c6
        refine lv_lconst (v := 0) E.hx E.hb dX9_doze_231 (by decide) ?_
        refine lv_ladd E.hx E.hb dX9_doze_232 ?_
        refine lv_lstore (lv' := [(7, .long (x7 + 0)), (0, .ref o), (1, .int x1), (2, .int x2), (3, .int x3), (4, .int x4), (5, .int x5), (6, .int x6), (9, .long x9), (11, .int x11), (12, .long x12), (14, .int x14)]) E.hx E.hb dX9_doze_233 hl (by decide) rfl (fun ls hl => ?_)
        refine lv_iinc (v := (x11 + 1)) (lv' := [(11, .int (x11 + 1)), (7, .long (x7 + 0)), (0, .ref o), (1, .int x1), (2, .int x2), (3, .int x3), (4, .int x4), (5, .int x5), (6, .int x6), (9, .long x9), (12, .long x12), (14, .int x14)]) E.hx E.hb dX9_doze_235 hl (k := 9) rfl rfl (by decide) rfl (fun ls hl => ?_)
        refine lv_goto (tgt := 120) E.hx E.hb dX9_doze_238 (by decide) ?_
        exact hk120 σ4 _ _ _ _ _ _ _ _ _ hf _ _ _ hR hS (lv_sub hl [2, 3, 4, 5, 6, 7, 8, 1, 9, 0] rfl)
      · have hf := it_f hf c6
        refine lv_lload E.hx E.hb dX9_doze_226 (lv_at hl 10 rfl) ?_
        refine lv_goto (tgt := 232) E.hx E.hb dX9_doze_228 (by decide) ?_
        refine lv_ladd E.hx E.hb dX9_doze_232 ?_
        refine lv_lstore (lv' := [(7, .long (x7 + x12)), (0, .ref o), (1, .int x1), (2, .int x2), (3, .int x3), (4, .int x4), (5, .int x5), (6, .int x6), (9, .long x9), (11, .int x11), (12, .long x12), (14, .int x14)]) E.hx E.hb dX9_doze_233 hl (by decide) rfl (fun ls hl => ?_)
        refine lv_iinc (v := (x11 + 1)) (lv' := [(11, .int (x11 + 1)), (7, .long (x7 + x12)), (0, .ref o), (1, .int x1), (2, .int x2), (3, .int x3), (4, .int x4), (5, .int x5), (6, .int x6), (9, .long x9), (12, .long x12), (14, .int x14)]) E.hx E.hb dX9_doze_235 hl (k := 9) rfl rfl (by decide) rfl (fun ls hl => ?_)
        refine lv_goto (tgt := 120) E.hx E.hb dX9_doze_238 (by decide) ?_
        exact hk120 σ4 _ _ _ _ _ _ _ _ _ hf _ _ _ hR hS (lv_sub hl [2, 3, 4, 5, 6, 7, 8, 1, 9, 0] rfl)
    · have hf := it_f hf c2
      refine lv_lload E.hx E.hb dX9_doze_154 (lv_at hl 10 rfl) ?_
      refine lv_iload E.hx E.hb dX9_doze_156 (lv_at hl 6 rfl) ?_
      refine lv_iload E.hx E.hb dX9_doze_158 (lv_at hl 11 rfl) ?_
      obtain ⟨v7, hv7, hf⟩ := bd_e hf
      refine scall_i (rest := [.long x12]) E.1 (tX9_has l hv7) (cwX9_162 E.ht ⟨Nat.le_of_ble_eq_true rfl, Nat.le_of_ble_eq_true rfl⟩) rfl hl.1 rfl (Nat.le_of_ble_eq_true rfl) dX9_doze_160 ⟨Nat.le_refl 0, Nat.le_refl 0⟩ ?_
      refine lv_if_ne (tgt := 170) E.hx E.hb dX9_doze_163 (by decide) (fun c8 => ?_) (fun c8 => ?_)
      · have hf := it_f hf c8
        refine lv_iload E.hx E.hb dX9_doze_170 (lv_at hl 9 rfl) ?_
        refine lv_iload E.hx E.hb dX9_doze_172 (lv_at hl 11 rfl) ?_
        obtain ⟨v9, hv9, hf⟩ := bd_e hf
        refine scall_i (rest := [.long x12]) E.1 (tX9_has l hv9) (cwX9_162 E.ht ⟨Nat.le_of_ble_eq_true rfl, Nat.le_of_ble_eq_true rfl⟩) rfl hl.1 rfl (Nat.le_of_ble_eq_true rfl) dX9_doze_174 ⟨Nat.le_refl 0, Nat.le_refl 0⟩ ?_
        refine lv_if_eq (tgt := 186) E.hx E.hb dX9_doze_177 (by decide) (fun c10 => ?_) (fun c10 => ?_)
        · have hf := it_t hf c10
          refine lv_bipush (v := 10) E.hx E.hb dX9_doze_186 (by decide) ?_
          refine lv_iload E.hx E.hb dX9_doze_188 (lv_at hl 4 rfl) ?_
          refine lv_isub E.hx E.hb dX9_doze_190 ?_
          refine lv_i2l E.hx E.hb dX9_doze_191 rfl ?_
          refine lv_lmul E.hx E.hb dX9_doze_192 ?_
          refine lv_lstore (lv' := [(12, .long (x12 * ((10 - x4).toInt64))), (0, .ref o), (1, .int x1), (2, .int x2), (3, .int x3), (4, .int x4), (5, .int x5), (6, .int x6), (7, .long x7), (9, .long x9), (11, .int x11), (14, .int x14)]) E.hx E.hb dX9_doze_193 hl (by decide) rfl (fun ls hl => ?_)
          refine lv_iinc (v := (x14 + 1)) (lv' := [(14, .int (x14 + 1)), (12, .long (x12 * ((10 - x4).toInt64))), (0, .ref o), (1, .int x1), (2, .int x2), (3, .int x3), (4, .int x4), (5, .int x5), (6, .int x6), (7, .long x7), (9, .long x9), (11, .int x11)]) E.hx E.hb dX9_doze_195 hl (k := 11) rfl rfl (by decide) rfl (fun ls hl => ?_)
          refine lv_goto (tgt := 143) E.hx E.hb dX9_doze_198 (by decide) ?_
          exact ih σ _ _ _ _ _ _ _ _ _ _ _ hf _ _ _ hR hS (lv_sub hl [2, 3, 4, 5, 6, 7, 8, 9, 10, 11, 1, 0] rfl)
        · have hf := it_f hf c10
          refine lv_iload E.hx E.hb dX9_doze_180 (lv_at hl 4 rfl) ?_
          refine lv_i2l E.hx E.hb dX9_doze_182 rfl ?_
          refine lv_goto (tgt := 192) E.hx E.hb dX9_doze_183 (by decide) ?_
          refine lv_lmul E.hx E.hb dX9_doze_192 ?_
          refine lv_lstore (lv' := [(12, .long (x12 * (x4.toInt64))), (0, .ref o), (1, .int x1), (2, .int x2), (3, .int x3), (4, .int x4), (5, .int x5), (6, .int x6), (7, .long x7), (9, .long x9), (11, .int x11), (14, .int x14)]) E.hx E.hb dX9_doze_193 hl (by decide) rfl (fun ls hl => ?_)
          refine lv_iinc (v := (x14 + 1)) (lv' := [(14, .int (x14 + 1)), (12, .long (x12 * (x4.toInt64))), (0, .ref o), (1, .int x1), (2, .int x2), (3, .int x3), (4, .int x4), (5, .int x5), (6, .int x6), (7, .long x7), (9, .long x9), (11, .int x11)]) E.hx E.hb dX9_doze_195 hl (k := 11) rfl rfl (by decide) rfl (fun ls hl => ?_)
          refine lv_goto (tgt := 143) E.hx E.hb dX9_doze_198 (by decide) ?_
          exact ih σ _ _ _ _ _ _ _ _ _ _ _ hf _ _ _ hR hS (lv_sub hl [2, 3, 4, 5, 6, 7, 8, 9, 10, 11, 1, 0] rfl)
      · have hf := it_t hf c8
        refine lv_lconst (v := 1) E.hx E.hb dX9_doze_166 (by decide) ?_
        refine lv_goto (tgt := 192) E.hx E.hb dX9_doze_167 (by decide) ?_
        refine lv_lmul E.hx E.hb dX9_doze_192 ?_
        refine lv_lstore (lv' := [(12, .long (x12 * 1)), (0, .ref o), (1, .int x1), (2, .int x2), (3, .int x3), (4, .int x4), (5, .int x5), (6, .int x6), (7, .long x7), (9, .long x9), (11, .int x11), (14, .int x14)]) E.hx E.hb dX9_doze_193 hl (by decide) rfl (fun ls hl => ?_)
        refine lv_iinc (v := (x14 + 1)) (lv' := [(14, .int (x14 + 1)), (12, .long (x12 * 1)), (0, .ref o), (1, .int x1), (2, .int x2), (3, .int x3), (4, .int x4), (5, .int x5), (6, .int x6), (7, .long x7), (9, .long x9), (11, .int x11)]) E.hx E.hb dX9_doze_195 hl (k := 11) rfl rfl (by decide) rfl (fun ls hl => ?_)
        refine lv_goto (tgt := 143) E.hx E.hb dX9_doze_198 (by decide) ?_
        exact ih σ _ _ _ _ _ _ _ _ _ _ _ hf _ _ _ hR hS (lv_sub hl [2, 3, 4, 5, 6, 7, 8, 9, 10, 11, 1, 0] rfl)
def fX9_doze_L249  : Nat → MS → Int32 → Int64 → Int64 → Int64 → Int64 → Option (Int64 × MS)
  | 0, _, _, _, _, _, _ => none
  | n + 1, σ, x5, x7, x9, x11, x13 =>
    if (lg_cmp x13 0) = 0 then (if x5 = 0 then ((dvl x7 x11).bind fun v5 =>
    some (v5, σ)) else ((dvl x9 x11).bind fun v3 =>
    some (v3, σ))) else ((rml x11 x13).bind fun v7 =>
    (fX9_doze_L249 n) σ x5 x7 x9 x13 v7)
theorem wX9_doze_L249 (E : mE p m c cX9_doze 17 s args G cI cZ meth (some .long)) : ∀ (n : Nat) (σ : MS) (x5 : Int32) (x7 : Int64) (x9 : Int64) (x11 : Int64) (x13 : Int64), fX9_doze_L249 n σ x5 x7 x9 x11 x13 = some (rl, σf) → ∀ (H : Heap) (locs : List Loc) (ls : Array Slot), mR G cI cZ o σ H → va_S (mA o) s.heap H locs → lv_has ls 17 [(5, .int x5), (7, .long x7), (9, .long x9), (11, .long x11), (13, .long x13)] → W p l e rmX9_doze s m args below meth c H locs 0 0 (MQ below (mQl G cI cZ o rl σf) args s 0 0 (mA o)) (F0 m 249 ls []) := by
  intro n
  induction n with
  | zero =>
    intro σ x5 x7 x9 x11 x13 hf
    have hf : none = some (rl, σf) := hf
    cases hf
  | succ n ih =>
    intro σ x5 x7 x9 x11 x13 hf H locs ls hR hS hl
    refine lv_lload E.hx E.hb dX9_doze_249 (lv_at hl 4 rfl) ?_
    refine lv_lconst (v := 0) E.hx E.hb dX9_doze_251 (by decide) ?_
    refine W.lcmp E.hx E.hb dX9_doze_252 ?_
    refine lv_if_eq (tgt := 274) E.hx E.hb dX9_doze_253 (by decide) (fun c1 => ?_) (fun c1 => ?_)
    · have hf := it_t hf c1
      refine lv_iload E.hx E.hb dX9_doze_274 (lv_at hl 0 rfl) ?_
      refine lv_if_ne (tgt := 287) E.hx E.hb dX9_doze_276 (by decide) (fun c2 => ?_) (fun c2 => ?_)
      · have hf := it_f hf c2
        refine lv_lload E.hx E.hb dX9_doze_287 (lv_at hl 2 rfl) ?_
        refine lv_lload E.hx E.hb dX9_doze_289 (lv_at hl 3 rfl) ?_
        obtain ⟨v3, h4, hf⟩ := bd_e hf
        obtain ⟨h4, h4e⟩ := dvl_e h4
        refine lv_ldiv E.hx E.hb dX9_doze_291 h4 ?_
        rw [h4e]
        obtain ⟨rfl, rfl⟩ := rt_e hf
        exact mret_l E hR hS dX9_doze_292
      · have hf := it_t hf c2
        refine lv_lload E.hx E.hb dX9_doze_279 (lv_at hl 1 rfl) ?_
        refine lv_lload E.hx E.hb dX9_doze_281 (lv_at hl 3 rfl) ?_
        obtain ⟨v5, h6, hf⟩ := bd_e hf
        obtain ⟨h6, h6e⟩ := dvl_e h6
        refine lv_ldiv E.hx E.hb dX9_doze_283 h6 ?_
        rw [h6e]
        refine lv_goto (tgt := 292) E.hx E.hb dX9_doze_284 (by decide) ?_
        obtain ⟨rfl, rfl⟩ := rt_e hf
        exact mret_l E hR hS dX9_doze_292
    · have hf := it_f hf c1
      refine lv_lload E.hx E.hb dX9_doze_256 (lv_at hl 3 rfl) ?_
      refine lv_lload E.hx E.hb dX9_doze_258 (lv_at hl 4 rfl) ?_
      obtain ⟨v7, h8, hf⟩ := bd_e hf
      obtain ⟨h8, h8e⟩ := rml_e h8
      refine lv_lrem E.hx E.hb dX9_doze_260 h8 ?_
      rw [h8e]
      refine lv_lstore (lv' := [(15, .long v7), (5, .int x5), (7, .long x7), (9, .long x9), (11, .long x11), (13, .long x13)]) E.hx E.hb dX9_doze_261 hl (by decide) rfl (fun ls hl => ?_)
      refine lv_lload E.hx E.hb dX9_doze_263 (lv_at hl 5 rfl) ?_
      refine lv_lstore (lv' := [(11, .long x13), (15, .long v7), (5, .int x5), (7, .long x7), (9, .long x9), (13, .long x13)]) E.hx E.hb dX9_doze_265 hl (by decide) rfl (fun ls hl => ?_)
      refine lv_lload E.hx E.hb dX9_doze_267 (lv_at hl 1 rfl) ?_
      refine lv_lstore (lv' := [(13, .long v7), (11, .long x13), (15, .long v7), (5, .int x5), (7, .long x7), (9, .long x9)]) E.hx E.hb dX9_doze_269 hl (by decide) rfl (fun ls hl => ?_)
      refine lv_goto (tgt := 249) E.hx E.hb dX9_doze_271 (by decide) ?_
      exact ih σ _ _ _ _ _ hf _ _ _ hR hS (lv_sub hl [3, 4, 5, 1, 0] rfl)
def fX9_doze_L120  : Nat → MS → Int32 → Int32 → Int32 → Int32 → Int32 → Int32 → Int64 → Int64 → Int32 → Option (Int64 × MS)
  | 0, _, _, _, _, _, _, _, _, _, _ => none
  | n + 1, σ, x1, x2, x3, x4, x5, x6, x7, x9, x11 =>
    if x6 < x11 then (fX9_doze_L249 2000 σ x5 x7 x9 x7 x9) else (if (x11 &&& (x6 ^^^ (-1))) = 0 then (fX9_doze_L143 (fX9_doze_L120 n) 2000 σ x1 x2 x3 x4 x5 x6 x7 x9 x11 1 0) else ((fX9_doze_L120 n) σ x1 x2 x3 x4 x5 x6 x7 x9 (x11 + 1)))
theorem wX9_doze_L120 (E : mE p m c cX9_doze 17 s args G cI cZ meth (some .long)) : ∀ (n : Nat) (σ : MS) (x1 : Int32) (x2 : Int32) (x3 : Int32) (x4 : Int32) (x5 : Int32) (x6 : Int32) (x7 : Int64) (x9 : Int64) (x11 : Int32), fX9_doze_L120 n σ x1 x2 x3 x4 x5 x6 x7 x9 x11 = some (rl, σf) → ∀ (H : Heap) (locs : List Loc) (ls : Array Slot), mR G cI cZ o σ H → va_S (mA o) s.heap H locs → lv_has ls 17 [(0, .ref o), (1, .int x1), (2, .int x2), (3, .int x3), (4, .int x4), (5, .int x5), (6, .int x6), (7, .long x7), (9, .long x9), (11, .int x11)] → W p l e rmX9_doze s m args below meth c H locs 0 0 (MQ below (mQl G cI cZ o rl σf) args s 0 0 (mA o)) (F0 m 120 ls []) := by
  intro n
  induction n with
  | zero =>
    intro σ x1 x2 x3 x4 x5 x6 x7 x9 x11 hf
    have hf : none = some (rl, σf) := hf
    cases hf
  | succ n ih =>
    intro σ x1 x2 x3 x4 x5 x6 x7 x9 x11 hf H locs ls hR hS hl
    refine lv_iload E.hx E.hb dX9_doze_120 (lv_at hl 9 rfl) ?_
    refine lv_iload E.hx E.hb dX9_doze_122 (lv_at hl 6 rfl) ?_
    refine lv_icmp_gt (tgt := 241) E.hx E.hb dX9_doze_124 (by decide) (fun c1 => ?_) (fun c1 => ?_)
    · have hf := it_t hf c1
      refine lv_lload E.hx E.hb dX9_doze_241 (lv_at hl 7 rfl) ?_
      refine lv_lstore (lv' := [(11, .long x7), (0, .ref o), (1, .int x1), (2, .int x2), (3, .int x3), (4, .int x4), (5, .int x5), (6, .int x6), (7, .long x7), (9, .long x9)]) E.hx E.hb dX9_doze_243 hl (by decide) rfl (fun ls hl => ?_)
      refine lv_lload E.hx E.hb dX9_doze_245 (lv_at hl 9 rfl) ?_
      refine lv_lstore (lv' := [(13, .long x9), (11, .long x7), (0, .ref o), (1, .int x1), (2, .int x2), (3, .int x3), (4, .int x4), (5, .int x5), (6, .int x6), (7, .long x7), (9, .long x9)]) E.hx E.hb dX9_doze_247 hl (by decide) rfl (fun ls hl => ?_)
      exact wX9_doze_L249 E  2000 σ _ _ _ _ _ hf _ _ _ hR hS (lv_sub hl [7, 9, 10, 1, 0] rfl)
    · have hf := it_f hf c1
      refine lv_iload E.hx E.hb dX9_doze_127 (lv_at hl 9 rfl) ?_
      refine lv_iload E.hx E.hb dX9_doze_129 (lv_at hl 6 rfl) ?_
      refine lv_iconst (v := (-1)) E.hx E.hb dX9_doze_131 (by decide) ?_
      refine lv_ixor E.hx E.hb dX9_doze_132 ?_
      refine lv_iand E.hx E.hb dX9_doze_133 ?_
      refine lv_if_ne (tgt := 235) E.hx E.hb dX9_doze_134 (by decide) (fun c2 => ?_) (fun c2 => ?_)
      · have hf := it_f hf c2
        refine lv_iinc (v := (x11 + 1)) (lv' := [(11, .int (x11 + 1)), (0, .ref o), (1, .int x1), (2, .int x2), (3, .int x3), (4, .int x4), (5, .int x5), (6, .int x6), (7, .long x7), (9, .long x9)]) E.hx E.hb dX9_doze_235 hl (k := 9) rfl rfl (by decide) rfl (fun ls hl => ?_)
        refine lv_goto (tgt := 120) E.hx E.hb dX9_doze_238 (by decide) ?_
        exact ih σ _ _ _ _ _ _ _ _ _ hf _ _ _ hR hS (lv_sub hl [1, 2, 3, 4, 5, 6, 7, 8, 9, 0] rfl)
      · have hf := it_t hf c2
        refine lv_lconst (v := 1) E.hx E.hb dX9_doze_137 (by decide) ?_
        refine lv_lstore (lv' := [(12, .long 1), (0, .ref o), (1, .int x1), (2, .int x2), (3, .int x3), (4, .int x4), (5, .int x5), (6, .int x6), (7, .long x7), (9, .long x9), (11, .int x11)]) E.hx E.hb dX9_doze_138 hl (by decide) rfl (fun ls hl => ?_)
        refine lv_iconst (v := 0) E.hx E.hb dX9_doze_140 (by decide) ?_
        refine lv_istore (lv' := [(14, .int 0), (12, .long 1), (0, .ref o), (1, .int x1), (2, .int x2), (3, .int x3), (4, .int x4), (5, .int x5), (6, .int x6), (7, .long x7), (9, .long x9), (11, .int x11)]) E.hx E.hb dX9_doze_141 hl (by decide) rfl (fun ls hl => ?_)
        exact wX9_doze_L143 E ih 2000 σ _ _ _ _ _ _ _ _ _ _ _ hf _ _ _ hR hS (lv_sub hl [2, 3, 4, 5, 6, 7, 8, 9, 10, 11, 1, 0] rfl)
def fX9_doze_L78  : Nat → MS → Int32 → Int32 → Int32 → Int32 → Int32 → Int32 → Int64 → Int64 → Int32 → Option (Int64 × MS)
  | 0, _, _, _, _, _, _, _, _, _, _ => none
  | n + 1, σ, x1, x2, x3, x4, x5, x6, x7, x9, x11 =>
    (rd (σ 4) 41 2).bind fun v1 =>
    if v1 ≤ x11 then (fX9_doze_L120 2000 σ x1 x2 x3 x4 x5 x6 x7 x9 0) else ((fX9_has x6 x11).bind fun v3 =>
    if v3 = 0 then ((fX9_doze_L78 n) σ x1 x2 x3 x4 x5 x6 x7 (x9 * 1) (x11 + 1)) else ((fX9_doze_L78 n) σ x1 x2 x3 x4 x5 x6 x7 (x9 * 10) (x11 + 1)))
theorem wX9_doze_L78 (E : mE p m c cX9_doze 17 s args G cI cZ meth (some .long)) : ∀ (n : Nat) (σ : MS) (x1 : Int32) (x2 : Int32) (x3 : Int32) (x4 : Int32) (x5 : Int32) (x6 : Int32) (x7 : Int64) (x9 : Int64) (x11 : Int32), fX9_doze_L78 n σ x1 x2 x3 x4 x5 x6 x7 x9 x11 = some (rl, σf) → ∀ (H : Heap) (locs : List Loc) (ls : Array Slot), mR G cI cZ o σ H → va_S (mA o) s.heap H locs → lv_has ls 17 [(0, .ref o), (1, .int x1), (2, .int x2), (3, .int x3), (4, .int x4), (5, .int x5), (6, .int x6), (7, .long x7), (9, .long x9), (11, .int x11)] → W p l e rmX9_doze s m args below meth c H locs 0 0 (MQ below (mQl G cI cZ o rl σf) args s 0 0 (mA o)) (F0 m 78 ls []) := by
  intro n
  induction n with
  | zero =>
    intro σ x1 x2 x3 x4 x5 x6 x7 x9 x11 hf
    have hf : none = some (rl, σf) := hf
    cases hf
  | succ n ih =>
    intro σ x1 x2 x3 x4 x5 x6 x7 x9 x11 hf H locs ls hR hS hl
    refine lv_iload E.hx E.hb dX9_doze_78 (lv_at hl 9 rfl) ?_
    refine lv_aload_n E.hx E.hb dX9_doze_80 rfl (lv_at hl 0 rfl) ?_
    refine mg_st E hR dX9_doze_81 ?_
    refine lv_iconst (v := 2) E.hx E.hb dX9_doze_84 (by decide) ?_
    obtain ⟨v1, hv1, hf⟩ := bd_e hf
    refine ml_st E hR hv1 dX9_doze_85 ?_
    refine lv_icmp_ge (tgt := 117) E.hx E.hb dX9_doze_86 (by decide) (fun c2 => ?_) (fun c2 => ?_)
    · have hf := it_t hf c2
      refine lv_iconst (v := 0) E.hx E.hb dX9_doze_117 (by decide) ?_
      refine lv_istore (lv' := [(11, .int 0), (0, .ref o), (1, .int x1), (2, .int x2), (3, .int x3), (4, .int x4), (5, .int x5), (6, .int x6), (7, .long x7), (9, .long x9)]) E.hx E.hb dX9_doze_118 hl (by decide) rfl (fun ls hl => ?_)
      exact wX9_doze_L120 E  2000 σ _ _ _ _ _ _ _ _ _ hf _ _ _ hR hS (lv_sub hl [1, 2, 3, 4, 5, 6, 7, 8, 9, 0] rfl)
    · have hf := it_f hf c2
      refine lv_lload E.hx E.hb dX9_doze_89 (lv_at hl 8 rfl) ?_
      refine lv_iload E.hx E.hb dX9_doze_91 (lv_at hl 6 rfl) ?_
      refine lv_iload E.hx E.hb dX9_doze_93 (lv_at hl 9 rfl) ?_
      obtain ⟨v3, hv3, hf⟩ := bd_e hf
      refine scall_i (rest := [.long x9]) E.1 (tX9_has l hv3) (cwX9_162 E.ht ⟨Nat.le_of_ble_eq_true rfl, Nat.le_of_ble_eq_true rfl⟩) rfl hl.1 rfl (Nat.le_of_ble_eq_true rfl) dX9_doze_95 ⟨Nat.le_refl 0, Nat.le_refl 0⟩ ?_
      refine lv_if_eq (tgt := 107) E.hx E.hb dX9_doze_98 (by decide) (fun c4 => ?_) (fun c4 => ?_)
      · have hf := it_t hf c4
        refine lv_lconst (v := 1) E.hx E.hb dX9_doze_107 (by decide) ?_
        refine lv_lmul E.hx E.hb dX9_doze_108 ?_
        refine lv_lstore (lv' := [(9, .long (x9 * 1)), (0, .ref o), (1, .int x1), (2, .int x2), (3, .int x3), (4, .int x4), (5, .int x5), (6, .int x6), (7, .long x7), (11, .int x11)]) E.hx E.hb dX9_doze_109 hl (by decide) rfl (fun ls hl => ?_)
        refine lv_iinc (v := (x11 + 1)) (lv' := [(11, .int (x11 + 1)), (9, .long (x9 * 1)), (0, .ref o), (1, .int x1), (2, .int x2), (3, .int x3), (4, .int x4), (5, .int x5), (6, .int x6), (7, .long x7)]) E.hx E.hb dX9_doze_111 hl (k := 9) rfl rfl (by decide) rfl (fun ls hl => ?_)
        refine lv_goto (tgt := 78) E.hx E.hb dX9_doze_114 (by decide) ?_
        exact ih σ _ _ _ _ _ _ _ _ _ hf _ _ _ hR hS (lv_sub hl [2, 3, 4, 5, 6, 7, 8, 9, 1, 0] rfl)
      · have hf := it_f hf c4
        refine lv_ldc2 (v := 10) E.hx E.hb E.ho (E.ht _ q1595) dX9_doze_101 ?_
        refine lv_goto (tgt := 108) E.hx E.hb dX9_doze_104 (by decide) ?_
        refine lv_lmul E.hx E.hb dX9_doze_108 ?_
        refine lv_lstore (lv' := [(9, .long (x9 * 10)), (0, .ref o), (1, .int x1), (2, .int x2), (3, .int x3), (4, .int x4), (5, .int x5), (6, .int x6), (7, .long x7), (11, .int x11)]) E.hx E.hb dX9_doze_109 hl (by decide) rfl (fun ls hl => ?_)
        refine lv_iinc (v := (x11 + 1)) (lv' := [(11, .int (x11 + 1)), (9, .long (x9 * 10)), (0, .ref o), (1, .int x1), (2, .int x2), (3, .int x3), (4, .int x4), (5, .int x5), (6, .int x6), (7, .long x7)]) E.hx E.hb dX9_doze_111 hl (k := 9) rfl rfl (by decide) rfl (fun ls hl => ?_)
        refine lv_goto (tgt := 78) E.hx E.hb dX9_doze_114 (by decide) ?_
        exact ih σ _ _ _ _ _ _ _ _ _ hf _ _ _ hR hS (lv_sub hl [2, 3, 4, 5, 6, 7, 8, 9, 1, 0] rfl)
def fX9_doze  (σ : MS) (x1 : Int32) (x2 : Int32) (x3 : Int32) (x4 : Int32) (x5 : Int32) : Option (Int64 × MS) :=
  (fX9_isChair σ x1).bind fun (v2, σ1) =>
  if v2 = 0 then (some ((-1000001), σ1)) else ((fX9_in (x2.toInt64) 0 5).bind fun v4 =>
  if v4 = 0 then (some ((-1000001), σ1)) else ((fX9_in (x3.toInt64) 0 30).bind fun v6 =>
  if v6 = 0 then (some ((-1000001), σ1)) else ((fX9_in (x4.toInt64) 0 10).bind fun v8 =>
  if v8 = 0 then (some ((-1000001), σ1)) else ((fX9_isWhat x5).bind fun v10 =>
  if v10 = 0 then (some ((-1000001), σ1)) else ((fX9_putAside σ1).bind fun σ12 =>
  (rd (σ12 4) 41 4).bind fun v13 =>
  fX9_doze_L78 2000 σ12 x1 x2 x3 x4 x5 v13 0 1 0)))))
theorem wX9_doze_0 (E : mE p m c cX9_doze 17 s args G cI cZ meth (some .long)) {σ : MS} {x1 : Int32} {x2 : Int32} {x3 : Int32} {x4 : Int32} {x5 : Int32} (hf : fX9_doze σ x1 x2 x3 x4 x5 = some (rl, σf)) : ∀ (H : Heap) (locs : List Loc) (ls : Array Slot), mR G cI cZ o σ H → va_S (mA o) s.heap H locs → lv_has ls 17 [(0, .ref o), (1, .int x1), (2, .int x2), (3, .int x3), (4, .int x4), (5, .int x5)] → W p l e rmX9_doze s m args below meth c H locs 0 0 (MQ below (mQl G cI cZ o rl σf) args s 0 0 (mA o)) (F0 m 0 ls []) := by
  intro H locs ls hR hS hl
  refine lv_aload_n E.hx E.hb dX9_doze_0 rfl (lv_at hl 0 rfl) ?_
  refine lv_iload_n E.hx E.hb dX9_doze_1 rfl (lv_at hl 1 rfl) ?_
  obtain ⟨⟨v2, σ1⟩, hv2, hf⟩ := bd_e hf
  refine mcall_i (rest := []) E hR hS (tX9_isChair l hv2) (cwX9_178 E.ht ⟨Nat.le_of_ble_eq_true rfl, Nat.le_of_ble_eq_true rfl⟩) rfl hl.1 rfl (Nat.le_of_ble_eq_true rfl) dX9_doze_2 ⟨Nat.le_refl 0, Nat.le_refl 0⟩ (fun H locs hR hS => ?_)
  refine lv_if_eq (tgt := 53) E.hx E.hb dX9_doze_5 (by decide) (fun c3 => ?_) (fun c3 => ?_)
  · have hf := it_t hf c3
    refine lv_ldc2 (v := (-1000001)) E.hx E.hb E.ho (E.ht _ q1596) dX9_doze_53 ?_
    obtain ⟨rfl, rfl⟩ := rt_e hf
    exact mret_l E hR hS dX9_doze_56
  · have hf := it_f hf c3
    refine lv_iload_n E.hx E.hb dX9_doze_8 rfl (lv_at hl 2 rfl) ?_
    refine lv_i2l E.hx E.hb dX9_doze_9 rfl ?_
    refine lv_lconst (v := 0) E.hx E.hb dX9_doze_10 (by decide) ?_
    refine lv_ldc2 (v := 5) E.hx E.hb E.ho (E.ht _ q1510) dX9_doze_11 ?_
    obtain ⟨v4, hv4, hf⟩ := bd_e hf
    refine scall_i (rest := []) E.1 (tX9_in l hv4) (cwX9_57 E.ht ⟨Nat.le_of_ble_eq_true rfl, Nat.le_of_ble_eq_true rfl⟩) rfl hl.1 rfl (Nat.le_of_ble_eq_true rfl) dX9_doze_14 ⟨Nat.le_refl 0, Nat.le_refl 0⟩ ?_
    refine lv_if_eq (tgt := 53) E.hx E.hb dX9_doze_17 (by decide) (fun c5 => ?_) (fun c5 => ?_)
    · have hf := it_t hf c5
      refine lv_ldc2 (v := (-1000001)) E.hx E.hb E.ho (E.ht _ q1596) dX9_doze_53 ?_
      obtain ⟨rfl, rfl⟩ := rt_e hf
      exact mret_l E hR hS dX9_doze_56
    · have hf := it_f hf c5
      refine lv_iload_n E.hx E.hb dX9_doze_20 rfl (lv_at hl 3 rfl) ?_
      refine lv_i2l E.hx E.hb dX9_doze_21 rfl ?_
      refine lv_lconst (v := 0) E.hx E.hb dX9_doze_22 (by decide) ?_
      refine lv_ldc2 (v := 30) E.hx E.hb E.ho (E.ht _ q1523) dX9_doze_23 ?_
      obtain ⟨v6, hv6, hf⟩ := bd_e hf
      refine scall_i (rest := []) E.1 (tX9_in l hv6) (cwX9_57 E.ht ⟨Nat.le_of_ble_eq_true rfl, Nat.le_of_ble_eq_true rfl⟩) rfl hl.1 rfl (Nat.le_of_ble_eq_true rfl) dX9_doze_26 ⟨Nat.le_refl 0, Nat.le_refl 0⟩ ?_
      refine lv_if_eq (tgt := 53) E.hx E.hb dX9_doze_29 (by decide) (fun c7 => ?_) (fun c7 => ?_)
      · have hf := it_t hf c7
        refine lv_ldc2 (v := (-1000001)) E.hx E.hb E.ho (E.ht _ q1596) dX9_doze_53 ?_
        obtain ⟨rfl, rfl⟩ := rt_e hf
        exact mret_l E hR hS dX9_doze_56
      · have hf := it_f hf c7
        refine lv_iload E.hx E.hb dX9_doze_32 (lv_at hl 4 rfl) ?_
        refine lv_i2l E.hx E.hb dX9_doze_34 rfl ?_
        refine lv_lconst (v := 0) E.hx E.hb dX9_doze_35 (by decide) ?_
        refine lv_ldc2 (v := 10) E.hx E.hb E.ho (E.ht _ q1595) dX9_doze_36 ?_
        obtain ⟨v8, hv8, hf⟩ := bd_e hf
        refine scall_i (rest := []) E.1 (tX9_in l hv8) (cwX9_57 E.ht ⟨Nat.le_of_ble_eq_true rfl, Nat.le_of_ble_eq_true rfl⟩) rfl hl.1 rfl (Nat.le_of_ble_eq_true rfl) dX9_doze_39 ⟨Nat.le_refl 0, Nat.le_refl 0⟩ ?_
        refine lv_if_eq (tgt := 53) E.hx E.hb dX9_doze_42 (by decide) (fun c9 => ?_) (fun c9 => ?_)
        · have hf := it_t hf c9
          refine lv_ldc2 (v := (-1000001)) E.hx E.hb E.ho (E.ht _ q1596) dX9_doze_53 ?_
          obtain ⟨rfl, rfl⟩ := rt_e hf
          exact mret_l E hR hS dX9_doze_56
        · have hf := it_f hf c9
          refine lv_iload E.hx E.hb dX9_doze_45 (lv_at hl 5 rfl) ?_
          obtain ⟨v10, hv10, hf⟩ := bd_e hf
          refine scall_i (rest := []) E.1 (tX9_isWhat l hv10) (cwX9_217 E.ht ⟨Nat.le_of_ble_eq_true rfl, Nat.le_of_ble_eq_true rfl⟩) rfl hl.1 rfl (Nat.le_of_ble_eq_true rfl) dX9_doze_47 ⟨Nat.le_refl 0, Nat.le_refl 0⟩ ?_
          refine lv_if_ne (tgt := 57) E.hx E.hb dX9_doze_50 (by decide) (fun c11 => ?_) (fun c11 => ?_)
          · have hf := it_f hf c11
            refine lv_aload_n E.hx E.hb dX9_doze_57 rfl (lv_at hl 0 rfl) ?_
            obtain ⟨σ12, hσ12, hf⟩ := bd_e hf
            refine mcall_v (rest := []) E hR hS (tX9_putAside l hσ12) (cwX9_204 E.ht ⟨Nat.le_of_ble_eq_true rfl, Nat.le_of_ble_eq_true rfl⟩) rfl hl.1 rfl (Nat.le_of_ble_eq_true rfl) dX9_doze_58 ⟨Nat.le_refl 0, Nat.le_refl 0⟩ (fun H locs hR hS => ?_)
            refine lv_aload_n E.hx E.hb dX9_doze_61 rfl (lv_at hl 0 rfl) ?_
            refine mg_st E hR dX9_doze_62 ?_
            refine lv_iconst (v := 4) E.hx E.hb dX9_doze_65 (by decide) ?_
            obtain ⟨v13, hv13, hf⟩ := bd_e hf
            refine ml_st E hR hv13 dX9_doze_66 ?_
            refine lv_istore (lv' := [(6, .int v13), (0, .ref o), (1, .int x1), (2, .int x2), (3, .int x3), (4, .int x4), (5, .int x5)]) E.hx E.hb dX9_doze_67 hl (by decide) rfl (fun ls hl => ?_)
            refine lv_lconst (v := 0) E.hx E.hb dX9_doze_69 (by decide) ?_
            refine lv_lstore (lv' := [(7, .long 0), (6, .int v13), (0, .ref o), (1, .int x1), (2, .int x2), (3, .int x3), (4, .int x4), (5, .int x5)]) E.hx E.hb dX9_doze_70 hl (by decide) rfl (fun ls hl => ?_)
            refine lv_lconst (v := 1) E.hx E.hb dX9_doze_72 (by decide) ?_
            refine lv_lstore (lv' := [(9, .long 1), (7, .long 0), (6, .int v13), (0, .ref o), (1, .int x1), (2, .int x2), (3, .int x3), (4, .int x4), (5, .int x5)]) E.hx E.hb dX9_doze_73 hl (by decide) rfl (fun ls hl => ?_)
            refine lv_iconst (v := 0) E.hx E.hb dX9_doze_75 (by decide) ?_
            refine lv_istore (lv' := [(11, .int 0), (9, .long 1), (7, .long 0), (6, .int v13), (0, .ref o), (1, .int x1), (2, .int x2), (3, .int x3), (4, .int x4), (5, .int x5)]) E.hx E.hb dX9_doze_76 hl (by decide) rfl (fun ls hl => ?_)
            exact wX9_doze_L78 E  2000 σ12 _ _ _ _ _ _ _ _ _ hf _ _ _ hR hS (lv_sub hl [4, 5, 6, 7, 8, 9, 3, 2, 1, 0] rfl)
          · have hf := it_t hf c11
            refine lv_ldc2 (v := (-1000001)) E.hx E.hb E.ho (E.ht _ q1596) dX9_doze_53 ?_
            obtain ⟨rfl, rfl⟩ := rt_e hf
            exact mret_l E hR hS dX9_doze_56
theorem tX9_doze (l : Launch) {G : va_G} {cI cZ : ClassId} {o : Nat} {σ σf : MS} {x1 : Int32} {x2 : Int32} {x3 : Int32} {x4 : Int32} {x5 : Int32} {rl : Int64} (hf : fX9_doze σ x1 x2 x3 x4 x5 = some (rl, σf)) : Met l yX9_doze (ws_ yX9_doze cX9_doze 17 (some .long)) rmX9_doze (mPc G cI cZ o σ [.ref o, .int x1, .int x2, .int x3, .int x4, .int x5]) (mQl G cI cZ o rl σf) 0 0 (mA o) := by
  refine Met.ofW (cc := cX9_doze) (maxL := 17) (ret := (some .long)) (by decide) rfl ?_
  intro p e s m args below meth c s₁ B hml hv
  obtain ⟨rfl, hR, hK⟩ := hv
  have hts := atoms_spec (ws := (ws_ yX9_doze cX9_doze 17 (some .long))) B.pre
  rw [lg_entry_eq]
  exact wX9_doze_0 (E := ⟨⟨B.exec, B.bytes, hml, findClass_of_methodNamed B.named, fun w h => hts w (List.mem_cons_of_mem _ h)⟩, hK, B.returns, B.notSynchronized⟩) hf _ _ _ hR va_S.rf (lv_entry [.ref o, .int x1, .int x2, .int x3, .int x4, .int x5] (n := 17) (Nat.le_of_ble_eq_true rfl))

abbrev rmX9_drawn : Room := { frames := 7, cells := 0, slots := 0, locals := 146 }
def fX9_drawn_b113 (k55 : MS → Int32 → Int32 → Int64 → Int32 → Option (Int32 × MS)) (σ : MS) (x1 : Int32) (x3 : Int32) (x4 : Int64) (x6 : Int32) : Option (Int32 × MS) :=
  (fX9_oneNight σ).bind fun σ1 =>
  k55 σ1 x1 x3 x4 (x6 + 1)
theorem wX9_drawn_b113 (E : mE p m c cX9_drawn 8 s args G cI cZ meth (some .int)) {k55 : MS → Int32 → Int32 → Int64 → Int32 → Option (Int32 × MS)} (hk55 : ∀ (σ : MS) (x1 : Int32) (x3 : Int32) (x4 : Int64) (x6 : Int32), k55 σ x1 x3 x4 x6 = some (r, σf) → ∀ (H : Heap) (locs : List Loc) (ls : Array Slot), mR G cI cZ o σ H → va_S (mA o) s.heap H locs → lv_has ls 8 [(0, .ref o), (1, .int x1), (3, .int x3), (4, .long x4), (6, .int x6)] → W p l e rmX9_drawn s m args below meth c H locs 0 0 (MQ below (mQi G cI cZ o r σf) args s 0 0 (mA o)) (F0 m 55 ls [])) {σ : MS} {x1 : Int32} {x3 : Int32} {x4 : Int64} {x6 : Int32} (hf : fX9_drawn_b113 k55 σ x1 x3 x4 x6 = some (r, σf)) : ∀ (H : Heap) (locs : List Loc) (ls : Array Slot), mR G cI cZ o σ H → va_S (mA o) s.heap H locs → lv_has ls 8 [(0, .ref o), (1, .int x1), (3, .int x3), (4, .long x4), (6, .int x6)] → W p l e rmX9_drawn s m args below meth c H locs 0 0 (MQ below (mQi G cI cZ o r σf) args s 0 0 (mA o)) (F0 m 113 ls []) := by
  intro H locs ls hR hS hl
  refine lv_aload_n E.hx E.hb dX9_drawn_113 rfl (lv_at hl 0 rfl) ?_
  obtain ⟨σ1, hσ1, hf⟩ := bd_e hf
  refine mcall_v (rest := []) E hR hS (tX9_oneNight l hσ1) (cwX9_175 E.ht ⟨Nat.le_of_ble_eq_true rfl, Nat.le_of_ble_eq_true rfl⟩) rfl hl.1 rfl (Nat.le_of_ble_eq_true rfl) dX9_drawn_114 ⟨Nat.le_refl 0, Nat.le_refl 0⟩ (fun H locs hR hS => ?_)
  refine lv_iinc (v := (x6 + 1)) (lv' := [(6, .int (x6 + 1)), (0, .ref o), (1, .int x1), (3, .int x3), (4, .long x4)]) E.hx E.hb dX9_drawn_117 hl (k := 4) rfl rfl (by decide) rfl (fun ls hl => ?_)
  refine lv_goto (tgt := 55) E.hx E.hb dX9_drawn_120 (by decide) ?_
  exact hk55 σ1 _ _ _ _ hf _ _ _ hR hS (lv_sub hl [1, 2, 3, 4, 0] rfl)
def fX9_drawn_b141  (σ : MS) (s0 : Int32) : Option (Int32 × MS) :=
  (fX9_takeBack σ).bind fun σ1 =>
  some (s0, σ1)
theorem wX9_drawn_b141 (E : mE p m c cX9_drawn 8 s args G cI cZ meth (some .int)) {σ : MS} {s0 : Int32} (hf : fX9_drawn_b141 σ s0 = some (r, σf)) : ∀ (H : Heap) (locs : List Loc) (ls : Array Slot), mR G cI cZ o σ H → va_S (mA o) s.heap H locs → lv_has ls 8 [(0, .ref o)] → W p l e rmX9_drawn s m args below meth c H locs 0 0 (MQ below (mQi G cI cZ o r σf) args s 0 0 (mA o)) (F0 m 141 ls [.int s0]) := by
  intro H locs ls hR hS hl
  refine lv_istore (lv' := [(6, .int s0), (0, .ref o)]) E.hx E.hb dX9_drawn_141 hl (by decide) rfl (fun ls hl => ?_)
  refine lv_aload_n E.hx E.hb dX9_drawn_143 rfl (lv_at hl 1 rfl) ?_
  obtain ⟨σ1, hσ1, hf⟩ := bd_e hf
  refine mcall_v (rest := []) E hR hS (tX9_takeBack l hσ1) (cwX9_199 E.ht ⟨Nat.le_of_ble_eq_true rfl, Nat.le_of_ble_eq_true rfl⟩) rfl hl.1 rfl (Nat.le_of_ble_eq_true rfl) dX9_drawn_144 ⟨Nat.le_refl 0, Nat.le_refl 0⟩ (fun H locs hR hS => ?_)
  refine lv_iload E.hx E.hb dX9_drawn_147 (lv_at hl 0 rfl) ?_
  obtain ⟨rfl, rfl⟩ := rt_e hf
  exact mret_i E hR hS dX9_drawn_149
def fX9_drawn_L55  : Nat → MS → Int32 → Int32 → Int64 → Int32 → Option (Int32 × MS)
  | 0, _, _, _, _, _ => none
  | n + 1, σ, x1, x3, x4, x6 =>
    if x1 ≤ x6 then (if x3 = 0 then ((fX9_atRank σ 0).bind fun (v6, σ5) =>
    fX9_drawn_b141 σ5 v6) else ((fX9_sumOf σ 11).bind fun (v4, σ3) =>
    fX9_drawn_b141 σ3 v4)) else ((rd (σ 4) 41 2).bind fun v7 =>
    (rml ((x4 * 16807) - (x4 * 16807) / 2147483647 * 2147483647) (v7.toInt64)).bind fun v8 =>
    (mwr σ 4 41 4 (1 <<< ((v8.toInt32) &&& 31))).bind fun σ10 =>
    if (lg_cmp (((x4 * 16807) - (x4 * 16807) / 2147483647 * 2147483647) - ((x4 * 16807) - (x4 * 16807) / 2147483647 * 2147483647) / 5 * 5) 0) = 0 then ((fX9_glue σ10 (v8.toInt32)).bind fun σ12 =>
    fX9_drawn_b113 (fX9_drawn_L55 n) σ12 x1 x3 ((x4 * 16807) - (x4 * 16807) / 2147483647 * 2147483647) x6) else (fX9_drawn_b113 (fX9_drawn_L55 n) σ10 x1 x3 ((x4 * 16807) - (x4 * 16807) / 2147483647 * 2147483647) x6))
theorem wX9_drawn_L55 (E : mE p m c cX9_drawn 8 s args G cI cZ meth (some .int)) : ∀ (n : Nat) (σ : MS) (x1 : Int32) (x3 : Int32) (x4 : Int64) (x6 : Int32), fX9_drawn_L55 n σ x1 x3 x4 x6 = some (r, σf) → ∀ (H : Heap) (locs : List Loc) (ls : Array Slot), mR G cI cZ o σ H → va_S (mA o) s.heap H locs → lv_has ls 8 [(0, .ref o), (1, .int x1), (3, .int x3), (4, .long x4), (6, .int x6)] → W p l e rmX9_drawn s m args below meth c H locs 0 0 (MQ below (mQi G cI cZ o r σf) args s 0 0 (mA o)) (F0 m 55 ls []) := by
  intro n
  induction n with
  | zero =>
    intro σ x1 x3 x4 x6 hf
    have hf : none = some (r, σf) := hf
    cases hf
  | succ n ih =>
    intro σ x1 x3 x4 x6 hf H locs ls hR hS hl
    refine lv_iload E.hx E.hb dX9_drawn_55 (lv_at hl 4 rfl) ?_
    refine lv_iload_n E.hx E.hb dX9_drawn_57 rfl (lv_at hl 1 rfl) ?_
    refine lv_icmp_ge (tgt := 123) E.hx E.hb dX9_drawn_58 (by decide) (fun c1 => ?_) (fun c1 => ?_)
    · have hf := it_t hf c1
      refine lv_iload_n E.hx E.hb dX9_drawn_123 rfl (lv_at hl 2 rfl) ?_
      refine lv_if_ne (tgt := 135) E.hx E.hb dX9_drawn_124 (by decide) (fun c2 => ?_) (fun c2 => ?_)
      · have hf := it_f hf c2
        refine lv_aload_n E.hx E.hb dX9_drawn_135 rfl (lv_at hl 0 rfl) ?_
        refine lv_bipush (v := 11) E.hx E.hb dX9_drawn_136 (by decide) ?_
        obtain ⟨⟨v4, σ3⟩, hv4, hf⟩ := bd_e hf
        refine mcall_i (rest := []) E hR hS (tX9_sumOf l hv4) (cwX9_209 E.ht ⟨Nat.le_of_ble_eq_true rfl, Nat.le_of_ble_eq_true rfl⟩) rfl hl.1 rfl (Nat.le_of_ble_eq_true rfl) dX9_drawn_138 ⟨Nat.le_refl 0, Nat.le_refl 0⟩ (fun H locs hR hS => ?_)
        exact wX9_drawn_b141 E  hf _ _ _ hR hS (lv_sub hl [0] rfl)
      · have hf := it_t hf c2
        refine lv_aload_n E.hx E.hb dX9_drawn_127 rfl (lv_at hl 0 rfl) ?_
        refine lv_iconst (v := 0) E.hx E.hb dX9_drawn_128 (by decide) ?_
        obtain ⟨⟨v6, σ5⟩, hv6, hf⟩ := bd_e hf
        refine mcall_i (rest := []) E hR hS (tX9_atRank l hv6) (cwX9_153 E.ht ⟨Nat.le_of_ble_eq_true rfl, Nat.le_of_ble_eq_true rfl⟩) rfl hl.1 rfl (Nat.le_of_ble_eq_true rfl) dX9_drawn_129 ⟨Nat.le_refl 0, Nat.le_refl 0⟩ (fun H locs hR hS => ?_)
        refine lv_goto (tgt := 141) E.hx E.hb dX9_drawn_132 (by decide) ?_
        exact wX9_drawn_b141 E  hf _ _ _ hR hS (lv_sub hl [0] rfl)
    · have hf := it_f hf c1
      refine lv_lload E.hx E.hb dX9_drawn_61 (lv_at hl 3 rfl) ?_
      refine lv_ldc2 (v := 16807) E.hx E.hb E.ho (E.ht _ q1602) dX9_drawn_63 ?_
      refine lv_lmul E.hx E.hb dX9_drawn_66 ?_
      refine lv_ldc2 (v := 2147483647) E.hx E.hb E.ho (E.ht _ q1603) dX9_drawn_67 ?_
      refine lv_lrem E.hx E.hb dX9_drawn_70 (by decide) ?_
      refine lv_lstore (lv' := [(4, .long ((x4 * 16807) - (x4 * 16807) / 2147483647 * 2147483647)), (0, .ref o), (1, .int x1), (3, .int x3), (6, .int x6)]) E.hx E.hb dX9_drawn_71 hl (by decide) rfl (fun ls hl => ?_)
      refine lv_lload E.hx E.hb dX9_drawn_73 (lv_at hl 0 rfl) ?_
      refine lv_aload_n E.hx E.hb dX9_drawn_75 rfl (lv_at hl 1 rfl) ?_
      refine mg_st E hR dX9_drawn_76 ?_
      refine lv_iconst (v := 2) E.hx E.hb dX9_drawn_79 (by decide) ?_
      obtain ⟨v7, hv7, hf⟩ := bd_e hf
      refine ml_st E hR hv7 dX9_drawn_80 ?_
      refine lv_i2l E.hx E.hb dX9_drawn_81 rfl ?_
      obtain ⟨v8, h9, hf⟩ := bd_e hf
      obtain ⟨h9, h9e⟩ := rml_e h9
      refine lv_lrem E.hx E.hb dX9_drawn_82 h9 ?_
      rw [h9e]
      refine lv_l2i E.hx E.hb dX9_drawn_83 rfl ?_
      refine lv_istore (lv' := [(7, .int (v8.toInt32)), (4, .long ((x4 * 16807) - (x4 * 16807) / 2147483647 * 2147483647)), (0, .ref o), (1, .int x1), (3, .int x3), (6, .int x6)]) E.hx E.hb dX9_drawn_84 hl (by decide) rfl (fun ls hl => ?_)
      refine lv_aload_n E.hx E.hb dX9_drawn_86 rfl (lv_at hl 2 rfl) ?_
      refine mg_st E hR dX9_drawn_87 ?_
      refine lv_iconst (v := 4) E.hx E.hb dX9_drawn_90 (by decide) ?_
      refine lv_iconst (v := 1) E.hx E.hb dX9_drawn_91 (by decide) ?_
      refine lv_iload E.hx E.hb dX9_drawn_92 (lv_at hl 0 rfl) ?_
      refine lv_ishl E.hx E.hb dX9_drawn_94 ?_
      obtain ⟨σ10, hσ10, hf⟩ := bd_e hf
      refine ms_st E hR hS hσ10 dX9_drawn_95 (fun H locs hR hS => ?_)
      refine lv_lload E.hx E.hb dX9_drawn_96 (lv_at hl 1 rfl) ?_
      refine lv_ldc2 (v := 5) E.hx E.hb E.ho (E.ht _ q1510) dX9_drawn_98 ?_
      refine lv_lrem E.hx E.hb dX9_drawn_101 (by decide) ?_
      refine lv_lconst (v := 0) E.hx E.hb dX9_drawn_102 (by decide) ?_
      refine W.lcmp E.hx E.hb dX9_drawn_103 ?_
      refine lv_if_ne (tgt := 113) E.hx E.hb dX9_drawn_104 (by decide) (fun c11 => ?_) (fun c11 => ?_)
      · have hf := it_f hf c11
        exact wX9_drawn_b113 E ih hf _ _ _ hR hS (lv_sub hl [2, 3, 4, 1, 5] rfl)
      · have hf := it_t hf c11
        refine lv_aload_n E.hx E.hb dX9_drawn_107 rfl (lv_at hl 2 rfl) ?_
        refine lv_iload E.hx E.hb dX9_drawn_108 (lv_at hl 0 rfl) ?_
        obtain ⟨σ12, hσ12, hf⟩ := bd_e hf
        refine mcall_v (rest := []) E hR hS (tX9_glue l hσ12) (cwX9_183 E.ht ⟨Nat.le_of_ble_eq_true rfl, Nat.le_of_ble_eq_true rfl⟩) rfl hl.1 rfl (Nat.le_of_ble_eq_true rfl) dX9_drawn_110 ⟨Nat.le_refl 0, Nat.le_refl 0⟩ (fun H locs hR hS => ?_)
        exact wX9_drawn_b113 E ih hf _ _ _ hR hS (lv_sub hl [2, 3, 4, 1, 5] rfl)
def fX9_drawn  (σ : MS) (x1 : Int32) (x2 : Int32) (x3 : Int32) : Option (Int32 × MS) :=
  if (σ 0 4) = 0 then (some ((-1000002), σ)) else ((fX9_in (x1.toInt64) 0 60).bind fun v2 =>
  if v2 = 0 then (some ((-1000001), σ)) else ((fX9_in (x2.toInt64) 1 999999).bind fun v4 =>
  if v4 = 0 then (some ((-1000001), σ)) else ((fX9_isWhat x3).bind fun v6 =>
  if v6 = 0 then (some ((-1000001), σ)) else ((fX9_putAside σ).bind fun σ8 =>
  fX9_drawn_L55 2000 σ8 x1 x3 (x2.toInt64) 0))))
theorem wX9_drawn_0 (E : mE p m c cX9_drawn 8 s args G cI cZ meth (some .int)) {σ : MS} {x1 : Int32} {x2 : Int32} {x3 : Int32} (hf : fX9_drawn σ x1 x2 x3 = some (r, σf)) : ∀ (H : Heap) (locs : List Loc) (ls : Array Slot), mR G cI cZ o σ H → va_S (mA o) s.heap H locs → lv_has ls 8 [(0, .ref o), (1, .int x1), (2, .int x2), (3, .int x3)] → W p l e rmX9_drawn s m args below meth c H locs 0 0 (MQ below (mQi G cI cZ o r σf) args s 0 0 (mA o)) (F0 m 0 ls []) := by
  intro H locs ls hR hS hl
  refine lv_aload_n E.hx E.hb dX9_drawn_0 rfl (lv_at hl 0 rfl) ?_
  refine mg_isThere E hR dX9_drawn_1 ?_
  refine lv_if_ne (tgt := 10) E.hx E.hb dX9_drawn_4 (by decide) (fun c1 => ?_) (fun c1 => ?_)
  · have hf := it_f hf c1
    refine lv_iload_n E.hx E.hb dX9_drawn_10 rfl (lv_at hl 1 rfl) ?_
    refine lv_i2l E.hx E.hb dX9_drawn_11 rfl ?_
    refine lv_lconst (v := 0) E.hx E.hb dX9_drawn_12 (by decide) ?_
    refine lv_ldc2 (v := 60) E.hx E.hb E.ho (E.ht _ q1485) dX9_drawn_13 ?_
    obtain ⟨v2, hv2, hf⟩ := bd_e hf
    refine scall_i (rest := []) E.1 (tX9_in l hv2) (cwX9_57 E.ht ⟨Nat.le_of_ble_eq_true rfl, Nat.le_of_ble_eq_true rfl⟩) rfl hl.1 rfl (Nat.le_of_ble_eq_true rfl) dX9_drawn_16 ⟨Nat.le_refl 0, Nat.le_refl 0⟩ ?_
    refine lv_if_eq (tgt := 41) E.hx E.hb dX9_drawn_19 (by decide) (fun c3 => ?_) (fun c3 => ?_)
    · have hf := it_t hf c3
      refine lv_ldc (v := (-1000001)) E.hx E.hb E.ho (E.ht _ q1319) dX9_drawn_41 ?_
      obtain ⟨rfl, rfl⟩ := rt_e hf
      exact mret_i E hR hS dX9_drawn_43
    · have hf := it_f hf c3
      refine lv_iload_n E.hx E.hb dX9_drawn_22 rfl (lv_at hl 2 rfl) ?_
      refine lv_i2l E.hx E.hb dX9_drawn_23 rfl ?_
      refine lv_lconst (v := 1) E.hx E.hb dX9_drawn_24 (by decide) ?_
      refine lv_ldc2 (v := 999999) E.hx E.hb E.ho (E.ht _ q1601) dX9_drawn_25 ?_
      obtain ⟨v4, hv4, hf⟩ := bd_e hf
      refine scall_i (rest := []) E.1 (tX9_in l hv4) (cwX9_57 E.ht ⟨Nat.le_of_ble_eq_true rfl, Nat.le_of_ble_eq_true rfl⟩) rfl hl.1 rfl (Nat.le_of_ble_eq_true rfl) dX9_drawn_28 ⟨Nat.le_refl 0, Nat.le_refl 0⟩ ?_
      refine lv_if_eq (tgt := 41) E.hx E.hb dX9_drawn_31 (by decide) (fun c5 => ?_) (fun c5 => ?_)
      · have hf := it_t hf c5
        refine lv_ldc (v := (-1000001)) E.hx E.hb E.ho (E.ht _ q1319) dX9_drawn_41 ?_
        obtain ⟨rfl, rfl⟩ := rt_e hf
        exact mret_i E hR hS dX9_drawn_43
      · have hf := it_f hf c5
        refine lv_iload_n E.hx E.hb dX9_drawn_34 rfl (lv_at hl 3 rfl) ?_
        obtain ⟨v6, hv6, hf⟩ := bd_e hf
        refine scall_i (rest := []) E.1 (tX9_isWhat l hv6) (cwX9_217 E.ht ⟨Nat.le_of_ble_eq_true rfl, Nat.le_of_ble_eq_true rfl⟩) rfl hl.1 rfl (Nat.le_of_ble_eq_true rfl) dX9_drawn_35 ⟨Nat.le_refl 0, Nat.le_refl 0⟩ ?_
        refine lv_if_ne (tgt := 44) E.hx E.hb dX9_drawn_38 (by decide) (fun c7 => ?_) (fun c7 => ?_)
        · have hf := it_f hf c7
          refine lv_aload_n E.hx E.hb dX9_drawn_44 rfl (lv_at hl 0 rfl) ?_
          obtain ⟨σ8, hσ8, hf⟩ := bd_e hf
          refine mcall_v (rest := []) E hR hS (tX9_putAside l hσ8) (cwX9_204 E.ht ⟨Nat.le_of_ble_eq_true rfl, Nat.le_of_ble_eq_true rfl⟩) rfl hl.1 rfl (Nat.le_of_ble_eq_true rfl) dX9_drawn_45 ⟨Nat.le_refl 0, Nat.le_refl 0⟩ (fun H locs hR hS => ?_)
          refine lv_iload_n E.hx E.hb dX9_drawn_48 rfl (lv_at hl 2 rfl) ?_
          refine lv_i2l E.hx E.hb dX9_drawn_49 rfl ?_
          refine lv_lstore (lv' := [(4, .long (x2.toInt64)), (0, .ref o), (1, .int x1), (2, .int x2), (3, .int x3)]) E.hx E.hb dX9_drawn_50 hl (by decide) rfl (fun ls hl => ?_)
          refine lv_iconst (v := 0) E.hx E.hb dX9_drawn_52 (by decide) ?_
          refine lv_istore (lv' := [(6, .int 0), (4, .long (x2.toInt64)), (0, .ref o), (1, .int x1), (2, .int x2), (3, .int x3)]) E.hx E.hb dX9_drawn_53 hl (by decide) rfl (fun ls hl => ?_)
          exact wX9_drawn_L55 E  2000 σ8 _ _ _ _ hf _ _ _ hR hS (lv_sub hl [2, 3, 5, 1, 0] rfl)
        · have hf := it_t hf c7
          refine lv_ldc (v := (-1000001)) E.hx E.hb E.ho (E.ht _ q1319) dX9_drawn_41 ?_
          obtain ⟨rfl, rfl⟩ := rt_e hf
          exact mret_i E hR hS dX9_drawn_43
  · have hf := it_t hf c1
    refine lv_ldc (v := (-1000002)) E.hx E.hb E.ho (E.ht _ q1395) dX9_drawn_7 ?_
    obtain ⟨rfl, rfl⟩ := rt_e hf
    exact mret_i E hR hS dX9_drawn_9
theorem tX9_drawn (l : Launch) {G : va_G} {cI cZ : ClassId} {o : Nat} {σ σf : MS} {x1 : Int32} {x2 : Int32} {x3 : Int32} {r : Int32} (hf : fX9_drawn σ x1 x2 x3 = some (r, σf)) : Met l yX9_drawn (ws_ yX9_drawn cX9_drawn 8 (some .int)) rmX9_drawn (mPc G cI cZ o σ [.ref o, .int x1, .int x2, .int x3]) (mQi G cI cZ o r σf) 0 0 (mA o) := by
  refine Met.ofW (cc := cX9_drawn) (maxL := 8) (ret := (some .int)) (by decide) rfl ?_
  intro p e s m args below meth c s₁ B hml hv
  obtain ⟨rfl, hR, hK⟩ := hv
  have hts := atoms_spec (ws := (ws_ yX9_drawn cX9_drawn 8 (some .int))) B.pre
  rw [lg_entry_eq]
  exact wX9_drawn_0 (E := ⟨⟨B.exec, B.bytes, hml, findClass_of_methodNamed B.named, fun w h => hts w (List.mem_cons_of_mem _ h)⟩, hK, B.returns, B.notSynchronized⟩) hf _ _ _ hR va_S.rf (lv_entry [.ref o, .int x1, .int x2, .int x3] (n := 8) (Nat.le_of_ble_eq_true rfl))

abbrev rmX9_image : Room := { frames := 2, cells := 0, slots := 0, locals := 37 }
def fX9_image_L25  : Nat → MS → Int32 → Int32 → Option (Int32 × MS)
  | 0, _, _, _ => none
  | n + 1, σ, x1, x2 =>
    if 41 ≤ x2 then ((mwr σ 11 2 x1 1).bind fun σ2 =>
    some (1, σ2)) else ((rd (σ 4) 41 x2).bind fun v3 =>
    (mwr σ 12 82 ((41 * x1) + x2) v3).bind fun σ4 =>
    (fX9_image_L25 n) σ4 x1 (x2 + 1))
theorem wX9_image_L25 (E : mE p m c cX9_image 3 s args G cI cZ meth (some .int)) : ∀ (n : Nat) (σ : MS) (x1 : Int32) (x2 : Int32), fX9_image_L25 n σ x1 x2 = some (r, σf) → ∀ (H : Heap) (locs : List Loc) (ls : Array Slot), mR G cI cZ o σ H → va_S (mA o) s.heap H locs → lv_has ls 3 [(0, .ref o), (1, .int x1), (2, .int x2)] → W p l e rmX9_image s m args below meth c H locs 0 0 (MQ below (mQi G cI cZ o r σf) args s 0 0 (mA o)) (F0 m 25 ls []) := by
  intro n
  induction n with
  | zero =>
    intro σ x1 x2 hf
    have hf : none = some (r, σf) := hf
    cases hf
  | succ n ih =>
    intro σ x1 x2 hf H locs ls hR hS hl
    refine lv_iload_n E.hx E.hb dX9_image_25 rfl (lv_at hl 2 rfl) ?_
    refine lv_bipush (v := 41) E.hx E.hb dX9_image_26 (by decide) ?_
    refine lv_icmp_ge (tgt := 54) E.hx E.hb dX9_image_28 (by decide) (fun c1 => ?_) (fun c1 => ?_)
    · have hf := it_t hf c1
      refine lv_aload_n E.hx E.hb dX9_image_54 rfl (lv_at hl 0 rfl) ?_
      refine mg_isKept E hR dX9_image_55 ?_
      refine lv_iload_n E.hx E.hb dX9_image_58 rfl (lv_at hl 1 rfl) ?_
      refine lv_iconst (v := 1) E.hx E.hb dX9_image_59 (by decide) ?_
      obtain ⟨σ2, hσ2, hf⟩ := bd_e hf
      refine ms_isKept E hR hS hσ2 dX9_image_60 (fun H locs hR hS => ?_)
      refine lv_iconst (v := 1) E.hx E.hb dX9_image_61 (by decide) ?_
      obtain ⟨rfl, rfl⟩ := rt_e hf
      exact mret_i E hR hS dX9_image_62
    · have hf := it_f hf c1
      refine lv_aload_n E.hx E.hb dX9_image_31 rfl (lv_at hl 0 rfl) ?_
      refine mg_kept E hR dX9_image_32 ?_
      refine lv_bipush (v := 41) E.hx E.hb dX9_image_35 (by decide) ?_
      refine lv_iload_n E.hx E.hb dX9_image_37 rfl (lv_at hl 1 rfl) ?_
      refine lv_imul E.hx E.hb dX9_image_38 ?_
      refine lv_iload_n E.hx E.hb dX9_image_39 rfl (lv_at hl 2 rfl) ?_
      refine lv_iadd E.hx E.hb dX9_image_40 ?_
      refine lv_aload_n E.hx E.hb dX9_image_41 rfl (lv_at hl 0 rfl) ?_
      refine mg_st E hR dX9_image_42 ?_
      refine lv_iload_n E.hx E.hb dX9_image_45 rfl (lv_at hl 2 rfl) ?_
      obtain ⟨v3, hv3, hf⟩ := bd_e hf
      refine ml_st E hR hv3 dX9_image_46 ?_
      obtain ⟨σ4, hσ4, hf⟩ := bd_e hf
      refine ms_kept E hR hS hσ4 dX9_image_47 (fun H locs hR hS => ?_)
      refine lv_iinc (v := (x2 + 1)) (lv' := [(2, .int (x2 + 1)), (0, .ref o), (1, .int x1)]) E.hx E.hb dX9_image_48 hl (k := 2) rfl rfl (by decide) rfl (fun ls hl => ?_)
      refine lv_goto (tgt := 25) E.hx E.hb dX9_image_51 (by decide) ?_
      exact ih σ4 _ _ hf _ _ _ hR hS (lv_sub hl [1, 2, 0] rfl)
def fX9_image  (σ : MS) (x1 : Int32) : Option (Int32 × MS) :=
  (fX9_in (x1.toInt64) 0 1).bind fun v1 =>
  if v1 = 0 then (some ((-1000001), σ)) else (if (σ 0 4) = 0 then (some ((-1000002), σ)) else (fX9_image_L25 2000 σ x1 0))
theorem wX9_image_0 (E : mE p m c cX9_image 3 s args G cI cZ meth (some .int)) {σ : MS} {x1 : Int32} (hf : fX9_image σ x1 = some (r, σf)) : ∀ (H : Heap) (locs : List Loc) (ls : Array Slot), mR G cI cZ o σ H → va_S (mA o) s.heap H locs → lv_has ls 3 [(0, .ref o), (1, .int x1)] → W p l e rmX9_image s m args below meth c H locs 0 0 (MQ below (mQi G cI cZ o r σf) args s 0 0 (mA o)) (F0 m 0 ls []) := by
  intro H locs ls hR hS hl
  refine lv_iload_n E.hx E.hb dX9_image_0 rfl (lv_at hl 1 rfl) ?_
  refine lv_i2l E.hx E.hb dX9_image_1 rfl ?_
  refine lv_lconst (v := 0) E.hx E.hb dX9_image_2 (by decide) ?_
  refine lv_lconst (v := 1) E.hx E.hb dX9_image_3 (by decide) ?_
  obtain ⟨v1, hv1, hf⟩ := bd_e hf
  refine scall_i (rest := []) E.1 (tX9_in l hv1) (cwX9_57 E.ht ⟨Nat.le_of_ble_eq_true rfl, Nat.le_of_ble_eq_true rfl⟩) rfl hl.1 rfl (Nat.le_of_ble_eq_true rfl) dX9_image_4 ⟨Nat.le_refl 0, Nat.le_refl 0⟩ ?_
  refine lv_if_ne (tgt := 13) E.hx E.hb dX9_image_7 (by decide) (fun c2 => ?_) (fun c2 => ?_)
  · have hf := it_f hf c2
    refine lv_aload_n E.hx E.hb dX9_image_13 rfl (lv_at hl 0 rfl) ?_
    refine mg_isThere E hR dX9_image_14 ?_
    refine lv_if_ne (tgt := 23) E.hx E.hb dX9_image_17 (by decide) (fun c3 => ?_) (fun c3 => ?_)
    · have hf := it_f hf c3
      refine lv_iconst (v := 0) E.hx E.hb dX9_image_23 (by decide) ?_
      refine lv_istore_n (lv' := [(2, .int 0), (0, .ref o), (1, .int x1)]) E.hx E.hb dX9_image_24 rfl hl (by decide) rfl (fun ls hl => ?_)
      exact wX9_image_L25 E  2000 σ _ _ hf _ _ _ hR hS (lv_sub hl [1, 2, 0] rfl)
    · have hf := it_t hf c3
      refine lv_ldc (v := (-1000002)) E.hx E.hb E.ho (E.ht _ q1395) dX9_image_20 ?_
      obtain ⟨rfl, rfl⟩ := rt_e hf
      exact mret_i E hR hS dX9_image_22
  · have hf := it_t hf c2
    refine lv_ldc (v := (-1000001)) E.hx E.hb E.ho (E.ht _ q1319) dX9_image_10 ?_
    obtain ⟨rfl, rfl⟩ := rt_e hf
    exact mret_i E hR hS dX9_image_12
theorem tX9_image (l : Launch) {G : va_G} {cI cZ : ClassId} {o : Nat} {σ σf : MS} {x1 : Int32} {r : Int32} (hf : fX9_image σ x1 = some (r, σf)) : Met l yX9_image (ws_ yX9_image cX9_image 3 (some .int)) rmX9_image (mPc G cI cZ o σ [.ref o, .int x1]) (mQi G cI cZ o r σf) 0 0 (mA o) := by
  refine Met.ofW (cc := cX9_image) (maxL := 3) (ret := (some .int)) (by decide) rfl ?_
  intro p e s m args below meth c s₁ B hml hv
  obtain ⟨rfl, hR, hK⟩ := hv
  have hts := atoms_spec (ws := (ws_ yX9_image cX9_image 3 (some .int))) B.pre
  rw [lg_entry_eq]
  exact wX9_image_0 (E := ⟨⟨B.exec, B.bytes, hml, findClass_of_methodNamed B.named, fun w h => hts w (List.mem_cons_of_mem _ h)⟩, hK, B.returns, B.notSynchronized⟩) hf _ _ _ hR va_S.rf (lv_entry [.ref o, .int x1] (n := 3) (Nat.le_of_ble_eq_true rfl))

abbrev rmX9_restore : Room := { frames := 2, cells := 0, slots := 0, locals := 37 }
def fX9_restore_L27  : Nat → MS → Int32 → Int32 → Option (Int32 × MS)
  | 0, _, _, _ => none
  | n + 1, σ, x1, x2 =>
    if 41 ≤ x2 then ((some (up2 σ 0 19 0)).bind fun σ2 =>
    some (1, σ2)) else ((rd (σ 12) 82 ((41 * x1) + x2)).bind fun v3 =>
    (mwr σ 4 41 x2 v3).bind fun σ4 =>
    (fX9_restore_L27 n) σ4 x1 (x2 + 1))
theorem wX9_restore_L27 (E : mE p m c cX9_restore 3 s args G cI cZ meth (some .int)) : ∀ (n : Nat) (σ : MS) (x1 : Int32) (x2 : Int32), fX9_restore_L27 n σ x1 x2 = some (r, σf) → ∀ (H : Heap) (locs : List Loc) (ls : Array Slot), mR G cI cZ o σ H → va_S (mA o) s.heap H locs → lv_has ls 3 [(0, .ref o), (1, .int x1), (2, .int x2)] → W p l e rmX9_restore s m args below meth c H locs 0 0 (MQ below (mQi G cI cZ o r σf) args s 0 0 (mA o)) (F0 m 27 ls []) := by
  intro n
  induction n with
  | zero =>
    intro σ x1 x2 hf
    have hf : none = some (r, σf) := hf
    cases hf
  | succ n ih =>
    intro σ x1 x2 hf H locs ls hR hS hl
    refine lv_iload_n E.hx E.hb dX9_restore_27 rfl (lv_at hl 2 rfl) ?_
    refine lv_bipush (v := 41) E.hx E.hb dX9_restore_28 (by decide) ?_
    refine lv_icmp_ge (tgt := 56) E.hx E.hb dX9_restore_30 (by decide) (fun c1 => ?_) (fun c1 => ?_)
    · have hf := it_t hf c1
      refine lv_aload_n E.hx E.hb dX9_restore_56 rfl (lv_at hl 0 rfl) ?_
      refine lv_iconst (v := 0) E.hx E.hb dX9_restore_57 (by decide) ?_
      obtain ⟨σ2, hσ2, hf⟩ := bd_e hf
      refine mp_actMany E hR hS dX9_restore_58 (fun H locs hR hS => ?_)
      rw [Option.some.inj hσ2] at hR
      refine lv_iconst (v := 1) E.hx E.hb dX9_restore_61 (by decide) ?_
      obtain ⟨rfl, rfl⟩ := rt_e hf
      exact mret_i E hR hS dX9_restore_62
    · have hf := it_f hf c1
      refine lv_aload_n E.hx E.hb dX9_restore_33 rfl (lv_at hl 0 rfl) ?_
      refine mg_st E hR dX9_restore_34 ?_
      refine lv_iload_n E.hx E.hb dX9_restore_37 rfl (lv_at hl 2 rfl) ?_
      refine lv_aload_n E.hx E.hb dX9_restore_38 rfl (lv_at hl 0 rfl) ?_
      refine mg_kept E hR dX9_restore_39 ?_
      refine lv_bipush (v := 41) E.hx E.hb dX9_restore_42 (by decide) ?_
      refine lv_iload_n E.hx E.hb dX9_restore_44 rfl (lv_at hl 1 rfl) ?_
      refine lv_imul E.hx E.hb dX9_restore_45 ?_
      refine lv_iload_n E.hx E.hb dX9_restore_46 rfl (lv_at hl 2 rfl) ?_
      refine lv_iadd E.hx E.hb dX9_restore_47 ?_
      obtain ⟨v3, hv3, hf⟩ := bd_e hf
      refine ml_kept E hR hv3 dX9_restore_48 ?_
      obtain ⟨σ4, hσ4, hf⟩ := bd_e hf
      refine ms_st E hR hS hσ4 dX9_restore_49 (fun H locs hR hS => ?_)
      refine lv_iinc (v := (x2 + 1)) (lv' := [(2, .int (x2 + 1)), (0, .ref o), (1, .int x1)]) E.hx E.hb dX9_restore_50 hl (k := 2) rfl rfl (by decide) rfl (fun ls hl => ?_)
      refine lv_goto (tgt := 27) E.hx E.hb dX9_restore_53 (by decide) ?_
      exact ih σ4 _ _ hf _ _ _ hR hS (lv_sub hl [1, 2, 0] rfl)
def fX9_restore  (σ : MS) (x1 : Int32) : Option (Int32 × MS) :=
  (fX9_in (x1.toInt64) 0 1).bind fun v1 =>
  if v1 = 0 then (some ((-1000001), σ)) else ((rd (σ 11) 2 x1).bind fun v3 =>
  if v3 = 0 then (some ((-1000002), σ)) else (fX9_restore_L27 2000 σ x1 0))
theorem wX9_restore_0 (E : mE p m c cX9_restore 3 s args G cI cZ meth (some .int)) {σ : MS} {x1 : Int32} (hf : fX9_restore σ x1 = some (r, σf)) : ∀ (H : Heap) (locs : List Loc) (ls : Array Slot), mR G cI cZ o σ H → va_S (mA o) s.heap H locs → lv_has ls 3 [(0, .ref o), (1, .int x1)] → W p l e rmX9_restore s m args below meth c H locs 0 0 (MQ below (mQi G cI cZ o r σf) args s 0 0 (mA o)) (F0 m 0 ls []) := by
  intro H locs ls hR hS hl
  refine lv_iload_n E.hx E.hb dX9_restore_0 rfl (lv_at hl 1 rfl) ?_
  refine lv_i2l E.hx E.hb dX9_restore_1 rfl ?_
  refine lv_lconst (v := 0) E.hx E.hb dX9_restore_2 (by decide) ?_
  refine lv_lconst (v := 1) E.hx E.hb dX9_restore_3 (by decide) ?_
  obtain ⟨v1, hv1, hf⟩ := bd_e hf
  refine scall_i (rest := []) E.1 (tX9_in l hv1) (cwX9_57 E.ht ⟨Nat.le_of_ble_eq_true rfl, Nat.le_of_ble_eq_true rfl⟩) rfl hl.1 rfl (Nat.le_of_ble_eq_true rfl) dX9_restore_4 ⟨Nat.le_refl 0, Nat.le_refl 0⟩ ?_
  refine lv_if_ne (tgt := 13) E.hx E.hb dX9_restore_7 (by decide) (fun c2 => ?_) (fun c2 => ?_)
  · have hf := it_f hf c2
    refine lv_aload_n E.hx E.hb dX9_restore_13 rfl (lv_at hl 0 rfl) ?_
    refine mg_isKept E hR dX9_restore_14 ?_
    refine lv_iload_n E.hx E.hb dX9_restore_17 rfl (lv_at hl 1 rfl) ?_
    obtain ⟨v3, hv3, hf⟩ := bd_e hf
    refine ml_isKept E hR hv3 dX9_restore_18 ?_
    refine lv_if_ne (tgt := 25) E.hx E.hb dX9_restore_19 (by decide) (fun c4 => ?_) (fun c4 => ?_)
    · have hf := it_f hf c4
      refine lv_iconst (v := 0) E.hx E.hb dX9_restore_25 (by decide) ?_
      refine lv_istore_n (lv' := [(2, .int 0), (0, .ref o), (1, .int x1)]) E.hx E.hb dX9_restore_26 rfl hl (by decide) rfl (fun ls hl => ?_)
      exact wX9_restore_L27 E  2000 σ _ _ hf _ _ _ hR hS (lv_sub hl [1, 2, 0] rfl)
    · have hf := it_t hf c4
      refine lv_ldc (v := (-1000002)) E.hx E.hb E.ho (E.ht _ q1395) dX9_restore_22 ?_
      obtain ⟨rfl, rfl⟩ := rt_e hf
      exact mret_i E hR hS dX9_restore_24
  · have hf := it_t hf c2
    refine lv_ldc (v := (-1000001)) E.hx E.hb E.ho (E.ht _ q1319) dX9_restore_10 ?_
    obtain ⟨rfl, rfl⟩ := rt_e hf
    exact mret_i E hR hS dX9_restore_12
theorem tX9_restore (l : Launch) {G : va_G} {cI cZ : ClassId} {o : Nat} {σ σf : MS} {x1 : Int32} {r : Int32} (hf : fX9_restore σ x1 = some (r, σf)) : Met l yX9_restore (ws_ yX9_restore cX9_restore 3 (some .int)) rmX9_restore (mPc G cI cZ o σ [.ref o, .int x1]) (mQi G cI cZ o r σf) 0 0 (mA o) := by
  refine Met.ofW (cc := cX9_restore) (maxL := 3) (ret := (some .int)) (by decide) rfl ?_
  intro p e s m args below meth c s₁ B hml hv
  obtain ⟨rfl, hR, hK⟩ := hv
  have hts := atoms_spec (ws := (ws_ yX9_restore cX9_restore 3 (some .int))) B.pre
  rw [lg_entry_eq]
  exact wX9_restore_0 (E := ⟨⟨B.exec, B.bytes, hml, findClass_of_methodNamed B.named, fun w h => hts w (List.mem_cons_of_mem _ h)⟩, hK, B.returns, B.notSynchronized⟩) hf _ _ _ hR va_S.rf (lv_entry [.ref o, .int x1] (n := 3) (Nat.le_of_ble_eq_true rfl))

abbrev rmX9_kind : Room := { frames := 3, cells := 0, slots := 0, locals := 58 }
def fX9_kind  (σ : MS) (x1 : Int32) : Option (Int32 × MS) :=
  (fX9_isChair σ x1).bind fun (v2, σ1) =>
  if v2 = 0 then (some ((-1000001), σ1)) else ((rd (σ1 4) 41 (5 + x1)).bind fun v4 =>
  some (v4, σ1))
theorem wX9_kind_0 (E : mE p m c cX9_kind 2 s args G cI cZ meth (some .int)) {σ : MS} {x1 : Int32} (hf : fX9_kind σ x1 = some (r, σf)) : ∀ (H : Heap) (locs : List Loc) (ls : Array Slot), mR G cI cZ o σ H → va_S (mA o) s.heap H locs → lv_has ls 2 [(0, .ref o), (1, .int x1)] → W p l e rmX9_kind s m args below meth c H locs 0 0 (MQ below (mQi G cI cZ o r σf) args s 0 0 (mA o)) (F0 m 0 ls []) := by
  intro H locs ls hR hS hl
  refine lv_aload_n E.hx E.hb dX9_kind_0 rfl (lv_at hl 0 rfl) ?_
  refine lv_iload_n E.hx E.hb dX9_kind_1 rfl (lv_at hl 1 rfl) ?_
  obtain ⟨⟨v2, σ1⟩, hv2, hf⟩ := bd_e hf
  refine mcall_i (rest := []) E hR hS (tX9_isChair l hv2) (cwX9_178 E.ht ⟨Nat.le_of_ble_eq_true rfl, Nat.le_of_ble_eq_true rfl⟩) rfl hl.1 rfl (Nat.le_of_ble_eq_true rfl) dX9_kind_2 ⟨Nat.le_refl 0, Nat.le_refl 0⟩ (fun H locs hR hS => ?_)
  refine lv_if_eq (tgt := 19) E.hx E.hb dX9_kind_5 (by decide) (fun c3 => ?_) (fun c3 => ?_)
  · have hf := it_t hf c3
    refine lv_ldc (v := (-1000001)) E.hx E.hb E.ho (E.ht _ q1319) dX9_kind_19 ?_
    obtain ⟨rfl, rfl⟩ := rt_e hf
    exact mret_i E hR hS dX9_kind_21
  · have hf := it_f hf c3
    refine lv_aload_n E.hx E.hb dX9_kind_8 rfl (lv_at hl 0 rfl) ?_
    refine mg_st E hR dX9_kind_9 ?_
    refine lv_iconst (v := 5) E.hx E.hb dX9_kind_12 (by decide) ?_
    refine lv_iload_n E.hx E.hb dX9_kind_13 rfl (lv_at hl 1 rfl) ?_
    refine lv_iadd E.hx E.hb dX9_kind_14 ?_
    obtain ⟨v4, hv4, hf⟩ := bd_e hf
    refine ml_st E hR hv4 dX9_kind_15 ?_
    refine lv_goto (tgt := 21) E.hx E.hb dX9_kind_16 (by decide) ?_
    obtain ⟨rfl, rfl⟩ := rt_e hf
    exact mret_i E hR hS dX9_kind_21
theorem tX9_kind (l : Launch) {G : va_G} {cI cZ : ClassId} {o : Nat} {σ σf : MS} {x1 : Int32} {r : Int32} (hf : fX9_kind σ x1 = some (r, σf)) : Met l yX9_kind (ws_ yX9_kind cX9_kind 2 (some .int)) rmX9_kind (mPc G cI cZ o σ [.ref o, .int x1]) (mQi G cI cZ o r σf) 0 0 (mA o) := by
  refine Met.ofW (cc := cX9_kind) (maxL := 2) (ret := (some .int)) (by decide) rfl ?_
  intro p e s m args below meth c s₁ B hml hv
  obtain ⟨rfl, hR, hK⟩ := hv
  have hts := atoms_spec (ws := (ws_ yX9_kind cX9_kind 2 (some .int))) B.pre
  rw [lg_entry_eq]
  exact wX9_kind_0 (E := ⟨⟨B.exec, B.bytes, hml, findClass_of_methodNamed B.named, fun w h => hts w (List.mem_cons_of_mem _ h)⟩, hK, B.returns, B.notSynchronized⟩) hf _ _ _ hR va_S.rf (lv_entry [.ref o, .int x1] (n := 2) (Nat.le_of_ble_eq_true rfl))

abbrev rmX9_isKind : Room := { frames := 1, cells := 0, slots := 0, locals := 12 }
def fX9_isKind_b19   (x0 : Int32) (x1 : Int32) : Option Int32 :=
  if x1 = 4 then (if x0 = 5 then (some 1) else (some 0)) else (some 0)
theorem wX9_isKind_b19 (E : sE p m c cX9_isKind 2 s args RX9 meth (some .boolean))  {x0 : Int32} {x1 : Int32} (hf : fX9_isKind_b19 x0 x1 = some r) : ∀ (ls : Array Slot), lv_has ls 2 [(0, .int x0), (1, .int x1)] → W p l e rmX9_isKind s m args below meth c s.heap [] 0 0 (MQ below (sQi r) args s 0 0 (fun _ => False)) (F0 m 19 ls []) := by
  intro ls hl
  refine lv_iload_n E.hx E.hb dX9_isKind_19 rfl (lv_at hl 1 rfl) ?_
  refine lv_iconst (v := 4) E.hx E.hb dX9_isKind_20 (by decide) ?_
  refine lv_icmp_ne (tgt := 33) E.hx E.hb dX9_isKind_21 (by decide) (fun c1 => ?_) (fun c1 => ?_)
  · have hf := it_f hf c1
    refine lv_iconst (v := 0) E.hx E.hb dX9_isKind_33 (by decide) ?_
    cases hf
    exact sret_z E rfl dX9_isKind_34
  · have hf := it_t hf c1
    refine lv_iload_n E.hx E.hb dX9_isKind_24 rfl (lv_at hl 0 rfl) ?_
    refine lv_iconst (v := 5) E.hx E.hb dX9_isKind_25 (by decide) ?_
    refine lv_icmp_ne (tgt := 33) E.hx E.hb dX9_isKind_26 (by decide) (fun c2 => ?_) (fun c2 => ?_)
    · have hf := it_f hf c2
      refine lv_iconst (v := 0) E.hx E.hb dX9_isKind_33 (by decide) ?_
      cases hf
      exact sret_z E rfl dX9_isKind_34
    · have hf := it_t hf c2
      refine lv_iconst (v := 1) E.hx E.hb dX9_isKind_29 (by decide) ?_
      refine lv_goto (tgt := 34) E.hx E.hb dX9_isKind_30 (by decide) ?_
      cases hf
      exact sret_z E rfl dX9_isKind_34
def fX9_isKind   (x0 : Int32) (x1 : Int32) : Option Int32 :=
  if x1 = 0 then (some 1) else (if x0 = x1 then (some 1) else (if x1 = 1 then (if x0 < 4 then (some 1) else (fX9_isKind_b19 x0 x1)) else (fX9_isKind_b19 x0 x1)))
theorem wX9_isKind_0 (E : sE p m c cX9_isKind 2 s args RX9 meth (some .boolean))  {x0 : Int32} {x1 : Int32} (hf : fX9_isKind x0 x1 = some r) : ∀ (ls : Array Slot), lv_has ls 2 [(0, .int x0), (1, .int x1)] → W p l e rmX9_isKind s m args below meth c s.heap [] 0 0 (MQ below (sQi r) args s 0 0 (fun _ => False)) (F0 m 0 ls []) := by
  intro ls hl
  refine lv_iload_n E.hx E.hb dX9_isKind_0 rfl (lv_at hl 1 rfl) ?_
  refine lv_if_eq (tgt := 29) E.hx E.hb dX9_isKind_1 (by decide) (fun c1 => ?_) (fun c1 => ?_)
  · have hf := it_t hf c1
    refine lv_iconst (v := 1) E.hx E.hb dX9_isKind_29 (by decide) ?_
    refine lv_goto (tgt := 34) E.hx E.hb dX9_isKind_30 (by decide) ?_
    cases hf
    exact sret_z E rfl dX9_isKind_34
  · have hf := it_f hf c1
    refine lv_iload_n E.hx E.hb dX9_isKind_4 rfl (lv_at hl 0 rfl) ?_
    refine lv_iload_n E.hx E.hb dX9_isKind_5 rfl (lv_at hl 1 rfl) ?_
    refine lv_icmp_eq (tgt := 29) E.hx E.hb dX9_isKind_6 (by decide) (fun c2 => ?_) (fun c2 => ?_)
    · have hf := it_t hf c2
      refine lv_iconst (v := 1) E.hx E.hb dX9_isKind_29 (by decide) ?_
      refine lv_goto (tgt := 34) E.hx E.hb dX9_isKind_30 (by decide) ?_
      cases hf
      exact sret_z E rfl dX9_isKind_34
    · have hf := it_f hf c2
      refine lv_iload_n E.hx E.hb dX9_isKind_9 rfl (lv_at hl 1 rfl) ?_
      refine lv_iconst (v := 1) E.hx E.hb dX9_isKind_10 (by decide) ?_
      refine lv_icmp_ne (tgt := 19) E.hx E.hb dX9_isKind_11 (by decide) (fun c3 => ?_) (fun c3 => ?_)
      · have hf := it_f hf c3
        exact wX9_isKind_b19 E  hf _ (lv_sub hl [0, 1] rfl)
      · have hf := it_t hf c3
        refine lv_iload_n E.hx E.hb dX9_isKind_14 rfl (lv_at hl 0 rfl) ?_
        refine lv_iconst (v := 4) E.hx E.hb dX9_isKind_15 (by decide) ?_
        refine lv_icmp_lt (tgt := 29) E.hx E.hb dX9_isKind_16 (by decide) (fun c4 => ?_) (fun c4 => ?_)
        · have hf := it_t hf c4
          refine lv_iconst (v := 1) E.hx E.hb dX9_isKind_29 (by decide) ?_
          refine lv_goto (tgt := 34) E.hx E.hb dX9_isKind_30 (by decide) ?_
          cases hf
          exact sret_z E rfl dX9_isKind_34
        · have hf := it_f hf c4
          exact wX9_isKind_b19 E  hf _ (lv_sub hl [0, 1] rfl)
theorem tX9_isKind (l : Launch) {x0 : Int32} {x1 : Int32} {r : Int32} (hf : fX9_isKind x0 x1 = some r) : Met l yX9_isKind (ws_ yX9_isKind cX9_isKind 2 (some .boolean)) rmX9_isKind (sPc [.int x0, .int x1]) (sQi r) 0 0 (fun _ => False) := by
  refine Met.ofW (cc := cX9_isKind) (maxL := 2) (ret := (some .boolean)) (by decide) rfl ?_
  intro p e s m args below meth c s₁ B hml hv
  obtain ⟨rfl, -⟩ := hv
  have hts := atoms_spec (ws := (ws_ yX9_isKind cX9_isKind 2 (some .boolean))) B.pre
  rw [lg_entry_eq]
  exact wX9_isKind_0 (E := ⟨⟨B.exec, B.bytes, hml, findClass_of_methodNamed B.named, fun w h => hts w (List.mem_cons_of_mem _ h)⟩, B.returns, B.notSynchronized⟩) hf _ (lv_entry [.int x0, .int x1] (n := 2) (Nat.le_of_ble_eq_true rfl))

theorem cwX9_245 {R : Room} {s : State} {args : Array Value} (ht : ∀ w ∈ lw_all, w.before args s = true) (hR : rmX9_isKind.frames + 1 ≤ R.frames ∧ 8 + (2 + 11) + rmX9_isKind.locals ≤ R.locals) : CallB R s args RX9 245 yX9_isKind cX9_isKind 2 (some .boolean) (ws_ yX9_isKind cX9_isKind 2 (some .boolean)) rmX9_isKind 0 0 2 ∧ (Cond.static yX9_isKind).before args s = true :=
  va_cwS 2 ht (lw_S q1620 q1621 q80 q1622) rfl rfl rfl (by decide +kernel) hR
abbrev rmX9_as : Room := { frames := 3, cells := 0, slots := 0, locals := 58 }
def fX9_as  (σ : MS) (x1 : Int32) (x2 : Int32) : Option (Int32 × MS) :=
  (fX9_isChair σ x1).bind fun (v2, σ1) =>
  if v2 = 0 then (some ((-1000001), σ1)) else ((fX9_in (x2.toInt64) 0 5).bind fun v4 =>
  if v4 = 0 then (some ((-1000001), σ1)) else ((rd (σ1 4) 41 (5 + x1)).bind fun v6 =>
  (fX9_isKind v6 x2).bind fun v7 =>
  if v7 = 0 then ((fX9_find σ1 3).bind fun (v10, σ9) =>
  some (v10, σ9)) else ((fX9_well σ1 x1).bind fun (v12, σ11) =>
  some (v12, σ11))))
theorem wX9_as_0 (E : mE p m c cX9_as 3 s args G cI cZ meth (some .int)) {σ : MS} {x1 : Int32} {x2 : Int32} (hf : fX9_as σ x1 x2 = some (r, σf)) : ∀ (H : Heap) (locs : List Loc) (ls : Array Slot), mR G cI cZ o σ H → va_S (mA o) s.heap H locs → lv_has ls 3 [(0, .ref o), (1, .int x1), (2, .int x2)] → W p l e rmX9_as s m args below meth c H locs 0 0 (MQ below (mQi G cI cZ o r σf) args s 0 0 (mA o)) (F0 m 0 ls []) := by
  intro H locs ls hR hS hl
  refine lv_aload_n E.hx E.hb dX9_as_0 rfl (lv_at hl 0 rfl) ?_
  refine lv_iload_n E.hx E.hb dX9_as_1 rfl (lv_at hl 1 rfl) ?_
  obtain ⟨⟨v2, σ1⟩, hv2, hf⟩ := bd_e hf
  refine mcall_i (rest := []) E hR hS (tX9_isChair l hv2) (cwX9_178 E.ht ⟨Nat.le_of_ble_eq_true rfl, Nat.le_of_ble_eq_true rfl⟩) rfl hl.1 rfl (Nat.le_of_ble_eq_true rfl) dX9_as_2 ⟨Nat.le_refl 0, Nat.le_refl 0⟩ (fun H locs hR hS => ?_)
  refine lv_if_eq (tgt := 20) E.hx E.hb dX9_as_5 (by decide) (fun c3 => ?_) (fun c3 => ?_)
  · have hf := it_t hf c3
    refine lv_ldc (v := (-1000001)) E.hx E.hb E.ho (E.ht _ q1319) dX9_as_20 ?_
    obtain ⟨rfl, rfl⟩ := rt_e hf
    exact mret_i E hR hS dX9_as_22
  · have hf := it_f hf c3
    refine lv_iload_n E.hx E.hb dX9_as_8 rfl (lv_at hl 2 rfl) ?_
    refine lv_i2l E.hx E.hb dX9_as_9 rfl ?_
    refine lv_lconst (v := 0) E.hx E.hb dX9_as_10 (by decide) ?_
    refine lv_ldc2 (v := 5) E.hx E.hb E.ho (E.ht _ q1510) dX9_as_11 ?_
    obtain ⟨v4, hv4, hf⟩ := bd_e hf
    refine scall_i (rest := []) E.1 (tX9_in l hv4) (cwX9_57 E.ht ⟨Nat.le_of_ble_eq_true rfl, Nat.le_of_ble_eq_true rfl⟩) rfl hl.1 rfl (Nat.le_of_ble_eq_true rfl) dX9_as_14 ⟨Nat.le_refl 0, Nat.le_refl 0⟩ ?_
    refine lv_if_ne (tgt := 23) E.hx E.hb dX9_as_17 (by decide) (fun c5 => ?_) (fun c5 => ?_)
    · have hf := it_f hf c5
      refine lv_aload_n E.hx E.hb dX9_as_23 rfl (lv_at hl 0 rfl) ?_
      refine mg_st E hR dX9_as_24 ?_
      refine lv_iconst (v := 5) E.hx E.hb dX9_as_27 (by decide) ?_
      refine lv_iload_n E.hx E.hb dX9_as_28 rfl (lv_at hl 1 rfl) ?_
      refine lv_iadd E.hx E.hb dX9_as_29 ?_
      obtain ⟨v6, hv6, hf⟩ := bd_e hf
      refine ml_st E hR hv6 dX9_as_30 ?_
      refine lv_iload_n E.hx E.hb dX9_as_31 rfl (lv_at hl 2 rfl) ?_
      obtain ⟨v7, hv7, hf⟩ := bd_e hf
      refine scall_i (rest := []) E.1 (tX9_isKind l hv7) (cwX9_245 E.ht ⟨Nat.le_of_ble_eq_true rfl, Nat.le_of_ble_eq_true rfl⟩) rfl hl.1 rfl (Nat.le_of_ble_eq_true rfl) dX9_as_32 ⟨Nat.le_refl 0, Nat.le_refl 0⟩ ?_
      refine lv_if_eq (tgt := 46) E.hx E.hb dX9_as_35 (by decide) (fun c8 => ?_) (fun c8 => ?_)
      · have hf := it_t hf c8
        refine lv_aload_n E.hx E.hb dX9_as_46 rfl (lv_at hl 0 rfl) ?_
        refine lv_iconst (v := 3) E.hx E.hb dX9_as_47 (by decide) ?_
        obtain ⟨⟨v10, σ9⟩, hv10, hf⟩ := bd_e hf
        refine mcall_i (rest := []) E hR hS (tX9_find l hv10) (cwX9_68 E.ht ⟨Nat.le_of_ble_eq_true rfl, Nat.le_of_ble_eq_true rfl⟩) rfl hl.1 rfl (Nat.le_of_ble_eq_true rfl) dX9_as_48 ⟨Nat.le_refl 0, Nat.le_refl 0⟩ (fun H locs hR hS => ?_)
        obtain ⟨rfl, rfl⟩ := rt_e hf
        exact mret_i E hR hS dX9_as_51
      · have hf := it_f hf c8
        refine lv_aload_n E.hx E.hb dX9_as_38 rfl (lv_at hl 0 rfl) ?_
        refine lv_iload_n E.hx E.hb dX9_as_39 rfl (lv_at hl 1 rfl) ?_
        obtain ⟨⟨v12, σ11⟩, hv12, hf⟩ := bd_e hf
        refine mcall_i (rest := []) E hR hS (tX9_well l hv12) (cwX9_72 E.ht ⟨Nat.le_of_ble_eq_true rfl, Nat.le_of_ble_eq_true rfl⟩) rfl hl.1 rfl (Nat.le_of_ble_eq_true rfl) dX9_as_40 ⟨Nat.le_refl 0, Nat.le_refl 0⟩ (fun H locs hR hS => ?_)
        refine lv_goto (tgt := 51) E.hx E.hb dX9_as_43 (by decide) ?_
        obtain ⟨rfl, rfl⟩ := rt_e hf
        exact mret_i E hR hS dX9_as_51
    · have hf := it_t hf c5
      refine lv_ldc (v := (-1000001)) E.hx E.hb E.ho (E.ht _ q1319) dX9_as_20 ?_
      obtain ⟨rfl, rfl⟩ := rt_e hf
      exact mret_i E hR hS dX9_as_22
theorem tX9_as (l : Launch) {G : va_G} {cI cZ : ClassId} {o : Nat} {σ σf : MS} {x1 : Int32} {x2 : Int32} {r : Int32} (hf : fX9_as σ x1 x2 = some (r, σf)) : Met l yX9_as (ws_ yX9_as cX9_as 3 (some .int)) rmX9_as (mPc G cI cZ o σ [.ref o, .int x1, .int x2]) (mQi G cI cZ o r σf) 0 0 (mA o) := by
  refine Met.ofW (cc := cX9_as) (maxL := 3) (ret := (some .int)) (by decide) rfl ?_
  intro p e s m args below meth c s₁ B hml hv
  obtain ⟨rfl, hR, hK⟩ := hv
  have hts := atoms_spec (ws := (ws_ yX9_as cX9_as 3 (some .int))) B.pre
  rw [lg_entry_eq]
  exact wX9_as_0 (E := ⟨⟨B.exec, B.bytes, hml, findClass_of_methodNamed B.named, fun w h => hts w (List.mem_cons_of_mem _ h)⟩, hK, B.returns, B.notSynchronized⟩) hf _ _ _ hR va_S.rf (lv_entry [.ref o, .int x1, .int x2] (n := 3) (Nat.le_of_ble_eq_true rfl))

abbrev rmX9_begin : Room := { frames := 1, cells := 0, slots := 0, locals := 12 }
def fX9_begin  (σ : MS) (x1 : Int32) : Option MS :=
  if 16 ≤ (σ 0 24) then (some σ) else ((mwr σ 13 16 (σ 0 24) x1).bind fun σ2 =>
  (some (up2 σ2 0 24 ((σ2 0 24) + 1))).bind fun σ3 =>
  some σ3)
theorem wX9_begin_0 (E : mE p m c cX9_begin 2 s args G cI cZ meth none) {σ : MS} {x1 : Int32} (hf : fX9_begin σ x1 = some σf) : ∀ (H : Heap) (locs : List Loc) (ls : Array Slot), mR G cI cZ o σ H → va_S (mA o) s.heap H locs → lv_has ls 2 [(0, .ref o), (1, .int x1)] → W p l e rmX9_begin s m args below meth c H locs 0 0 (MQ below (mQv G cI cZ o σf) args s 0 0 (mA o)) (F0 m 0 ls []) := by
  intro H locs ls hR hS hl
  refine lv_aload_n E.hx E.hb dX9_begin_0 rfl (lv_at hl 0 rfl) ?_
  refine mg_traced E hR dX9_begin_1 ?_
  refine lv_bipush (v := 16) E.hx E.hb dX9_begin_4 (by decide) ?_
  refine lv_icmp_ge (tgt := 29) E.hx E.hb dX9_begin_6 (by decide) (fun c1 => ?_) (fun c1 => ?_)
  · have hf := it_t hf c1
    obtain rfl := Option.some.inj hf
    exact mret_v E hR hS dX9_begin_29
  · have hf := it_f hf c1
    refine lv_aload_n E.hx E.hb dX9_begin_9 rfl (lv_at hl 0 rfl) ?_
    refine mg_trace E hR dX9_begin_10 ?_
    refine lv_aload_n E.hx E.hb dX9_begin_13 rfl (lv_at hl 0 rfl) ?_
    refine mg_traced E hR dX9_begin_14 ?_
    refine lv_iload_n E.hx E.hb dX9_begin_17 rfl (lv_at hl 1 rfl) ?_
    obtain ⟨σ2, hσ2, hf⟩ := bd_e hf
    refine ms_trace E hR hS hσ2 dX9_begin_18 (fun H locs hR hS => ?_)
    refine lv_aload_n E.hx E.hb dX9_begin_19 rfl (lv_at hl 0 rfl) ?_
    refine lv_dup E.hx E.hb dX9_begin_20 rfl ?_
    refine mg_traced E hR dX9_begin_21 ?_
    refine lv_iconst (v := 1) E.hx E.hb dX9_begin_24 (by decide) ?_
    refine lv_iadd E.hx E.hb dX9_begin_25 ?_
    obtain ⟨σ3, hσ3, hf⟩ := bd_e hf
    refine mp_traced E hR hS dX9_begin_26 (fun H locs hR hS => ?_)
    rw [Option.some.inj hσ3] at hR
    obtain rfl := Option.some.inj hf
    exact mret_v E hR hS dX9_begin_29
theorem tX9_begin (l : Launch) {G : va_G} {cI cZ : ClassId} {o : Nat} {σ σf : MS} {x1 : Int32}  (hf : fX9_begin σ x1 = some σf) : Met l yX9_begin (ws_ yX9_begin cX9_begin 2 none) rmX9_begin (mPc G cI cZ o σ [.ref o, .int x1]) (mQv G cI cZ o σf) 0 0 (mA o) := by
  refine Met.ofW (cc := cX9_begin) (maxL := 2) (ret := none) (by decide) rfl ?_
  intro p e s m args below meth c s₁ B hml hv
  obtain ⟨rfl, hR, hK⟩ := hv
  have hts := atoms_spec (ws := (ws_ yX9_begin cX9_begin 2 none)) B.pre
  rw [lg_entry_eq]
  exact wX9_begin_0 (E := ⟨⟨B.exec, B.bytes, hml, findClass_of_methodNamed B.named, fun w h => hts w (List.mem_cons_of_mem _ h)⟩, hK, B.returns, B.notSynchronized⟩) hf _ _ _ hR va_S.rf (lv_entry [.ref o, .int x1] (n := 2) (Nat.le_of_ble_eq_true rfl))

theorem cwX9_251 {R : Room} {s : State} {args : Array Value} (ht : ∀ w ∈ lw_all, w.before args s = true) (hR : rmX9_begin.frames + 1 ≤ R.frames ∧ 8 + (2 + 11) + rmX9_begin.locals ≤ R.locals) : CallW R s args RX9 RX9 251 yX9_begin cX9_begin 2 none (ws_ yX9_begin cX9_begin 2 none) rmX9_begin 0 0 1 :=
  cwV 1 ht (lw_V q1631 q1633 qs60 q80 q1634) rfl rfl rfl (by decide +kernel) hR
abbrev rmX9_lent : Room := { frames := 2, cells := 0, slots := 0, locals := 33 }
def fX9_lent  (σ : MS) (x1 : Int32) (x2 : Int32) : Option (Int32 × MS) :=
  (fX9_begin σ x2).bind fun σ1 =>
  if x2 = 10 then ((rd (σ1 4) 41 (11 + x1)).bind fun v3 =>
  some (v3, σ1)) else (some (x1, σ1))
theorem wX9_lent_0 (E : mE p m c cX9_lent 3 s args G cI cZ meth (some .int)) {σ : MS} {x1 : Int32} {x2 : Int32} (hf : fX9_lent σ x1 x2 = some (r, σf)) : ∀ (H : Heap) (locs : List Loc) (ls : Array Slot), mR G cI cZ o σ H → va_S (mA o) s.heap H locs → lv_has ls 3 [(0, .ref o), (1, .int x1), (2, .int x2)] → W p l e rmX9_lent s m args below meth c H locs 0 0 (MQ below (mQi G cI cZ o r σf) args s 0 0 (mA o)) (F0 m 0 ls []) := by
  intro H locs ls hR hS hl
  refine lv_aload_n E.hx E.hb dX9_lent_0 rfl (lv_at hl 0 rfl) ?_
  refine lv_iload_n E.hx E.hb dX9_lent_1 rfl (lv_at hl 2 rfl) ?_
  obtain ⟨σ1, hσ1, hf⟩ := bd_e hf
  refine mcall_v (rest := []) E hR hS (tX9_begin l hσ1) (cwX9_251 E.ht ⟨Nat.le_of_ble_eq_true rfl, Nat.le_of_ble_eq_true rfl⟩) rfl hl.1 rfl (Nat.le_of_ble_eq_true rfl) dX9_lent_2 ⟨Nat.le_refl 0, Nat.le_refl 0⟩ (fun H locs hR hS => ?_)
  refine lv_iload_n E.hx E.hb dX9_lent_5 rfl (lv_at hl 2 rfl) ?_
  refine lv_bipush (v := 10) E.hx E.hb dX9_lent_6 (by decide) ?_
  refine lv_icmp_ne (tgt := 23) E.hx E.hb dX9_lent_8 (by decide) (fun c2 => ?_) (fun c2 => ?_)
  · have hf := it_f hf c2
    refine lv_iload_n E.hx E.hb dX9_lent_23 rfl (lv_at hl 1 rfl) ?_
    obtain ⟨rfl, rfl⟩ := rt_e hf
    exact mret_i E hR hS dX9_lent_24
  · have hf := it_t hf c2
    refine lv_aload_n E.hx E.hb dX9_lent_11 rfl (lv_at hl 0 rfl) ?_
    refine mg_st E hR dX9_lent_12 ?_
    refine lv_bipush (v := 11) E.hx E.hb dX9_lent_15 (by decide) ?_
    refine lv_iload_n E.hx E.hb dX9_lent_17 rfl (lv_at hl 1 rfl) ?_
    refine lv_iadd E.hx E.hb dX9_lent_18 ?_
    obtain ⟨v3, hv3, hf⟩ := bd_e hf
    refine ml_st E hR hv3 dX9_lent_19 ?_
    refine lv_goto (tgt := 24) E.hx E.hb dX9_lent_20 (by decide) ?_
    obtain ⟨rfl, rfl⟩ := rt_e hf
    exact mret_i E hR hS dX9_lent_24
theorem tX9_lent (l : Launch) {G : va_G} {cI cZ : ClassId} {o : Nat} {σ σf : MS} {x1 : Int32} {x2 : Int32} {r : Int32} (hf : fX9_lent σ x1 x2 = some (r, σf)) : Met l yX9_lent (ws_ yX9_lent cX9_lent 3 (some .int)) rmX9_lent (mPc G cI cZ o σ [.ref o, .int x1, .int x2]) (mQi G cI cZ o r σf) 0 0 (mA o) := by
  refine Met.ofW (cc := cX9_lent) (maxL := 3) (ret := (some .int)) (by decide) rfl ?_
  intro p e s m args below meth c s₁ B hml hv
  obtain ⟨rfl, hR, hK⟩ := hv
  have hts := atoms_spec (ws := (ws_ yX9_lent cX9_lent 3 (some .int))) B.pre
  rw [lg_entry_eq]
  exact wX9_lent_0 (E := ⟨⟨B.exec, B.bytes, hml, findClass_of_methodNamed B.named, fun w h => hts w (List.mem_cons_of_mem _ h)⟩, hK, B.returns, B.notSynchronized⟩) hf _ _ _ hR va_S.rf (lv_entry [.ref o, .int x1, .int x2] (n := 3) (Nat.le_of_ble_eq_true rfl))

theorem cwX9_254 {R : Room} {s : State} {args : Array Value} (ht : ∀ w ∈ lw_all, w.before args s = true) (hR : rmX9_lent.frames + 1 ≤ R.frames ∧ 8 + (3 + 11) + rmX9_lent.locals ≤ R.locals) : CallW R s args RX9 RX9 254 yX9_lent cX9_lent 3 (some .int) (ws_ yX9_lent cX9_lent 3 (some .int)) rmX9_lent 0 0 2 :=
  cwV 2 ht (lw_V q1639 q1641 qs62 q80 q1642) rfl rfl rfl (by decide +kernel) hR
abbrev rmX9_plainMark : Room := { frames := 3, cells := 0, slots := 0, locals := 55 }
def fX9_plainMark  (σ : MS) (x1 : Int32) : Option (Int32 × MS) :=
  (fX9_begin σ 21).bind fun σ1 =>
  (fX9_lent σ1 x1 20).bind fun (v3, σ2) =>
  (rd (σ2 4) 41 (29 + x1)).bind fun v4 =>
  some ((v3 + v4), σ2)
theorem wX9_plainMark_0 (E : mE p m c cX9_plainMark 2 s args G cI cZ meth (some .int)) {σ : MS} {x1 : Int32} (hf : fX9_plainMark σ x1 = some (r, σf)) : ∀ (H : Heap) (locs : List Loc) (ls : Array Slot), mR G cI cZ o σ H → va_S (mA o) s.heap H locs → lv_has ls 2 [(0, .ref o), (1, .int x1)] → W p l e rmX9_plainMark s m args below meth c H locs 0 0 (MQ below (mQi G cI cZ o r σf) args s 0 0 (mA o)) (F0 m 0 ls []) := by
  intro H locs ls hR hS hl
  refine lv_aload_n E.hx E.hb dX9_plainMark_0 rfl (lv_at hl 0 rfl) ?_
  refine lv_bipush (v := 21) E.hx E.hb dX9_plainMark_1 (by decide) ?_
  obtain ⟨σ1, hσ1, hf⟩ := bd_e hf
  refine mcall_v (rest := []) E hR hS (tX9_begin l hσ1) (cwX9_251 E.ht ⟨Nat.le_of_ble_eq_true rfl, Nat.le_of_ble_eq_true rfl⟩) rfl hl.1 rfl (Nat.le_of_ble_eq_true rfl) dX9_plainMark_3 ⟨Nat.le_refl 0, Nat.le_refl 0⟩ (fun H locs hR hS => ?_)
  refine lv_aload_n E.hx E.hb dX9_plainMark_6 rfl (lv_at hl 0 rfl) ?_
  refine lv_iload_n E.hx E.hb dX9_plainMark_7 rfl (lv_at hl 1 rfl) ?_
  refine lv_bipush (v := 20) E.hx E.hb dX9_plainMark_8 (by decide) ?_
  obtain ⟨⟨v3, σ2⟩, hv3, hf⟩ := bd_e hf
  refine mcall_i (rest := []) E hR hS (tX9_lent l hv3) (cwX9_254 E.ht ⟨Nat.le_of_ble_eq_true rfl, Nat.le_of_ble_eq_true rfl⟩) rfl hl.1 rfl (Nat.le_of_ble_eq_true rfl) dX9_plainMark_10 ⟨Nat.le_refl 0, Nat.le_refl 0⟩ (fun H locs hR hS => ?_)
  refine lv_aload_n E.hx E.hb dX9_plainMark_13 rfl (lv_at hl 0 rfl) ?_
  refine mg_st E hR dX9_plainMark_14 ?_
  refine lv_bipush (v := 29) E.hx E.hb dX9_plainMark_17 (by decide) ?_
  refine lv_iload_n E.hx E.hb dX9_plainMark_19 rfl (lv_at hl 1 rfl) ?_
  refine lv_iadd E.hx E.hb dX9_plainMark_20 ?_
  obtain ⟨v4, hv4, hf⟩ := bd_e hf
  refine ml_st E hR hv4 dX9_plainMark_21 ?_
  refine lv_iadd E.hx E.hb dX9_plainMark_22 ?_
  obtain ⟨rfl, rfl⟩ := rt_e hf
  exact mret_i E hR hS dX9_plainMark_23
theorem tX9_plainMark (l : Launch) {G : va_G} {cI cZ : ClassId} {o : Nat} {σ σf : MS} {x1 : Int32} {r : Int32} (hf : fX9_plainMark σ x1 = some (r, σf)) : Met l yX9_plainMark (ws_ yX9_plainMark cX9_plainMark 2 (some .int)) rmX9_plainMark (mPc G cI cZ o σ [.ref o, .int x1]) (mQi G cI cZ o r σf) 0 0 (mA o) := by
  refine Met.ofW (cc := cX9_plainMark) (maxL := 2) (ret := (some .int)) (by decide) rfl ?_
  intro p e s m args below meth c s₁ B hml hv
  obtain ⟨rfl, hR, hK⟩ := hv
  have hts := atoms_spec (ws := (ws_ yX9_plainMark cX9_plainMark 2 (some .int))) B.pre
  rw [lg_entry_eq]
  exact wX9_plainMark_0 (E := ⟨⟨B.exec, B.bytes, hml, findClass_of_methodNamed B.named, fun w h => hts w (List.mem_cons_of_mem _ h)⟩, hK, B.returns, B.notSynchronized⟩) hf _ _ _ hR va_S.rf (lv_entry [.ref o, .int x1] (n := 2) (Nat.le_of_ble_eq_true rfl))

abbrev rmX9_oakSize : Room := { frames := 3, cells := 0, slots := 0, locals := 55 }
def fX9_oakSize  (σ : MS) (x1 : Int32) : Option (Int32 × MS) :=
  (fX9_begin σ 13).bind fun σ1 =>
  (fX9_lent σ1 x1 10).bind fun (v3, σ2) =>
  some ((v3 - 100), σ2)
theorem wX9_oakSize_0 (E : mE p m c cX9_oakSize 2 s args G cI cZ meth (some .int)) {σ : MS} {x1 : Int32} (hf : fX9_oakSize σ x1 = some (r, σf)) : ∀ (H : Heap) (locs : List Loc) (ls : Array Slot), mR G cI cZ o σ H → va_S (mA o) s.heap H locs → lv_has ls 2 [(0, .ref o), (1, .int x1)] → W p l e rmX9_oakSize s m args below meth c H locs 0 0 (MQ below (mQi G cI cZ o r σf) args s 0 0 (mA o)) (F0 m 0 ls []) := by
  intro H locs ls hR hS hl
  refine lv_aload_n E.hx E.hb dX9_oakSize_0 rfl (lv_at hl 0 rfl) ?_
  refine lv_bipush (v := 13) E.hx E.hb dX9_oakSize_1 (by decide) ?_
  obtain ⟨σ1, hσ1, hf⟩ := bd_e hf
  refine mcall_v (rest := []) E hR hS (tX9_begin l hσ1) (cwX9_251 E.ht ⟨Nat.le_of_ble_eq_true rfl, Nat.le_of_ble_eq_true rfl⟩) rfl hl.1 rfl (Nat.le_of_ble_eq_true rfl) dX9_oakSize_3 ⟨Nat.le_refl 0, Nat.le_refl 0⟩ (fun H locs hR hS => ?_)
  refine lv_aload_n E.hx E.hb dX9_oakSize_6 rfl (lv_at hl 0 rfl) ?_
  refine lv_iload_n E.hx E.hb dX9_oakSize_7 rfl (lv_at hl 1 rfl) ?_
  refine lv_bipush (v := 10) E.hx E.hb dX9_oakSize_8 (by decide) ?_
  obtain ⟨⟨v3, σ2⟩, hv3, hf⟩ := bd_e hf
  refine mcall_i (rest := []) E hR hS (tX9_lent l hv3) (cwX9_254 E.ht ⟨Nat.le_of_ble_eq_true rfl, Nat.le_of_ble_eq_true rfl⟩) rfl hl.1 rfl (Nat.le_of_ble_eq_true rfl) dX9_oakSize_10 ⟨Nat.le_refl 0, Nat.le_refl 0⟩ (fun H locs hR hS => ?_)
  refine lv_bipush (v := 100) E.hx E.hb dX9_oakSize_13 (by decide) ?_
  refine lv_isub E.hx E.hb dX9_oakSize_15 ?_
  obtain ⟨rfl, rfl⟩ := rt_e hf
  exact mret_i E hR hS dX9_oakSize_16
theorem tX9_oakSize (l : Launch) {G : va_G} {cI cZ : ClassId} {o : Nat} {σ σf : MS} {x1 : Int32} {r : Int32} (hf : fX9_oakSize σ x1 = some (r, σf)) : Met l yX9_oakSize (ws_ yX9_oakSize cX9_oakSize 2 (some .int)) rmX9_oakSize (mPc G cI cZ o σ [.ref o, .int x1]) (mQi G cI cZ o r σf) 0 0 (mA o) := by
  refine Met.ofW (cc := cX9_oakSize) (maxL := 2) (ret := (some .int)) (by decide) rfl ?_
  intro p e s m args below meth c s₁ B hml hv
  obtain ⟨rfl, hR, hK⟩ := hv
  have hts := atoms_spec (ws := (ws_ yX9_oakSize cX9_oakSize 2 (some .int))) B.pre
  rw [lg_entry_eq]
  exact wX9_oakSize_0 (E := ⟨⟨B.exec, B.bytes, hml, findClass_of_methodNamed B.named, fun w h => hts w (List.mem_cons_of_mem _ h)⟩, hK, B.returns, B.notSynchronized⟩) hf _ _ _ hR va_S.rf (lv_entry [.ref o, .int x1] (n := 2) (Nat.le_of_ble_eq_true rfl))

theorem cwX9_257 {R : Room} {s : State} {args : Array Value} (ht : ∀ w ∈ lw_all, w.before args s = true) (hR : rmX9_oakSize.frames + 1 ≤ R.frames ∧ 8 + (2 + 11) + rmX9_oakSize.locals ≤ R.locals) : CallW R s args RX9 RX9 257 yX9_oakSize cX9_oakSize 2 (some .int) (ws_ yX9_oakSize cX9_oakSize 2 (some .int)) rmX9_oakSize 0 0 1 :=
  cwV 1 ht (lw_V q1655 q1657 qs66 q80 q1658) rfl rfl rfl (by decide +kernel) hR
abbrev rmX9_sizeOfOak : Room := { frames := 4, cells := 0, slots := 0, locals := 76 }
def fX9_sizeOfOak  (σ : MS) (x1 : Int32) : Option (Int32 × MS) :=
  (rd (σ 4) 41 (5 + x1)).bind fun v1 =>
  if v1 = 5 then ((fX9_begin σ 14).bind fun σ5 =>
  (fX9_oakSize σ5 x1).bind fun (v7, σ6) =>
  some ((2 * v7), σ6)) else ((fX9_oakSize σ x1).bind fun (v4, σ3) =>
  some (v4, σ3))
theorem wX9_sizeOfOak_0 (E : mE p m c cX9_sizeOfOak 2 s args G cI cZ meth (some .int)) {σ : MS} {x1 : Int32} (hf : fX9_sizeOfOak σ x1 = some (r, σf)) : ∀ (H : Heap) (locs : List Loc) (ls : Array Slot), mR G cI cZ o σ H → va_S (mA o) s.heap H locs → lv_has ls 2 [(0, .ref o), (1, .int x1)] → W p l e rmX9_sizeOfOak s m args below meth c H locs 0 0 (MQ below (mQi G cI cZ o r σf) args s 0 0 (mA o)) (F0 m 0 ls []) := by
  intro H locs ls hR hS hl
  refine lv_aload_n E.hx E.hb dX9_sizeOfOak_0 rfl (lv_at hl 0 rfl) ?_
  refine mg_st E hR dX9_sizeOfOak_1 ?_
  refine lv_iconst (v := 5) E.hx E.hb dX9_sizeOfOak_4 (by decide) ?_
  refine lv_iload_n E.hx E.hb dX9_sizeOfOak_5 rfl (lv_at hl 1 rfl) ?_
  refine lv_iadd E.hx E.hb dX9_sizeOfOak_6 ?_
  obtain ⟨v1, hv1, hf⟩ := bd_e hf
  refine ml_st E hR hv1 dX9_sizeOfOak_7 ?_
  refine lv_iconst (v := 5) E.hx E.hb dX9_sizeOfOak_8 (by decide) ?_
  refine lv_icmp_ne (tgt := 26) E.hx E.hb dX9_sizeOfOak_9 (by decide) (fun c2 => ?_) (fun c2 => ?_)
  · have hf := it_f hf c2
    refine lv_aload_n E.hx E.hb dX9_sizeOfOak_26 rfl (lv_at hl 0 rfl) ?_
    refine lv_iload_n E.hx E.hb dX9_sizeOfOak_27 rfl (lv_at hl 1 rfl) ?_
    obtain ⟨⟨v4, σ3⟩, hv4, hf⟩ := bd_e hf
    refine mcall_i (rest := []) E hR hS (tX9_oakSize l hv4) (cwX9_257 E.ht ⟨Nat.le_of_ble_eq_true rfl, Nat.le_of_ble_eq_true rfl⟩) rfl hl.1 rfl (Nat.le_of_ble_eq_true rfl) dX9_sizeOfOak_28 ⟨Nat.le_refl 0, Nat.le_refl 0⟩ (fun H locs hR hS => ?_)
    obtain ⟨rfl, rfl⟩ := rt_e hf
    exact mret_i E hR hS dX9_sizeOfOak_31
  · have hf := it_t hf c2
    refine lv_aload_n E.hx E.hb dX9_sizeOfOak_12 rfl (lv_at hl 0 rfl) ?_
    refine lv_bipush (v := 14) E.hx E.hb dX9_sizeOfOak_13 (by decide) ?_
    obtain ⟨σ5, hσ5, hf⟩ := bd_e hf
    refine mcall_v (rest := []) E hR hS (tX9_begin l hσ5) (cwX9_251 E.ht ⟨Nat.le_of_ble_eq_true rfl, Nat.le_of_ble_eq_true rfl⟩) rfl hl.1 rfl (Nat.le_of_ble_eq_true rfl) dX9_sizeOfOak_15 ⟨Nat.le_refl 0, Nat.le_refl 0⟩ (fun H locs hR hS => ?_)
    refine lv_iconst (v := 2) E.hx E.hb dX9_sizeOfOak_18 (by decide) ?_
    refine lv_aload_n E.hx E.hb dX9_sizeOfOak_19 rfl (lv_at hl 0 rfl) ?_
    refine lv_iload_n E.hx E.hb dX9_sizeOfOak_20 rfl (lv_at hl 1 rfl) ?_
    obtain ⟨⟨v7, σ6⟩, hv7, hf⟩ := bd_e hf
    refine mcall_i (rest := [.int 2]) E hR hS (tX9_oakSize l hv7) (cwX9_257 E.ht ⟨Nat.le_of_ble_eq_true rfl, Nat.le_of_ble_eq_true rfl⟩) rfl hl.1 rfl (Nat.le_of_ble_eq_true rfl) dX9_sizeOfOak_21 ⟨Nat.le_refl 0, Nat.le_refl 0⟩ (fun H locs hR hS => ?_)
    refine lv_imul E.hx E.hb dX9_sizeOfOak_24 ?_
    obtain ⟨rfl, rfl⟩ := rt_e hf
    exact mret_i E hR hS dX9_sizeOfOak_25
theorem tX9_sizeOfOak (l : Launch) {G : va_G} {cI cZ : ClassId} {o : Nat} {σ σf : MS} {x1 : Int32} {r : Int32} (hf : fX9_sizeOfOak σ x1 = some (r, σf)) : Met l yX9_sizeOfOak (ws_ yX9_sizeOfOak cX9_sizeOfOak 2 (some .int)) rmX9_sizeOfOak (mPc G cI cZ o σ [.ref o, .int x1]) (mQi G cI cZ o r σf) 0 0 (mA o) := by
  refine Met.ofW (cc := cX9_sizeOfOak) (maxL := 2) (ret := (some .int)) (by decide) rfl ?_
  intro p e s m args below meth c s₁ B hml hv
  obtain ⟨rfl, hR, hK⟩ := hv
  have hts := atoms_spec (ws := (ws_ yX9_sizeOfOak cX9_sizeOfOak 2 (some .int))) B.pre
  rw [lg_entry_eq]
  exact wX9_sizeOfOak_0 (E := ⟨⟨B.exec, B.bytes, hml, findClass_of_methodNamed B.named, fun w h => hts w (List.mem_cons_of_mem _ h)⟩, hK, B.returns, B.notSynchronized⟩) hf _ _ _ hR va_S.rf (lv_entry [.ref o, .int x1] (n := 2) (Nat.le_of_ble_eq_true rfl))
end
