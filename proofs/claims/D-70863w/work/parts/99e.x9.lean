set_option maxRecDepth 100000
section
variable {p : Program} {l : Launch} {e : Env} {R : Room} {s : State} {m : MethodId} {args : Array Value} {below : List Frame} {meth : Method} {c : Code} {H : Heap} {locs : List Loc} {cells slots : Nat} {Q : State → Prop} {cc : ByteArray} {pc nL : Nat} {ls : Array Slot} {rest : List Value} {D : va_G} {cA : Nat → ClassId} {A : Nat → Prop} {Zs : XZ} {X X' : AH} {ret : Option FieldType} {a : Nat}
end
abbrev rmX14_mark : Room := { frames := 2, cells := 0, slots := 0, locals := 33 }
theorem cwX14_1 {R : Room} {s : State} {args : Array Value} (ht : ∀ w ∈ lw_all, w.before args s = true) (hR : rmX2_begins.frames + 1 ≤ R.frames ∧ 8 + (2 + 11) + rmX2_begins.locals ≤ R.locals) : CallW R s args RX14 RX2 1 yX2_begins cX2_begins 2 none (ws_ yX2_begins cX2_begins 2 none) rmX2_begins 0 0 1 :=
  cwV 1 ht (lw_V q1156 q1133 q1134 q73 q1135) rfl rfl rfl (by decide +kernel) hR
theorem cwX14_7_X4 {R : Room} {s : State} {args : Array Value} (ht : ∀ w ∈ lw_all, w.before args s = true) (hF : va_Fw "ChairRanks$Plain" ⟨"ChairRanks$Marked", "number", "()I"⟩ ⟨"ChairRanks$Chair", "number", "()I"⟩ s) (hR : rmX3_number.frames + 1 ≤ R.frames ∧ 8 + (1 + 11) + rmX3_number.locals ≤ R.locals) : va_CI R s args RX14 "ChairRanks$Plain" 7 ⟨"ChairRanks$Marked", "number", "()I"⟩ yX3_number cX3_number 1 (some .int) (ws_ yX3_number cX3_number 1 (some .int)) rmX3_number 0 0 0 :=
  va_cwF (ws := (ws_ yX3_number cX3_number 1 (some .int))) 0 ht (xwsF q1158 q1169 q1114 q74 (lw_meth q1121)) rfl rfl rfl hF (by decide +kernel) hR
theorem cwX14_7_X5 {R : Room} {s : State} {args : Array Value} (ht : ∀ w ∈ lw_all, w.before args s = true) (hF : va_Fw "ChairRanks$Rocker" ⟨"ChairRanks$Marked", "number", "()I"⟩ ⟨"ChairRanks$Chair", "number", "()I"⟩ s) (hR : rmX3_number.frames + 1 ≤ R.frames ∧ 8 + (1 + 11) + rmX3_number.locals ≤ R.locals) : va_CI R s args RX14 "ChairRanks$Rocker" 7 ⟨"ChairRanks$Marked", "number", "()I"⟩ yX3_number cX3_number 1 (some .int) (ws_ yX3_number cX3_number 1 (some .int)) rmX3_number 0 0 0 :=
  va_cwF (ws := (ws_ yX3_number cX3_number 1 (some .int))) 0 ht (xwsF q1158 q1172 q1114 q74 (lw_meth q1121)) rfl rfl rfl hF (by decide +kernel) hR
theorem cwX14_7_X6 {R : Room} {s : State} {args : Array Value} (ht : ∀ w ∈ lw_all, w.before args s = true) (hF : va_Fw "ChairRanks$Cushioned" ⟨"ChairRanks$Marked", "number", "()I"⟩ ⟨"ChairRanks$Chair", "number", "()I"⟩ s) (hR : rmX3_number.frames + 1 ≤ R.frames ∧ 8 + (1 + 11) + rmX3_number.locals ≤ R.locals) : va_CI R s args RX14 "ChairRanks$Cushioned" 7 ⟨"ChairRanks$Marked", "number", "()I"⟩ yX3_number cX3_number 1 (some .int) (ws_ yX3_number cX3_number 1 (some .int)) rmX3_number 0 0 0 :=
  va_cwF (ws := (ws_ yX3_number cX3_number 1 (some .int))) 0 ht (xwsF q1158 q1162 q1114 q74 (lw_meth q1121)) rfl rfl rfl hF (by decide +kernel) hR
theorem cwX14_7_X7 {R : Room} {s : State} {args : Array Value} (ht : ∀ w ∈ lw_all, w.before args s = true) (hF : va_Fw "ChairRanks$Oak" ⟨"ChairRanks$Marked", "number", "()I"⟩ ⟨"ChairRanks$Chair", "number", "()I"⟩ s) (hR : rmX3_number.frames + 1 ≤ R.frames ∧ 8 + (1 + 11) + rmX3_number.locals ≤ R.locals) : va_CI R s args RX14 "ChairRanks$Oak" 7 ⟨"ChairRanks$Marked", "number", "()I"⟩ yX3_number cX3_number 1 (some .int) (ws_ yX3_number cX3_number 1 (some .int)) rmX3_number 0 0 0 :=
  va_cwF (ws := (ws_ yX3_number cX3_number 1 (some .int))) 0 ht (xwsF q1158 q1166 q1114 q74 (lw_meth q1121)) rfl rfl rfl hF (by decide +kernel) hR
theorem cwX14_7_X8 {R : Room} {s : State} {args : Array Value} (ht : ∀ w ∈ lw_all, w.before args s = true) (hF : va_Fw "ChairRanks$Throne" ⟨"ChairRanks$Marked", "number", "()I"⟩ ⟨"ChairRanks$Chair", "number", "()I"⟩ s) (hR : rmX3_number.frames + 1 ≤ R.frames ∧ 8 + (1 + 11) + rmX3_number.locals ≤ R.locals) : va_CI R s args RX14 "ChairRanks$Throne" 7 ⟨"ChairRanks$Marked", "number", "()I"⟩ yX3_number cX3_number 1 (some .int) (ws_ yX3_number cX3_number 1 (some .int)) rmX3_number 0 0 0 :=
  va_cwF (ws := (ws_ yX3_number cX3_number 1 (some .int))) 0 ht (xwsF q1158 q1175 q1114 q74 (lw_meth q1121)) rfl rfl rfl hF (by decide +kernel) hR
section
variable {p : Program} {l : Launch} {e : Env} {s : State} {m : MethodId} {args : Array Value} {below : List Frame} {meth : Method} {c : Code} {D : va_G} {cA : Nat → ClassId} {A : Nat → Prop} {Zs : XZ} {Xf : AH} {r : Int32} {rl : Int64} {ra : Nat} {tv : Unit ⊕ Nat} {ti : Int32 ⊕ Nat} {tr : Nat ⊕ Nat} {q2 : Option Nat}
def fX14_mark  (X : AH) (x0 : Nat) (x1 : Nat) (x2 : Nat) : Option (Int32 × AH) :=
  (ck X x1 2).bind fun _ =>
  (fX2_begins X x1 20).bind fun X2 =>
  (gC X2 x0).bind fun k4 =>
  if k4 = 4 then ((fX3_number X2 x0).bind fun (v18, X17) =>
  some (v18, X17)) else (if k4 = 5 then ((fX3_number X2 x0).bind fun (v15, X14) =>
  some (v15, X14)) else (if k4 = 6 then ((fX3_number X2 x0).bind fun (v12, X11) =>
  some (v12, X11)) else (if k4 = 7 then ((fX3_number X2 x0).bind fun (v9, X8) =>
  some (v9, X8)) else (if k4 = 8 then ((fX3_number X2 x0).bind fun (v6, X5) =>
  some (v6, X5)) else none))))
theorem wX14_mark_0 (E : xE p m c cX14_mark 3 s args RX14 D cA A Zs meth (some .int)) {X : AH} {x0 : Nat} {x1 : Nat} {x2 : Nat} (hf : fX14_mark X x0 x1 x2 = some (r, Xf)) : ∀ (H : Heap) (locs : List Loc) (ls : Array Slot) (cells slots : Nat), cells + 0 ≤ 0 → slots + 0 ≤ 0 → xR D cA A Zs X H → va_S A s.heap H locs → lv_has ls 3 [(0, .ref x0), (1, .ref x1), (2, .ref x2)] → W p l e rmX14_mark s m args below meth c H locs cells slots (MQ below (xQi D cA A Zs r Xf) args s 0 0 A) (F0 m 0 ls []) := by
  intro H locs ls cells slots hc hs hR hS hl
  refine lv_aload_n E.hx E.hb dX14_mark_0 rfl (lv_at hl 1 rfl) ?_
  refine lv_bipush (v := 20) E.hx E.hb dX14_mark_1 (by decide) ?_
  obtain ⟨u1, hu1, hf⟩ := bd_e hf
  obtain ⟨X2, hX2, hf⟩ := bd_e hf
  refine xrun_v (va_runV (As := [.int 20]) (rest := []) E.1 (tX2_begins l hX2) (cwX14_1 E.ht ⟨Nat.le_of_ble_eq_true rfl, Nat.le_of_ble_eq_true rfl⟩) (xPreV (ci := 2) E hR hS rfl (ck_e hu1)) rfl rfl hl.1 rfl (lv_room (Nat.le_of_ble_eq_true rfl)) dX14_mark_3 ⟨Nat.le_trans (by omega) (Nat.le_refl 0), Nat.le_trans (by omega) (Nat.le_refl 0)⟩) hS (fun H locs hR hS => ?_)
  refine lv_aload_n E.hx E.hb dX14_mark_6 rfl (lv_at hl 0 rfl) ?_
  obtain ⟨k4, hk4, hf⟩ := bd_e hf
  by_cases c19 : k4 = 4
  · have hf := it_t hf c19
    obtain ⟨⟨v18, X17⟩, hv18, hf⟩ := bd_e hf
    refine xrun5_i (va_runF (As := []) (rest := []) (xClassAt (ci := 4) E rfl) E.1 (tX3_number l hv18) (cwX14_7_X4 E.ht (E.2.1.2.2.2.2.2.2.1 ("ChairRanks$Plain", ⟨"ChairRanks$Marked", "number", "()I"⟩, ⟨"ChairRanks$Chair", "number", "()I"⟩) (by decide +kernel)) ⟨Nat.le_of_ble_eq_true rfl, Nat.le_of_ble_eq_true rfl⟩) (xPreV (ci := 4) E hR hS rfl (hk4.trans (congrArg some c19))) rfl rfl hl.1 rfl (lv_room (Nat.le_of_ble_eq_true rfl)) dX14_mark_7 ⟨Nat.le_trans (by omega) (Nat.le_refl 0), Nat.le_trans (by omega) (Nat.le_refl 0)⟩) hS (fun H locs hR hS => ?_)
    obtain ⟨rfl, rfl⟩ := rt_e hf
    exact xret_i E (by omega) (by omega) hR hS dX14_mark_12
  · have hf := it_f hf c19
    by_cases c16 : k4 = 5
    · have hf := it_t hf c16
      obtain ⟨⟨v15, X14⟩, hv15, hf⟩ := bd_e hf
      refine xrun5_i (va_runF (As := []) (rest := []) (xClassAt (ci := 5) E rfl) E.1 (tX3_number l hv15) (cwX14_7_X5 E.ht (E.2.1.2.2.2.2.2.2.1 ("ChairRanks$Rocker", ⟨"ChairRanks$Marked", "number", "()I"⟩, ⟨"ChairRanks$Chair", "number", "()I"⟩) (by decide +kernel)) ⟨Nat.le_of_ble_eq_true rfl, Nat.le_of_ble_eq_true rfl⟩) (xPreV (ci := 5) E hR hS rfl (hk4.trans (congrArg some c16))) rfl rfl hl.1 rfl (lv_room (Nat.le_of_ble_eq_true rfl)) dX14_mark_7 ⟨Nat.le_trans (by omega) (Nat.le_refl 0), Nat.le_trans (by omega) (Nat.le_refl 0)⟩) hS (fun H locs hR hS => ?_)
      obtain ⟨rfl, rfl⟩ := rt_e hf
      exact xret_i E (by omega) (by omega) hR hS dX14_mark_12
    · have hf := it_f hf c16
      by_cases c13 : k4 = 6
      · have hf := it_t hf c13
        obtain ⟨⟨v12, X11⟩, hv12, hf⟩ := bd_e hf
        refine xrun5_i (va_runF (As := []) (rest := []) (xClassAt (ci := 6) E rfl) E.1 (tX3_number l hv12) (cwX14_7_X6 E.ht (E.2.1.2.2.2.2.2.2.1 ("ChairRanks$Cushioned", ⟨"ChairRanks$Marked", "number", "()I"⟩, ⟨"ChairRanks$Chair", "number", "()I"⟩) (by decide +kernel)) ⟨Nat.le_of_ble_eq_true rfl, Nat.le_of_ble_eq_true rfl⟩) (xPreV (ci := 6) E hR hS rfl (hk4.trans (congrArg some c13))) rfl rfl hl.1 rfl (lv_room (Nat.le_of_ble_eq_true rfl)) dX14_mark_7 ⟨Nat.le_trans (by omega) (Nat.le_refl 0), Nat.le_trans (by omega) (Nat.le_refl 0)⟩) hS (fun H locs hR hS => ?_)
        obtain ⟨rfl, rfl⟩ := rt_e hf
        exact xret_i E (by omega) (by omega) hR hS dX14_mark_12
      · have hf := it_f hf c13
        by_cases c10 : k4 = 7
        · have hf := it_t hf c10
          obtain ⟨⟨v9, X8⟩, hv9, hf⟩ := bd_e hf
          refine xrun5_i (va_runF (As := []) (rest := []) (xClassAt (ci := 7) E rfl) E.1 (tX3_number l hv9) (cwX14_7_X7 E.ht (E.2.1.2.2.2.2.2.2.1 ("ChairRanks$Oak", ⟨"ChairRanks$Marked", "number", "()I"⟩, ⟨"ChairRanks$Chair", "number", "()I"⟩) (by decide +kernel)) ⟨Nat.le_of_ble_eq_true rfl, Nat.le_of_ble_eq_true rfl⟩) (xPreV (ci := 7) E hR hS rfl (hk4.trans (congrArg some c10))) rfl rfl hl.1 rfl (lv_room (Nat.le_of_ble_eq_true rfl)) dX14_mark_7 ⟨Nat.le_trans (by omega) (Nat.le_refl 0), Nat.le_trans (by omega) (Nat.le_refl 0)⟩) hS (fun H locs hR hS => ?_)
          obtain ⟨rfl, rfl⟩ := rt_e hf
          exact xret_i E (by omega) (by omega) hR hS dX14_mark_12
        · have hf := it_f hf c10
          by_cases c7 : k4 = 8
          · have hf := it_t hf c7
            obtain ⟨⟨v6, X5⟩, hv6, hf⟩ := bd_e hf
            refine xrun5_i (va_runF (As := []) (rest := []) (xClassAt (ci := 8) E rfl) E.1 (tX3_number l hv6) (cwX14_7_X8 E.ht (E.2.1.2.2.2.2.2.2.1 ("ChairRanks$Throne", ⟨"ChairRanks$Marked", "number", "()I"⟩, ⟨"ChairRanks$Chair", "number", "()I"⟩) (by decide +kernel)) ⟨Nat.le_of_ble_eq_true rfl, Nat.le_of_ble_eq_true rfl⟩) (xPreV (ci := 8) E hR hS rfl (hk4.trans (congrArg some c7))) rfl rfl hl.1 rfl (lv_room (Nat.le_of_ble_eq_true rfl)) dX14_mark_7 ⟨Nat.le_trans (by omega) (Nat.le_refl 0), Nat.le_trans (by omega) (Nat.le_refl 0)⟩) hS (fun H locs hR hS => ?_)
            obtain ⟨rfl, rfl⟩ := rt_e hf
            exact xret_i E (by omega) (by omega) hR hS dX14_mark_12
          · have hf := it_f hf c7
            have hf : none = some (r, Xf) := hf
            cases hf
theorem tX14_mark (l : Launch) {D : va_G} {cA : Nat → ClassId} {A : Nat → Prop} {Zs : XZ} {X Xf : AH} {x0 : Nat} {x1 : Nat} {x2 : Nat} {r : Int32} (hf : fX14_mark X x0 x1 x2 = some (r, Xf)) : Met l yX14_mark (ws_ yX14_mark cX14_mark 3 (some .int)) rmX14_mark (xPc D cA A Zs X [.ref x0, .ref x1, .ref x2]) (xQi D cA A Zs r Xf) 0 0 A := by
  refine Met.ofW (cc := cX14_mark) (maxL := 3) (ret := (some .int)) (by decide) rfl ?_
  intro p e s m args below meth c s₁ B hml hv
  obtain ⟨rfl, hR, hK⟩ := hv
  have hts := atoms_spec (ws := (ws_ yX14_mark cX14_mark 3 (some .int))) B.pre
  rw [lg_entry_eq]
  exact wX14_mark_0 (E := ⟨⟨B.exec, B.bytes, hml, findClass_of_methodNamed B.named, fun w h => hts w (List.mem_cons_of_mem _ h)⟩, hK, B.returns, B.notSynchronized⟩) hf _ _ _ 0 0 (Nat.le_of_ble_eq_true rfl) (Nat.le_of_ble_eq_true rfl) hR va_S.rf (lv_entry [.ref x0, .ref x1, .ref x2] (n := 3) (Nat.le_of_ble_eq_true rfl))
end
