set_option maxRecDepth 100000
section
variable {p : Program} {l : Launch} {e : Env} {R : Room} {s : State} {m : MethodId} {args : Array Value} {below : List Frame} {meth : Method} {c : Code} {H : Heap} {locs : List Loc} {cells slots : Nat} {Q : State → Prop} {cc : ByteArray} {pc nL : Nat} {ls : Array Slot} {rest : List Value} {D : va_G} {cA : Nat → ClassId} {A : Nat → Prop} {Zs : XZ} {X X' : AH} {ret : Option FieldType} {a : Nat}
theorem xgX0_50 {v : Nat} (E : xE p m c cc nL s args RX0 D cA A Zs meth ret) (hR : xR D cA A Zs X H) (h : gR X a 0 8 = some v) (hdg : decode cc pc = .ok (.getfield 50, 3)) (kk : W p l e R s m args below meth c H locs cells slots Q (F0 m (pc + 3) ls (.ref v :: rest))) : W p l e R s m args below meth c H locs cells slots Q (F0 m pc ls (.ref a :: rest)) :=
  xget (ci := 0) (k := 8) E hR in_X0 rfl (by decide) q277 (fun _ h => h) (gR_e h) hdg kk
theorem xgX0_351 {v : Nat} (E : xE p m c cc nL s args RX0 D cA A Zs meth ret) (hR : xR D cA A Zs X H) (h : gR X a 1 2 = some v) (hdg : decode cc pc = .ok (.getfield 351, 3)) (kk : W p l e R s m args below meth c H locs cells slots Q (F0 m (pc + 3) ls (.ref v :: rest))) : W p l e R s m args below meth c H locs cells slots Q (F0 m pc ls (.ref a :: rest)) :=
  xget (ci := 1) (k := 2) E hR in_X1 rfl (by decide) q153 (fun _ h => h) (gR_e h) hdg kk
theorem xgX0_374 {v : Int32} (E : xE p m c cc nL s args RX0 D cA A Zs meth ret) (hR : xR D cA A Zs X H) (h : gI X a 2 1 = some v) (hdg : decode cc pc = .ok (.getfield 374, 3)) (kk : W p l e R s m args below meth c H locs cells slots Q (F0 m (pc + 3) ls (.int v :: rest))) : W p l e R s m args below meth c H locs cells slots Q (F0 m pc ls (.ref a :: rest)) := by
  obtain ⟨fs, h1, h2⟩ := gI_e h
  exact va_getN (host := "ChairRanks") E.hx E.hb E.ht in_X2 E.ho E.hK (hR.one h1) 0 rfl (ci := 2) rfl 1 (by decide) (va_Nw.use rfl (E.2.1.2.2.2.2.1 (RX0, 374, "ChairRanks$Trail", "many", "I", "ChairRanks") (by decide +kernel))) (fun _ h => h) h2 hdg kk
theorem xgX0_376 {v : Nat} (E : xE p m c cc nL s args RX0 D cA A Zs meth ret) (hR : xR D cA A Zs X H) (h : gR X a 2 0 = some v) (hdg : decode cc pc = .ok (.getfield 376, 3)) (kk : W p l e R s m args below meth c H locs cells slots Q (F0 m (pc + 3) ls (.ref v :: rest))) : W p l e R s m args below meth c H locs cells slots Q (F0 m pc ls (.ref a :: rest)) := by
  obtain ⟨fs, h1, h2⟩ := gR_e h
  exact va_getN (host := "ChairRanks") E.hx E.hb E.ht in_X2 E.ho E.hK (hR.one h1) 0 rfl (ci := 2) rfl 0 (by decide) (va_Nw.use rfl (E.2.1.2.2.2.2.1 (RX0, 376, "ChairRanks$Trail", "body", "[I", "ChairRanks") (by decide +kernel))) (fun _ h => h) h2 hdg kk
theorem xgX0_56 {v : Nat} (E : xE p m c cc nL s args RX0 D cA A Zs meth ret) (hR : xR D cA A Zs X H) (h : gR X a 0 9 = some v) (hdg : decode cc pc = .ok (.getfield 56, 3)) (kk : W p l e R s m args below meth c H locs cells slots Q (F0 m (pc + 3) ls (.ref v :: rest))) : W p l e R s m args below meth c H locs cells slots Q (F0 m pc ls (.ref a :: rest)) :=
  xget (ci := 0) (k := 9) E hR in_X0 rfl (by decide) q278 (fun _ h => h) (gR_e h) hdg kk
theorem xgX0_28 {v : Nat} (E : xE p m c cc nL s args RX0 D cA A Zs meth ret) (hR : xR D cA A Zs X H) (h : gR X a 0 0 = some v) (hdg : decode cc pc = .ok (.getfield 28, 3)) (kk : W p l e R s m args below meth c H locs cells slots Q (F0 m (pc + 3) ls (.ref v :: rest))) : W p l e R s m args below meth c H locs cells slots Q (F0 m pc ls (.ref a :: rest)) :=
  xget (ci := 0) (k := 0) E hR in_X0 rfl (by decide) q269 (fun _ h => h) (gR_e h) hdg kk
theorem xgX0_72 {v : Int32} (E : xE p m c cc nL s args RX0 D cA A Zs meth ret) (hR : xR D cA A Zs X H) (h : gI X a 0 10 = some v) (hdg : decode cc pc = .ok (.getfield 72, 3)) (kk : W p l e R s m args below meth c H locs cells slots Q (F0 m (pc + 3) ls (.int v :: rest))) : W p l e R s m args below meth c H locs cells slots Q (F0 m pc ls (.ref a :: rest)) :=
  xget (ci := 0) (k := 10) E hR in_X0 rfl (by decide) q279 (fun _ h => h) (gI_e h) hdg kk
end
abbrev rmX0_doze : Room := { frames := 14, cells := 0, slots := 0, locals := 295 }
theorem cwX0_288 {R : Room} {s : State} {args : Array Value} (ht : ∀ w ∈ lw_all, w.before args s = true) (hR : rmX0_has.frames + 1 ≤ R.frames ∧ 8 + (2 + 11) + rmX0_has.locals ≤ R.locals) : CallB R s args RX0 288 yX0_has cX0_has 2 (some .boolean) (ws_ yX0_has cX0_has 2 (some .boolean)) rmX0_has 0 0 2 ∧ (Cond.static yX0_has).before args s = true :=
  va_cwS 2 ht (lw_S q978 q979 q68 q980) rfl rfl rfl (by decide +kernel) hR
theorem cwX0_341 {R : Room} {s : State} {args : Array Value} (ht : ∀ w ∈ lw_all, w.before args s = true) (hR : rmX0_common.frames + 1 ≤ R.frames ∧ 8 + (10 + 11) + rmX0_common.locals ≤ R.locals) : CallB R s args RX0 341 yX0_common cX0_common 10 (some .long) (ws_ yX0_common cX0_common 10 (some .long)) rmX0_common 0 0 2 ∧ (Cond.static yX0_common).before args s = true :=
  va_cwS 2 ht (lw_S q1053 q1054 q68 q1055) rfl rfl rfl (by decide +kernel) hR
section
variable {p : Program} {l : Launch} {e : Env} {s : State} {m : MethodId} {args : Array Value} {below : List Frame} {meth : Method} {c : Code} {D : va_G} {cA : Nat → ClassId} {A : Nat → Prop} {Zs : XZ} {Xf : AH} {r : Int32} {rl : Int64} {ra : Nat} {tv : Unit ⊕ Nat} {ti : Int32 ⊕ Nat} {tr : Nat ⊕ Nat} {q2 : Option Nat}
def fX0_doze_L134 (k108 : AH → Nat → Int32 → Int32 → Int32 → Int32 → Int32 → Int32 → Int64 → Int64 → Int32 → Option (Int64 × AH)) : Nat → AH → Nat → Int32 → Int32 → Int32 → Int32 → Int32 → Int32 → Int64 → Int64 → Int32 → Int64 → Int32 → Option (Int64 × AH)
  | 0, _, _, _, _, _, _, _, _, _, _, _, _, _ => none
  | n + 1, X, x0, x1, x2, x3, x4, x5, x6, x7, x9, x11, x12, x14 =>
    (gR X x0 0 4).bind fun v1 =>
    (ck X v1 1).bind fun _ =>
    (fX1_many X v1).bind fun (v4, X3) =>
    if v4 ≤ x14 then ((ck X3 x0 0).bind fun _ =>
    (fX0_tried X3 x0).bind fun (v8, X7) =>
    (pF X7 v8 1 8 (.int (x6 &&& (x11 ^^^ (-1))))).bind fun X9 =>
    (ck X9 x0 0).bind fun _ =>
    (fX0_isHighIn X9 x0 x1 x2 x3).bind fun (v12, X11) =>
    if v12 = 0 then (k108 X11 x0 x1 x2 x3 x4 x5 x6 (x7 + 0) x9 (x11 + 1)) else (k108 X11 x0 x1 x2 x3 x4 x5 x6 (x7 + x12) x9 (x11 + 1))) else ((fX0_has x6 x14).bind fun v14 =>
    if v14 = 0 then ((fX0_doze_L134 k108 n) X3 x0 x1 x2 x3 x4 x5 x6 x7 x9 x11 (x12 * 1) (x14 + 1)) else ((fX0_has x11 x14).bind fun v16 =>
    if v16 = 0 then ((fX0_doze_L134 k108 n) X3 x0 x1 x2 x3 x4 x5 x6 x7 x9 x11 (x12 * ((10 - x4).toInt64)) (x14 + 1)) else ((fX0_doze_L134 k108 n) X3 x0 x1 x2 x3 x4 x5 x6 x7 x9 x11 (x12 * (x4.toInt64)) (x14 + 1))))
theorem wX0_doze_L134 (E : xE p m c cX0_doze 15 s args RX0 D cA A Zs meth (some .long)) {k108 : AH → Nat → Int32 → Int32 → Int32 → Int32 → Int32 → Int32 → Int64 → Int64 → Int32 → Option (Int64 × AH)} (hk108 : ∀ (X : AH) (x0 : Nat) (x1 : Int32) (x2 : Int32) (x3 : Int32) (x4 : Int32) (x5 : Int32) (x6 : Int32) (x7 : Int64) (x9 : Int64) (x11 : Int32), k108 X x0 x1 x2 x3 x4 x5 x6 x7 x9 x11 = some (rl, Xf) → ∀ (H : Heap) (locs : List Loc) (ls : Array Slot) (cells slots : Nat), cells + 0 ≤ 0 → slots + 0 ≤ 0 → xR D cA A Zs X H → va_S A s.heap H locs → lv_has ls 15 [(0, .ref x0), (1, .int x1), (2, .int x2), (3, .int x3), (4, .int x4), (5, .int x5), (6, .int x6), (7, .long x7), (9, .long x9), (11, .int x11)] → W p l e rmX0_doze s m args below meth c H locs cells slots (MQ below (xQl D cA A Zs rl Xf) args s 0 0 A) (F0 m 108 ls [])) : ∀ (n : Nat) (X : AH) (x0 : Nat) (x1 : Int32) (x2 : Int32) (x3 : Int32) (x4 : Int32) (x5 : Int32) (x6 : Int32) (x7 : Int64) (x9 : Int64) (x11 : Int32) (x12 : Int64) (x14 : Int32), fX0_doze_L134 k108 n X x0 x1 x2 x3 x4 x5 x6 x7 x9 x11 x12 x14 = some (rl, Xf) → ∀ (H : Heap) (locs : List Loc) (ls : Array Slot) (cells slots : Nat), cells + 0 ≤ 0 → slots + 0 ≤ 0 → xR D cA A Zs X H → va_S A s.heap H locs → lv_has ls 15 [(0, .ref x0), (1, .int x1), (2, .int x2), (3, .int x3), (4, .int x4), (5, .int x5), (6, .int x6), (7, .long x7), (9, .long x9), (11, .int x11), (12, .long x12), (14, .int x14)] → W p l e rmX0_doze s m args below meth c H locs cells slots (MQ below (xQl D cA A Zs rl Xf) args s 0 0 A) (F0 m 134 ls []) := by
  intro n
  induction n with
  | zero =>
    intro X x0 x1 x2 x3 x4 x5 x6 x7 x9 x11 x12 x14 hf
    have hf : none = some (rl, Xf) := hf
    cases hf
  | succ n ih =>
    intro X x0 x1 x2 x3 x4 x5 x6 x7 x9 x11 x12 x14 hf H locs ls cells slots hc hs hR hS hl
    refine lv_iload E.hx E.hb dX0_doze_134 (lv_at hl 11 rfl) ?_
    refine lv_aload_n E.hx E.hb dX0_doze_136 rfl (lv_at hl 0 rfl) ?_
    obtain ⟨v1, hv1, hf⟩ := bd_e hf
    refine xgX0_39 E hR hv1 dX0_doze_137 ?_
    obtain ⟨u2, hu2, hf⟩ := bd_e hf
    obtain ⟨⟨v4, X3⟩, hv4, hf⟩ := bd_e hf
    refine xrun_i (va_runV (As := []) (rest := [.int x14]) E.1 (tX1_many l hv4) (cwX0_163 E.ht ⟨Nat.le_of_ble_eq_true rfl, Nat.le_of_ble_eq_true rfl⟩) (xPreV (ci := 1) E hR hS rfl (ck_e hu2)) rfl rfl hl.1 rfl (lv_room (Nat.le_of_ble_eq_true rfl)) dX0_doze_140 ⟨Nat.le_trans (by omega) (Nat.le_refl 0), Nat.le_trans (by omega) (Nat.le_refl 0)⟩) hS (fun H locs hR hS => ?_)
    refine lv_icmp_ge (tgt := 193) E.hx E.hb dX0_doze_143 (by decide) (fun c5 => ?_) (fun c5 => ?_)
    · have hf := it_t hf c5
      refine lv_aload_n E.hx E.hb dX0_doze_193 rfl (lv_at hl 0 rfl) ?_
      obtain ⟨u6, hu6, hf⟩ := bd_e hf
      obtain ⟨⟨v8, X7⟩, hv8, hf⟩ := bd_e hf
      refine xrun_r (va_runV (As := []) (rest := []) E.1 (tX0_tried l hv8) (cwX0_254 E.ht ⟨Nat.le_of_ble_eq_true rfl, Nat.le_of_ble_eq_true rfl⟩) (xPreV (ci := 0) E hR hS rfl (ck_e hu6)) rfl rfl hl.1 rfl (lv_room (Nat.le_of_ble_eq_true rfl)) dX0_doze_194 ⟨Nat.le_trans (by omega) (Nat.le_refl 0), Nat.le_trans (by omega) (Nat.le_refl 0)⟩) hS (fun H locs hR hS => ?_)
      refine lv_iload E.hx E.hb dX0_doze_197 (lv_at hl 6 rfl) ?_
      refine lv_iload E.hx E.hb dX0_doze_199 (lv_at hl 9 rfl) ?_
      refine lv_iconst (v := (-1)) E.hx E.hb dX0_doze_201 (by decide) ?_
      refine lv_ixor E.hx E.hb dX0_doze_202 ?_
      refine lv_iand E.hx E.hb dX0_doze_203 ?_
      obtain ⟨X9, hX9, hf⟩ := bd_e hf
      refine xpX0_217 E hR hS hX9 dX0_doze_204 (fun H locs hR hS => ?_)
      refine lv_lload E.hx E.hb dX0_doze_207 (lv_at hl 7 rfl) ?_
      refine lv_aload_n E.hx E.hb dX0_doze_209 rfl (lv_at hl 0 rfl) ?_
      refine lv_iload_n E.hx E.hb dX0_doze_210 rfl (lv_at hl 1 rfl) ?_
      refine lv_iload_n E.hx E.hb dX0_doze_211 rfl (lv_at hl 2 rfl) ?_
      refine lv_iload_n E.hx E.hb dX0_doze_212 rfl (lv_at hl 3 rfl) ?_
      obtain ⟨u10, hu10, hf⟩ := bd_e hf
      obtain ⟨⟨v12, X11⟩, hv12, hf⟩ := bd_e hf
      refine xrun_i (va_runV (As := [.int x1, .int x2, .int x3]) (rest := [.long x7]) E.1 (tX0_isHighIn l hv12) (cwX0_271 E.ht ⟨Nat.le_of_ble_eq_true rfl, Nat.le_of_ble_eq_true rfl⟩) (xPreV (ci := 0) E hR hS rfl (ck_e hu10)) rfl rfl hl.1 rfl (lv_room (Nat.le_of_ble_eq_true rfl)) dX0_doze_213 ⟨Nat.le_trans (by omega) (Nat.le_refl 0), Nat.le_trans (by omega) (Nat.le_refl 0)⟩) hS (fun H locs hR hS => ?_)
      refine lv_if_eq (tgt := 224) E.hx E.hb dX0_doze_216 (by decide) (fun c13 => ?_) (fun c13 => ?_)
      · have hf := it_t hf c13
        refine lv_lconst (v := 0) E.hx E.hb dX0_doze_224 (by decide) ?_
        refine lv_ladd E.hx E.hb dX0_doze_225 ?_
        refine lv_lstore (lv' := [(7, .long (x7 + 0)), (0, .ref x0), (1, .int x1), (2, .int x2), (3, .int x3), (4, .int x4), (5, .int x5), (6, .int x6), (9, .long x9), (11, .int x11), (12, .long x12), (14, .int x14)]) E.hx E.hb dX0_doze_226 hl (by decide) rfl (fun ls hl => ?_)
        refine lv_iinc (v := (x11 + 1)) (lv' := [(11, .int (x11 + 1)), (7, .long (x7 + 0)), (0, .ref x0), (1, .int x1), (2, .int x2), (3, .int x3), (4, .int x4), (5, .int x5), (6, .int x6), (9, .long x9), (12, .long x12), (14, .int x14)]) E.hx E.hb dX0_doze_228 hl (k := 9) rfl rfl (by decide) rfl (fun ls hl => ?_)
        refine lv_goto (tgt := 108) E.hx E.hb dX0_doze_231 (by decide) ?_
        exact hk108 X11 _ _ _ _ _ _ _ _ _ _ hf _ _ _ _ _ (by omega) (by omega) hR hS (lv_sub hl [2, 3, 4, 5, 6, 7, 8, 1, 9, 0] rfl)
      · have hf := it_f hf c13
        refine lv_lload E.hx E.hb dX0_doze_219 (lv_at hl 10 rfl) ?_
        refine lv_goto (tgt := 225) E.hx E.hb dX0_doze_221 (by decide) ?_
        refine lv_ladd E.hx E.hb dX0_doze_225 ?_
        refine lv_lstore (lv' := [(7, .long (x7 + x12)), (0, .ref x0), (1, .int x1), (2, .int x2), (3, .int x3), (4, .int x4), (5, .int x5), (6, .int x6), (9, .long x9), (11, .int x11), (12, .long x12), (14, .int x14)]) E.hx E.hb dX0_doze_226 hl (by decide) rfl (fun ls hl => ?_)
        refine lv_iinc (v := (x11 + 1)) (lv' := [(11, .int (x11 + 1)), (7, .long (x7 + x12)), (0, .ref x0), (1, .int x1), (2, .int x2), (3, .int x3), (4, .int x4), (5, .int x5), (6, .int x6), (9, .long x9), (12, .long x12), (14, .int x14)]) E.hx E.hb dX0_doze_228 hl (k := 9) rfl rfl (by decide) rfl (fun ls hl => ?_)
        refine lv_goto (tgt := 108) E.hx E.hb dX0_doze_231 (by decide) ?_
        exact hk108 X11 _ _ _ _ _ _ _ _ _ _ hf _ _ _ _ _ (by omega) (by omega) hR hS (lv_sub hl [2, 3, 4, 5, 6, 7, 8, 1, 9, 0] rfl)
    · have hf := it_f hf c5
      refine lv_lload E.hx E.hb dX0_doze_146 (lv_at hl 10 rfl) ?_
      refine lv_iload E.hx E.hb dX0_doze_148 (lv_at hl 6 rfl) ?_
      refine lv_iload E.hx E.hb dX0_doze_150 (lv_at hl 11 rfl) ?_
      obtain ⟨v14, hv14, hf⟩ := bd_e hf
      refine scall_i (rest := [.long x12]) E.1 (tX0_has l hv14) (cwX0_288 E.ht ⟨Nat.le_of_ble_eq_true rfl, Nat.le_of_ble_eq_true rfl⟩) rfl hl.1 rfl (Nat.le_of_ble_eq_true rfl) dX0_doze_152 ⟨Nat.le_trans (by omega) (Nat.le_refl 0), Nat.le_trans (by omega) (Nat.le_refl 0)⟩ ?_
      refine lv_if_ne (tgt := 162) E.hx E.hb dX0_doze_155 (by decide) (fun c15 => ?_) (fun c15 => ?_)
      · have hf := it_f hf c15
        refine lv_iload E.hx E.hb dX0_doze_162 (lv_at hl 9 rfl) ?_
        refine lv_iload E.hx E.hb dX0_doze_164 (lv_at hl 11 rfl) ?_
        obtain ⟨v16, hv16, hf⟩ := bd_e hf
        refine scall_i (rest := [.long x12]) E.1 (tX0_has l hv16) (cwX0_288 E.ht ⟨Nat.le_of_ble_eq_true rfl, Nat.le_of_ble_eq_true rfl⟩) rfl hl.1 rfl (Nat.le_of_ble_eq_true rfl) dX0_doze_166 ⟨Nat.le_trans (by omega) (Nat.le_refl 0), Nat.le_trans (by omega) (Nat.le_refl 0)⟩ ?_
        refine lv_if_eq (tgt := 178) E.hx E.hb dX0_doze_169 (by decide) (fun c17 => ?_) (fun c17 => ?_)
        · have hf := it_t hf c17
          refine lv_bipush (v := 10) E.hx E.hb dX0_doze_178 (by decide) ?_
          refine lv_iload E.hx E.hb dX0_doze_180 (lv_at hl 4 rfl) ?_
          refine lv_isub E.hx E.hb dX0_doze_182 ?_
          refine lv_i2l E.hx E.hb dX0_doze_183 rfl ?_
          refine lv_lmul E.hx E.hb dX0_doze_184 ?_
          refine lv_lstore (lv' := [(12, .long (x12 * ((10 - x4).toInt64))), (0, .ref x0), (1, .int x1), (2, .int x2), (3, .int x3), (4, .int x4), (5, .int x5), (6, .int x6), (7, .long x7), (9, .long x9), (11, .int x11), (14, .int x14)]) E.hx E.hb dX0_doze_185 hl (by decide) rfl (fun ls hl => ?_)
          refine lv_iinc (v := (x14 + 1)) (lv' := [(14, .int (x14 + 1)), (12, .long (x12 * ((10 - x4).toInt64))), (0, .ref x0), (1, .int x1), (2, .int x2), (3, .int x3), (4, .int x4), (5, .int x5), (6, .int x6), (7, .long x7), (9, .long x9), (11, .int x11)]) E.hx E.hb dX0_doze_187 hl (k := 11) rfl rfl (by decide) rfl (fun ls hl => ?_)
          refine lv_goto (tgt := 134) E.hx E.hb dX0_doze_190 (by decide) ?_
          exact ih X3 _ _ _ _ _ _ _ _ _ _ _ _ hf _ _ _ _ _ (by omega) (by omega) hR hS (lv_sub hl [2, 3, 4, 5, 6, 7, 8, 9, 10, 11, 1, 0] rfl)
        · have hf := it_f hf c17
          refine lv_iload E.hx E.hb dX0_doze_172 (lv_at hl 4 rfl) ?_
          refine lv_i2l E.hx E.hb dX0_doze_174 rfl ?_
          refine lv_goto (tgt := 184) E.hx E.hb dX0_doze_175 (by decide) ?_
          refine lv_lmul E.hx E.hb dX0_doze_184 ?_
          refine lv_lstore (lv' := [(12, .long (x12 * (x4.toInt64))), (0, .ref x0), (1, .int x1), (2, .int x2), (3, .int x3), (4, .int x4), (5, .int x5), (6, .int x6), (7, .long x7), (9, .long x9), (11, .int x11), (14, .int x14)]) E.hx E.hb dX0_doze_185 hl (by decide) rfl (fun ls hl => ?_)
          refine lv_iinc (v := (x14 + 1)) (lv' := [(14, .int (x14 + 1)), (12, .long (x12 * (x4.toInt64))), (0, .ref x0), (1, .int x1), (2, .int x2), (3, .int x3), (4, .int x4), (5, .int x5), (6, .int x6), (7, .long x7), (9, .long x9), (11, .int x11)]) E.hx E.hb dX0_doze_187 hl (k := 11) rfl rfl (by decide) rfl (fun ls hl => ?_)
          refine lv_goto (tgt := 134) E.hx E.hb dX0_doze_190 (by decide) ?_
          exact ih X3 _ _ _ _ _ _ _ _ _ _ _ _ hf _ _ _ _ _ (by omega) (by omega) hR hS (lv_sub hl [2, 3, 4, 5, 6, 7, 8, 9, 10, 11, 1, 0] rfl)
      · have hf := it_t hf c15
        refine lv_lconst (v := 1) E.hx E.hb dX0_doze_158 (by decide) ?_
        refine lv_goto (tgt := 184) E.hx E.hb dX0_doze_159 (by decide) ?_
        refine lv_lmul E.hx E.hb dX0_doze_184 ?_
        refine lv_lstore (lv' := [(12, .long (x12 * 1)), (0, .ref x0), (1, .int x1), (2, .int x2), (3, .int x3), (4, .int x4), (5, .int x5), (6, .int x6), (7, .long x7), (9, .long x9), (11, .int x11), (14, .int x14)]) E.hx E.hb dX0_doze_185 hl (by decide) rfl (fun ls hl => ?_)
        refine lv_iinc (v := (x14 + 1)) (lv' := [(14, .int (x14 + 1)), (12, .long (x12 * 1)), (0, .ref x0), (1, .int x1), (2, .int x2), (3, .int x3), (4, .int x4), (5, .int x5), (6, .int x6), (7, .long x7), (9, .long x9), (11, .int x11)]) E.hx E.hb dX0_doze_187 hl (k := 11) rfl rfl (by decide) rfl (fun ls hl => ?_)
        refine lv_goto (tgt := 134) E.hx E.hb dX0_doze_190 (by decide) ?_
        exact ih X3 _ _ _ _ _ _ _ _ _ _ _ _ hf _ _ _ _ _ (by omega) (by omega) hR hS (lv_sub hl [2, 3, 4, 5, 6, 7, 8, 9, 10, 11, 1, 0] rfl)
def fX0_doze_b246  (X : AH) (s0 : Int64) (x7 : Int64) (x9 : Int64) : Option (Int64 × AH) :=
  (fX0_common x7 x9).bind fun v1 =>
  (dvl s0 v1).bind fun v2 =>
  some (v2, X)
theorem wX0_doze_b246 (E : xE p m c cX0_doze 15 s args RX0 D cA A Zs meth (some .long)) {X : AH} {s0 : Int64} {x7 : Int64} {x9 : Int64} (hf : fX0_doze_b246 X s0 x7 x9 = some (rl, Xf)) : ∀ (H : Heap) (locs : List Loc) (ls : Array Slot) (cells slots : Nat), cells + 0 ≤ 0 → slots + 0 ≤ 0 → xR D cA A Zs X H → va_S A s.heap H locs → lv_has ls 15 [(7, .long x7), (9, .long x9)] → W p l e rmX0_doze s m args below meth c H locs cells slots (MQ below (xQl D cA A Zs rl Xf) args s 0 0 A) (F0 m 246 ls [.long s0]) := by
  intro H locs ls cells slots hc hs hR hS hl
  refine lv_lload E.hx E.hb dX0_doze_246 (lv_at hl 0 rfl) ?_
  refine lv_lload E.hx E.hb dX0_doze_248 (lv_at hl 1 rfl) ?_
  obtain ⟨v1, hv1, hf⟩ := bd_e hf
  refine scall_l (rest := [.long s0]) E.1 (tX0_common l hv1) (cwX0_341 E.ht ⟨Nat.le_of_ble_eq_true rfl, Nat.le_of_ble_eq_true rfl⟩) rfl hl.1 rfl (Nat.le_of_ble_eq_true rfl) dX0_doze_250 ⟨Nat.le_trans (by omega) (Nat.le_refl 0), Nat.le_trans (by omega) (Nat.le_refl 0)⟩ ?_
  obtain ⟨v2, h3, hf⟩ := bd_e hf
  obtain ⟨h3, h3e⟩ := dvl_e h3
  refine lv_ldiv E.hx E.hb dX0_doze_253 h3 ?_
  rw [h3e]
  obtain ⟨rfl, rfl⟩ := rt_e hf
  exact xret_l E (by omega) (by omega) hR hS dX0_doze_254
def fX0_doze_L108  : Nat → AH → Nat → Int32 → Int32 → Int32 → Int32 → Int32 → Int32 → Int64 → Int64 → Int32 → Option (Int64 × AH)
  | 0, _, _, _, _, _, _, _, _, _, _, _ => none
  | n + 1, X, x0, x1, x2, x3, x4, x5, x6, x7, x9, x11 =>
    if x6 < x11 then (if x5 = 0 then (fX0_doze_b246 X x7 x7 x9) else (fX0_doze_b246 X x9 x7 x9)) else (if (x11 &&& (x6 ^^^ (-1))) = 0 then (fX0_doze_L134 (fX0_doze_L108 n) 2000 X x0 x1 x2 x3 x4 x5 x6 x7 x9 x11 1 0) else ((fX0_doze_L108 n) X x0 x1 x2 x3 x4 x5 x6 x7 x9 (x11 + 1)))
theorem wX0_doze_L108 (E : xE p m c cX0_doze 15 s args RX0 D cA A Zs meth (some .long)) : ∀ (n : Nat) (X : AH) (x0 : Nat) (x1 : Int32) (x2 : Int32) (x3 : Int32) (x4 : Int32) (x5 : Int32) (x6 : Int32) (x7 : Int64) (x9 : Int64) (x11 : Int32), fX0_doze_L108 n X x0 x1 x2 x3 x4 x5 x6 x7 x9 x11 = some (rl, Xf) → ∀ (H : Heap) (locs : List Loc) (ls : Array Slot) (cells slots : Nat), cells + 0 ≤ 0 → slots + 0 ≤ 0 → xR D cA A Zs X H → va_S A s.heap H locs → lv_has ls 15 [(0, .ref x0), (1, .int x1), (2, .int x2), (3, .int x3), (4, .int x4), (5, .int x5), (6, .int x6), (7, .long x7), (9, .long x9), (11, .int x11)] → W p l e rmX0_doze s m args below meth c H locs cells slots (MQ below (xQl D cA A Zs rl Xf) args s 0 0 A) (F0 m 108 ls []) := by
  intro n
  induction n with
  | zero =>
    intro X x0 x1 x2 x3 x4 x5 x6 x7 x9 x11 hf
    have hf : none = some (rl, Xf) := hf
    cases hf
  | succ n ih =>
    intro X x0 x1 x2 x3 x4 x5 x6 x7 x9 x11 hf H locs ls cells slots hc hs hR hS hl
    refine lv_iload E.hx E.hb dX0_doze_108 (lv_at hl 9 rfl) ?_
    refine lv_iload E.hx E.hb dX0_doze_110 (lv_at hl 6 rfl) ?_
    refine lv_icmp_gt (tgt := 234) E.hx E.hb dX0_doze_112 (by decide) (fun c1 => ?_) (fun c1 => ?_)
    · have hf := it_t hf c1
      refine lv_iload E.hx E.hb dX0_doze_234 (lv_at hl 5 rfl) ?_
      refine lv_if_ne (tgt := 244) E.hx E.hb dX0_doze_236 (by decide) (fun c2 => ?_) (fun c2 => ?_)
      · have hf := it_f hf c2
        refine lv_lload E.hx E.hb dX0_doze_244 (lv_at hl 8 rfl) ?_
        exact wX0_doze_b246 E  hf _ _ _ _ _ (by omega) (by omega) hR hS (lv_sub hl [7, 8] rfl)
      · have hf := it_t hf c2
        refine lv_lload E.hx E.hb dX0_doze_239 (lv_at hl 7 rfl) ?_
        refine lv_goto (tgt := 246) E.hx E.hb dX0_doze_241 (by decide) ?_
        exact wX0_doze_b246 E  hf _ _ _ _ _ (by omega) (by omega) hR hS (lv_sub hl [7, 8] rfl)
    · have hf := it_f hf c1
      refine lv_iload E.hx E.hb dX0_doze_115 (lv_at hl 9 rfl) ?_
      refine lv_iload E.hx E.hb dX0_doze_117 (lv_at hl 6 rfl) ?_
      refine lv_iconst (v := (-1)) E.hx E.hb dX0_doze_119 (by decide) ?_
      refine lv_ixor E.hx E.hb dX0_doze_120 ?_
      refine lv_iand E.hx E.hb dX0_doze_121 ?_
      refine lv_if_eq (tgt := 128) E.hx E.hb dX0_doze_122 (by decide) (fun c3 => ?_) (fun c3 => ?_)
      · have hf := it_t hf c3
        refine lv_lconst (v := 1) E.hx E.hb dX0_doze_128 (by decide) ?_
        refine lv_lstore (lv' := [(12, .long 1), (0, .ref x0), (1, .int x1), (2, .int x2), (3, .int x3), (4, .int x4), (5, .int x5), (6, .int x6), (7, .long x7), (9, .long x9), (11, .int x11)]) E.hx E.hb dX0_doze_129 hl (by decide) rfl (fun ls hl => ?_)
        refine lv_iconst (v := 0) E.hx E.hb dX0_doze_131 (by decide) ?_
        refine lv_istore (lv' := [(14, .int 0), (12, .long 1), (0, .ref x0), (1, .int x1), (2, .int x2), (3, .int x3), (4, .int x4), (5, .int x5), (6, .int x6), (7, .long x7), (9, .long x9), (11, .int x11)]) E.hx E.hb dX0_doze_132 hl (by decide) rfl (fun ls hl => ?_)
        exact wX0_doze_L134 E ih 2000 X _ _ _ _ _ _ _ _ _ _ _ _ hf _ _ _ _ _ (by omega) (by omega) hR hS (lv_sub hl [2, 3, 4, 5, 6, 7, 8, 9, 10, 11, 1, 0] rfl)
      · have hf := it_f hf c3
        refine lv_goto (tgt := 228) E.hx E.hb dX0_doze_125 (by decide) ?_
        refine lv_iinc (v := (x11 + 1)) (lv' := [(11, .int (x11 + 1)), (0, .ref x0), (1, .int x1), (2, .int x2), (3, .int x3), (4, .int x4), (5, .int x5), (6, .int x6), (7, .long x7), (9, .long x9)]) E.hx E.hb dX0_doze_228 hl (k := 9) rfl rfl (by decide) rfl (fun ls hl => ?_)
        refine lv_goto (tgt := 108) E.hx E.hb dX0_doze_231 (by decide) ?_
        exact ih X _ _ _ _ _ _ _ _ _ _ hf _ _ _ _ _ (by omega) (by omega) hR hS (lv_sub hl [1, 2, 3, 4, 5, 6, 7, 8, 9, 0] rfl)
def fX0_doze_L65  : Nat → AH → Nat → Int32 → Int32 → Int32 → Int32 → Int32 → Int32 → Int64 → Int64 → Int32 → Option (Int64 × AH)
  | 0, _, _, _, _, _, _, _, _, _, _, _ => none
  | n + 1, X, x0, x1, x2, x3, x4, x5, x6, x7, x9, x11 =>
    (gR X x0 0 4).bind fun v1 =>
    (ck X v1 1).bind fun _ =>
    (fX1_many X v1).bind fun (v4, X3) =>
    if v4 ≤ x11 then (fX0_doze_L108 2000 X3 x0 x1 x2 x3 x4 x5 x6 x7 x9 0) else ((fX0_has x6 x11).bind fun v6 =>
    if v6 = 0 then ((fX0_doze_L65 n) X3 x0 x1 x2 x3 x4 x5 x6 x7 (x9 * 1) (x11 + 1)) else ((fX0_doze_L65 n) X3 x0 x1 x2 x3 x4 x5 x6 x7 (x9 * 10) (x11 + 1)))
theorem wX0_doze_L65 (E : xE p m c cX0_doze 15 s args RX0 D cA A Zs meth (some .long)) : ∀ (n : Nat) (X : AH) (x0 : Nat) (x1 : Int32) (x2 : Int32) (x3 : Int32) (x4 : Int32) (x5 : Int32) (x6 : Int32) (x7 : Int64) (x9 : Int64) (x11 : Int32), fX0_doze_L65 n X x0 x1 x2 x3 x4 x5 x6 x7 x9 x11 = some (rl, Xf) → ∀ (H : Heap) (locs : List Loc) (ls : Array Slot) (cells slots : Nat), cells + 0 ≤ 0 → slots + 0 ≤ 0 → xR D cA A Zs X H → va_S A s.heap H locs → lv_has ls 15 [(0, .ref x0), (1, .int x1), (2, .int x2), (3, .int x3), (4, .int x4), (5, .int x5), (6, .int x6), (7, .long x7), (9, .long x9), (11, .int x11)] → W p l e rmX0_doze s m args below meth c H locs cells slots (MQ below (xQl D cA A Zs rl Xf) args s 0 0 A) (F0 m 65 ls []) := by
  intro n
  induction n with
  | zero =>
    intro X x0 x1 x2 x3 x4 x5 x6 x7 x9 x11 hf
    have hf : none = some (rl, Xf) := hf
    cases hf
  | succ n ih =>
    intro X x0 x1 x2 x3 x4 x5 x6 x7 x9 x11 hf H locs ls cells slots hc hs hR hS hl
    refine lv_iload E.hx E.hb dX0_doze_65 (lv_at hl 9 rfl) ?_
    refine lv_aload_n E.hx E.hb dX0_doze_67 rfl (lv_at hl 0 rfl) ?_
    obtain ⟨v1, hv1, hf⟩ := bd_e hf
    refine xgX0_39 E hR hv1 dX0_doze_68 ?_
    obtain ⟨u2, hu2, hf⟩ := bd_e hf
    obtain ⟨⟨v4, X3⟩, hv4, hf⟩ := bd_e hf
    refine xrun_i (va_runV (As := []) (rest := [.int x11]) E.1 (tX1_many l hv4) (cwX0_163 E.ht ⟨Nat.le_of_ble_eq_true rfl, Nat.le_of_ble_eq_true rfl⟩) (xPreV (ci := 1) E hR hS rfl (ck_e hu2)) rfl rfl hl.1 rfl (lv_room (Nat.le_of_ble_eq_true rfl)) dX0_doze_71 ⟨Nat.le_trans (by omega) (Nat.le_refl 0), Nat.le_trans (by omega) (Nat.le_refl 0)⟩) hS (fun H locs hR hS => ?_)
    refine lv_icmp_ge (tgt := 105) E.hx E.hb dX0_doze_74 (by decide) (fun c5 => ?_) (fun c5 => ?_)
    · have hf := it_t hf c5
      refine lv_iconst (v := 0) E.hx E.hb dX0_doze_105 (by decide) ?_
      refine lv_istore (lv' := [(11, .int 0), (0, .ref x0), (1, .int x1), (2, .int x2), (3, .int x3), (4, .int x4), (5, .int x5), (6, .int x6), (7, .long x7), (9, .long x9)]) E.hx E.hb dX0_doze_106 hl (by decide) rfl (fun ls hl => ?_)
      exact wX0_doze_L108 E  2000 X3 _ _ _ _ _ _ _ _ _ _ hf _ _ _ _ _ (by omega) (by omega) hR hS (lv_sub hl [1, 2, 3, 4, 5, 6, 7, 8, 9, 0] rfl)
    · have hf := it_f hf c5
      refine lv_lload E.hx E.hb dX0_doze_77 (lv_at hl 8 rfl) ?_
      refine lv_iload E.hx E.hb dX0_doze_79 (lv_at hl 6 rfl) ?_
      refine lv_iload E.hx E.hb dX0_doze_81 (lv_at hl 9 rfl) ?_
      obtain ⟨v6, hv6, hf⟩ := bd_e hf
      refine scall_i (rest := [.long x9]) E.1 (tX0_has l hv6) (cwX0_288 E.ht ⟨Nat.le_of_ble_eq_true rfl, Nat.le_of_ble_eq_true rfl⟩) rfl hl.1 rfl (Nat.le_of_ble_eq_true rfl) dX0_doze_83 ⟨Nat.le_trans (by omega) (Nat.le_refl 0), Nat.le_trans (by omega) (Nat.le_refl 0)⟩ ?_
      refine lv_if_eq (tgt := 95) E.hx E.hb dX0_doze_86 (by decide) (fun c7 => ?_) (fun c7 => ?_)
      · have hf := it_t hf c7
        refine lv_lconst (v := 1) E.hx E.hb dX0_doze_95 (by decide) ?_
        refine lv_lmul E.hx E.hb dX0_doze_96 ?_
        refine lv_lstore (lv' := [(9, .long (x9 * 1)), (0, .ref x0), (1, .int x1), (2, .int x2), (3, .int x3), (4, .int x4), (5, .int x5), (6, .int x6), (7, .long x7), (11, .int x11)]) E.hx E.hb dX0_doze_97 hl (by decide) rfl (fun ls hl => ?_)
        refine lv_iinc (v := (x11 + 1)) (lv' := [(11, .int (x11 + 1)), (9, .long (x9 * 1)), (0, .ref x0), (1, .int x1), (2, .int x2), (3, .int x3), (4, .int x4), (5, .int x5), (6, .int x6), (7, .long x7)]) E.hx E.hb dX0_doze_99 hl (k := 9) rfl rfl (by decide) rfl (fun ls hl => ?_)
        refine lv_goto (tgt := 65) E.hx E.hb dX0_doze_102 (by decide) ?_
        exact ih X3 _ _ _ _ _ _ _ _ _ _ hf _ _ _ _ _ (by omega) (by omega) hR hS (lv_sub hl [2, 3, 4, 5, 6, 7, 8, 9, 1, 0] rfl)
      · have hf := it_f hf c7
        refine lv_ldc2 (v := 10) E.hx E.hb E.ho (E.ht _ q1051) dX0_doze_89 ?_
        refine lv_goto (tgt := 96) E.hx E.hb dX0_doze_92 (by decide) ?_
        refine lv_lmul E.hx E.hb dX0_doze_96 ?_
        refine lv_lstore (lv' := [(9, .long (x9 * 10)), (0, .ref x0), (1, .int x1), (2, .int x2), (3, .int x3), (4, .int x4), (5, .int x5), (6, .int x6), (7, .long x7), (11, .int x11)]) E.hx E.hb dX0_doze_97 hl (by decide) rfl (fun ls hl => ?_)
        refine lv_iinc (v := (x11 + 1)) (lv' := [(11, .int (x11 + 1)), (9, .long (x9 * 10)), (0, .ref x0), (1, .int x1), (2, .int x2), (3, .int x3), (4, .int x4), (5, .int x5), (6, .int x6), (7, .long x7)]) E.hx E.hb dX0_doze_99 hl (k := 9) rfl rfl (by decide) rfl (fun ls hl => ?_)
        refine lv_goto (tgt := 65) E.hx E.hb dX0_doze_102 (by decide) ?_
        exact ih X3 _ _ _ _ _ _ _ _ _ _ hf _ _ _ _ _ (by omega) (by omega) hR hS (lv_sub hl [2, 3, 4, 5, 6, 7, 8, 9, 1, 0] rfl)
def fX0_doze  (X : AH) (x0 : Nat) (x1 : Int32) (x2 : Int32) (x3 : Int32) (x4 : Int32) (x5 : Int32) : Option (Int64 × AH) :=
  (ck X x0 0).bind fun _ =>
  (fX0_isChair X x0 x1).bind fun (v3, X2) =>
  if v3 = 0 then (some ((-1000001), X2)) else ((fX0_isRank x2).bind fun v5 =>
  if v5 = 0 then (some ((-1000001), X2)) else ((fX0_isNear x3).bind fun v7 =>
  if v7 = 0 then (some ((-1000001), X2)) else ((fX0_isIn (x4.toInt64) 0 10).bind fun v9 =>
  if v9 = 0 then (some ((-1000001), X2)) else ((fX0_isHalf x5).bind fun v11 =>
  if v11 = 0 then (some ((-1000001), X2)) else ((gR X2 x0 0 4).bind fun v13 =>
  (gI X2 v13 1 8).bind fun v14 =>
  fX0_doze_L65 2000 X2 x0 x1 x2 x3 x4 x5 v14 0 1 0)))))
theorem wX0_doze_0 (E : xE p m c cX0_doze 15 s args RX0 D cA A Zs meth (some .long)) {X : AH} {x0 : Nat} {x1 : Int32} {x2 : Int32} {x3 : Int32} {x4 : Int32} {x5 : Int32} (hf : fX0_doze X x0 x1 x2 x3 x4 x5 = some (rl, Xf)) : ∀ (H : Heap) (locs : List Loc) (ls : Array Slot) (cells slots : Nat), cells + 0 ≤ 0 → slots + 0 ≤ 0 → xR D cA A Zs X H → va_S A s.heap H locs → lv_has ls 15 [(0, .ref x0), (1, .int x1), (2, .int x2), (3, .int x3), (4, .int x4), (5, .int x5)] → W p l e rmX0_doze s m args below meth c H locs cells slots (MQ below (xQl D cA A Zs rl Xf) args s 0 0 A) (F0 m 0 ls []) := by
  intro H locs ls cells slots hc hs hR hS hl
  refine lv_aload_n E.hx E.hb dX0_doze_0 rfl (lv_at hl 0 rfl) ?_
  refine lv_iload_n E.hx E.hb dX0_doze_1 rfl (lv_at hl 1 rfl) ?_
  obtain ⟨u1, hu1, hf⟩ := bd_e hf
  obtain ⟨⟨v3, X2⟩, hv3, hf⟩ := bd_e hf
  refine xrun_i (va_runV (As := [.int x1]) (rest := []) E.1 (tX0_isChair l hv3) (cwX0_196 E.ht ⟨Nat.le_of_ble_eq_true rfl, Nat.le_of_ble_eq_true rfl⟩) (xPreV (ci := 0) E hR hS rfl (ck_e hu1)) rfl rfl hl.1 rfl (lv_room (Nat.le_of_ble_eq_true rfl)) dX0_doze_2 ⟨Nat.le_trans (by omega) (Nat.le_refl 0), Nat.le_trans (by omega) (Nat.le_refl 0)⟩) hS (fun H locs hR hS => ?_)
  refine lv_if_eq (tgt := 43) E.hx E.hb dX0_doze_5 (by decide) (fun c4 => ?_) (fun c4 => ?_)
  · have hf := it_t hf c4
    refine lv_ldc2 (v := (-1000001)) E.hx E.hb E.ho (E.ht _ q1052) dX0_doze_43 ?_
    obtain ⟨rfl, rfl⟩ := rt_e hf
    exact xret_l E (by omega) (by omega) hR hS dX0_doze_46
  · have hf := it_f hf c4
    refine lv_iload_n E.hx E.hb dX0_doze_8 rfl (lv_at hl 2 rfl) ?_
    obtain ⟨v5, hv5, hf⟩ := bd_e hf
    refine scall_i (rest := []) E.1 (tX0_isRank l hv5) (cwX0_262 E.ht ⟨Nat.le_of_ble_eq_true rfl, Nat.le_of_ble_eq_true rfl⟩) rfl hl.1 rfl (Nat.le_of_ble_eq_true rfl) dX0_doze_9 ⟨Nat.le_trans (by omega) (Nat.le_refl 0), Nat.le_trans (by omega) (Nat.le_refl 0)⟩ ?_
    refine lv_if_eq (tgt := 43) E.hx E.hb dX0_doze_12 (by decide) (fun c6 => ?_) (fun c6 => ?_)
    · have hf := it_t hf c6
      refine lv_ldc2 (v := (-1000001)) E.hx E.hb E.ho (E.ht _ q1052) dX0_doze_43 ?_
      obtain ⟨rfl, rfl⟩ := rt_e hf
      exact xret_l E (by omega) (by omega) hR hS dX0_doze_46
    · have hf := it_f hf c6
      refine lv_iload_n E.hx E.hb dX0_doze_15 rfl (lv_at hl 3 rfl) ?_
      obtain ⟨v7, hv7, hf⟩ := bd_e hf
      refine scall_i (rest := []) E.1 (tX0_isNear l hv7) (cwX0_268 E.ht ⟨Nat.le_of_ble_eq_true rfl, Nat.le_of_ble_eq_true rfl⟩) rfl hl.1 rfl (Nat.le_of_ble_eq_true rfl) dX0_doze_16 ⟨Nat.le_trans (by omega) (Nat.le_refl 0), Nat.le_trans (by omega) (Nat.le_refl 0)⟩ ?_
      refine lv_if_eq (tgt := 43) E.hx E.hb dX0_doze_19 (by decide) (fun c8 => ?_) (fun c8 => ?_)
      · have hf := it_t hf c8
        refine lv_ldc2 (v := (-1000001)) E.hx E.hb E.ho (E.ht _ q1052) dX0_doze_43 ?_
        obtain ⟨rfl, rfl⟩ := rt_e hf
        exact xret_l E (by omega) (by omega) hR hS dX0_doze_46
      · have hf := it_f hf c8
        refine lv_iload E.hx E.hb dX0_doze_22 (lv_at hl 4 rfl) ?_
        refine lv_i2l E.hx E.hb dX0_doze_24 rfl ?_
        refine lv_lconst (v := 0) E.hx E.hb dX0_doze_25 (by decide) ?_
        refine lv_ldc2 (v := 10) E.hx E.hb E.ho (E.ht _ q1051) dX0_doze_26 ?_
        obtain ⟨v9, hv9, hf⟩ := bd_e hf
        refine scall_i (rest := []) E.1 (tX0_isIn l hv9) (cwX0_79 E.ht ⟨Nat.le_of_ble_eq_true rfl, Nat.le_of_ble_eq_true rfl⟩) rfl hl.1 rfl (Nat.le_of_ble_eq_true rfl) dX0_doze_29 ⟨Nat.le_trans (by omega) (Nat.le_refl 0), Nat.le_trans (by omega) (Nat.le_refl 0)⟩ ?_
        refine lv_if_eq (tgt := 43) E.hx E.hb dX0_doze_32 (by decide) (fun c10 => ?_) (fun c10 => ?_)
        · have hf := it_t hf c10
          refine lv_ldc2 (v := (-1000001)) E.hx E.hb E.ho (E.ht _ q1052) dX0_doze_43 ?_
          obtain ⟨rfl, rfl⟩ := rt_e hf
          exact xret_l E (by omega) (by omega) hR hS dX0_doze_46
        · have hf := it_f hf c10
          refine lv_iload E.hx E.hb dX0_doze_35 (lv_at hl 5 rfl) ?_
          obtain ⟨v11, hv11, hf⟩ := bd_e hf
          refine scall_i (rest := []) E.1 (tX0_isHalf l hv11) (cwX0_214 E.ht ⟨Nat.le_of_ble_eq_true rfl, Nat.le_of_ble_eq_true rfl⟩) rfl hl.1 rfl (Nat.le_of_ble_eq_true rfl) dX0_doze_37 ⟨Nat.le_trans (by omega) (Nat.le_refl 0), Nat.le_trans (by omega) (Nat.le_refl 0)⟩ ?_
          refine lv_if_ne (tgt := 47) E.hx E.hb dX0_doze_40 (by decide) (fun c12 => ?_) (fun c12 => ?_)
          · have hf := it_f hf c12
            refine lv_aload_n E.hx E.hb dX0_doze_47 rfl (lv_at hl 0 rfl) ?_
            obtain ⟨v13, hv13, hf⟩ := bd_e hf
            refine xgX0_39 E hR hv13 dX0_doze_48 ?_
            obtain ⟨v14, hv14, hf⟩ := bd_e hf
            refine xgX0_217 E hR hv14 dX0_doze_51 ?_
            refine lv_istore (lv' := [(6, .int v14), (0, .ref x0), (1, .int x1), (2, .int x2), (3, .int x3), (4, .int x4), (5, .int x5)]) E.hx E.hb dX0_doze_54 hl (by decide) rfl (fun ls hl => ?_)
            refine lv_lconst (v := 0) E.hx E.hb dX0_doze_56 (by decide) ?_
            refine lv_lstore (lv' := [(7, .long 0), (6, .int v14), (0, .ref x0), (1, .int x1), (2, .int x2), (3, .int x3), (4, .int x4), (5, .int x5)]) E.hx E.hb dX0_doze_57 hl (by decide) rfl (fun ls hl => ?_)
            refine lv_lconst (v := 1) E.hx E.hb dX0_doze_59 (by decide) ?_
            refine lv_lstore (lv' := [(9, .long 1), (7, .long 0), (6, .int v14), (0, .ref x0), (1, .int x1), (2, .int x2), (3, .int x3), (4, .int x4), (5, .int x5)]) E.hx E.hb dX0_doze_60 hl (by decide) rfl (fun ls hl => ?_)
            refine lv_iconst (v := 0) E.hx E.hb dX0_doze_62 (by decide) ?_
            refine lv_istore (lv' := [(11, .int 0), (9, .long 1), (7, .long 0), (6, .int v14), (0, .ref x0), (1, .int x1), (2, .int x2), (3, .int x3), (4, .int x4), (5, .int x5)]) E.hx E.hb dX0_doze_63 hl (by decide) rfl (fun ls hl => ?_)
            exact wX0_doze_L65 E  2000 X2 _ _ _ _ _ _ _ _ _ _ hf _ _ _ _ _ (by omega) (by omega) hR hS (lv_sub hl [4, 5, 6, 7, 8, 9, 3, 2, 1, 0] rfl)
          · have hf := it_t hf c12
            refine lv_ldc2 (v := (-1000001)) E.hx E.hb E.ho (E.ht _ q1052) dX0_doze_43 ?_
            obtain ⟨rfl, rfl⟩ := rt_e hf
            exact xret_l E (by omega) (by omega) hR hS dX0_doze_46
theorem tX0_doze (l : Launch) {D : va_G} {cA : Nat → ClassId} {A : Nat → Prop} {Zs : XZ} {X Xf : AH} {x0 : Nat} {x1 : Int32} {x2 : Int32} {x3 : Int32} {x4 : Int32} {x5 : Int32} {rl : Int64} (hf : fX0_doze X x0 x1 x2 x3 x4 x5 = some (rl, Xf)) : Met l yX0_doze (ws_ yX0_doze cX0_doze 15 (some .long)) rmX0_doze (xPc D cA A Zs X [.ref x0, .int x1, .int x2, .int x3, .int x4, .int x5]) (xQl D cA A Zs rl Xf) 0 0 A := by
  refine Met.ofW (cc := cX0_doze) (maxL := 15) (ret := (some .long)) (by decide) rfl ?_
  intro p e s m args below meth c s₁ B hml hv
  obtain ⟨rfl, hR, hK⟩ := hv
  have hts := atoms_spec (ws := (ws_ yX0_doze cX0_doze 15 (some .long))) B.pre
  rw [lg_entry_eq]
  exact wX0_doze_0 (E := ⟨⟨B.exec, B.bytes, hml, findClass_of_methodNamed B.named, fun w h => hts w (List.mem_cons_of_mem _ h)⟩, hK, B.returns, B.notSynchronized⟩) hf _ _ _ 0 0 (Nat.le_of_ble_eq_true rfl) (Nat.le_of_ble_eq_true rfl) hR va_S.rf (lv_entry [.ref x0, .int x1, .int x2, .int x3, .int x4, .int x5] (n := 15) (Nat.le_of_ble_eq_true rfl))
end
abbrev rmX0_drawn : Room := { frames := 12, cells := 0, slots := 0, locals := 250 }
section
variable {p : Program} {l : Launch} {e : Env} {s : State} {m : MethodId} {args : Array Value} {below : List Frame} {meth : Method} {c : Code} {D : va_G} {cA : Nat → ClassId} {A : Nat → Prop} {Zs : XZ} {Xf : AH} {r : Int32} {rl : Int64} {ra : Nat} {tv : Unit ⊕ Nat} {ti : Int32 ⊕ Nat} {tr : Nat ⊕ Nat} {q2 : Option Nat}
def fX0_drawn_b104 (k51 : AH → Nat → Int32 → Int32 → Int64 → Int32 → Option (Int32 × AH)) (X : AH) (x0 : Nat) (x1 : Int32) (x3 : Int32) (x4 : Int64) (x6 : Int32) (x7 : Int32) : Option (Int32 × AH) :=
  (gR X x0 0 5).bind fun v1 =>
  (pF X v1 1 8 (.int (1 <<< (x7 &&& 31)))).bind fun X2 =>
  (gR X2 x0 0 5).bind fun v3 =>
  (ck X2 v3 1).bind fun _ =>
  (fX1_pass X2 v3).bind fun (v6, X5) =>
  k51 X5 x0 x1 x3 x4 (x6 + 1)
theorem wX0_drawn_b104 (E : xE p m c cX0_drawn 8 s args RX0 D cA A Zs meth (some .int)) {k51 : AH → Nat → Int32 → Int32 → Int64 → Int32 → Option (Int32 × AH)} (hk51 : ∀ (X : AH) (x0 : Nat) (x1 : Int32) (x3 : Int32) (x4 : Int64) (x6 : Int32), k51 X x0 x1 x3 x4 x6 = some (r, Xf) → ∀ (H : Heap) (locs : List Loc) (ls : Array Slot) (cells slots : Nat), cells + 0 ≤ 0 → slots + 0 ≤ 0 → xR D cA A Zs X H → va_S A s.heap H locs → lv_has ls 8 [(0, .ref x0), (1, .int x1), (3, .int x3), (4, .long x4), (6, .int x6)] → W p l e rmX0_drawn s m args below meth c H locs cells slots (MQ below (xQi D cA A Zs r Xf) args s 0 0 A) (F0 m 51 ls [])) {X : AH} {x0 : Nat} {x1 : Int32} {x3 : Int32} {x4 : Int64} {x6 : Int32} {x7 : Int32} (hf : fX0_drawn_b104 k51 X x0 x1 x3 x4 x6 x7 = some (r, Xf)) : ∀ (H : Heap) (locs : List Loc) (ls : Array Slot) (cells slots : Nat), cells + 0 ≤ 0 → slots + 0 ≤ 0 → xR D cA A Zs X H → va_S A s.heap H locs → lv_has ls 8 [(0, .ref x0), (1, .int x1), (3, .int x3), (4, .long x4), (6, .int x6), (7, .int x7)] → W p l e rmX0_drawn s m args below meth c H locs cells slots (MQ below (xQi D cA A Zs r Xf) args s 0 0 A) (F0 m 104 ls []) := by
  intro H locs ls cells slots hc hs hR hS hl
  refine lv_aload_n E.hx E.hb dX0_drawn_104 rfl (lv_at hl 0 rfl) ?_
  obtain ⟨v1, hv1, hf⟩ := bd_e hf
  refine xgX0_43 E hR hv1 dX0_drawn_105 ?_
  refine lv_iconst (v := 1) E.hx E.hb dX0_drawn_108 (by decide) ?_
  refine lv_iload E.hx E.hb dX0_drawn_109 (lv_at hl 5 rfl) ?_
  refine lv_ishl E.hx E.hb dX0_drawn_111 ?_
  obtain ⟨X2, hX2, hf⟩ := bd_e hf
  refine xpX0_217 E hR hS hX2 dX0_drawn_112 (fun H locs hR hS => ?_)
  refine lv_aload_n E.hx E.hb dX0_drawn_115 rfl (lv_at hl 0 rfl) ?_
  obtain ⟨v3, hv3, hf⟩ := bd_e hf
  refine xgX0_43 E hR hv3 dX0_drawn_116 ?_
  obtain ⟨u4, hu4, hf⟩ := bd_e hf
  obtain ⟨⟨v6, X5⟩, hv6, hf⟩ := bd_e hf
  refine xrun_r (va_runV (As := []) (rest := []) E.1 (tX1_pass l hv6) (cwX0_189 E.ht ⟨Nat.le_of_ble_eq_true rfl, Nat.le_of_ble_eq_true rfl⟩) (xPreV (ci := 1) E hR hS rfl (ck_e hu4)) rfl rfl hl.1 rfl (lv_room (Nat.le_of_ble_eq_true rfl)) dX0_drawn_119 ⟨Nat.le_trans (by omega) (Nat.le_refl 0), Nat.le_trans (by omega) (Nat.le_refl 0)⟩) hS (fun H locs hR hS => ?_)
  refine lv_pop E.hx E.hb dX0_drawn_122 rfl ?_
  refine lv_iinc (v := (x6 + 1)) (lv' := [(6, .int (x6 + 1)), (0, .ref x0), (1, .int x1), (3, .int x3), (4, .long x4), (7, .int x7)]) E.hx E.hb dX0_drawn_123 hl (k := 4) rfl rfl (by decide) rfl (fun ls hl => ?_)
  refine lv_goto (tgt := 51) E.hx E.hb dX0_drawn_126 (by decide) ?_
  exact hk51 X5 _ _ _ _ _ hf _ _ _ _ _ (by omega) (by omega) hR hS (lv_sub hl [1, 2, 3, 4, 0] rfl)
def fX0_drawn_L51  : Nat → AH → Nat → Int32 → Int32 → Int64 → Int32 → Option (Int32 × AH)
  | 0, _, _, _, _, _, _ => none
  | n + 1, X, x0, x1, x3, x4, x6 =>
    if x1 ≤ x6 then (if x3 = 0 then ((gR X x0 0 5).bind fun v7 =>
    (ck X v7 1).bind fun _ =>
    (fX1_ranked X v7 0).bind fun (v10, X9) =>
    some (v10, X9)) else ((gR X x0 0 5).bind fun v3 =>
    (ck X v3 1).bind fun _ =>
    (fX1_allLegs X v3).bind fun (v6, X5) =>
    some (v6, X5))) else ((gR X x0 0 4).bind fun v11 =>
    (ck X v11 1).bind fun _ =>
    (fX1_many X v11).bind fun (v14, X13) =>
    (rml ((x4 * 16807) - (x4 * 16807) / 2147483647 * 2147483647) (v14.toInt64)).bind fun v15 =>
    if (lg_cmp (((x4 * 16807) - (x4 * 16807) / 2147483647 * 2147483647) - ((x4 * 16807) - (x4 * 16807) / 2147483647 * 2147483647) / 5 * 5) 0) = 0 then ((gR X13 x0 0 5).bind fun v18 =>
    (ck X13 v18 1).bind fun _ =>
    (fX1_mend X13 v18 (v15.toInt32)).bind fun (v21, X20) =>
    fX0_drawn_b104 (fX0_drawn_L51 n) X20 x0 x1 x3 ((x4 * 16807) - (x4 * 16807) / 2147483647 * 2147483647) x6 (v15.toInt32)) else (fX0_drawn_b104 (fX0_drawn_L51 n) X13 x0 x1 x3 ((x4 * 16807) - (x4 * 16807) / 2147483647 * 2147483647) x6 (v15.toInt32)))
theorem wX0_drawn_L51 (E : xE p m c cX0_drawn 8 s args RX0 D cA A Zs meth (some .int)) : ∀ (n : Nat) (X : AH) (x0 : Nat) (x1 : Int32) (x3 : Int32) (x4 : Int64) (x6 : Int32), fX0_drawn_L51 n X x0 x1 x3 x4 x6 = some (r, Xf) → ∀ (H : Heap) (locs : List Loc) (ls : Array Slot) (cells slots : Nat), cells + 0 ≤ 0 → slots + 0 ≤ 0 → xR D cA A Zs X H → va_S A s.heap H locs → lv_has ls 8 [(0, .ref x0), (1, .int x1), (3, .int x3), (4, .long x4), (6, .int x6)] → W p l e rmX0_drawn s m args below meth c H locs cells slots (MQ below (xQi D cA A Zs r Xf) args s 0 0 A) (F0 m 51 ls []) := by
  intro n
  induction n with
  | zero =>
    intro X x0 x1 x3 x4 x6 hf
    have hf : none = some (r, Xf) := hf
    cases hf
  | succ n ih =>
    intro X x0 x1 x3 x4 x6 hf H locs ls cells slots hc hs hR hS hl
    refine lv_iload E.hx E.hb dX0_drawn_51 (lv_at hl 4 rfl) ?_
    refine lv_iload_n E.hx E.hb dX0_drawn_53 rfl (lv_at hl 1 rfl) ?_
    refine lv_icmp_ge (tgt := 129) E.hx E.hb dX0_drawn_54 (by decide) (fun c1 => ?_) (fun c1 => ?_)
    · have hf := it_t hf c1
      refine lv_iload_n E.hx E.hb dX0_drawn_129 rfl (lv_at hl 2 rfl) ?_
      refine lv_if_ne (tgt := 144) E.hx E.hb dX0_drawn_130 (by decide) (fun c2 => ?_) (fun c2 => ?_)
      · have hf := it_f hf c2
        refine lv_aload_n E.hx E.hb dX0_drawn_144 rfl (lv_at hl 0 rfl) ?_
        obtain ⟨v3, hv3, hf⟩ := bd_e hf
        refine xgX0_43 E hR hv3 dX0_drawn_145 ?_
        obtain ⟨u4, hu4, hf⟩ := bd_e hf
        obtain ⟨⟨v6, X5⟩, hv6, hf⟩ := bd_e hf
        refine xrun_i (va_runV (As := []) (rest := []) E.1 (tX1_allLegs l hv6) (cwX0_265 E.ht ⟨Nat.le_of_ble_eq_true rfl, Nat.le_of_ble_eq_true rfl⟩) (xPreV (ci := 1) E hR hS rfl (ck_e hu4)) rfl rfl hl.1 rfl (lv_room (Nat.le_of_ble_eq_true rfl)) dX0_drawn_148 ⟨Nat.le_trans (by omega) (Nat.le_refl 0), Nat.le_trans (by omega) (Nat.le_refl 0)⟩) hS (fun H locs hR hS => ?_)
        obtain ⟨rfl, rfl⟩ := rt_e hf
        exact xret_i E (by omega) (by omega) hR hS dX0_drawn_151
      · have hf := it_t hf c2
        refine lv_aload_n E.hx E.hb dX0_drawn_133 rfl (lv_at hl 0 rfl) ?_
        obtain ⟨v7, hv7, hf⟩ := bd_e hf
        refine xgX0_43 E hR hv7 dX0_drawn_134 ?_
        refine lv_iconst (v := 0) E.hx E.hb dX0_drawn_137 (by decide) ?_
        obtain ⟨u8, hu8, hf⟩ := bd_e hf
        obtain ⟨⟨v10, X9⟩, hv10, hf⟩ := bd_e hf
        refine xrun_i (va_runV (As := [.int 0]) (rest := []) E.1 (tX1_ranked l hv10) (cwX0_193 E.ht ⟨Nat.le_of_ble_eq_true rfl, Nat.le_of_ble_eq_true rfl⟩) (xPreV (ci := 1) E hR hS rfl (ck_e hu8)) rfl rfl hl.1 rfl (lv_room (Nat.le_of_ble_eq_true rfl)) dX0_drawn_138 ⟨Nat.le_trans (by omega) (Nat.le_refl 0), Nat.le_trans (by omega) (Nat.le_refl 0)⟩) hS (fun H locs hR hS => ?_)
        refine lv_goto (tgt := 151) E.hx E.hb dX0_drawn_141 (by decide) ?_
        obtain ⟨rfl, rfl⟩ := rt_e hf
        exact xret_i E (by omega) (by omega) hR hS dX0_drawn_151
    · have hf := it_f hf c1
      refine lv_lload E.hx E.hb dX0_drawn_57 (lv_at hl 3 rfl) ?_
      refine lv_ldc2 (v := 16807) E.hx E.hb E.ho (E.ht _ q1061) dX0_drawn_59 ?_
      refine lv_lmul E.hx E.hb dX0_drawn_62 ?_
      refine lv_ldc2 (v := 2147483647) E.hx E.hb E.ho (E.ht _ q1062) dX0_drawn_63 ?_
      refine lv_lrem E.hx E.hb dX0_drawn_66 (by decide) ?_
      refine lv_lstore (lv' := [(4, .long ((x4 * 16807) - (x4 * 16807) / 2147483647 * 2147483647)), (0, .ref x0), (1, .int x1), (3, .int x3), (6, .int x6)]) E.hx E.hb dX0_drawn_67 hl (by decide) rfl (fun ls hl => ?_)
      refine lv_lload E.hx E.hb dX0_drawn_69 (lv_at hl 0 rfl) ?_
      refine lv_aload_n E.hx E.hb dX0_drawn_71 rfl (lv_at hl 1 rfl) ?_
      obtain ⟨v11, hv11, hf⟩ := bd_e hf
      refine xgX0_39 E hR hv11 dX0_drawn_72 ?_
      obtain ⟨u12, hu12, hf⟩ := bd_e hf
      obtain ⟨⟨v14, X13⟩, hv14, hf⟩ := bd_e hf
      refine xrun_i (va_runV (As := []) (rest := [.long ((x4 * 16807) - (x4 * 16807) / 2147483647 * 2147483647)]) E.1 (tX1_many l hv14) (cwX0_163 E.ht ⟨Nat.le_of_ble_eq_true rfl, Nat.le_of_ble_eq_true rfl⟩) (xPreV (ci := 1) E hR hS rfl (ck_e hu12)) rfl rfl hl.1 rfl (lv_room (Nat.le_of_ble_eq_true rfl)) dX0_drawn_75 ⟨Nat.le_trans (by omega) (Nat.le_refl 0), Nat.le_trans (by omega) (Nat.le_refl 0)⟩) hS (fun H locs hR hS => ?_)
      refine lv_i2l E.hx E.hb dX0_drawn_78 rfl ?_
      obtain ⟨v15, h16, hf⟩ := bd_e hf
      obtain ⟨h16, h16e⟩ := rml_e h16
      refine lv_lrem E.hx E.hb dX0_drawn_79 h16 ?_
      rw [h16e]
      refine lv_l2i E.hx E.hb dX0_drawn_80 rfl ?_
      refine lv_istore (lv' := [(7, .int (v15.toInt32)), (4, .long ((x4 * 16807) - (x4 * 16807) / 2147483647 * 2147483647)), (0, .ref x0), (1, .int x1), (3, .int x3), (6, .int x6)]) E.hx E.hb dX0_drawn_81 hl (by decide) rfl (fun ls hl => ?_)
      refine lv_lload E.hx E.hb dX0_drawn_83 (lv_at hl 1 rfl) ?_
      refine lv_ldc2 (v := 5) E.hx E.hb E.ho (E.ht _ q931) dX0_drawn_85 ?_
      refine lv_lrem E.hx E.hb dX0_drawn_88 (by decide) ?_
      refine lv_lconst (v := 0) E.hx E.hb dX0_drawn_89 (by decide) ?_
      refine W.lcmp E.hx E.hb dX0_drawn_90 ?_
      refine lv_if_ne (tgt := 104) E.hx E.hb dX0_drawn_91 (by decide) (fun c17 => ?_) (fun c17 => ?_)
      · have hf := it_f hf c17
        exact wX0_drawn_b104 E ih hf _ _ _ _ _ (by omega) (by omega) hR hS (lv_sub hl [2, 3, 4, 1, 5, 0] rfl)
      · have hf := it_t hf c17
        refine lv_aload_n E.hx E.hb dX0_drawn_94 rfl (lv_at hl 2 rfl) ?_
        obtain ⟨v18, hv18, hf⟩ := bd_e hf
        refine xgX0_43 E hR hv18 dX0_drawn_95 ?_
        refine lv_iload E.hx E.hb dX0_drawn_98 (lv_at hl 0 rfl) ?_
        obtain ⟨u19, hu19, hf⟩ := bd_e hf
        obtain ⟨⟨v21, X20⟩, hv21, hf⟩ := bd_e hf
        refine xrun_i (va_runV (As := [.int (v15.toInt32)]) (rest := []) E.1 (tX1_mend l hv21) (cwX0_211 E.ht ⟨Nat.le_of_ble_eq_true rfl, Nat.le_of_ble_eq_true rfl⟩) (xPreV (ci := 1) E hR hS rfl (ck_e hu19)) rfl rfl hl.1 rfl (lv_room (Nat.le_of_ble_eq_true rfl)) dX0_drawn_100 ⟨Nat.le_trans (by omega) (Nat.le_refl 0), Nat.le_trans (by omega) (Nat.le_refl 0)⟩) hS (fun H locs hR hS => ?_)
        refine lv_pop E.hx E.hb dX0_drawn_103 rfl ?_
        exact wX0_drawn_b104 E ih hf _ _ _ _ _ (by omega) (by omega) hR hS (lv_sub hl [2, 3, 4, 1, 5, 0] rfl)
def fX0_drawn  (X : AH) (x0 : Nat) (x1 : Int32) (x2 : Int32) (x3 : Int32) : Option (Int32 × AH) :=
  (ck X x0 0).bind fun _ =>
  (fX0_isMinistry X x0).bind fun (v3, X2) =>
  if v3 = 0 then (some ((-1000002), X2)) else ((fX0_isFar x1).bind fun v5 =>
  if v5 = 0 then (some ((-1000001), X2)) else ((fX0_isIn (x2.toInt64) 1 999999).bind fun v7 =>
  if v7 = 0 then (some ((-1000001), X2)) else ((fX0_isHalf x3).bind fun v9 =>
  if v9 = 0 then (some ((-1000001), X2)) else ((ck X2 x0 0).bind fun _ =>
  (fX0_tried X2 x0).bind fun (v13, X12) =>
  fX0_drawn_L51 2000 X12 x0 x1 x3 (x2.toInt64) 0))))
theorem wX0_drawn_0 (E : xE p m c cX0_drawn 8 s args RX0 D cA A Zs meth (some .int)) {X : AH} {x0 : Nat} {x1 : Int32} {x2 : Int32} {x3 : Int32} (hf : fX0_drawn X x0 x1 x2 x3 = some (r, Xf)) : ∀ (H : Heap) (locs : List Loc) (ls : Array Slot) (cells slots : Nat), cells + 0 ≤ 0 → slots + 0 ≤ 0 → xR D cA A Zs X H → va_S A s.heap H locs → lv_has ls 8 [(0, .ref x0), (1, .int x1), (2, .int x2), (3, .int x3)] → W p l e rmX0_drawn s m args below meth c H locs cells slots (MQ below (xQi D cA A Zs r Xf) args s 0 0 A) (F0 m 0 ls []) := by
  intro H locs ls cells slots hc hs hR hS hl
  refine lv_aload_n E.hx E.hb dX0_drawn_0 rfl (lv_at hl 0 rfl) ?_
  obtain ⟨u1, hu1, hf⟩ := bd_e hf
  obtain ⟨⟨v3, X2⟩, hv3, hf⟩ := bd_e hf
  refine xrun_i (va_runV (As := []) (rest := []) E.1 (tX0_isMinistry l hv3) (cwX0_177 E.ht ⟨Nat.le_of_ble_eq_true rfl, Nat.le_of_ble_eq_true rfl⟩) (xPreV (ci := 0) E hR hS rfl (ck_e hu1)) rfl rfl hl.1 rfl (lv_room (Nat.le_of_ble_eq_true rfl)) dX0_drawn_1 ⟨Nat.le_trans (by omega) (Nat.le_refl 0), Nat.le_trans (by omega) (Nat.le_refl 0)⟩) hS (fun H locs hR hS => ?_)
  refine lv_if_ne (tgt := 10) E.hx E.hb dX0_drawn_4 (by decide) (fun c4 => ?_) (fun c4 => ?_)
  · have hf := it_f hf c4
    refine lv_iload_n E.hx E.hb dX0_drawn_10 rfl (lv_at hl 1 rfl) ?_
    obtain ⟨v5, hv5, hf⟩ := bd_e hf
    refine scall_i (rest := []) E.1 (tX0_isFar l hv5) (cwX0_251 E.ht ⟨Nat.le_of_ble_eq_true rfl, Nat.le_of_ble_eq_true rfl⟩) rfl hl.1 rfl (Nat.le_of_ble_eq_true rfl) dX0_drawn_11 ⟨Nat.le_trans (by omega) (Nat.le_refl 0), Nat.le_trans (by omega) (Nat.le_refl 0)⟩ ?_
    refine lv_if_eq (tgt := 36) E.hx E.hb dX0_drawn_14 (by decide) (fun c6 => ?_) (fun c6 => ?_)
    · have hf := it_t hf c6
      refine lv_ldc (v := (-1000001)) E.hx E.hb E.ho (E.ht _ q319) dX0_drawn_36 ?_
      obtain ⟨rfl, rfl⟩ := rt_e hf
      exact xret_i E (by omega) (by omega) hR hS dX0_drawn_38
    · have hf := it_f hf c6
      refine lv_iload_n E.hx E.hb dX0_drawn_17 rfl (lv_at hl 2 rfl) ?_
      refine lv_i2l E.hx E.hb dX0_drawn_18 rfl ?_
      refine lv_lconst (v := 1) E.hx E.hb dX0_drawn_19 (by decide) ?_
      refine lv_ldc2 (v := 999999) E.hx E.hb E.ho (E.ht _ q1060) dX0_drawn_20 ?_
      obtain ⟨v7, hv7, hf⟩ := bd_e hf
      refine scall_i (rest := []) E.1 (tX0_isIn l hv7) (cwX0_79 E.ht ⟨Nat.le_of_ble_eq_true rfl, Nat.le_of_ble_eq_true rfl⟩) rfl hl.1 rfl (Nat.le_of_ble_eq_true rfl) dX0_drawn_23 ⟨Nat.le_trans (by omega) (Nat.le_refl 0), Nat.le_trans (by omega) (Nat.le_refl 0)⟩ ?_
      refine lv_if_eq (tgt := 36) E.hx E.hb dX0_drawn_26 (by decide) (fun c8 => ?_) (fun c8 => ?_)
      · have hf := it_t hf c8
        refine lv_ldc (v := (-1000001)) E.hx E.hb E.ho (E.ht _ q319) dX0_drawn_36 ?_
        obtain ⟨rfl, rfl⟩ := rt_e hf
        exact xret_i E (by omega) (by omega) hR hS dX0_drawn_38
      · have hf := it_f hf c8
        refine lv_iload_n E.hx E.hb dX0_drawn_29 rfl (lv_at hl 3 rfl) ?_
        obtain ⟨v9, hv9, hf⟩ := bd_e hf
        refine scall_i (rest := []) E.1 (tX0_isHalf l hv9) (cwX0_214 E.ht ⟨Nat.le_of_ble_eq_true rfl, Nat.le_of_ble_eq_true rfl⟩) rfl hl.1 rfl (Nat.le_of_ble_eq_true rfl) dX0_drawn_30 ⟨Nat.le_trans (by omega) (Nat.le_refl 0), Nat.le_trans (by omega) (Nat.le_refl 0)⟩ ?_
        refine lv_if_ne (tgt := 39) E.hx E.hb dX0_drawn_33 (by decide) (fun c10 => ?_) (fun c10 => ?_)
        · have hf := it_f hf c10
          refine lv_aload_n E.hx E.hb dX0_drawn_39 rfl (lv_at hl 0 rfl) ?_
          obtain ⟨u11, hu11, hf⟩ := bd_e hf
          obtain ⟨⟨v13, X12⟩, hv13, hf⟩ := bd_e hf
          refine xrun_r (va_runV (As := []) (rest := []) E.1 (tX0_tried l hv13) (cwX0_254 E.ht ⟨Nat.le_of_ble_eq_true rfl, Nat.le_of_ble_eq_true rfl⟩) (xPreV (ci := 0) E hR hS rfl (ck_e hu11)) rfl rfl hl.1 rfl (lv_room (Nat.le_of_ble_eq_true rfl)) dX0_drawn_40 ⟨Nat.le_trans (by omega) (Nat.le_refl 0), Nat.le_trans (by omega) (Nat.le_refl 0)⟩) hS (fun H locs hR hS => ?_)
          refine lv_pop E.hx E.hb dX0_drawn_43 rfl ?_
          refine lv_iload_n E.hx E.hb dX0_drawn_44 rfl (lv_at hl 2 rfl) ?_
          refine lv_i2l E.hx E.hb dX0_drawn_45 rfl ?_
          refine lv_lstore (lv' := [(4, .long (x2.toInt64)), (0, .ref x0), (1, .int x1), (2, .int x2), (3, .int x3)]) E.hx E.hb dX0_drawn_46 hl (by decide) rfl (fun ls hl => ?_)
          refine lv_iconst (v := 0) E.hx E.hb dX0_drawn_48 (by decide) ?_
          refine lv_istore (lv' := [(6, .int 0), (4, .long (x2.toInt64)), (0, .ref x0), (1, .int x1), (2, .int x2), (3, .int x3)]) E.hx E.hb dX0_drawn_49 hl (by decide) rfl (fun ls hl => ?_)
          exact wX0_drawn_L51 E  2000 X12 _ _ _ _ _ hf _ _ _ _ _ (by omega) (by omega) hR hS (lv_sub hl [2, 3, 5, 1, 0] rfl)
        · have hf := it_t hf c10
          refine lv_ldc (v := (-1000001)) E.hx E.hb E.ho (E.ht _ q319) dX0_drawn_36 ?_
          obtain ⟨rfl, rfl⟩ := rt_e hf
          exact xret_i E (by omega) (by omega) hR hS dX0_drawn_38
  · have hf := it_t hf c4
    refine lv_ldc (v := (-1000002)) E.hx E.hb E.ho (E.ht _ q733) dX0_drawn_7 ?_
    obtain ⟨rfl, rfl⟩ := rt_e hf
    exact xret_i E (by omega) (by omega) hR hS dX0_drawn_9
theorem tX0_drawn (l : Launch) {D : va_G} {cA : Nat → ClassId} {A : Nat → Prop} {Zs : XZ} {X Xf : AH} {x0 : Nat} {x1 : Int32} {x2 : Int32} {x3 : Int32} {r : Int32} (hf : fX0_drawn X x0 x1 x2 x3 = some (r, Xf)) : Met l yX0_drawn (ws_ yX0_drawn cX0_drawn 8 (some .int)) rmX0_drawn (xPc D cA A Zs X [.ref x0, .int x1, .int x2, .int x3]) (xQi D cA A Zs r Xf) 0 0 A := by
  refine Met.ofW (cc := cX0_drawn) (maxL := 8) (ret := (some .int)) (by decide) rfl ?_
  intro p e s m args below meth c s₁ B hml hv
  obtain ⟨rfl, hR, hK⟩ := hv
  have hts := atoms_spec (ws := (ws_ yX0_drawn cX0_drawn 8 (some .int))) B.pre
  rw [lg_entry_eq]
  exact wX0_drawn_0 (E := ⟨⟨B.exec, B.bytes, hml, findClass_of_methodNamed B.named, fun w h => hts w (List.mem_cons_of_mem _ h)⟩, hK, B.returns, B.notSynchronized⟩) hf _ _ _ 0 0 (Nat.le_of_ble_eq_true rfl) (Nat.le_of_ble_eq_true rfl) hR va_S.rf (lv_entry [.ref x0, .int x1, .int x2, .int x3] (n := 8) (Nat.le_of_ble_eq_true rfl))
end
abbrev rmX0_image : Room := { frames := 5, cells := 8, slots := 52, locals := 92 }
section
variable {p : Program} {l : Launch} {e : Env} {s : State} {m : MethodId} {args : Array Value} {below : List Frame} {meth : Method} {c : Code} {D : va_G} {cA : Nat → ClassId} {A : Nat → Prop} {Zs : XZ} {Xf : AH} {r : Int32} {rl : Int64} {ra : Nat} {tv : Unit ⊕ Nat} {ti : Int32 ⊕ Nat} {tr : Nat ⊕ Nat} {q2 : Option Nat}
def fX0_image_b45  (X : AH) (x0 : Nat) (x1 : Int32) : Option (Int32 × AH) :=
  (gR X x0 0 8).bind fun v1 =>
  (gQn X v1 3 x1).bind fun v2 =>
  (gR X x0 0 4).bind fun v3 =>
  (ck X v2 1).bind fun _ =>
  (fX1_become X v2 v3).bind fun (v6, X5) =>
  some (1, X5)
theorem wX0_image_b45 (E : xE p m c cX0_image 2 s args RX0 D cA A Zs meth (some .int)) {X : AH} {x0 : Nat} {x1 : Int32} (hf : fX0_image_b45 X x0 x1 = some (r, Xf)) : ∀ (H : Heap) (locs : List Loc) (ls : Array Slot) (cells slots : Nat), cells + 0 ≤ 8 → slots + 0 ≤ 52 → xR D cA A Zs X H → va_S A s.heap H locs → lv_has ls 2 [(0, .ref x0), (1, .int x1)] → W p l e rmX0_image s m args below meth c H locs cells slots (MQ below (xQi D cA A Zs r Xf) args s 8 52 A) (F0 m 45 ls []) := by
  intro H locs ls cells slots hc hs hR hS hl
  refine lv_aload_n E.hx E.hb dX0_image_45 rfl (lv_at hl 0 rfl) ?_
  obtain ⟨v1, hv1, hf⟩ := bd_e hf
  refine xgX0_50 E hR hv1 dX0_image_46 ?_
  refine lv_iload_n E.hx E.hb dX0_image_49 rfl (lv_at hl 1 rfl) ?_
  obtain ⟨v2, hv2, hf⟩ := bd_e hf
  refine xaldn (kd := 3) E hR rfl hv2 dX0_image_50 ?_
  refine lv_aload_n E.hx E.hb dX0_image_51 rfl (lv_at hl 0 rfl) ?_
  obtain ⟨v3, hv3, hf⟩ := bd_e hf
  refine xgX0_39 E hR hv3 dX0_image_52 ?_
  obtain ⟨u4, hu4, hf⟩ := bd_e hf
  obtain ⟨⟨v6, X5⟩, hv6, hf⟩ := bd_e hf
  refine xrun_r (va_runV (As := [.ref v3]) (rest := []) E.1 (tX1_become l hv6) (cwX0_156 E.ht ⟨Nat.le_of_ble_eq_true rfl, Nat.le_of_ble_eq_true rfl⟩) (xPreV (ci := 1) E hR hS rfl (ck_e hu4)) rfl rfl hl.1 rfl (lv_room (Nat.le_of_ble_eq_true rfl)) dX0_image_55 ⟨Nat.le_trans (by omega) (Nat.le_refl 8), Nat.le_trans (by omega) (Nat.le_refl 52)⟩) hS (fun H locs hR hS => ?_)
  refine lv_pop E.hx E.hb dX0_image_58 rfl ?_
  refine lv_iconst (v := 1) E.hx E.hb dX0_image_59 (by decide) ?_
  obtain ⟨rfl, rfl⟩ := rt_e hf
  exact xret_i E (by omega) (by omega) hR hS dX0_image_60
def fX0_image  (X : AH) (x0 : Nat) (x1 : Int32) : Option (Int32 × AH) :=
  (fX0_isIn (x1.toInt64) 0 1).bind fun v1 =>
  if v1 = 0 then (some ((-1000001), X)) else ((ck X x0 0).bind fun _ =>
  (fX0_isMinistry X x0).bind fun (v5, X4) =>
  if v5 = 0 then (some ((-1000002), X4)) else ((gR X4 x0 0 8).bind fun v7 =>
  (gQ X4 v7 3 x1).bind fun v8 => match v8 with
    | none => ((gR X4 x0 0 8).bind fun v9 =>
  (some (xnw X4 (.inl (1, [.int 0, .int 0, .null, .null, .null, .null, .null, .null, .int 0, .int 0, .null, .int 0, .null])))).bind fun X10 =>
  (fX1_init X10 X4.1).bind fun X11 =>
  (ck X11 X4.1 1).bind fun _ =>
  (pQ X11 v9 3 x1 (some X4.1)).bind fun X13 =>
  fX0_image_b45 X13 x0 x1)
    | some _ => (fX0_image_b45 X4 x0 x1)))
theorem wX0_image_0 (E : xE p m c cX0_image 2 s args RX0 D cA A Zs meth (some .int)) {X : AH} {x0 : Nat} {x1 : Int32} (hf : fX0_image X x0 x1 = some (r, Xf)) : ∀ (H : Heap) (locs : List Loc) (ls : Array Slot) (cells slots : Nat), cells + 8 ≤ 8 → slots + 52 ≤ 52 → xR D cA A Zs X H → va_S A s.heap H locs → lv_has ls 2 [(0, .ref x0), (1, .int x1)] → W p l e rmX0_image s m args below meth c H locs cells slots (MQ below (xQi D cA A Zs r Xf) args s 8 52 A) (F0 m 0 ls []) := by
  intro H locs ls cells slots hc hs hR hS hl
  refine lv_iload_n E.hx E.hb dX0_image_0 rfl (lv_at hl 1 rfl) ?_
  refine lv_i2l E.hx E.hb dX0_image_1 rfl ?_
  refine lv_lconst (v := 0) E.hx E.hb dX0_image_2 (by decide) ?_
  refine lv_lconst (v := 1) E.hx E.hb dX0_image_3 (by decide) ?_
  obtain ⟨v1, hv1, hf⟩ := bd_e hf
  refine scall_i (rest := []) E.1 (tX0_isIn l hv1) (cwX0_79 E.ht ⟨Nat.le_of_ble_eq_true rfl, Nat.le_of_ble_eq_true rfl⟩) rfl hl.1 rfl (Nat.le_of_ble_eq_true rfl) dX0_image_4 ⟨Nat.le_trans (by omega) (Nat.le_refl 8), Nat.le_trans (by omega) (Nat.le_refl 52)⟩ ?_
  refine lv_if_ne (tgt := 13) E.hx E.hb dX0_image_7 (by decide) (fun c2 => ?_) (fun c2 => ?_)
  · have hf := it_f hf c2
    refine lv_aload_n E.hx E.hb dX0_image_13 rfl (lv_at hl 0 rfl) ?_
    obtain ⟨u3, hu3, hf⟩ := bd_e hf
    obtain ⟨⟨v5, X4⟩, hv5, hf⟩ := bd_e hf
    refine xrun_i (va_runV (As := []) (rest := []) E.1 (tX0_isMinistry l hv5) (cwX0_177 E.ht ⟨Nat.le_of_ble_eq_true rfl, Nat.le_of_ble_eq_true rfl⟩) (xPreV (ci := 0) E hR hS rfl (ck_e hu3)) rfl rfl hl.1 rfl (lv_room (Nat.le_of_ble_eq_true rfl)) dX0_image_14 ⟨Nat.le_trans (by omega) (Nat.le_refl 8), Nat.le_trans (by omega) (Nat.le_refl 52)⟩) hS (fun H locs hR hS => ?_)
    refine lv_if_ne (tgt := 23) E.hx E.hb dX0_image_17 (by decide) (fun c6 => ?_) (fun c6 => ?_)
    · have hf := it_f hf c6
      refine lv_aload_n E.hx E.hb dX0_image_23 rfl (lv_at hl 0 rfl) ?_
      obtain ⟨v7, hv7, hf⟩ := bd_e hf
      refine xgX0_50 E hR hv7 dX0_image_24 ?_
      refine lv_iload_n E.hx E.hb dX0_image_27 rfl (lv_at hl 1 rfl) ?_
      obtain ⟨v8, hv8, hf⟩ := bd_e hf
      refine xald (kd := 3) E hR rfl hv8 dX0_image_28 ?_
      cases v8 with
      | none =>
        refine lv_ifnonnullN E.hx E.hb dX0_image_29 ?_
        refine lv_aload_n E.hx E.hb dX0_image_32 rfl (lv_at hl 0 rfl) ?_
        obtain ⟨v9, hv9, hf⟩ := bd_e hf
        refine xgX0_50 E hR hv9 dX0_image_33 ?_
        refine lv_iload_n E.hx E.hb dX0_image_36 rfl (lv_at hl 1 rfl) ?_
        obtain ⟨X10, hX10, hf⟩ := bd_e hf
        refine xnew (ci := 1) E hR hS in_X1 tyX1 tyX1_ok q111 q112 q69 rfl dfX1 (Nat.le_trans (by omega) (Nat.le_refl 8)) (Nat.le_trans (by omega) (Nat.le_refl 52)) dX0_image_37 (fun H hR hS => ?_)
        rw [Option.some.inj hX10] at hR
        refine lv_dup E.hx E.hb dX0_image_40 rfl ?_
        obtain ⟨X11, hX11, hf⟩ := bd_e hf
        refine xrun_v (va_runIN (As := []) (rest := [.ref X4.1, .int x1, .ref v9]) E.1 (tX1_init l hX11) (cwX0_38 E.ht (E.2.1.2.2.2.1 ("ChairRanks", 38, ⟨"ChairRanks$Ministry", "<init>", "()V"⟩, "ChairRanks") (by decide +kernel)) ⟨Nat.le_of_ble_eq_true rfl, Nat.le_of_ble_eq_true rfl⟩) (xPreS E hR hS) rfl rfl hl.1 rfl (lv_room (Nat.le_of_ble_eq_true rfl)) dX0_image_41 ⟨Nat.le_trans (by omega) (Nat.le_refl 8), Nat.le_trans (by omega) (Nat.le_refl 52)⟩) hS (fun H locs hR hS => ?_)
        obtain ⟨u14, hu14, hf⟩ := bd_e hf
        obtain ⟨X13, hX13, hf⟩ := bd_e hf
        refine xast (kd := 3) (ci := 1) E hR hS rfl rfl (Or.inr rfl) (ck_e hu14) hX13 dX0_image_44 (fun H locs hR hS => ?_)
        exact wX0_image_b45 E  hf _ _ _ _ _ (by omega) (by omega) hR hS (lv_sub hl [0, 1] rfl)
      | some v8b =>
        refine lv_ifnonnull (tgt := 45) E.hx E.hb dX0_image_29 (by decide) ?_
        exact wX0_image_b45 E  hf _ _ _ _ _ (by omega) (by omega) hR hS (lv_sub hl [0, 1] rfl)
    · have hf := it_t hf c6
      refine lv_ldc (v := (-1000002)) E.hx E.hb E.ho (E.ht _ q733) dX0_image_20 ?_
      obtain ⟨rfl, rfl⟩ := rt_e hf
      exact xret_i E (by omega) (by omega) hR hS dX0_image_22
  · have hf := it_t hf c2
    refine lv_ldc (v := (-1000001)) E.hx E.hb E.ho (E.ht _ q319) dX0_image_10 ?_
    obtain ⟨rfl, rfl⟩ := rt_e hf
    exact xret_i E (by omega) (by omega) hR hS dX0_image_12
theorem tX0_image (l : Launch) {D : va_G} {cA : Nat → ClassId} {A : Nat → Prop} {Zs : XZ} {X Xf : AH} {x0 : Nat} {x1 : Int32} {r : Int32} (hf : fX0_image X x0 x1 = some (r, Xf)) : Met l yX0_image (ws_ yX0_image cX0_image 2 (some .int)) rmX0_image (xPc D cA A Zs X [.ref x0, .int x1]) (xQi D cA A Zs r Xf) 8 52 A := by
  refine Met.ofW (cc := cX0_image) (maxL := 2) (ret := (some .int)) (by decide) rfl ?_
  intro p e s m args below meth c s₁ B hml hv
  obtain ⟨rfl, hR, hK⟩ := hv
  have hts := atoms_spec (ws := (ws_ yX0_image cX0_image 2 (some .int))) B.pre
  rw [lg_entry_eq]
  exact wX0_image_0 (E := ⟨⟨B.exec, B.bytes, hml, findClass_of_methodNamed B.named, fun w h => hts w (List.mem_cons_of_mem _ h)⟩, hK, B.returns, B.notSynchronized⟩) hf _ _ _ 0 0 (Nat.le_of_ble_eq_true rfl) (Nat.le_of_ble_eq_true rfl) hR va_S.rf (lv_entry [.ref x0, .int x1] (n := 2) (Nat.le_of_ble_eq_true rfl))
end
abbrev rmX0_restore : Room := { frames := 2, cells := 0, slots := 0, locals := 85 }
section
variable {p : Program} {l : Launch} {e : Env} {s : State} {m : MethodId} {args : Array Value} {below : List Frame} {meth : Method} {c : Code} {D : va_G} {cA : Nat → ClassId} {A : Nat → Prop} {Zs : XZ} {Xf : AH} {r : Int32} {rl : Int64} {ra : Nat} {tv : Unit ⊕ Nat} {ti : Int32 ⊕ Nat} {tr : Nat ⊕ Nat} {q2 : Option Nat}
def fX0_restore  (X : AH) (x0 : Nat) (x1 : Int32) : Option (Int32 × AH) :=
  (fX0_isIn (x1.toInt64) 0 1).bind fun v1 =>
  if v1 = 0 then (some ((-1000001), X)) else ((gR X x0 0 8).bind fun v3 =>
  (gQ X v3 3 x1).bind fun v4 => match v4 with
    | none => (some ((-1000002), X))
    | some _ => ((gR X x0 0 4).bind fun v5 =>
  (gR X x0 0 8).bind fun v6 =>
  (gQn X v6 3 x1).bind fun v7 =>
  (ck X v5 1).bind fun _ =>
  (fX1_become X v5 v7).bind fun (v10, X9) =>
  (pF X9 x0 0 7 (.int 0)).bind fun X11 =>
  some (1, X11)))
theorem wX0_restore_0 (E : xE p m c cX0_restore 2 s args RX0 D cA A Zs meth (some .int)) {X : AH} {x0 : Nat} {x1 : Int32} (hf : fX0_restore X x0 x1 = some (r, Xf)) : ∀ (H : Heap) (locs : List Loc) (ls : Array Slot) (cells slots : Nat), cells + 0 ≤ 0 → slots + 0 ≤ 0 → xR D cA A Zs X H → va_S A s.heap H locs → lv_has ls 2 [(0, .ref x0), (1, .int x1)] → W p l e rmX0_restore s m args below meth c H locs cells slots (MQ below (xQi D cA A Zs r Xf) args s 0 0 A) (F0 m 0 ls []) := by
  intro H locs ls cells slots hc hs hR hS hl
  refine lv_iload_n E.hx E.hb dX0_restore_0 rfl (lv_at hl 1 rfl) ?_
  refine lv_i2l E.hx E.hb dX0_restore_1 rfl ?_
  refine lv_lconst (v := 0) E.hx E.hb dX0_restore_2 (by decide) ?_
  refine lv_lconst (v := 1) E.hx E.hb dX0_restore_3 (by decide) ?_
  obtain ⟨v1, hv1, hf⟩ := bd_e hf
  refine scall_i (rest := []) E.1 (tX0_isIn l hv1) (cwX0_79 E.ht ⟨Nat.le_of_ble_eq_true rfl, Nat.le_of_ble_eq_true rfl⟩) rfl hl.1 rfl (Nat.le_of_ble_eq_true rfl) dX0_restore_4 ⟨Nat.le_trans (by omega) (Nat.le_refl 0), Nat.le_trans (by omega) (Nat.le_refl 0)⟩ ?_
  refine lv_if_ne (tgt := 13) E.hx E.hb dX0_restore_7 (by decide) (fun c2 => ?_) (fun c2 => ?_)
  · have hf := it_f hf c2
    refine lv_aload_n E.hx E.hb dX0_restore_13 rfl (lv_at hl 0 rfl) ?_
    obtain ⟨v3, hv3, hf⟩ := bd_e hf
    refine xgX0_50 E hR hv3 dX0_restore_14 ?_
    refine lv_iload_n E.hx E.hb dX0_restore_17 rfl (lv_at hl 1 rfl) ?_
    obtain ⟨v4, hv4, hf⟩ := bd_e hf
    refine xald (kd := 3) E hR rfl hv4 dX0_restore_18 ?_
    cases v4 with
    | none =>
      refine lv_ifnonnullN E.hx E.hb dX0_restore_19 ?_
      refine lv_ldc (v := (-1000002)) E.hx E.hb E.ho (E.ht _ q733) dX0_restore_22 ?_
      obtain ⟨rfl, rfl⟩ := rt_e hf
      exact xret_i E (by omega) (by omega) hR hS dX0_restore_24
    | some v4b =>
      refine lv_ifnonnull (tgt := 25) E.hx E.hb dX0_restore_19 (by decide) ?_
      refine lv_aload_n E.hx E.hb dX0_restore_25 rfl (lv_at hl 0 rfl) ?_
      obtain ⟨v5, hv5, hf⟩ := bd_e hf
      refine xgX0_39 E hR hv5 dX0_restore_26 ?_
      refine lv_aload_n E.hx E.hb dX0_restore_29 rfl (lv_at hl 0 rfl) ?_
      obtain ⟨v6, hv6, hf⟩ := bd_e hf
      refine xgX0_50 E hR hv6 dX0_restore_30 ?_
      refine lv_iload_n E.hx E.hb dX0_restore_33 rfl (lv_at hl 1 rfl) ?_
      obtain ⟨v7, hv7, hf⟩ := bd_e hf
      refine xaldn (kd := 3) E hR rfl hv7 dX0_restore_34 ?_
      obtain ⟨u8, hu8, hf⟩ := bd_e hf
      obtain ⟨⟨v10, X9⟩, hv10, hf⟩ := bd_e hf
      refine xrun_r (va_runV (As := [.ref v7]) (rest := []) E.1 (tX1_become l hv10) (cwX0_156 E.ht ⟨Nat.le_of_ble_eq_true rfl, Nat.le_of_ble_eq_true rfl⟩) (xPreV (ci := 1) E hR hS rfl (ck_e hu8)) rfl rfl hl.1 rfl (lv_room (Nat.le_of_ble_eq_true rfl)) dX0_restore_35 ⟨Nat.le_trans (by omega) (Nat.le_refl 0), Nat.le_trans (by omega) (Nat.le_refl 0)⟩) hS (fun H locs hR hS => ?_)
      refine lv_pop E.hx E.hb dX0_restore_38 rfl ?_
      refine lv_aload_n E.hx E.hb dX0_restore_39 rfl (lv_at hl 0 rfl) ?_
      refine lv_iconst (v := 0) E.hx E.hb dX0_restore_40 (by decide) ?_
      obtain ⟨X11, hX11, hf⟩ := bd_e hf
      refine xpX0_160 E hR hS hX11 dX0_restore_41 (fun H locs hR hS => ?_)
      refine lv_iconst (v := 1) E.hx E.hb dX0_restore_44 (by decide) ?_
      obtain ⟨rfl, rfl⟩ := rt_e hf
      exact xret_i E (by omega) (by omega) hR hS dX0_restore_45
  · have hf := it_t hf c2
    refine lv_ldc (v := (-1000001)) E.hx E.hb E.ho (E.ht _ q319) dX0_restore_10 ?_
    obtain ⟨rfl, rfl⟩ := rt_e hf
    exact xret_i E (by omega) (by omega) hR hS dX0_restore_12
theorem tX0_restore (l : Launch) {D : va_G} {cA : Nat → ClassId} {A : Nat → Prop} {Zs : XZ} {X Xf : AH} {x0 : Nat} {x1 : Int32} {r : Int32} (hf : fX0_restore X x0 x1 = some (r, Xf)) : Met l yX0_restore (ws_ yX0_restore cX0_restore 2 (some .int)) rmX0_restore (xPc D cA A Zs X [.ref x0, .int x1]) (xQi D cA A Zs r Xf) 0 0 A := by
  refine Met.ofW (cc := cX0_restore) (maxL := 2) (ret := (some .int)) (by decide) rfl ?_
  intro p e s m args below meth c s₁ B hml hv
  obtain ⟨rfl, hR, hK⟩ := hv
  have hts := atoms_spec (ws := (ws_ yX0_restore cX0_restore 2 (some .int))) B.pre
  rw [lg_entry_eq]
  exact wX0_restore_0 (E := ⟨⟨B.exec, B.bytes, hml, findClass_of_methodNamed B.named, fun w h => hts w (List.mem_cons_of_mem _ h)⟩, hK, B.returns, B.notSynchronized⟩) hf _ _ _ 0 0 (Nat.le_of_ble_eq_true rfl) (Nat.le_of_ble_eq_true rfl) hR va_S.rf (lv_entry [.ref x0, .int x1] (n := 2) (Nat.le_of_ble_eq_true rfl))
end
abbrev rmX0_kind : Room := { frames := 4, cells := 0, slots := 0, locals := 76 }
theorem cwX0_355_J2 {R : Room} {s : State} {args : Array Value} (ht : ∀ w ∈ lw_all, w.before args s = true) (hF : va_Fw "java/util/ArrayList" ⟨"java/util/List", "get", "(I)Ljava/lang/Object;"⟩ ⟨"java/util/ArrayList", "get", "(I)Ljava/lang/Object;"⟩ s) (hR : rmJ2_get.frames + 1 ≤ R.frames ∧ 8 + (2 + 11) + rmJ2_get.locals ≤ R.locals) : va_CI R s args RX0 "java/util/ArrayList" 355 ⟨"java/util/List", "get", "(I)Ljava/lang/Object;"⟩ yJ2_get cJ2_get 2 (some (.object "java/lang/Object")) (ws_ yJ2_get cJ2_get 2 (some (.object "java/lang/Object"))) rmJ2_get 0 0 1 :=
  va_cwF (ws := (ws_ yJ2_get cJ2_get 2 (some (.object "java/lang/Object")))) 1 ht (xwsF q1076 q780 q782 q72 (lw_meth q784)) rfl rfl rfl hF (by decide +kernel) hR
theorem cwX0_361_X4 {R : Room} {s : State} {args : Array Value} (ht : ∀ w ∈ lw_all, w.before args s = true) (hd : va_Decl s ⟨"ChairRanks$Chair", "kind", "()I"⟩) (hR : rmX4_kind.frames + 1 ≤ R.frames ∧ 8 + (1 + 11) + rmX4_kind.locals ≤ R.locals) : va_CU R s args RX0 "ChairRanks$Plain" "ChairRanks$Chair" 361 ⟨"ChairRanks$Chair", "kind", "()I"⟩ yX4_kind cX4_kind 1 (some .int) (ws_ yX4_kind cX4_kind 1 (some .int)) rmX4_kind 0 0 0 :=
  xCU (ws := (ws_ yX4_kind cX4_kind 1 (some .int))) ht (lw_meth q1088) rfl rfl rfl q1077 q1079 hd q1086 q1087 q75 (by decide +kernel) hR
theorem cwX0_361_X5 {R : Room} {s : State} {args : Array Value} (ht : ∀ w ∈ lw_all, w.before args s = true) (hd : va_Decl s ⟨"ChairRanks$Chair", "kind", "()I"⟩) (hR : rmX5_kind.frames + 1 ≤ R.frames ∧ 8 + (1 + 11) + rmX5_kind.locals ≤ R.locals) : va_CU R s args RX0 "ChairRanks$Rocker" "ChairRanks$Chair" 361 ⟨"ChairRanks$Chair", "kind", "()I"⟩ yX5_kind cX5_kind 1 (some .int) (ws_ yX5_kind cX5_kind 1 (some .int)) rmX5_kind 0 0 0 :=
  xCU (ws := (ws_ yX5_kind cX5_kind 1 (some .int))) ht (lw_meth q1091) rfl rfl rfl q1077 q1079 hd q1089 q1090 q76 (by decide +kernel) hR
theorem cwX0_361_X6 {R : Room} {s : State} {args : Array Value} (ht : ∀ w ∈ lw_all, w.before args s = true) (hd : va_Decl s ⟨"ChairRanks$Chair", "kind", "()I"⟩) (hR : rmX6_kind.frames + 1 ≤ R.frames ∧ 8 + (1 + 11) + rmX6_kind.locals ≤ R.locals) : va_CU R s args RX0 "ChairRanks$Cushioned" "ChairRanks$Chair" 361 ⟨"ChairRanks$Chair", "kind", "()I"⟩ yX6_kind cX6_kind 1 (some .int) (ws_ yX6_kind cX6_kind 1 (some .int)) rmX6_kind 0 0 0 :=
  xCU (ws := (ws_ yX6_kind cX6_kind 1 (some .int))) ht (lw_meth q1082) rfl rfl rfl q1077 q1079 hd q1080 q1081 q77 (by decide +kernel) hR
theorem cwX0_361_X7 {R : Room} {s : State} {args : Array Value} (ht : ∀ w ∈ lw_all, w.before args s = true) (hd : va_Decl s ⟨"ChairRanks$Chair", "kind", "()I"⟩) (hR : rmX7_kind.frames + 1 ≤ R.frames ∧ 8 + (1 + 11) + rmX7_kind.locals ≤ R.locals) : va_CU R s args RX0 "ChairRanks$Oak" "ChairRanks$Chair" 361 ⟨"ChairRanks$Chair", "kind", "()I"⟩ yX7_kind cX7_kind 1 (some .int) (ws_ yX7_kind cX7_kind 1 (some .int)) rmX7_kind 0 0 0 :=
  xCU (ws := (ws_ yX7_kind cX7_kind 1 (some .int))) ht (lw_meth q1085) rfl rfl rfl q1077 q1079 hd q1083 q1084 q78 (by decide +kernel) hR
theorem cwX0_361_X8 {R : Room} {s : State} {args : Array Value} (ht : ∀ w ∈ lw_all, w.before args s = true) (hd : va_Decl s ⟨"ChairRanks$Chair", "kind", "()I"⟩) (hR : rmX8_kind.frames + 1 ≤ R.frames ∧ 8 + (1 + 11) + rmX8_kind.locals ≤ R.locals) : va_CU R s args RX0 "ChairRanks$Throne" "ChairRanks$Chair" 361 ⟨"ChairRanks$Chair", "kind", "()I"⟩ yX8_kind cX8_kind 1 (some .int) (ws_ yX8_kind cX8_kind 1 (some .int)) rmX8_kind 0 0 0 :=
  xCU (ws := (ws_ yX8_kind cX8_kind 1 (some .int))) ht (lw_meth q1094) rfl rfl rfl q1077 q1079 hd q1092 q1093 q79 (by decide +kernel) hR
section
variable {p : Program} {l : Launch} {e : Env} {s : State} {m : MethodId} {args : Array Value} {below : List Frame} {meth : Method} {c : Code} {D : va_G} {cA : Nat → ClassId} {A : Nat → Prop} {Zs : XZ} {Xf : AH} {r : Int32} {rl : Int64} {ra : Nat} {tv : Unit ⊕ Nat} {ti : Int32 ⊕ Nat} {tr : Nat ⊕ Nat} {q2 : Option Nat}
def fX0_kind  (X : AH) (x0 : Nat) (x1 : Int32) : Option (Int32 × AH) :=
  (ck X x0 0).bind fun _ =>
  (fX0_isChair X x0 x1).bind fun (v3, X2) =>
  if v3 = 0 then (some ((-1000001), X2)) else ((gR X2 x0 0 4).bind fun v5 =>
  (gR X2 v5 1 2).bind fun v6 =>
  (ck X2 v6 9).bind fun _ =>
  (fJ2_get X2 v6 x1).bind fun (v9, X8) =>
  (gCh X8 v9).bind fun v10 =>
  (gC X8 v9).bind fun k11 =>
  if k11 = 4 then ((fX4_kind X8 v9).bind fun (v25, X24) =>
  some (v25, X24)) else (if k11 = 5 then ((fX5_kind X8 v9).bind fun (v22, X21) =>
  some (v22, X21)) else (if k11 = 6 then ((fX6_kind X8 v9).bind fun (v19, X18) =>
  some (v19, X18)) else (if k11 = 7 then ((fX7_kind X8 v9).bind fun (v16, X15) =>
  some (v16, X15)) else (if k11 = 8 then ((fX8_kind X8 v9).bind fun (v13, X12) =>
  some (v13, X12)) else none)))))
theorem wX0_kind_0 (E : xE p m c cX0_kind 2 s args RX0 D cA A Zs meth (some .int)) {X : AH} {x0 : Nat} {x1 : Int32} (hf : fX0_kind X x0 x1 = some (r, Xf)) : ∀ (H : Heap) (locs : List Loc) (ls : Array Slot) (cells slots : Nat), cells + 0 ≤ 0 → slots + 0 ≤ 0 → xR D cA A Zs X H → va_S A s.heap H locs → lv_has ls 2 [(0, .ref x0), (1, .int x1)] → W p l e rmX0_kind s m args below meth c H locs cells slots (MQ below (xQi D cA A Zs r Xf) args s 0 0 A) (F0 m 0 ls []) := by
  intro H locs ls cells slots hc hs hR hS hl
  refine lv_aload_n E.hx E.hb dX0_kind_0 rfl (lv_at hl 0 rfl) ?_
  refine lv_iload_n E.hx E.hb dX0_kind_1 rfl (lv_at hl 1 rfl) ?_
  obtain ⟨u1, hu1, hf⟩ := bd_e hf
  obtain ⟨⟨v3, X2⟩, hv3, hf⟩ := bd_e hf
  refine xrun_i (va_runV (As := [.int x1]) (rest := []) E.1 (tX0_isChair l hv3) (cwX0_196 E.ht ⟨Nat.le_of_ble_eq_true rfl, Nat.le_of_ble_eq_true rfl⟩) (xPreV (ci := 0) E hR hS rfl (ck_e hu1)) rfl rfl hl.1 rfl (lv_room (Nat.le_of_ble_eq_true rfl)) dX0_kind_2 ⟨Nat.le_trans (by omega) (Nat.le_refl 0), Nat.le_trans (by omega) (Nat.le_refl 0)⟩) hS (fun H locs hR hS => ?_)
  refine lv_if_eq (tgt := 30) E.hx E.hb dX0_kind_5 (by decide) (fun c4 => ?_) (fun c4 => ?_)
  · have hf := it_t hf c4
    refine lv_ldc (v := (-1000001)) E.hx E.hb E.ho (E.ht _ q319) dX0_kind_30 ?_
    obtain ⟨rfl, rfl⟩ := rt_e hf
    exact xret_i E (by omega) (by omega) hR hS dX0_kind_32
  · have hf := it_f hf c4
    refine lv_aload_n E.hx E.hb dX0_kind_8 rfl (lv_at hl 0 rfl) ?_
    obtain ⟨v5, hv5, hf⟩ := bd_e hf
    refine xgX0_39 E hR hv5 dX0_kind_9 ?_
    obtain ⟨v6, hv6, hf⟩ := bd_e hf
    refine xgX0_351 E hR hv6 dX0_kind_12 ?_
    refine lv_iload_n E.hx E.hb dX0_kind_15 rfl (lv_at hl 1 rfl) ?_
    obtain ⟨u7, hu7, hf⟩ := bd_e hf
    obtain ⟨⟨v9, X8⟩, hv9, hf⟩ := bd_e hf
    refine xrun5_r (va_runF (As := [.int x1]) (rest := []) (xClassAt (ci := 9) E rfl) E.1 (tJ2_get l hv9) (cwX0_355_J2 E.ht (E.2.1.2.2.2.2.2.2.1 ("java/util/ArrayList", ⟨"java/util/List", "get", "(I)Ljava/lang/Object;"⟩, ⟨"java/util/ArrayList", "get", "(I)Ljava/lang/Object;"⟩) (by decide +kernel)) ⟨Nat.le_of_ble_eq_true rfl, Nat.le_of_ble_eq_true rfl⟩) (xPreV (ci := 9) E hR hS rfl (ck_e hu7)) rfl rfl hl.1 rfl (lv_room (Nat.le_of_ble_eq_true rfl)) dX0_kind_16 ⟨Nat.le_trans (by omega) (Nat.le_refl 0), Nat.le_trans (by omega) (Nat.le_refl 0)⟩) hS (fun H locs hR hS => ?_)
    obtain ⟨v10, hv10, hf⟩ := bd_e hf
    refine xcastC E hR hv10 q222 dX0_kind_21 ?_
    obtain ⟨k11, hk11, hf⟩ := bd_e hf
    by_cases c26 : k11 = 4
    · have hf := it_t hf c26
      obtain ⟨⟨v25, X24⟩, hv25, hf⟩ := bd_e hf
      refine xrun_i (va_runU (As := []) (rest := []) E.1 (tX4_kind l hv25) (cwX0_361_X4 E.ht (va_Decl.abs (E.2.1.2.2.1 ⟨"ChairRanks$Chair", "kind", "()I"⟩ (by decide +kernel))) ⟨Nat.le_of_ble_eq_true rfl, Nat.le_of_ble_eq_true rfl⟩) (xPreV (ci := 4) E hR hS rfl (hk11.trans (congrArg some c26))) rfl rfl hl.1 rfl (lv_room (Nat.le_of_ble_eq_true rfl)) dX0_kind_24 ⟨Nat.le_trans (by omega) (Nat.le_refl 0), Nat.le_trans (by omega) (Nat.le_refl 0)⟩) hS (fun H locs hR hS => ?_)
      refine lv_goto (tgt := 32) E.hx E.hb dX0_kind_27 (by decide) ?_
      obtain ⟨rfl, rfl⟩ := rt_e hf
      exact xret_i E (by omega) (by omega) hR hS dX0_kind_32
    · have hf := it_f hf c26
      by_cases c23 : k11 = 5
      · have hf := it_t hf c23
        obtain ⟨⟨v22, X21⟩, hv22, hf⟩ := bd_e hf
        refine xrun_i (va_runU (As := []) (rest := []) E.1 (tX5_kind l hv22) (cwX0_361_X5 E.ht (va_Decl.abs (E.2.1.2.2.1 ⟨"ChairRanks$Chair", "kind", "()I"⟩ (by decide +kernel))) ⟨Nat.le_of_ble_eq_true rfl, Nat.le_of_ble_eq_true rfl⟩) (xPreV (ci := 5) E hR hS rfl (hk11.trans (congrArg some c23))) rfl rfl hl.1 rfl (lv_room (Nat.le_of_ble_eq_true rfl)) dX0_kind_24 ⟨Nat.le_trans (by omega) (Nat.le_refl 0), Nat.le_trans (by omega) (Nat.le_refl 0)⟩) hS (fun H locs hR hS => ?_)
        refine lv_goto (tgt := 32) E.hx E.hb dX0_kind_27 (by decide) ?_
        obtain ⟨rfl, rfl⟩ := rt_e hf
        exact xret_i E (by omega) (by omega) hR hS dX0_kind_32
      · have hf := it_f hf c23
        by_cases c20 : k11 = 6
        · have hf := it_t hf c20
          obtain ⟨⟨v19, X18⟩, hv19, hf⟩ := bd_e hf
          refine xrun_i (va_runU (As := []) (rest := []) E.1 (tX6_kind l hv19) (cwX0_361_X6 E.ht (va_Decl.abs (E.2.1.2.2.1 ⟨"ChairRanks$Chair", "kind", "()I"⟩ (by decide +kernel))) ⟨Nat.le_of_ble_eq_true rfl, Nat.le_of_ble_eq_true rfl⟩) (xPreV (ci := 6) E hR hS rfl (hk11.trans (congrArg some c20))) rfl rfl hl.1 rfl (lv_room (Nat.le_of_ble_eq_true rfl)) dX0_kind_24 ⟨Nat.le_trans (by omega) (Nat.le_refl 0), Nat.le_trans (by omega) (Nat.le_refl 0)⟩) hS (fun H locs hR hS => ?_)
          refine lv_goto (tgt := 32) E.hx E.hb dX0_kind_27 (by decide) ?_
          obtain ⟨rfl, rfl⟩ := rt_e hf
          exact xret_i E (by omega) (by omega) hR hS dX0_kind_32
        · have hf := it_f hf c20
          by_cases c17 : k11 = 7
          · have hf := it_t hf c17
            obtain ⟨⟨v16, X15⟩, hv16, hf⟩ := bd_e hf
            refine xrun_i (va_runU (As := []) (rest := []) E.1 (tX7_kind l hv16) (cwX0_361_X7 E.ht (va_Decl.abs (E.2.1.2.2.1 ⟨"ChairRanks$Chair", "kind", "()I"⟩ (by decide +kernel))) ⟨Nat.le_of_ble_eq_true rfl, Nat.le_of_ble_eq_true rfl⟩) (xPreV (ci := 7) E hR hS rfl (hk11.trans (congrArg some c17))) rfl rfl hl.1 rfl (lv_room (Nat.le_of_ble_eq_true rfl)) dX0_kind_24 ⟨Nat.le_trans (by omega) (Nat.le_refl 0), Nat.le_trans (by omega) (Nat.le_refl 0)⟩) hS (fun H locs hR hS => ?_)
            refine lv_goto (tgt := 32) E.hx E.hb dX0_kind_27 (by decide) ?_
            obtain ⟨rfl, rfl⟩ := rt_e hf
            exact xret_i E (by omega) (by omega) hR hS dX0_kind_32
          · have hf := it_f hf c17
            by_cases c14 : k11 = 8
            · have hf := it_t hf c14
              obtain ⟨⟨v13, X12⟩, hv13, hf⟩ := bd_e hf
              refine xrun_i (va_runU (As := []) (rest := []) E.1 (tX8_kind l hv13) (cwX0_361_X8 E.ht (va_Decl.abs (E.2.1.2.2.1 ⟨"ChairRanks$Chair", "kind", "()I"⟩ (by decide +kernel))) ⟨Nat.le_of_ble_eq_true rfl, Nat.le_of_ble_eq_true rfl⟩) (xPreV (ci := 8) E hR hS rfl (hk11.trans (congrArg some c14))) rfl rfl hl.1 rfl (lv_room (Nat.le_of_ble_eq_true rfl)) dX0_kind_24 ⟨Nat.le_trans (by omega) (Nat.le_refl 0), Nat.le_trans (by omega) (Nat.le_refl 0)⟩) hS (fun H locs hR hS => ?_)
              refine lv_goto (tgt := 32) E.hx E.hb dX0_kind_27 (by decide) ?_
              obtain ⟨rfl, rfl⟩ := rt_e hf
              exact xret_i E (by omega) (by omega) hR hS dX0_kind_32
            · have hf := it_f hf c14
              have hf : none = some (r, Xf) := hf
              cases hf
theorem tX0_kind (l : Launch) {D : va_G} {cA : Nat → ClassId} {A : Nat → Prop} {Zs : XZ} {X Xf : AH} {x0 : Nat} {x1 : Int32} {r : Int32} (hf : fX0_kind X x0 x1 = some (r, Xf)) : Met l yX0_kind (ws_ yX0_kind cX0_kind 2 (some .int)) rmX0_kind (xPc D cA A Zs X [.ref x0, .int x1]) (xQi D cA A Zs r Xf) 0 0 A := by
  refine Met.ofW (cc := cX0_kind) (maxL := 2) (ret := (some .int)) (by decide) rfl ?_
  intro p e s m args below meth c s₁ B hml hv
  obtain ⟨rfl, hR, hK⟩ := hv
  have hts := atoms_spec (ws := (ws_ yX0_kind cX0_kind 2 (some .int))) B.pre
  rw [lg_entry_eq]
  exact wX0_kind_0 (E := ⟨⟨B.exec, B.bytes, hml, findClass_of_methodNamed B.named, fun w h => hts w (List.mem_cons_of_mem _ h)⟩, hK, B.returns, B.notSynchronized⟩) hf _ _ _ 0 0 (Nat.le_of_ble_eq_true rfl) (Nat.le_of_ble_eq_true rfl) hR va_S.rf (lv_entry [.ref x0, .int x1] (n := 2) (Nat.le_of_ble_eq_true rfl))
end
abbrev rmX0_trace : Room := { frames := 2, cells := 0, slots := 0, locals := 37 }
section
variable {p : Program} {l : Launch} {e : Env} {s : State} {m : MethodId} {args : Array Value} {below : List Frame} {meth : Method} {c : Code} {D : va_G} {cA : Nat → ClassId} {A : Nat → Prop} {Zs : XZ} {Xf : AH} {r : Int32} {rl : Int64} {ra : Nat} {tv : Unit ⊕ Nat} {ti : Int32 ⊕ Nat} {tr : Nat ⊕ Nat} {q2 : Option Nat}
def fX0_trace  (X : AH) (x0 : Nat) (x1 : Int32) : Option (Int32 × AH) :=
  (gR X x0 0 9).bind fun v1 =>
  (gI X v1 2 1).bind fun v2 =>
  (fX0_isIn (x1.toInt64) 0 ((v2 - 1).toInt64)).bind fun v3 =>
  if v3 = 0 then (some ((-1000000), X)) else ((gR X x0 0 9).bind fun v5 =>
  (gR X v5 2 0).bind fun v6 =>
  (gA X v6 0 x1).bind fun v7 =>
  some (v7, X))
theorem wX0_trace_0 (E : xE p m c cX0_trace 2 s args RX0 D cA A Zs meth (some .int)) {X : AH} {x0 : Nat} {x1 : Int32} (hf : fX0_trace X x0 x1 = some (r, Xf)) : ∀ (H : Heap) (locs : List Loc) (ls : Array Slot) (cells slots : Nat), cells + 0 ≤ 0 → slots + 0 ≤ 0 → xR D cA A Zs X H → va_S A s.heap H locs → lv_has ls 2 [(0, .ref x0), (1, .int x1)] → W p l e rmX0_trace s m args below meth c H locs cells slots (MQ below (xQi D cA A Zs r Xf) args s 0 0 A) (F0 m 0 ls []) := by
  intro H locs ls cells slots hc hs hR hS hl
  refine lv_iload_n E.hx E.hb dX0_trace_0 rfl (lv_at hl 1 rfl) ?_
  refine lv_i2l E.hx E.hb dX0_trace_1 rfl ?_
  refine lv_lconst (v := 0) E.hx E.hb dX0_trace_2 (by decide) ?_
  refine lv_aload_n E.hx E.hb dX0_trace_3 rfl (lv_at hl 0 rfl) ?_
  obtain ⟨v1, hv1, hf⟩ := bd_e hf
  refine xgX0_56 E hR hv1 dX0_trace_4 ?_
  obtain ⟨v2, hv2, hf⟩ := bd_e hf
  refine xgX0_374 E hR hv2 dX0_trace_7 ?_
  refine lv_iconst (v := 1) E.hx E.hb dX0_trace_10 (by decide) ?_
  refine lv_isub E.hx E.hb dX0_trace_11 ?_
  refine lv_i2l E.hx E.hb dX0_trace_12 rfl ?_
  obtain ⟨v3, hv3, hf⟩ := bd_e hf
  refine scall_i (rest := []) E.1 (tX0_isIn l hv3) (cwX0_79 E.ht ⟨Nat.le_of_ble_eq_true rfl, Nat.le_of_ble_eq_true rfl⟩) rfl hl.1 rfl (Nat.le_of_ble_eq_true rfl) dX0_trace_13 ⟨Nat.le_trans (by omega) (Nat.le_refl 0), Nat.le_trans (by omega) (Nat.le_refl 0)⟩ ?_
  refine lv_if_eq (tgt := 31) E.hx E.hb dX0_trace_16 (by decide) (fun c4 => ?_) (fun c4 => ?_)
  · have hf := it_t hf c4
    refine lv_ldcw (v := (-1000000)) E.hx E.hb E.ho (E.ht _ q923) dX0_trace_31 ?_
    obtain ⟨rfl, rfl⟩ := rt_e hf
    exact xret_i E (by omega) (by omega) hR hS dX0_trace_34
  · have hf := it_f hf c4
    refine lv_aload_n E.hx E.hb dX0_trace_19 rfl (lv_at hl 0 rfl) ?_
    obtain ⟨v5, hv5, hf⟩ := bd_e hf
    refine xgX0_56 E hR hv5 dX0_trace_20 ?_
    obtain ⟨v6, hv6, hf⟩ := bd_e hf
    refine xgX0_376 E hR hv6 dX0_trace_23 ?_
    refine lv_iload_n E.hx E.hb dX0_trace_26 rfl (lv_at hl 1 rfl) ?_
    obtain ⟨v7, hv7, hf⟩ := bd_e hf
    refine xild E hR hv7 dX0_trace_27 ?_
    refine lv_goto (tgt := 34) E.hx E.hb dX0_trace_28 (by decide) ?_
    obtain ⟨rfl, rfl⟩ := rt_e hf
    exact xret_i E (by omega) (by omega) hR hS dX0_trace_34
theorem tX0_trace (l : Launch) {D : va_G} {cA : Nat → ClassId} {A : Nat → Prop} {Zs : XZ} {X Xf : AH} {x0 : Nat} {x1 : Int32} {r : Int32} (hf : fX0_trace X x0 x1 = some (r, Xf)) : Met l yX0_trace (ws_ yX0_trace cX0_trace 2 (some .int)) rmX0_trace (xPc D cA A Zs X [.ref x0, .int x1]) (xQi D cA A Zs r Xf) 0 0 A := by
  refine Met.ofW (cc := cX0_trace) (maxL := 2) (ret := (some .int)) (by decide) rfl ?_
  intro p e s m args below meth c s₁ B hml hv
  obtain ⟨rfl, hR, hK⟩ := hv
  have hts := atoms_spec (ws := (ws_ yX0_trace cX0_trace 2 (some .int))) B.pre
  rw [lg_entry_eq]
  exact wX0_trace_0 (E := ⟨⟨B.exec, B.bytes, hml, findClass_of_methodNamed B.named, fun w h => hts w (List.mem_cons_of_mem _ h)⟩, hK, B.returns, B.notSynchronized⟩) hf _ _ _ 0 0 (Nat.le_of_ble_eq_true rfl) (Nat.le_of_ble_eq_true rfl) hR va_S.rf (lv_entry [.ref x0, .int x1] (n := 2) (Nat.le_of_ble_eq_true rfl))
end
abbrev rmX0_count : Room := { frames := 4, cells := 0, slots := 0, locals := 74 }
theorem cwX0_379 {R : Room} {s : State} {args : Array Value} (ht : ∀ w ∈ lw_all, w.before args s = true) (hR : rmX1_allCaught.frames + 1 ≤ R.frames ∧ 8 + (3 + 11) + rmX1_allCaught.locals ≤ R.locals) : CallW R s args RX0 RX1 379 yX1_allCaught cX1_allCaught 3 (some .int) (ws_ yX1_allCaught cX1_allCaught 3 (some .int)) rmX1_allCaught 0 0 0 :=
  cwV 0 ht (lw_V q1216 q1217 q1218 q69 q1219) rfl rfl rfl (by decide +kernel) hR
section
variable {p : Program} {l : Launch} {e : Env} {s : State} {m : MethodId} {args : Array Value} {below : List Frame} {meth : Method} {c : Code} {D : va_G} {cA : Nat → ClassId} {A : Nat → Prop} {Zs : XZ} {Xf : AH} {r : Int32} {rl : Int64} {ra : Nat} {tv : Unit ⊕ Nat} {ti : Int32 ⊕ Nat} {tr : Nat ⊕ Nat} {q2 : Option Nat}
def fX0_count_L50  : Nat → AH → Nat → Int32 → Int32 → Option (Int32 × AH)
  | 0, _, _, _, _ => none
  | n + 1, X, x0, x2, x3 =>
    if 8 ≤ x3 then (some (x2, X)) else ((gR X x0 0 0).bind fun v2 =>
    (gQ X v2 2 x3).bind fun v3 => match v3 with
      | none => ((fX0_count_L50 n) X x0 (x2 + 0) (x3 + 1))
      | some _ => ((fX0_count_L50 n) X x0 (x2 + 1) (x3 + 1)))
theorem wX0_count_L50 (E : xE p m c cX0_count 4 s args RX0 D cA A Zs meth (some .int)) : ∀ (n : Nat) (X : AH) (x0 : Nat) (x2 : Int32) (x3 : Int32), fX0_count_L50 n X x0 x2 x3 = some (r, Xf) → ∀ (H : Heap) (locs : List Loc) (ls : Array Slot) (cells slots : Nat), cells + 0 ≤ 0 → slots + 0 ≤ 0 → xR D cA A Zs X H → va_S A s.heap H locs → lv_has ls 4 [(0, .ref x0), (2, .int x2), (3, .int x3)] → W p l e rmX0_count s m args below meth c H locs cells slots (MQ below (xQi D cA A Zs r Xf) args s 0 0 A) (F0 m 50 ls []) := by
  intro n
  induction n with
  | zero =>
    intro X x0 x2 x3 hf
    have hf : none = some (r, Xf) := hf
    cases hf
  | succ n ih =>
    intro X x0 x2 x3 hf H locs ls cells slots hc hs hR hS hl
    refine lv_iload_n E.hx E.hb dX0_count_50 rfl (lv_at hl 2 rfl) ?_
    refine lv_bipush (v := 8) E.hx E.hb dX0_count_51 (by decide) ?_
    refine lv_icmp_ge (tgt := 79) E.hx E.hb dX0_count_53 (by decide) (fun c1 => ?_) (fun c1 => ?_)
    · have hf := it_t hf c1
      refine lv_iload_n E.hx E.hb dX0_count_79 rfl (lv_at hl 1 rfl) ?_
      obtain ⟨rfl, rfl⟩ := rt_e hf
      exact xret_i E (by omega) (by omega) hR hS dX0_count_80
    · have hf := it_f hf c1
      refine lv_iload_n E.hx E.hb dX0_count_56 rfl (lv_at hl 1 rfl) ?_
      refine lv_aload_n E.hx E.hb dX0_count_57 rfl (lv_at hl 0 rfl) ?_
      obtain ⟨v2, hv2, hf⟩ := bd_e hf
      refine xgX0_28 E hR hv2 dX0_count_58 ?_
      refine lv_iload_n E.hx E.hb dX0_count_61 rfl (lv_at hl 2 rfl) ?_
      obtain ⟨v3, hv3, hf⟩ := bd_e hf
      refine xald (kd := 2) E hR rfl hv3 dX0_count_62 ?_
      cases v3 with
      | none =>
        refine lv_ifnonnullN E.hx E.hb dX0_count_63 ?_
        refine lv_iconst (v := 0) E.hx E.hb dX0_count_66 (by decide) ?_
        refine lv_goto (tgt := 71) E.hx E.hb dX0_count_67 (by decide) ?_
        refine lv_iadd E.hx E.hb dX0_count_71 ?_
        refine lv_istore_n (lv' := [(2, .int (x2 + 0)), (0, .ref x0), (3, .int x3)]) E.hx E.hb dX0_count_72 rfl hl (by decide) rfl (fun ls hl => ?_)
        refine lv_iinc (v := (x3 + 1)) (lv' := [(3, .int (x3 + 1)), (2, .int (x2 + 0)), (0, .ref x0)]) E.hx E.hb dX0_count_73 hl (k := 2) rfl rfl (by decide) rfl (fun ls hl => ?_)
        refine lv_goto (tgt := 50) E.hx E.hb dX0_count_76 (by decide) ?_
        exact ih X _ _ _ hf _ _ _ _ _ (by omega) (by omega) hR hS (lv_sub hl [2, 1, 0] rfl)
      | some v3b =>
        refine lv_ifnonnull (tgt := 70) E.hx E.hb dX0_count_63 (by decide) ?_
        refine lv_iconst (v := 1) E.hx E.hb dX0_count_70 (by decide) ?_
        refine lv_iadd E.hx E.hb dX0_count_71 ?_
        refine lv_istore_n (lv' := [(2, .int (x2 + 1)), (0, .ref x0), (3, .int x3)]) E.hx E.hb dX0_count_72 rfl hl (by decide) rfl (fun ls hl => ?_)
        refine lv_iinc (v := (x3 + 1)) (lv' := [(3, .int (x3 + 1)), (2, .int (x2 + 1)), (0, .ref x0)]) E.hx E.hb dX0_count_73 hl (k := 2) rfl rfl (by decide) rfl (fun ls hl => ?_)
        refine lv_goto (tgt := 50) E.hx E.hb dX0_count_76 (by decide) ?_
        exact ih X _ _ _ hf _ _ _ _ _ (by omega) (by omega) hR hS (lv_sub hl [2, 1, 0] rfl)
def fX0_count  (X : AH) (x0 : Nat) (x1 : Int32) : Option (Int32 × AH) :=
  if x1 = 0 then (fX0_count_L50 2000 X x0 0 0) else (if x1 = 1 then ((gR X x0 0 4).bind fun v3 =>
  (ck X v3 1).bind fun _ =>
  (fX1_many X v3).bind fun (v6, X5) =>
  some (v6, X5)) else (if x1 = 2 then ((gR X x0 0 4).bind fun v8 =>
  (gI X v8 1 9).bind fun v9 =>
  some (v9, X)) else (if x1 = 3 then ((gR X x0 0 4).bind fun v11 =>
  (gI X v11 1 8).bind fun v12 =>
  some (v12, X)) else (if x1 = 4 then ((gR X x0 0 4).bind fun v14 =>
  (ck X v14 1).bind fun _ =>
  (fX1_allLegs X v14).bind fun (v17, X16) =>
  some (v17, X16)) else (if x1 = 5 then ((gR X x0 0 4).bind fun v19 =>
  (ck X v19 1).bind fun _ =>
  (fX1_allCaught X v19).bind fun (v22, X21) =>
  some (v22, X21)) else (if x1 = 6 then ((gI X x0 0 7).bind fun v24 =>
  some (v24, X)) else (if x1 = 7 then ((gI X x0 0 2).bind fun v26 =>
  some (v26, X)) else (some ((-1000001), X)))))))))
theorem wX0_count_0 (E : xE p m c cX0_count 4 s args RX0 D cA A Zs meth (some .int)) {X : AH} {x0 : Nat} {x1 : Int32} (hf : fX0_count X x0 x1 = some (r, Xf)) : ∀ (H : Heap) (locs : List Loc) (ls : Array Slot) (cells slots : Nat), cells + 0 ≤ 0 → slots + 0 ≤ 0 → xR D cA A Zs X H → va_S A s.heap H locs → lv_has ls 4 [(0, .ref x0), (1, .int x1)] → W p l e rmX0_count s m args below meth c H locs cells slots (MQ below (xQi D cA A Zs r Xf) args s 0 0 A) (F0 m 0 ls []) := by
  intro H locs ls cells slots hc hs hR hS hl
  refine lv_iconst (v := 0) E.hx E.hb dX0_count_0 (by decide) ?_
  refine lv_istore_n (lv' := [(2, .int 0), (0, .ref x0), (1, .int x1)]) E.hx E.hb dX0_count_1 rfl hl (by decide) rfl (fun ls hl => ?_)
  refine lv_iload_n E.hx E.hb dX0_count_2 rfl (lv_at hl 2 rfl) ?_
  by_cases c1 : x1 = 0
  · have hf := it_t hf c1
    refine lv_tableIn (tgt := 48) (off := 45) E.hx E.hb dX0_count_3 (by rw [c1]; decide) (by rw [c1]; decide) (by rw [c1]; rfl) (by decide) ?_
    refine lv_iconst (v := 0) E.hx E.hb dX0_count_48 (by decide) ?_
    refine lv_istore_n (lv' := [(3, .int 0), (2, .int 0), (0, .ref x0), (1, .int x1)]) E.hx E.hb dX0_count_49 rfl hl (by decide) rfl (fun ls hl => ?_)
    exact wX0_count_L50 E  2000 X _ _ _ hf _ _ _ _ _ (by omega) (by omega) hR hS (lv_sub hl [2, 1, 0] rfl)
  · have hf := it_f hf c1
    by_cases c2 : x1 = 1
    · have hf := it_t hf c2
      refine lv_tableIn (tgt := 81) (off := 78) E.hx E.hb dX0_count_3 (by rw [c2]; decide) (by rw [c2]; decide) (by rw [c2]; rfl) (by decide) ?_
      refine lv_aload_n E.hx E.hb dX0_count_81 rfl (lv_at hl 1 rfl) ?_
      obtain ⟨v3, hv3, hf⟩ := bd_e hf
      refine xgX0_39 E hR hv3 dX0_count_82 ?_
      obtain ⟨u4, hu4, hf⟩ := bd_e hf
      obtain ⟨⟨v6, X5⟩, hv6, hf⟩ := bd_e hf
      refine xrun_i (va_runV (As := []) (rest := []) E.1 (tX1_many l hv6) (cwX0_163 E.ht ⟨Nat.le_of_ble_eq_true rfl, Nat.le_of_ble_eq_true rfl⟩) (xPreV (ci := 1) E hR hS rfl (ck_e hu4)) rfl rfl hl.1 rfl (lv_room (Nat.le_of_ble_eq_true rfl)) dX0_count_85 ⟨Nat.le_trans (by omega) (Nat.le_refl 0), Nat.le_trans (by omega) (Nat.le_refl 0)⟩) hS (fun H locs hR hS => ?_)
      obtain ⟨rfl, rfl⟩ := rt_e hf
      exact xret_i E (by omega) (by omega) hR hS dX0_count_88
    · have hf := it_f hf c2
      by_cases c7 : x1 = 2
      · have hf := it_t hf c7
        refine lv_tableIn (tgt := 89) (off := 86) E.hx E.hb dX0_count_3 (by rw [c7]; decide) (by rw [c7]; decide) (by rw [c7]; rfl) (by decide) ?_
        refine lv_aload_n E.hx E.hb dX0_count_89 rfl (lv_at hl 1 rfl) ?_
        obtain ⟨v8, hv8, hf⟩ := bd_e hf
        refine xgX0_39 E hR hv8 dX0_count_90 ?_
        obtain ⟨v9, hv9, hf⟩ := bd_e hf
        refine xgX0_183 E hR hv9 dX0_count_93 ?_
        obtain ⟨rfl, rfl⟩ := rt_e hf
        exact xret_i E (by omega) (by omega) hR hS dX0_count_96
      · have hf := it_f hf c7
        by_cases c10 : x1 = 3
        · have hf := it_t hf c10
          refine lv_tableIn (tgt := 97) (off := 94) E.hx E.hb dX0_count_3 (by rw [c10]; decide) (by rw [c10]; decide) (by rw [c10]; rfl) (by decide) ?_
          refine lv_aload_n E.hx E.hb dX0_count_97 rfl (lv_at hl 1 rfl) ?_
          obtain ⟨v11, hv11, hf⟩ := bd_e hf
          refine xgX0_39 E hR hv11 dX0_count_98 ?_
          obtain ⟨v12, hv12, hf⟩ := bd_e hf
          refine xgX0_217 E hR hv12 dX0_count_101 ?_
          obtain ⟨rfl, rfl⟩ := rt_e hf
          exact xret_i E (by omega) (by omega) hR hS dX0_count_104
        · have hf := it_f hf c10
          by_cases c13 : x1 = 4
          · have hf := it_t hf c13
            refine lv_tableIn (tgt := 105) (off := 102) E.hx E.hb dX0_count_3 (by rw [c13]; decide) (by rw [c13]; decide) (by rw [c13]; rfl) (by decide) ?_
            refine lv_aload_n E.hx E.hb dX0_count_105 rfl (lv_at hl 1 rfl) ?_
            obtain ⟨v14, hv14, hf⟩ := bd_e hf
            refine xgX0_39 E hR hv14 dX0_count_106 ?_
            obtain ⟨u15, hu15, hf⟩ := bd_e hf
            obtain ⟨⟨v17, X16⟩, hv17, hf⟩ := bd_e hf
            refine xrun_i (va_runV (As := []) (rest := []) E.1 (tX1_allLegs l hv17) (cwX0_265 E.ht ⟨Nat.le_of_ble_eq_true rfl, Nat.le_of_ble_eq_true rfl⟩) (xPreV (ci := 1) E hR hS rfl (ck_e hu15)) rfl rfl hl.1 rfl (lv_room (Nat.le_of_ble_eq_true rfl)) dX0_count_109 ⟨Nat.le_trans (by omega) (Nat.le_refl 0), Nat.le_trans (by omega) (Nat.le_refl 0)⟩) hS (fun H locs hR hS => ?_)
            obtain ⟨rfl, rfl⟩ := rt_e hf
            exact xret_i E (by omega) (by omega) hR hS dX0_count_112
          · have hf := it_f hf c13
            by_cases c18 : x1 = 5
            · have hf := it_t hf c18
              refine lv_tableIn (tgt := 113) (off := 110) E.hx E.hb dX0_count_3 (by rw [c18]; decide) (by rw [c18]; decide) (by rw [c18]; rfl) (by decide) ?_
              refine lv_aload_n E.hx E.hb dX0_count_113 rfl (lv_at hl 1 rfl) ?_
              obtain ⟨v19, hv19, hf⟩ := bd_e hf
              refine xgX0_39 E hR hv19 dX0_count_114 ?_
              obtain ⟨u20, hu20, hf⟩ := bd_e hf
              obtain ⟨⟨v22, X21⟩, hv22, hf⟩ := bd_e hf
              refine xrun_i (va_runV (As := []) (rest := []) E.1 (tX1_allCaught l hv22) (cwX0_379 E.ht ⟨Nat.le_of_ble_eq_true rfl, Nat.le_of_ble_eq_true rfl⟩) (xPreV (ci := 1) E hR hS rfl (ck_e hu20)) rfl rfl hl.1 rfl (lv_room (Nat.le_of_ble_eq_true rfl)) dX0_count_117 ⟨Nat.le_trans (by omega) (Nat.le_refl 0), Nat.le_trans (by omega) (Nat.le_refl 0)⟩) hS (fun H locs hR hS => ?_)
              obtain ⟨rfl, rfl⟩ := rt_e hf
              exact xret_i E (by omega) (by omega) hR hS dX0_count_120
            · have hf := it_f hf c18
              by_cases c23 : x1 = 6
              · have hf := it_t hf c23
                refine lv_tableIn (tgt := 121) (off := 118) E.hx E.hb dX0_count_3 (by rw [c23]; decide) (by rw [c23]; decide) (by rw [c23]; rfl) (by decide) ?_
                refine lv_aload_n E.hx E.hb dX0_count_121 rfl (lv_at hl 1 rfl) ?_
                obtain ⟨v24, hv24, hf⟩ := bd_e hf
                refine xgX0_160 E hR hv24 dX0_count_122 ?_
                obtain ⟨rfl, rfl⟩ := rt_e hf
                exact xret_i E (by omega) (by omega) hR hS dX0_count_125
              · have hf := it_f hf c23
                by_cases c25 : x1 = 7
                · have hf := it_t hf c25
                  refine lv_tableIn (tgt := 126) (off := 123) E.hx E.hb dX0_count_3 (by rw [c25]; decide) (by rw [c25]; decide) (by rw [c25]; rfl) (by decide) ?_
                  refine lv_aload_n E.hx E.hb dX0_count_126 rfl (lv_at hl 1 rfl) ?_
                  obtain ⟨v26, hv26, hf⟩ := bd_e hf
                  refine xgX0_129 E hR hv26 dX0_count_127 ?_
                  obtain ⟨rfl, rfl⟩ := rt_e hf
                  exact xret_i E (by omega) (by omega) hR hS dX0_count_130
                · have hf := it_f hf c25
                  have ec1 : ¬ x1.toInt = 0 := fun h => c1 (Int32.toInt_inj.mp h)
                  have ec2 : ¬ x1.toInt = 1 := fun h => c2 (Int32.toInt_inj.mp h)
                  have ec7 : ¬ x1.toInt = 2 := fun h => c7 (Int32.toInt_inj.mp h)
                  have ec10 : ¬ x1.toInt = 3 := fun h => c10 (Int32.toInt_inj.mp h)
                  have ec13 : ¬ x1.toInt = 4 := fun h => c13 (Int32.toInt_inj.mp h)
                  have ec18 : ¬ x1.toInt = 5 := fun h => c18 (Int32.toInt_inj.mp h)
                  have ec23 : ¬ x1.toInt = 6 := fun h => c23 (Int32.toInt_inj.mp h)
                  have ec25 : ¬ x1.toInt = 7 := fun h => c25 (Int32.toInt_inj.mp h)
                  refine lv_tableOut (tgt := 131) E.hx E.hb dX0_count_3 (by omega) (by decide) ?_
                  refine lv_ldc (v := (-1000001)) E.hx E.hb E.ho (E.ht _ q319) dX0_count_131 ?_
                  obtain ⟨rfl, rfl⟩ := rt_e hf
                  exact xret_i E (by omega) (by omega) hR hS dX0_count_133
theorem tX0_count (l : Launch) {D : va_G} {cA : Nat → ClassId} {A : Nat → Prop} {Zs : XZ} {X Xf : AH} {x0 : Nat} {x1 : Int32} {r : Int32} (hf : fX0_count X x0 x1 = some (r, Xf)) : Met l yX0_count (ws_ yX0_count cX0_count 4 (some .int)) rmX0_count (xPc D cA A Zs X [.ref x0, .int x1]) (xQi D cA A Zs r Xf) 0 0 A := by
  refine Met.ofW (cc := cX0_count) (maxL := 4) (ret := (some .int)) (by decide) rfl ?_
  intro p e s m args below meth c s₁ B hml hv
  obtain ⟨rfl, hR, hK⟩ := hv
  have hts := atoms_spec (ws := (ws_ yX0_count cX0_count 4 (some .int))) B.pre
  rw [lg_entry_eq]
  exact wX0_count_0 (E := ⟨⟨B.exec, B.bytes, hml, findClass_of_methodNamed B.named, fun w h => hts w (List.mem_cons_of_mem _ h)⟩, hK, B.returns, B.notSynchronized⟩) hf _ _ _ 0 0 (Nat.le_of_ble_eq_true rfl) (Nat.le_of_ble_eq_true rfl) hR va_S.rf (lv_entry [.ref x0, .int x1] (n := 4) (Nat.le_of_ble_eq_true rfl))
end
abbrev rmX0_status : Room := { frames := 1, cells := 0, slots := 0, locals := 12 }
section
variable {p : Program} {l : Launch} {e : Env} {s : State} {m : MethodId} {args : Array Value} {below : List Frame} {meth : Method} {c : Code} {D : va_G} {cA : Nat → ClassId} {A : Nat → Prop} {Zs : XZ} {Xf : AH} {r : Int32} {rl : Int64} {ra : Nat} {tv : Unit ⊕ Nat} {ti : Int32 ⊕ Nat} {tr : Nat ⊕ Nat} {q2 : Option Nat}
def fX0_status  (X : AH) (x0 : Nat) : Option (Int32 × AH) :=
  (gI X x0 0 10).bind fun v1 =>
  some (v1, X)
theorem wX0_status_0 (E : xE p m c cX0_status 1 s args RX0 D cA A Zs meth (some .int)) {X : AH} {x0 : Nat} (hf : fX0_status X x0 = some (r, Xf)) : ∀ (H : Heap) (locs : List Loc) (ls : Array Slot) (cells slots : Nat), cells + 0 ≤ 0 → slots + 0 ≤ 0 → xR D cA A Zs X H → va_S A s.heap H locs → lv_has ls 1 [(0, .ref x0)] → W p l e rmX0_status s m args below meth c H locs cells slots (MQ below (xQi D cA A Zs r Xf) args s 0 0 A) (F0 m 0 ls []) := by
  intro H locs ls cells slots hc hs hR hS hl
  refine lv_aload_n E.hx E.hb dX0_status_0 rfl (lv_at hl 0 rfl) ?_
  obtain ⟨v1, hv1, hf⟩ := bd_e hf
  refine xgX0_72 E hR hv1 dX0_status_1 ?_
  obtain ⟨rfl, rfl⟩ := rt_e hf
  exact xret_i E (by omega) (by omega) hR hS dX0_status_4
theorem tX0_status (l : Launch) {D : va_G} {cA : Nat → ClassId} {A : Nat → Prop} {Zs : XZ} {X Xf : AH} {x0 : Nat} {r : Int32} (hf : fX0_status X x0 = some (r, Xf)) : Met l yX0_status (ws_ yX0_status cX0_status 1 (some .int)) rmX0_status (xPc D cA A Zs X [.ref x0]) (xQi D cA A Zs r Xf) 0 0 A := by
  refine Met.ofW (cc := cX0_status) (maxL := 1) (ret := (some .int)) (by decide) rfl ?_
  intro p e s m args below meth c s₁ B hml hv
  obtain ⟨rfl, hR, hK⟩ := hv
  have hts := atoms_spec (ws := (ws_ yX0_status cX0_status 1 (some .int))) B.pre
  rw [lg_entry_eq]
  exact wX0_status_0 (E := ⟨⟨B.exec, B.bytes, hml, findClass_of_methodNamed B.named, fun w h => hts w (List.mem_cons_of_mem _ h)⟩, hK, B.returns, B.notSynchronized⟩) hf _ _ _ 0 0 (Nat.le_of_ble_eq_true rfl) (Nat.le_of_ble_eq_true rfl) hR va_S.rf (lv_entry [.ref x0] (n := 1) (Nat.le_of_ble_eq_true rfl))
end
