set_option maxRecDepth 100000
section
variable {p : Program} {l : Launch} {e : Env} {R : Room} {s : State} {m : MethodId} {args : Array Value} {below : List Frame} {meth : Method} {c : Code} {H : Heap} {locs : List Loc} {cells slots : Nat} {Q : State → Prop} {cc : ByteArray} {pc nL : Nat} {ls : Array Slot} {rest : List Value} {D : va_G} {cA : Nat → ClassId} {A : Nat → Prop} {Zs : XZ} {X X' : AH} {ret : Option FieldType} {a : Nat}
theorem xgX12_37 {v : Int32} (E : xE p m c cc nL s args RX12 D cA A Zs meth ret) (hR : xR D cA A Zs X H) (h : gI X a 12 5 = some v) (hdg : decode cc pc = .ok (.getfield 37, 3)) (kk : W p l e R s m args below meth c H locs cells slots Q (F0 m (pc + 3) ls (.int v :: rest))) : W p l e R s m args below meth c H locs cells slots Q (F0 m pc ls (.ref a :: rest)) :=
  xget (ci := 12) (k := 5) E hR in_X12 rfl (by decide) q492 (fun _ h => h) (gI_e h) hdg kk
theorem xgX12_40 {v : Int32} (E : xE p m c cc nL s args RX12 D cA A Zs meth ret) (hR : xR D cA A Zs X H) (h : gI X a 12 3 = some v) (hdg : decode cc pc = .ok (.getfield 40, 3)) (kk : W p l e R s m args below meth c H locs cells slots Q (F0 m (pc + 3) ls (.int v :: rest))) : W p l e R s m args below meth c H locs cells slots Q (F0 m pc ls (.ref a :: rest)) :=
  xget (ci := 12) (k := 3) E hR in_X12 rfl (by decide) q490 (fun _ h => h) (gI_e h) hdg kk
theorem xpX12_12 {x : Nat} (E : xE p m c cc nL s args RX12 D cA A Zs meth ret) (hR : xR D cA A Zs X H) (hS : va_S A s.heap H locs) (hin : meth.name = "<init>") (h : pF X a 12 6 (.ref x) = some X') (hdg : decode cc pc = .ok (.putfield 12, 3)) (kk : ∀ (H : Heap) (locs : List Loc), xR D cA A Zs X' H → va_S A s.heap H locs → W p l e R s m args below meth c H locs cells slots Q (F0 m (pc + 3) ls rest)) : W p l e R s m args below meth c H locs cells slots Q (F0 m pc ls (.ref x :: .ref a :: rest)) :=
  xputF (ci := 12) (k := 6) E hR hS in_X12 tyX12 tyX12_ok nmX12 rfl (by decide) q493 (fun _ h => h) rfl hin rfl (ty := (.object "ChairRanks$Ministry")) rfl rfl rfl h hdg kk
theorem xpX12_18 {x : Nat} (E : xE p m c cc nL s args RX12 D cA A Zs meth ret) (hR : xR D cA A Zs X H) (hS : va_S A s.heap H locs) (hin : meth.name = "<init>") (h : pF X a 12 0 (.ref x) = some X') (hdg : decode cc pc = .ok (.putfield 18, 3)) (kk : ∀ (H : Heap) (locs : List Loc), xR D cA A Zs X' H → va_S A s.heap H locs → W p l e R s m args below meth c H locs cells slots Q (F0 m (pc + 3) ls rest)) : W p l e R s m args below meth c H locs cells slots Q (F0 m pc ls (.ref x :: .ref a :: rest)) :=
  xputF (ci := 12) (k := 0) E hR hS in_X12 tyX12 tyX12_ok nmX12 rfl (by decide) q487 (fun _ h => h) rfl hin rfl (ty := (.array .byte)) rfl rfl rfl h hdg kk
theorem xpX12_22 {x : Int32} (E : xE p m c cc nL s args RX12 D cA A Zs meth ret) (hR : xR D cA A Zs X H) (hS : va_S A s.heap H locs) (hin : meth.name = "<init>") (h : pF X a 12 1 (.int x) = some X') (hdg : decode cc pc = .ok (.putfield 22, 3)) (kk : ∀ (H : Heap) (locs : List Loc), xR D cA A Zs X' H → va_S A s.heap H locs → W p l e R s m args below meth c H locs cells slots Q (F0 m (pc + 3) ls rest)) : W p l e R s m args below meth c H locs cells slots Q (F0 m pc ls (.int x :: .ref a :: rest)) :=
  xputF (ci := 12) (k := 1) E hR hS in_X12 tyX12 tyX12_ok nmX12 rfl (by decide) q488 (fun _ h => h) rfl hin rfl (ty := .int) rfl rfl rfl h hdg kk
theorem xgX12_18 {v : Nat} (E : xE p m c cc nL s args RX12 D cA A Zs meth ret) (hR : xR D cA A Zs X H) (h : gR X a 12 0 = some v) (hdg : decode cc pc = .ok (.getfield 18, 3)) (kk : W p l e R s m args below meth c H locs cells slots Q (F0 m (pc + 3) ls (.ref v :: rest))) : W p l e R s m args below meth c H locs cells slots Q (F0 m pc ls (.ref a :: rest)) :=
  xget (ci := 12) (k := 0) E hR in_X12 rfl (by decide) q487 (fun _ h => h) (gR_e h) hdg kk
theorem xgX12_22 {v : Int32} (E : xE p m c cc nL s args RX12 D cA A Zs meth ret) (hR : xR D cA A Zs X H) (h : gI X a 12 1 = some v) (hdg : decode cc pc = .ok (.getfield 22, 3)) (kk : W p l e R s m args below meth c H locs cells slots Q (F0 m (pc + 3) ls (.int v :: rest))) : W p l e R s m args below meth c H locs cells slots Q (F0 m pc ls (.ref a :: rest)) :=
  xget (ci := 12) (k := 1) E hR in_X12 rfl (by decide) q488 (fun _ h => h) (gI_e h) hdg kk
theorem xgX12_26 {v : Int32} (E : xE p m c cc nL s args RX12 D cA A Zs meth ret) (hR : xR D cA A Zs X H) (h : gI X a 12 2 = some v) (hdg : decode cc pc = .ok (.getfield 26, 3)) (kk : W p l e R s m args below meth c H locs cells slots Q (F0 m (pc + 3) ls (.int v :: rest))) : W p l e R s m args below meth c H locs cells slots Q (F0 m pc ls (.ref a :: rest)) :=
  xget (ci := 12) (k := 2) E hR in_X12 rfl (by decide) q489 (fun _ h => h) (gI_e h) hdg kk
theorem xgX12_30 {v : Int32} (E : xE p m c cc nL s args RX12 D cA A Zs meth ret) (hR : xR D cA A Zs X H) (h : gI X a 12 4 = some v) (hdg : decode cc pc = .ok (.getfield 30, 3)) (kk : W p l e R s m args below meth c H locs cells slots Q (F0 m (pc + 3) ls (.int v :: rest))) : W p l e R s m args below meth c H locs cells slots Q (F0 m pc ls (.ref a :: rest)) :=
  xget (ci := 12) (k := 4) E hR in_X12 rfl (by decide) q491 (fun _ h => h) (gI_e h) hdg kk
theorem xpX12_26 {x : Int32} (E : xE p m c cc nL s args RX12 D cA A Zs meth ret) (hR : xR D cA A Zs X H) (hS : va_S A s.heap H locs) (h : pF X a 12 2 (.int x) = some X') (hdg : decode cc pc = .ok (.putfield 26, 3)) (kk : ∀ (H : Heap) (locs : List Loc), xR D cA A Zs X' H → va_S A s.heap H locs → W p l e R s m args below meth c H locs cells slots Q (F0 m (pc + 3) ls rest)) : W p l e R s m args below meth c H locs cells slots Q (F0 m pc ls (.int x :: .ref a :: rest)) :=
  xput (ci := 12) (k := 2) E hR hS in_X12 tyX12 tyX12_ok nmX12 rfl (by decide) q489 (fun _ h => h) rfl (ty := .int) rfl rfl rfl h hdg kk
theorem xpX12_30 {x : Int32} (E : xE p m c cc nL s args RX12 D cA A Zs meth ret) (hR : xR D cA A Zs X H) (hS : va_S A s.heap H locs) (h : pF X a 12 4 (.int x) = some X') (hdg : decode cc pc = .ok (.putfield 30, 3)) (kk : ∀ (H : Heap) (locs : List Loc), xR D cA A Zs X' H → va_S A s.heap H locs → W p l e R s m args below meth c H locs cells slots Q (F0 m (pc + 3) ls rest)) : W p l e R s m args below meth c H locs cells slots Q (F0 m pc ls (.int x :: .ref a :: rest)) :=
  xput (ci := 12) (k := 4) E hR hS in_X12 tyX12 tyX12_ok nmX12 rfl (by decide) q491 (fun _ h => h) rfl (ty := .int) rfl rfl rfl h hdg kk
theorem xpX12_37 {x : Int32} (E : xE p m c cc nL s args RX12 D cA A Zs meth ret) (hR : xR D cA A Zs X H) (hS : va_S A s.heap H locs) (h : pF X a 12 5 (.int x) = some X') (hdg : decode cc pc = .ok (.putfield 37, 3)) (kk : ∀ (H : Heap) (locs : List Loc), xR D cA A Zs X' H → va_S A s.heap H locs → W p l e R s m args below meth c H locs cells slots Q (F0 m (pc + 3) ls rest)) : W p l e R s m args below meth c H locs cells slots Q (F0 m pc ls (.int x :: .ref a :: rest)) :=
  xput (ci := 12) (k := 5) E hR hS in_X12 tyX12 tyX12_ok nmX12 rfl (by decide) q492 (fun _ h => h) rfl (ty := .int) rfl rfl rfl h hdg kk
theorem xpX12_40 {x : Int32} (E : xE p m c cc nL s args RX12 D cA A Zs meth ret) (hR : xR D cA A Zs X H) (hS : va_S A s.heap H locs) (h : pF X a 12 3 (.int x) = some X') (hdg : decode cc pc = .ok (.putfield 40, 3)) (kk : ∀ (H : Heap) (locs : List Loc), xR D cA A Zs X' H → va_S A s.heap H locs → W p l e R s m args below meth c H locs cells slots Q (F0 m (pc + 3) ls rest)) : W p l e R s m args below meth c H locs cells slots Q (F0 m pc ls (.int x :: .ref a :: rest)) :=
  xput (ci := 12) (k := 3) E hR hS in_X12 tyX12 tyX12_ok nmX12 rfl (by decide) q490 (fun _ h => h) rfl (ty := .int) rfl rfl rfl h hdg kk
theorem dfX13 : ∀ j, j < 8 → defaultValue (tyX13 j) = vp_V [.null, .null, .null, .null, .null, .int 0, .int 0, .int 0] j := fun j hj => by
  match j, hj with
  | 0, _ => rfl
  | 1, _ => rfl
  | 2, _ => rfl
  | 3, _ => rfl
  | 4, _ => rfl
  | 5, _ => rfl
  | 6, _ => rfl
  | 7, _ => rfl
  | j + 8, h => exact absurd h (by omega)
theorem xgX12_116 {v : Nat} (E : xE p m c cc nL s args RX12 D cA A Zs meth ret) (hR : xR D cA A Zs X H) (h : gR X a 1 3 = some v) (hdg : decode cc pc = .ok (.getfield 116, 3)) (kk : W p l e R s m args below meth c H locs cells slots Q (F0 m (pc + 3) ls (.ref v :: rest))) : W p l e R s m args below meth c H locs cells slots Q (F0 m pc ls (.ref a :: rest)) :=
  xget (ci := 1) (k := 3) E hR in_X1 rfl (by decide) q156 (fun _ h => h) (gR_e h) hdg kk
theorem xgX12_12 {v : Nat} (E : xE p m c cc nL s args RX12 D cA A Zs meth ret) (hR : xR D cA A Zs X H) (h : gR X a 12 6 = some v) (hdg : decode cc pc = .ok (.getfield 12, 3)) (kk : W p l e R s m args below meth c H locs cells slots Q (F0 m (pc + 3) ls (.ref v :: rest))) : W p l e R s m args below meth c H locs cells slots Q (F0 m pc ls (.ref a :: rest)) :=
  xget (ci := 12) (k := 6) E hR in_X12 rfl (by decide) q493 (fun _ h => h) (gR_e h) hdg kk
theorem xgX12_120 {v : Nat} (E : xE p m c cc nL s args RX12 D cA A Zs meth ret) (hR : xR D cA A Zs X H) (h : gR X a 1 5 = some v) (hdg : decode cc pc = .ok (.getfield 120, 3)) (kk : W p l e R s m args below meth c H locs cells slots Q (F0 m (pc + 3) ls (.ref v :: rest))) : W p l e R s m args below meth c H locs cells slots Q (F0 m pc ls (.ref a :: rest)) :=
  xget (ci := 1) (k := 5) E hR in_X1 rfl (by decide) q162 (fun _ h => h) (gR_e h) hdg kk
theorem xgX12_123 {v : Nat} (E : xE p m c cc nL s args RX12 D cA A Zs meth ret) (hR : xR D cA A Zs X H) (h : gR X a 1 6 = some v) (hdg : decode cc pc = .ok (.getfield 123, 3)) (kk : W p l e R s m args below meth c H locs cells slots Q (F0 m (pc + 3) ls (.ref v :: rest))) : W p l e R s m args below meth c H locs cells slots Q (F0 m pc ls (.ref a :: rest)) :=
  xget (ci := 1) (k := 6) E hR in_X1 rfl (by decide) q165 (fun _ h => h) (gR_e h) hdg kk
theorem xgX12_126 {v : Nat} (E : xE p m c cc nL s args RX12 D cA A Zs meth ret) (hR : xR D cA A Zs X H) (h : gR X a 1 2 = some v) (hdg : decode cc pc = .ok (.getfield 126, 3)) (kk : W p l e R s m args below meth c H locs cells slots Q (F0 m (pc + 3) ls (.ref v :: rest))) : W p l e R s m args below meth c H locs cells slots Q (F0 m pc ls (.ref a :: rest)) :=
  xget (ci := 1) (k := 2) E hR in_X1 rfl (by decide) q152 (fun _ h => h) (gR_e h) hdg kk
theorem xpX12_107 {x : Int32} (E : xE p m c cc nL s args RX12 D cA A Zs meth ret) (hR : xR D cA A Zs X H) (hS : va_S A s.heap H locs) (h : pF X a 1 1 (.int x) = some X') (hdg : decode cc pc = .ok (.putfield 107, 3)) (kk : ∀ (H : Heap) (locs : List Loc), xR D cA A Zs X' H → va_S A s.heap H locs → W p l e R s m args below meth c H locs cells slots Q (F0 m (pc + 3) ls rest)) : W p l e R s m args below meth c H locs cells slots Q (F0 m pc ls (.int x :: .ref a :: rest)) :=
  xput (ci := 1) (k := 1) E hR hS in_X1 tyX1 tyX1_ok nmX1 rfl (by decide) q149 (fun _ h => h) rfl (ty := .int) rfl rfl rfl h hdg kk
theorem xpX12_92 {x : Int32} (E : xE p m c cc nL s args RX12 D cA A Zs meth ret) (hR : xR D cA A Zs X H) (hS : va_S A s.heap H locs) (h : pF X a 1 0 (.int x) = some X') (hdg : decode cc pc = .ok (.putfield 92, 3)) (kk : ∀ (H : Heap) (locs : List Loc), xR D cA A Zs X' H → va_S A s.heap H locs → W p l e R s m args below meth c H locs cells slots Q (F0 m (pc + 3) ls rest)) : W p l e R s m args below meth c H locs cells slots Q (F0 m pc ls (.int x :: .ref a :: rest)) :=
  xput (ci := 1) (k := 0) E hR hS in_X1 tyX1 tyX1_ok nmX1 rfl (by decide) q146 (fun _ h => h) rfl (ty := .int) rfl rfl rfl h hdg kk
theorem dfX12 : ∀ j, j < 7 → defaultValue (tyX12 j) = vp_V [.null, .int 0, .int 0, .int 0, .int 0, .int 0, .null] j := fun j hj => by
  match j, hj with
  | 0, _ => rfl
  | 1, _ => rfl
  | 2, _ => rfl
  | 3, _ => rfl
  | 4, _ => rfl
  | 5, _ => rfl
  | 6, _ => rfl
  | j + 7, h => exact absurd h (by omega)
theorem xgX0_143 {v : Int32} (E : xE p m c cc nL s args RX0 D cA A Zs meth ret) (hR : xR D cA A Zs X H) (h : gI X a 13 6 = some v) (hdg : decode cc pc = .ok (.getfield 143, 3)) (kk : W p l e R s m args below meth c H locs cells slots Q (F0 m (pc + 3) ls (.int v :: rest))) : W p l e R s m args below meth c H locs cells slots Q (F0 m pc ls (.ref a :: rest)) :=
  xget (ci := 13) (k := 6) E hR in_X13 rfl (by decide) q550 (fun _ h => h) (gI_e h) hdg kk
theorem xgX0_150 {v : Int32} (E : xE p m c cc nL s args RX0 D cA A Zs meth ret) (hR : xR D cA A Zs X H) (h : gI X a 13 7 = some v) (hdg : decode cc pc = .ok (.getfield 150, 3)) (kk : W p l e R s m args below meth c H locs cells slots Q (F0 m (pc + 3) ls (.int v :: rest))) : W p l e R s m args below meth c H locs cells slots Q (F0 m pc ls (.ref a :: rest)) :=
  xget (ci := 13) (k := 7) E hR in_X13 rfl (by decide) q552 (fun _ h => h) (gI_e h) hdg kk
theorem xgX0_153 {v : Nat} (E : xE p m c cc nL s args RX0 D cA A Zs meth ret) (hR : xR D cA A Zs X H) (h : gR X a 12 6 = some v) (hdg : decode cc pc = .ok (.getfield 153, 3)) (kk : W p l e R s m args below meth c H locs cells slots Q (F0 m (pc + 3) ls (.ref v :: rest))) : W p l e R s m args below meth c H locs cells slots Q (F0 m pc ls (.ref a :: rest)) :=
  xget (ci := 12) (k := 6) E hR in_X12 rfl (by decide) q494 (fun _ h => h) (gR_e h) hdg kk
theorem xpX0_146 {x : Int32} (E : xE p m c cc nL s args RX0 D cA A Zs meth ret) (hR : xR D cA A Zs X H) (hS : va_S A s.heap H locs) (h : pF X a 0 3 (.int x) = some X') (hdg : decode cc pc = .ok (.putfield 146, 3)) (kk : ∀ (H : Heap) (locs : List Loc), xR D cA A Zs X' H → va_S A s.heap H locs → W p l e R s m args below meth c H locs cells slots Q (F0 m (pc + 3) ls rest)) : W p l e R s m args below meth c H locs cells slots Q (F0 m pc ls (.int x :: .ref a :: rest)) :=
  xput (ci := 0) (k := 3) E hR hS in_X0 tyX0 tyX0_ok nmX0 rfl (by decide) q272 (fun _ h => h) rfl (ty := .int) rfl rfl rfl h hdg kk
end
abbrev rmJ8_coder : Room := { frames := 1, cells := 0, slots := 0, locals := 12 }
section
variable {p : Program} {l : Launch} {e : Env} {s : State} {m : MethodId} {args : Array Value} {below : List Frame} {meth : Method} {c : Code} {D : va_G} {cA : Nat → ClassId} {A : Nat → Prop} {Zs : XZ} {Xf : AH} {r : Int32} {rl : Int64} {ra : Nat} {tv : Unit ⊕ Nat} {ti : Int32 ⊕ Nat} {tr : Nat ⊕ Nat} {q2 : Option Nat}
def fJ8_coder  (X : AH) (x0 : Nat) : Option (Int32 × AH) :=
  if (1 : Int32) = 0 then ((ngB 1).bind fun v2 =>
  some (v2, X)) else ((strC X x0).bind fun v3 =>
  (ngB v3).bind fun v4 =>
  some (v4, X))
theorem wJ8_coder_0 (E : xE p m c cJ8_coder 1 s args RJ8 D cA A Zs meth (some .byte)) {X : AH} {x0 : Nat} (hf : fJ8_coder X x0 = some (r, Xf)) : ∀ (H : Heap) (locs : List Loc) (ls : Array Slot) (cells slots : Nat), cells + 0 ≤ 0 → slots + 0 ≤ 0 → xR D cA A Zs X H → va_S A s.heap H locs → lv_has ls 1 [(0, .ref x0)] → W p l e rmJ8_coder s m args below meth c H locs cells slots (MQ below (xQi D cA A Zs r Xf) args s 0 0 A) (F0 m 0 ls []) := by
  intro H locs ls cells slots hc hs hR hS hl
  refine xgetC E hR hS q587 dJ8_coder_0 ?_
  refine lv_if_eq (tgt := 13) E.hx E.hb dJ8_coder_3 (by decide) (fun c1 => ?_) (fun c1 => ?_)
  · have hf := it_t hf c1
    refine lv_iconst (v := 1) E.hx E.hb dJ8_coder_13 (by decide) ?_
    obtain ⟨v2, hv2, hf⟩ := bd_e hf
    obtain ⟨hz, rfl⟩ := ngB_e hv2
    obtain ⟨rfl, rfl⟩ := rt_e hf
    exact xret_n E hz (by omega) (by omega) hR hS dJ8_coder_14
  · have hf := it_f hf c1
    refine lv_aload_n E.hx E.hb dJ8_coder_6 rfl (lv_at hl 0 rfl) ?_
    obtain ⟨v3, hv3, hf⟩ := bd_e hf
    refine xstrC E hR hS hv3 q1717 dJ8_coder_7 ?_
    refine lv_goto (tgt := 14) E.hx E.hb dJ8_coder_10 (by decide) ?_
    obtain ⟨v4, hv4, hf⟩ := bd_e hf
    obtain ⟨hz, rfl⟩ := ngB_e hv4
    obtain ⟨rfl, rfl⟩ := rt_e hf
    exact xret_n E hz (by omega) (by omega) hR hS dJ8_coder_14
theorem tJ8_coder (l : Launch) {D : va_G} {cA : Nat → ClassId} {A : Nat → Prop} {Zs : XZ} {X Xf : AH} {x0 : Nat} {r : Int32} (hf : fJ8_coder X x0 = some (r, Xf)) : Met l yJ8_coder (ws_ yJ8_coder cJ8_coder 1 (some .byte)) rmJ8_coder (xPc D cA A Zs X [.ref x0]) (xQi D cA A Zs r Xf) 0 0 A := by
  refine Met.ofW (cc := cJ8_coder) (maxL := 1) (ret := (some .byte)) (by decide) rfl ?_
  intro p e s m args below meth c s₁ B hml hv
  obtain ⟨rfl, hR, hK⟩ := hv
  have hts := atoms_spec (ws := (ws_ yJ8_coder cJ8_coder 1 (some .byte))) B.pre
  rw [lg_entry_eq]
  exact wJ8_coder_0 (E := ⟨⟨B.exec, B.bytes, hml, findClass_of_methodNamed B.named, fun w h => hts w (List.mem_cons_of_mem _ h)⟩, hK, B.returns, B.notSynchronized⟩) hf _ _ _ 0 0 (Nat.le_of_ble_eq_true rfl) (Nat.le_of_ble_eq_true rfl) hR va_S.rf (lv_entry [.ref x0] (n := 1) (Nat.le_of_ble_eq_true rfl))
end
abbrev rmJ8_length : Room := { frames := 2, cells := 0, slots := 0, locals := 32 }
theorem cwJ8_335 {R : Room} {s : State} {args : Array Value} (ht : ∀ w ∈ lw_all, w.before args s = true) (hR : rmJ8_coder.frames + 1 ≤ R.frames ∧ 8 + (1 + 11) + rmJ8_coder.locals ≤ R.locals) : CallW R s args RJ8 RJ8 335 yJ8_coder cJ8_coder 1 (some .byte) (ws_ yJ8_coder cJ8_coder 1 (some .byte)) rmJ8_coder 0 0 0 :=
  cwV 0 ht (lw_V q583 q584 q585 q88 q586) rfl rfl rfl (by decide +kernel) hR
section
variable {p : Program} {l : Launch} {e : Env} {s : State} {m : MethodId} {args : Array Value} {below : List Frame} {meth : Method} {c : Code} {D : va_G} {cA : Nat → ClassId} {A : Nat → Prop} {Zs : XZ} {Xf : AH} {r : Int32} {rl : Int64} {ra : Nat} {tv : Unit ⊕ Nat} {ti : Int32 ⊕ Nat} {tr : Nat ⊕ Nat} {q2 : Option Nat}
def fJ8_length  (X : AH) (x0 : Nat) : Option (Int32 × AH) :=
  (strV X x0).bind fun v1 =>
  (strL X v1).bind fun v2 =>
  (ckS X x0).bind fun _ =>
  (fJ8_coder X x0).bind fun (v5, X4) =>
  some ((v2 >>> (v5 &&& 31)), X4)
theorem wJ8_length_0 (E : xE p m c cJ8_length 1 s args RJ8 D cA A Zs meth (some .int)) {X : AH} {x0 : Nat} (hf : fJ8_length X x0 = some (r, Xf)) : ∀ (H : Heap) (locs : List Loc) (ls : Array Slot) (cells slots : Nat), cells + 0 ≤ 0 → slots + 0 ≤ 0 → xR D cA A Zs X H → va_S A s.heap H locs → lv_has ls 1 [(0, .ref x0)] → W p l e rmJ8_length s m args below meth c H locs cells slots (MQ below (xQi D cA A Zs r Xf) args s 0 0 A) (F0 m 0 ls []) := by
  intro H locs ls cells slots hc hs hR hS hl
  refine lv_aload_n E.hx E.hb dJ8_length_0 rfl (lv_at hl 0 rfl) ?_
  obtain ⟨v1, hv1, hf⟩ := bd_e hf
  refine xstrV E hR hS hv1 q1716 dJ8_length_1 ?_
  obtain ⟨v2, hv2, hf⟩ := bd_e hf
  refine xstrL E hR hS hv2 dJ8_length_4 ?_
  refine lv_aload_n E.hx E.hb dJ8_length_5 rfl (lv_at hl 0 rfl) ?_
  obtain ⟨u3, hu3, hf⟩ := bd_e hf
  obtain ⟨⟨v5, X4⟩, hv5, hf⟩ := bd_e hf
  refine xrun_i (va_runV (As := []) (rest := [.int v2]) E.1 (tJ8_coder l hv5) (cwJ8_335 E.ht ⟨Nat.le_of_ble_eq_true rfl, Nat.le_of_ble_eq_true rfl⟩) (xPreVS E hR hS (ckS_e hu3)) rfl rfl hl.1 rfl (lv_room (Nat.le_of_ble_eq_true rfl)) dJ8_length_6 ⟨Nat.le_trans (by omega) (Nat.le_refl 0), Nat.le_trans (by omega) (Nat.le_refl 0)⟩) hS (fun H locs hR hS => ?_)
  refine lv_ishr E.hx E.hb dJ8_length_9 ?_
  obtain ⟨rfl, rfl⟩ := rt_e hf
  exact xret_i E (by omega) (by omega) hR hS dJ8_length_10
theorem tJ8_length (l : Launch) {D : va_G} {cA : Nat → ClassId} {A : Nat → Prop} {Zs : XZ} {X Xf : AH} {x0 : Nat} {r : Int32} (hf : fJ8_length X x0 = some (r, Xf)) : Met l yJ8_length (ws_ yJ8_length cJ8_length 1 (some .int)) rmJ8_length (xPc D cA A Zs X [.ref x0]) (xQi D cA A Zs r Xf) 0 0 A := by
  refine Met.ofW (cc := cJ8_length) (maxL := 1) (ret := (some .int)) (by decide) rfl ?_
  intro p e s m args below meth c s₁ B hml hv
  obtain ⟨rfl, hR, hK⟩ := hv
  have hts := atoms_spec (ws := (ws_ yJ8_length cJ8_length 1 (some .int))) B.pre
  rw [lg_entry_eq]
  exact wJ8_length_0 (E := ⟨⟨B.exec, B.bytes, hml, findClass_of_methodNamed B.named, fun w h => hts w (List.mem_cons_of_mem _ h)⟩, hK, B.returns, B.notSynchronized⟩) hf _ _ _ 0 0 (Nat.le_of_ble_eq_true rfl) (Nat.le_of_ble_eq_true rfl) hR va_S.rf (lv_entry [.ref x0] (n := 1) (Nat.le_of_ble_eq_true rfl))
end
abbrev rmJ8_isLatin1 : Room := { frames := 1, cells := 0, slots := 0, locals := 12 }
section
variable {p : Program} {l : Launch} {e : Env} {s : State} {m : MethodId} {args : Array Value} {below : List Frame} {meth : Method} {c : Code} {D : va_G} {cA : Nat → ClassId} {A : Nat → Prop} {Zs : XZ} {Xf : AH} {r : Int32} {rl : Int64} {ra : Nat} {tv : Unit ⊕ Nat} {ti : Int32 ⊕ Nat} {tr : Nat ⊕ Nat} {q2 : Option Nat}
def fJ8_isLatin1  (X : AH) (x0 : Nat) : Option (Int32 × AH) :=
  if (1 : Int32) = 0 then (some (0, X)) else ((strC X x0).bind fun v2 =>
  if v2 = 0 then (some (1, X)) else (some (0, X)))
theorem wJ8_isLatin1_0 (E : xE p m c cJ8_isLatin1 1 s args RJ8 D cA A Zs meth (some .boolean)) {X : AH} {x0 : Nat} (hf : fJ8_isLatin1 X x0 = some (r, Xf)) : ∀ (H : Heap) (locs : List Loc) (ls : Array Slot) (cells slots : Nat), cells + 0 ≤ 0 → slots + 0 ≤ 0 → xR D cA A Zs X H → va_S A s.heap H locs → lv_has ls 1 [(0, .ref x0)] → W p l e rmJ8_isLatin1 s m args below meth c H locs cells slots (MQ below (xQi D cA A Zs r Xf) args s 0 0 A) (F0 m 0 ls []) := by
  intro H locs ls cells slots hc hs hR hS hl
  refine xgetC E hR hS q587 dJ8_isLatin1_0 ?_
  refine lv_if_eq (tgt := 17) E.hx E.hb dJ8_isLatin1_3 (by decide) (fun c1 => ?_) (fun c1 => ?_)
  · have hf := it_t hf c1
    refine lv_iconst (v := 0) E.hx E.hb dJ8_isLatin1_17 (by decide) ?_
    obtain ⟨rfl, rfl⟩ := rt_e hf
    exact xret_z E rfl (by omega) (by omega) hR hS dJ8_isLatin1_18
  · have hf := it_f hf c1
    refine lv_aload_n E.hx E.hb dJ8_isLatin1_6 rfl (lv_at hl 0 rfl) ?_
    obtain ⟨v2, hv2, hf⟩ := bd_e hf
    refine xstrC E hR hS hv2 q1717 dJ8_isLatin1_7 ?_
    refine lv_if_ne (tgt := 17) E.hx E.hb dJ8_isLatin1_10 (by decide) (fun c3 => ?_) (fun c3 => ?_)
    · have hf := it_f hf c3
      refine lv_iconst (v := 0) E.hx E.hb dJ8_isLatin1_17 (by decide) ?_
      obtain ⟨rfl, rfl⟩ := rt_e hf
      exact xret_z E rfl (by omega) (by omega) hR hS dJ8_isLatin1_18
    · have hf := it_t hf c3
      refine lv_iconst (v := 1) E.hx E.hb dJ8_isLatin1_13 (by decide) ?_
      refine lv_goto (tgt := 18) E.hx E.hb dJ8_isLatin1_14 (by decide) ?_
      obtain ⟨rfl, rfl⟩ := rt_e hf
      exact xret_z E rfl (by omega) (by omega) hR hS dJ8_isLatin1_18
theorem tJ8_isLatin1 (l : Launch) {D : va_G} {cA : Nat → ClassId} {A : Nat → Prop} {Zs : XZ} {X Xf : AH} {x0 : Nat} {r : Int32} (hf : fJ8_isLatin1 X x0 = some (r, Xf)) : Met l yJ8_isLatin1 (ws_ yJ8_isLatin1 cJ8_isLatin1 1 (some .boolean)) rmJ8_isLatin1 (xPc D cA A Zs X [.ref x0]) (xQi D cA A Zs r Xf) 0 0 A := by
  refine Met.ofW (cc := cJ8_isLatin1) (maxL := 1) (ret := (some .boolean)) (by decide) rfl ?_
  intro p e s m args below meth c s₁ B hml hv
  obtain ⟨rfl, hR, hK⟩ := hv
  have hts := atoms_spec (ws := (ws_ yJ8_isLatin1 cJ8_isLatin1 1 (some .boolean))) B.pre
  rw [lg_entry_eq]
  exact wJ8_isLatin1_0 (E := ⟨⟨B.exec, B.bytes, hml, findClass_of_methodNamed B.named, fun w h => hts w (List.mem_cons_of_mem _ h)⟩, hK, B.returns, B.notSynchronized⟩) hf _ _ _ 0 0 (Nat.le_of_ble_eq_true rfl) (Nat.le_of_ble_eq_true rfl) hR va_S.rf (lv_entry [.ref x0] (n := 1) (Nat.le_of_ble_eq_true rfl))
end
abbrev rmJ8_checkIndex : Room := { frames := 2, cells := 0, slots := 0, locals := 34 }
theorem cwJ8_1059 {R : Room} {s : State} {args : Array Value} (ht : ∀ w ∈ lw_all, w.before args s = true) (hR : rmJ10_checkIndex.frames + 1 ≤ R.frames ∧ 8 + (3 + 11) + rmJ10_checkIndex.locals ≤ R.locals) : CallB R s args RJ8 1059 yJ10_checkIndex cJ10_checkIndex 3 (some .int) (ws_ yJ10_checkIndex cJ10_checkIndex 3 (some .int)) rmJ10_checkIndex 0 0 3 ∧ (Cond.static yJ10_checkIndex).before args s = true :=
  va_cwS 3 ht (lw_S q605 q606 q93 q607) rfl rfl rfl (by decide +kernel) hR
section
variable {p : Program} {l : Launch} {e : Env} {s : State} {m : MethodId} {args : Array Value} {below : List Frame} {meth : Method} {c : Code} {D : va_G} {cA : Nat → ClassId} {A : Nat → Prop} {Zs : XZ} {Xf : AH} {r : Int32} {rl : Int64} {ra : Nat} {tv : Unit ⊕ Nat} {ti : Int32 ⊕ Nat} {tr : Nat ⊕ Nat} {q2 : Option Nat}
def fJ8_checkIndex  (X : AH) (x0 : Int32) (x1 : Int32) : Option AH :=
  (fJ10_checkIndex X x0 x1).bind fun (v3, X2) =>
  some X2
theorem wJ8_checkIndex_0 (E : xE p m c cJ8_checkIndex 2 s args RJ8 D cA A Zs meth none) {X : AH} {x0 : Int32} {x1 : Int32} (hf : fJ8_checkIndex X x0 x1 = some Xf) : ∀ (H : Heap) (locs : List Loc) (ls : Array Slot) (cells slots : Nat), cells + 0 ≤ 0 → slots + 0 ≤ 0 → xR D cA A Zs X H → va_S A s.heap H locs → lv_has ls 2 [(0, .int x0), (1, .int x1)] → W p l e rmJ8_checkIndex s m args below meth c H locs cells slots (MQ below (xQv D cA A Zs Xf) args s 0 0 A) (F0 m 0 ls []) := by
  intro H locs ls cells slots hc hs hR hS hl
  refine lv_iload_n E.hx E.hb dJ8_checkIndex_0 rfl (lv_at hl 0 rfl) ?_
  refine lv_iload_n E.hx E.hb dJ8_checkIndex_1 rfl (lv_at hl 1 rfl) ?_
  refine xgetF E hS q603 dJ8_checkIndex_2 (fun u1 => ?_)
  obtain ⟨⟨v3, X2⟩, hv3, hf⟩ := bd_e hf
  refine xrun_i (va_runS (As := [.int x0, .int x1, va_rf (u1)]) (rest := []) E.1 (tJ10_checkIndex l (q2 := u1) hv3) (cwJ8_1059 E.ht ⟨Nat.le_of_ble_eq_true rfl, Nat.le_of_ble_eq_true rfl⟩) (xPreS E hR hS) rfl rfl hl.1 rfl (lv_room (Nat.le_of_ble_eq_true rfl)) dJ8_checkIndex_5 ⟨Nat.le_trans (by omega) (Nat.le_refl 0), Nat.le_trans (by omega) (Nat.le_refl 0)⟩) hS (fun H locs hR hS => ?_)
  refine lv_pop E.hx E.hb dJ8_checkIndex_8 rfl ?_
  obtain rfl := Option.some.inj hf
  exact xret_v E (by omega) (by omega) hR hS dJ8_checkIndex_9
theorem tJ8_checkIndex (l : Launch) {D : va_G} {cA : Nat → ClassId} {A : Nat → Prop} {Zs : XZ} {X Xf : AH} {x0 : Int32} {x1 : Int32}  (hf : fJ8_checkIndex X x0 x1 = some Xf) : Met l yJ8_checkIndex (ws_ yJ8_checkIndex cJ8_checkIndex 2 none) rmJ8_checkIndex (xPc D cA A Zs X [.int x0, .int x1]) (xQv D cA A Zs Xf) 0 0 A := by
  refine Met.ofW (cc := cJ8_checkIndex) (maxL := 2) (ret := none) (by decide) rfl ?_
  intro p e s m args below meth c s₁ B hml hv
  obtain ⟨rfl, hR, hK⟩ := hv
  have hts := atoms_spec (ws := (ws_ yJ8_checkIndex cJ8_checkIndex 2 none)) B.pre
  rw [lg_entry_eq]
  exact wJ8_checkIndex_0 (E := ⟨⟨B.exec, B.bytes, hml, findClass_of_methodNamed B.named, fun w h => hts w (List.mem_cons_of_mem _ h)⟩, hK, B.returns, B.notSynchronized⟩) hf _ _ _ 0 0 (Nat.le_of_ble_eq_true rfl) (Nat.le_of_ble_eq_true rfl) hR va_S.rf (lv_entry [.int x0, .int x1] (n := 2) (Nat.le_of_ble_eq_true rfl))
end
abbrev rmJ9_charAt : Room := { frames := 3, cells := 0, slots := 0, locals := 55 }
theorem cwJ9_9 {R : Room} {s : State} {args : Array Value} (ht : ∀ w ∈ lw_all, w.before args s = true) (hR : rmJ8_checkIndex.frames + 1 ≤ R.frames ∧ 8 + (2 + 11) + rmJ8_checkIndex.locals ≤ R.locals) : CallB R s args RJ9 9 yJ8_checkIndex cJ8_checkIndex 2 none (ws_ yJ8_checkIndex cJ8_checkIndex 2 none) rmJ8_checkIndex 0 0 2 ∧ (Cond.static yJ8_checkIndex).before args s = true :=
  va_cwS 2 ht (lw_S q600 q601 q88 q602) rfl rfl rfl (by decide +kernel) hR
section
variable {p : Program} {l : Launch} {e : Env} {s : State} {m : MethodId} {args : Array Value} {below : List Frame} {meth : Method} {c : Code} {D : va_G} {cA : Nat → ClassId} {A : Nat → Prop} {Zs : XZ} {Xf : AH} {r : Int32} {rl : Int64} {ra : Nat} {tv : Unit ⊕ Nat} {ti : Int32 ⊕ Nat} {tr : Nat ⊕ Nat} {q2 : Option Nat}
def fJ9_charAt  (X : AH) (x0 : Nat) (x1 : Int32) : Option (Int32 × AH) :=
  (strL X x0).bind fun v1 =>
  (fJ8_checkIndex X x1 v1).bind fun X2 =>
  (strB X2 x0 x1).bind fun v4 =>
  (ngC (((v4 &&& 255).toUInt32 % 65536).toInt32)).bind fun v5 =>
  some (v5, X2)
theorem wJ9_charAt_0 (E : xE p m c cJ9_charAt 2 s args RJ9 D cA A Zs meth (some .char)) {X : AH} {x0 : Nat} {x1 : Int32} (hf : fJ9_charAt X x0 x1 = some (r, Xf)) : ∀ (H : Heap) (locs : List Loc) (ls : Array Slot) (cells slots : Nat), cells + 0 ≤ 0 → slots + 0 ≤ 0 → xR D cA A Zs X H → va_S A s.heap H locs → lv_has ls 2 [(0, .ref x0), (1, .int x1)] → W p l e rmJ9_charAt s m args below meth c H locs cells slots (MQ below (xQi D cA A Zs r Xf) args s 0 0 A) (F0 m 0 ls []) := by
  intro H locs ls cells slots hc hs hR hS hl
  refine lv_iload_n E.hx E.hb dJ9_charAt_0 rfl (lv_at hl 1 rfl) ?_
  refine lv_aload_n E.hx E.hb dJ9_charAt_1 rfl (lv_at hl 0 rfl) ?_
  obtain ⟨v1, hv1, hf⟩ := bd_e hf
  refine xstrL E hR hS hv1 dJ9_charAt_2 ?_
  obtain ⟨X2, hX2, hf⟩ := bd_e hf
  refine xrun_v (va_runS (As := [.int x1, .int v1]) (rest := []) E.1 (tJ8_checkIndex l hX2) (cwJ9_9 E.ht ⟨Nat.le_of_ble_eq_true rfl, Nat.le_of_ble_eq_true rfl⟩) (xPreS E hR hS) rfl rfl hl.1 rfl (lv_room (Nat.le_of_ble_eq_true rfl)) dJ9_charAt_3 ⟨Nat.le_trans (by omega) (Nat.le_refl 0), Nat.le_trans (by omega) (Nat.le_refl 0)⟩) hS (fun H locs hR hS => ?_)
  refine lv_aload_n E.hx E.hb dJ9_charAt_6 rfl (lv_at hl 0 rfl) ?_
  refine lv_iload_n E.hx E.hb dJ9_charAt_7 rfl (lv_at hl 1 rfl) ?_
  obtain ⟨v4, hv4, hf⟩ := bd_e hf
  refine xstrB E hR hS hv4 dJ9_charAt_8 ?_
  refine lv_sipush (v := 255) E.hx E.hb dJ9_charAt_9 (by decide) ?_
  refine lv_iand E.hx E.hb dJ9_charAt_12 ?_
  refine lv_i2c E.hx E.hb dJ9_charAt_13 rfl ?_
  obtain ⟨v5, hv5, hf⟩ := bd_e hf
  obtain ⟨hz, rfl⟩ := ngC_e hv5
  obtain ⟨rfl, rfl⟩ := rt_e hf
  exact xret_n E hz (by omega) (by omega) hR hS dJ9_charAt_14
theorem tJ9_charAt (l : Launch) {D : va_G} {cA : Nat → ClassId} {A : Nat → Prop} {Zs : XZ} {X Xf : AH} {x0 : Nat} {x1 : Int32} {r : Int32} (hf : fJ9_charAt X x0 x1 = some (r, Xf)) : Met l yJ9_charAt (ws_ yJ9_charAt cJ9_charAt 2 (some .char)) rmJ9_charAt (xPc D cA A Zs X [.ref x0, .int x1]) (xQi D cA A Zs r Xf) 0 0 A := by
  refine Met.ofW (cc := cJ9_charAt) (maxL := 2) (ret := (some .char)) (by decide) rfl ?_
  intro p e s m args below meth c s₁ B hml hv
  obtain ⟨rfl, hR, hK⟩ := hv
  have hts := atoms_spec (ws := (ws_ yJ9_charAt cJ9_charAt 2 (some .char))) B.pre
  rw [lg_entry_eq]
  exact wJ9_charAt_0 (E := ⟨⟨B.exec, B.bytes, hml, findClass_of_methodNamed B.named, fun w h => hts w (List.mem_cons_of_mem _ h)⟩, hK, B.returns, B.notSynchronized⟩) hf _ _ _ 0 0 (Nat.le_of_ble_eq_true rfl) (Nat.le_of_ble_eq_true rfl) hR va_S.rf (lv_entry [.ref x0, .int x1] (n := 2) (Nat.le_of_ble_eq_true rfl))
end
abbrev rmJ8_charAt : Room := { frames := 4, cells := 0, slots := 0, locals := 76 }
theorem cwJ8_492 {R : Room} {s : State} {args : Array Value} (ht : ∀ w ∈ lw_all, w.before args s = true) (hR : rmJ8_isLatin1.frames + 1 ≤ R.frames ∧ 8 + (1 + 11) + rmJ8_isLatin1.locals ≤ R.locals) : CallW R s args RJ8 RJ8 492 yJ8_isLatin1 cJ8_isLatin1 1 (some .boolean) (ws_ yJ8_isLatin1 cJ8_isLatin1 1 (some .boolean)) rmJ8_isLatin1 0 0 0 :=
  cwV 0 ht (lw_V q593 q594 q595 q88 q596) rfl rfl rfl (by decide +kernel) hR
theorem cwJ8_495 {R : Room} {s : State} {args : Array Value} (ht : ∀ w ∈ lw_all, w.before args s = true) (hR : rmJ9_charAt.frames + 1 ≤ R.frames ∧ 8 + (2 + 11) + rmJ9_charAt.locals ≤ R.locals) : CallB R s args RJ8 495 yJ9_charAt cJ9_charAt 2 (some .char) (ws_ yJ9_charAt cJ9_charAt 2 (some .char)) rmJ9_charAt 0 0 2 ∧ (Cond.static yJ9_charAt).before args s = true :=
  va_cwS 2 ht (lw_S q597 q598 q92 q599) rfl rfl rfl (by decide +kernel) hR
section
variable {p : Program} {l : Launch} {e : Env} {s : State} {m : MethodId} {args : Array Value} {below : List Frame} {meth : Method} {c : Code} {D : va_G} {cA : Nat → ClassId} {A : Nat → Prop} {Zs : XZ} {Xf : AH} {r : Int32} {rl : Int64} {ra : Nat} {tv : Unit ⊕ Nat} {ti : Int32 ⊕ Nat} {tr : Nat ⊕ Nat} {q2 : Option Nat}
def fJ8_charAt  (X : AH) (x0 : Nat) (x1 : Int32) : Option (Int32 × AH) :=
  (ckS X x0).bind fun _ =>
  (fJ8_isLatin1 X x0).bind fun (v3, X2) =>
  if v3 = 0 then none else ((strV X2 x0).bind fun v5 =>
  (fJ9_charAt X2 v5 x1).bind fun (v7, X6) =>
  (ngC v7).bind fun v8 =>
  some (v8, X6))
theorem wJ8_charAt_0 (E : xE p m c cJ8_charAt 2 s args RJ8 D cA A Zs meth (some .char)) {X : AH} {x0 : Nat} {x1 : Int32} (hf : fJ8_charAt X x0 x1 = some (r, Xf)) : ∀ (H : Heap) (locs : List Loc) (ls : Array Slot) (cells slots : Nat), cells + 0 ≤ 0 → slots + 0 ≤ 0 → xR D cA A Zs X H → va_S A s.heap H locs → lv_has ls 2 [(0, .ref x0), (1, .int x1)] → W p l e rmJ8_charAt s m args below meth c H locs cells slots (MQ below (xQi D cA A Zs r Xf) args s 0 0 A) (F0 m 0 ls []) := by
  intro H locs ls cells slots hc hs hR hS hl
  refine lv_aload_n E.hx E.hb dJ8_charAt_0 rfl (lv_at hl 0 rfl) ?_
  obtain ⟨u1, hu1, hf⟩ := bd_e hf
  obtain ⟨⟨v3, X2⟩, hv3, hf⟩ := bd_e hf
  refine xrun_i (va_runV (As := []) (rest := []) E.1 (tJ8_isLatin1 l hv3) (cwJ8_492 E.ht ⟨Nat.le_of_ble_eq_true rfl, Nat.le_of_ble_eq_true rfl⟩) (xPreVS E hR hS (ckS_e hu1)) rfl rfl hl.1 rfl (lv_room (Nat.le_of_ble_eq_true rfl)) dJ8_charAt_1 ⟨Nat.le_trans (by omega) (Nat.le_refl 0), Nat.le_trans (by omega) (Nat.le_refl 0)⟩) hS (fun H locs hR hS => ?_)
  refine lv_if_eq (tgt := 16) E.hx E.hb dJ8_charAt_4 (by decide) (fun c4 => ?_) (fun c4 => ?_)
  · have hf := it_t hf c4
    have hf : none = some (r, Xf) := hf
    cases hf
  · have hf := it_f hf c4
    refine lv_aload_n E.hx E.hb dJ8_charAt_7 rfl (lv_at hl 0 rfl) ?_
    obtain ⟨v5, hv5, hf⟩ := bd_e hf
    refine xstrV E hR hS hv5 q1716 dJ8_charAt_8 ?_
    refine lv_iload_n E.hx E.hb dJ8_charAt_11 rfl (lv_at hl 1 rfl) ?_
    obtain ⟨⟨v7, X6⟩, hv7, hf⟩ := bd_e hf
    refine xrun_i (va_runS (As := [.ref v5, .int x1]) (rest := []) E.1 (tJ9_charAt l hv7) (cwJ8_495 E.ht ⟨Nat.le_of_ble_eq_true rfl, Nat.le_of_ble_eq_true rfl⟩) (xPreS E hR hS) rfl rfl hl.1 rfl (lv_room (Nat.le_of_ble_eq_true rfl)) dJ8_charAt_12 ⟨Nat.le_trans (by omega) (Nat.le_refl 0), Nat.le_trans (by omega) (Nat.le_refl 0)⟩) hS (fun H locs hR hS => ?_)
    obtain ⟨v8, hv8, hf⟩ := bd_e hf
    obtain ⟨hz, rfl⟩ := ngC_e hv8
    obtain ⟨rfl, rfl⟩ := rt_e hf
    exact xret_n E hz (by omega) (by omega) hR hS dJ8_charAt_15
theorem tJ8_charAt (l : Launch) {D : va_G} {cA : Nat → ClassId} {A : Nat → Prop} {Zs : XZ} {X Xf : AH} {x0 : Nat} {x1 : Int32} {r : Int32} (hf : fJ8_charAt X x0 x1 = some (r, Xf)) : Met l yJ8_charAt (ws_ yJ8_charAt cJ8_charAt 2 (some .char)) rmJ8_charAt (xPc D cA A Zs X [.ref x0, .int x1]) (xQi D cA A Zs r Xf) 0 0 A := by
  refine Met.ofW (cc := cJ8_charAt) (maxL := 2) (ret := (some .char)) (by decide) rfl ?_
  intro p e s m args below meth c s₁ B hml hv
  obtain ⟨rfl, hR, hK⟩ := hv
  have hts := atoms_spec (ws := (ws_ yJ8_charAt cJ8_charAt 2 (some .char))) B.pre
  rw [lg_entry_eq]
  exact wJ8_charAt_0 (E := ⟨⟨B.exec, B.bytes, hml, findClass_of_methodNamed B.named, fun w h => hts w (List.mem_cons_of_mem _ h)⟩, hK, B.returns, B.notSynchronized⟩) hf _ _ _ 0 0 (Nat.le_of_ble_eq_true rfl) (Nat.le_of_ble_eq_true rfl) hR va_S.rf (lv_entry [.ref x0, .int x1] (n := 2) (Nat.le_of_ble_eq_true rfl))
end
abbrev rmX12_sortIn : Room := { frames := 5, cells := 0, slots := 0, locals := 97 }
theorem cwX12_75 {R : Room} {s : State} {args : Array Value} (ht : ∀ w ∈ lw_all, w.before args s = true) (hR : rmJ8_length.frames + 1 ≤ R.frames ∧ 8 + (1 + 11) + rmJ8_length.locals ≤ R.locals) : CallW R s args RX12 RJ8 75 yJ8_length cJ8_length 1 (some .int) (ws_ yJ8_length cJ8_length 1 (some .int)) rmJ8_length 0 0 0 :=
  cwV 0 ht (lw_V q579 q580 q581 q88 q582) rfl rfl rfl (by decide +kernel) hR
theorem cwX12_80 {R : Room} {s : State} {args : Array Value} (ht : ∀ w ∈ lw_all, w.before args s = true) (hR : rmJ8_charAt.frames + 1 ≤ R.frames ∧ 8 + (2 + 11) + rmJ8_charAt.locals ≤ R.locals) : CallW R s args RX12 RJ8 80 yJ8_charAt cJ8_charAt 2 (some .char) (ws_ yJ8_charAt cJ8_charAt 2 (some .char)) rmJ8_charAt 0 0 1 :=
  cwV 1 ht (lw_V q589 q590 q591 q88 q592) rfl rfl rfl (by decide +kernel) hR
section
variable {p : Program} {l : Launch} {e : Env} {s : State} {m : MethodId} {args : Array Value} {below : List Frame} {meth : Method} {c : Code} {D : va_G} {cA : Nat → ClassId} {A : Nat → Prop} {Zs : XZ} {Xf : AH} {r : Int32} {rl : Int64} {ra : Nat} {tv : Unit ⊕ Nat} {ti : Int32 ⊕ Nat} {tr : Nat ⊕ Nat} {q2 : Option Nat}
def fX12_sortIn_b30  (X : AH) (x0 : Nat) (x3 : Int32) : Option (Int32 × AH) :=
  (ckS X x0).bind fun _ =>
  (fJ8_length X x0).bind fun (v3, X2) =>
  if v3 ≤ x3 then (some ((-1000000), X2)) else (some (x3, X2))
theorem wX12_sortIn_b30 (E : xE p m c cX12_sortIn 4 s args RX12 D cA A Zs meth (some .int)) {X : AH} {x0 : Nat} {x3 : Int32} (hf : fX12_sortIn_b30 X x0 x3 = some (r, Xf)) : ∀ (H : Heap) (locs : List Loc) (ls : Array Slot) (cells slots : Nat), cells + 0 ≤ 0 → slots + 0 ≤ 0 → xR D cA A Zs X H → va_S A s.heap H locs → lv_has ls 4 [(0, .ref x0), (3, .int x3)] → W p l e rmX12_sortIn s m args below meth c H locs cells slots (MQ below (xQi D cA A Zs r Xf) args s 0 0 A) (F0 m 30 ls []) := by
  intro H locs ls cells slots hc hs hR hS hl
  refine lv_iload_n E.hx E.hb dX12_sortIn_30 rfl (lv_at hl 1 rfl) ?_
  refine lv_aload_n E.hx E.hb dX12_sortIn_31 rfl (lv_at hl 0 rfl) ?_
  obtain ⟨u1, hu1, hf⟩ := bd_e hf
  obtain ⟨⟨v3, X2⟩, hv3, hf⟩ := bd_e hf
  refine xrun_i (va_runV (As := []) (rest := [.int x3]) E.1 (tJ8_length l hv3) (cwX12_75 E.ht ⟨Nat.le_of_ble_eq_true rfl, Nat.le_of_ble_eq_true rfl⟩) (xPreVS E hR hS (ckS_e hu1)) rfl rfl hl.1 rfl (lv_room (Nat.le_of_ble_eq_true rfl)) dX12_sortIn_32 ⟨Nat.le_trans (by omega) (Nat.le_refl 0), Nat.le_trans (by omega) (Nat.le_refl 0)⟩) hS (fun H locs hR hS => ?_)
  refine lv_icmp_ge (tgt := 42) E.hx E.hb dX12_sortIn_35 (by decide) (fun c4 => ?_) (fun c4 => ?_)
  · have hf := it_t hf c4
    refine lv_ldc (v := (-1000000)) E.hx E.hb E.ho (E.ht _ q522) dX12_sortIn_42 ?_
    obtain ⟨rfl, rfl⟩ := rt_e hf
    exact xret_i E (by omega) (by omega) hR hS dX12_sortIn_44
  · have hf := it_f hf c4
    refine lv_iload_n E.hx E.hb dX12_sortIn_38 rfl (lv_at hl 1 rfl) ?_
    refine lv_goto (tgt := 44) E.hx E.hb dX12_sortIn_39 (by decide) ?_
    obtain ⟨rfl, rfl⟩ := rt_e hf
    exact xret_i E (by omega) (by omega) hR hS dX12_sortIn_44
def fX12_sortIn_L2  : Nat → AH → Nat → Int32 → Int32 → Int32 → Option (Int32 × AH)
  | 0, _, _, _, _, _ => none
  | n + 1, X, x0, x1, x2, x3 =>
    (ckS X x0).bind fun _ =>
    (fJ8_length X x0).bind fun (v3, X2) =>
    if v3 ≤ x3 then (fX12_sortIn_b30 X2 x0 x3) else (if x1 = 1 then ((ckS X2 x0).bind fun _ =>
    (fJ8_charAt X2 x0 x3).bind fun (v8, X7) =>
    if v8 = x2 then (fX12_sortIn_b30 X7 x0 x3) else ((fX12_sortIn_L2 n) X7 x0 x1 x2 (x3 + 1))) else ((fX12_sortIn_L2 n) X2 x0 x1 x2 (x3 + 1)))
theorem wX12_sortIn_L2 (E : xE p m c cX12_sortIn 4 s args RX12 D cA A Zs meth (some .int)) : ∀ (n : Nat) (X : AH) (x0 : Nat) (x1 : Int32) (x2 : Int32) (x3 : Int32), fX12_sortIn_L2 n X x0 x1 x2 x3 = some (r, Xf) → ∀ (H : Heap) (locs : List Loc) (ls : Array Slot) (cells slots : Nat), cells + 0 ≤ 0 → slots + 0 ≤ 0 → xR D cA A Zs X H → va_S A s.heap H locs → lv_has ls 4 [(0, .ref x0), (1, .int x1), (2, .int x2), (3, .int x3)] → W p l e rmX12_sortIn s m args below meth c H locs cells slots (MQ below (xQi D cA A Zs r Xf) args s 0 0 A) (F0 m 2 ls []) := by
  intro n
  induction n with
  | zero =>
    intro X x0 x1 x2 x3 hf
    have hf : none = some (r, Xf) := hf
    cases hf
  | succ n ih =>
    intro X x0 x1 x2 x3 hf H locs ls cells slots hc hs hR hS hl
    refine lv_iload_n E.hx E.hb dX12_sortIn_2 rfl (lv_at hl 3 rfl) ?_
    refine lv_aload_n E.hx E.hb dX12_sortIn_3 rfl (lv_at hl 0 rfl) ?_
    obtain ⟨u1, hu1, hf⟩ := bd_e hf
    obtain ⟨⟨v3, X2⟩, hv3, hf⟩ := bd_e hf
    refine xrun_i (va_runV (As := []) (rest := [.int x3]) E.1 (tJ8_length l hv3) (cwX12_75 E.ht ⟨Nat.le_of_ble_eq_true rfl, Nat.le_of_ble_eq_true rfl⟩) (xPreVS E hR hS (ckS_e hu1)) rfl rfl hl.1 rfl (lv_room (Nat.le_of_ble_eq_true rfl)) dX12_sortIn_4 ⟨Nat.le_trans (by omega) (Nat.le_refl 0), Nat.le_trans (by omega) (Nat.le_refl 0)⟩) hS (fun H locs hR hS => ?_)
    refine lv_icmp_ge (tgt := 30) E.hx E.hb dX12_sortIn_7 (by decide) (fun c4 => ?_) (fun c4 => ?_)
    · have hf := it_t hf c4
      exact wX12_sortIn_b30 E  hf _ _ _ _ _ (by omega) (by omega) hR hS (lv_sub hl [0, 3] rfl)
    · have hf := it_f hf c4
      refine lv_iload_n E.hx E.hb dX12_sortIn_10 rfl (lv_at hl 1 rfl) ?_
      refine lv_iconst (v := 1) E.hx E.hb dX12_sortIn_11 (by decide) ?_
      refine lv_icmp_ne (tgt := 24) E.hx E.hb dX12_sortIn_12 (by decide) (fun c5 => ?_) (fun c5 => ?_)
      · have hf := it_f hf c5
        refine lv_iinc (v := (x3 + 1)) (lv' := [(3, .int (x3 + 1)), (0, .ref x0), (1, .int x1), (2, .int x2)]) E.hx E.hb dX12_sortIn_24 hl (k := 3) rfl rfl (by decide) rfl (fun ls hl => ?_)
        refine lv_goto (tgt := 2) E.hx E.hb dX12_sortIn_27 (by decide) ?_
        exact ih X2 _ _ _ _ hf _ _ _ _ _ (by omega) (by omega) hR hS (lv_sub hl [1, 2, 3, 0] rfl)
      · have hf := it_t hf c5
        refine lv_aload_n E.hx E.hb dX12_sortIn_15 rfl (lv_at hl 0 rfl) ?_
        refine lv_iload_n E.hx E.hb dX12_sortIn_16 rfl (lv_at hl 3 rfl) ?_
        obtain ⟨u6, hu6, hf⟩ := bd_e hf
        obtain ⟨⟨v8, X7⟩, hv8, hf⟩ := bd_e hf
        refine xrun_i (va_runV (As := [.int x3]) (rest := []) E.1 (tJ8_charAt l hv8) (cwX12_80 E.ht ⟨Nat.le_of_ble_eq_true rfl, Nat.le_of_ble_eq_true rfl⟩) (xPreVS E hR hS (ckS_e hu6)) rfl rfl hl.1 rfl (lv_room (Nat.le_of_ble_eq_true rfl)) dX12_sortIn_17 ⟨Nat.le_trans (by omega) (Nat.le_refl 0), Nat.le_trans (by omega) (Nat.le_refl 0)⟩) hS (fun H locs hR hS => ?_)
        refine lv_iload_n E.hx E.hb dX12_sortIn_20 rfl (lv_at hl 2 rfl) ?_
        refine lv_icmp_eq (tgt := 30) E.hx E.hb dX12_sortIn_21 (by decide) (fun c9 => ?_) (fun c9 => ?_)
        · have hf := it_t hf c9
          exact wX12_sortIn_b30 E  hf _ _ _ _ _ (by omega) (by omega) hR hS (lv_sub hl [0, 3] rfl)
        · have hf := it_f hf c9
          refine lv_iinc (v := (x3 + 1)) (lv' := [(3, .int (x3 + 1)), (0, .ref x0), (1, .int x1), (2, .int x2)]) E.hx E.hb dX12_sortIn_24 hl (k := 3) rfl rfl (by decide) rfl (fun ls hl => ?_)
          refine lv_goto (tgt := 2) E.hx E.hb dX12_sortIn_27 (by decide) ?_
          exact ih X7 _ _ _ _ hf _ _ _ _ _ (by omega) (by omega) hR hS (lv_sub hl [1, 2, 3, 0] rfl)
def fX12_sortIn  (X : AH) (x0 : Nat) (x1 : Int32) (x2 : Int32) : Option (Int32 × AH) :=
  fX12_sortIn_L2 2000 X x0 x1 x2 0
theorem wX12_sortIn_0 (E : xE p m c cX12_sortIn 4 s args RX12 D cA A Zs meth (some .int)) {X : AH} {x0 : Nat} {x1 : Int32} {x2 : Int32} (hf : fX12_sortIn X x0 x1 x2 = some (r, Xf)) : ∀ (H : Heap) (locs : List Loc) (ls : Array Slot) (cells slots : Nat), cells + 0 ≤ 0 → slots + 0 ≤ 0 → xR D cA A Zs X H → va_S A s.heap H locs → lv_has ls 4 [(0, .ref x0), (1, .int x1), (2, .int x2)] → W p l e rmX12_sortIn s m args below meth c H locs cells slots (MQ below (xQi D cA A Zs r Xf) args s 0 0 A) (F0 m 0 ls []) := by
  intro H locs ls cells slots hc hs hR hS hl
  refine lv_iconst (v := 0) E.hx E.hb dX12_sortIn_0 (by decide) ?_
  refine lv_istore_n (lv' := [(3, .int 0), (0, .ref x0), (1, .int x1), (2, .int x2)]) E.hx E.hb dX12_sortIn_1 rfl hl (by decide) rfl (fun ls hl => ?_)
  exact wX12_sortIn_L2 E  2000 X _ _ _ _ hf _ _ _ _ _ (by omega) (by omega) hR hS (lv_sub hl [1, 2, 3, 0] rfl)
theorem tX12_sortIn (l : Launch) {D : va_G} {cA : Nat → ClassId} {A : Nat → Prop} {Zs : XZ} {X Xf : AH} {x0 : Nat} {x1 : Int32} {x2 : Int32} {r : Int32} (hf : fX12_sortIn X x0 x1 x2 = some (r, Xf)) : Met l yX12_sortIn (ws_ yX12_sortIn cX12_sortIn 4 (some .int)) rmX12_sortIn (xPc D cA A Zs X [.ref x0, .int x1, .int x2]) (xQi D cA A Zs r Xf) 0 0 A := by
  refine Met.ofW (cc := cX12_sortIn) (maxL := 4) (ret := (some .int)) (by decide) rfl ?_
  intro p e s m args below meth c s₁ B hml hv
  obtain ⟨rfl, hR, hK⟩ := hv
  have hts := atoms_spec (ws := (ws_ yX12_sortIn cX12_sortIn 4 (some .int))) B.pre
  rw [lg_entry_eq]
  exact wX12_sortIn_0 (E := ⟨⟨B.exec, B.bytes, hml, findClass_of_methodNamed B.named, fun w h => hts w (List.mem_cons_of_mem _ h)⟩, hK, B.returns, B.notSynchronized⟩) hf _ _ _ 0 0 (Nat.le_of_ble_eq_true rfl) (Nat.le_of_ble_eq_true rfl) hR va_S.rf (lv_entry [.ref x0, .int x1, .int x2] (n := 4) (Nat.le_of_ble_eq_true rfl))
end
abbrev rmX12_sortOf : Room := { frames := 6, cells := 0, slots := 0, locals := 120 }
theorem cwX12_84 {R : Room} {s : State} {args : Array Value} (ht : ∀ w ∈ lw_all, w.before args s = true) (hR : rmX12_sortIn.frames + 1 ≤ R.frames ∧ 8 + (4 + 11) + rmX12_sortIn.locals ≤ R.locals) : CallB R s args RX12 84 yX12_sortIn cX12_sortIn 4 (some .int) (ws_ yX12_sortIn cX12_sortIn 4 (some .int)) rmX12_sortIn 0 0 3 ∧ (Cond.static yX12_sortIn).before args s = true :=
  va_cwS 3 ht (lw_S q576 q577 q90 q578) rfl rfl rfl (by decide +kernel) hR
section
variable {p : Program} {l : Launch} {e : Env} {s : State} {m : MethodId} {args : Array Value} {below : List Frame} {meth : Method} {c : Code} {D : va_G} {cA : Nat → ClassId} {A : Nat → Prop} {Zs : XZ} {Xf : AH} {r : Int32} {rl : Int64} {ra : Nat} {tv : Unit ⊕ Nat} {ti : Int32 ⊕ Nat} {tr : Nat ⊕ Nat} {q2 : Option Nat}
def fX12_sortOf  (X : AH) (x0 : Nat) (x1 : Nat) : Option (Int32 × AH) :=
  (gI X x0 12 3).bind fun v1 =>
  (gI X x0 12 5).bind fun v2 =>
  (fX12_sortIn X x1 v1 v2).bind fun (v4, X3) =>
  some (v4, X3)
theorem wX12_sortOf_0 (E : xE p m c cX12_sortOf 2 s args RX12 D cA A Zs meth (some .int)) {X : AH} {x0 : Nat} {x1 : Nat} (hf : fX12_sortOf X x0 x1 = some (r, Xf)) : ∀ (H : Heap) (locs : List Loc) (ls : Array Slot) (cells slots : Nat), cells + 0 ≤ 0 → slots + 0 ≤ 0 → xR D cA A Zs X H → va_S A s.heap H locs → lv_has ls 2 [(0, .ref x0), (1, .ref x1)] → W p l e rmX12_sortOf s m args below meth c H locs cells slots (MQ below (xQi D cA A Zs r Xf) args s 0 0 A) (F0 m 0 ls []) := by
  intro H locs ls cells slots hc hs hR hS hl
  refine lv_aload_n E.hx E.hb dX12_sortOf_0 rfl (lv_at hl 1 rfl) ?_
  refine lv_aload_n E.hx E.hb dX12_sortOf_1 rfl (lv_at hl 0 rfl) ?_
  obtain ⟨v1, hv1, hf⟩ := bd_e hf
  refine xgX12_40 E hR hv1 dX12_sortOf_2 ?_
  refine lv_aload_n E.hx E.hb dX12_sortOf_5 rfl (lv_at hl 0 rfl) ?_
  obtain ⟨v2, hv2, hf⟩ := bd_e hf
  refine xgX12_37 E hR hv2 dX12_sortOf_6 ?_
  obtain ⟨⟨v4, X3⟩, hv4, hf⟩ := bd_e hf
  refine xrun_i (va_runS (As := [.ref x1, .int v1, .int v2]) (rest := []) E.1 (tX12_sortIn l hv4) (cwX12_84 E.ht ⟨Nat.le_of_ble_eq_true rfl, Nat.le_of_ble_eq_true rfl⟩) (xPreS E hR hS) rfl rfl hl.1 rfl (lv_room (Nat.le_of_ble_eq_true rfl)) dX12_sortOf_9 ⟨Nat.le_trans (by omega) (Nat.le_refl 0), Nat.le_trans (by omega) (Nat.le_refl 0)⟩) hS (fun H locs hR hS => ?_)
  obtain ⟨rfl, rfl⟩ := rt_e hf
  exact xret_i E (by omega) (by omega) hR hS dX12_sortOf_12
theorem tX12_sortOf (l : Launch) {D : va_G} {cA : Nat → ClassId} {A : Nat → Prop} {Zs : XZ} {X Xf : AH} {x0 : Nat} {x1 : Nat} {r : Int32} (hf : fX12_sortOf X x0 x1 = some (r, Xf)) : Met l yX12_sortOf (ws_ yX12_sortOf cX12_sortOf 2 (some .int)) rmX12_sortOf (xPc D cA A Zs X [.ref x0, .ref x1]) (xQi D cA A Zs r Xf) 0 0 A := by
  refine Met.ofW (cc := cX12_sortOf) (maxL := 2) (ret := (some .int)) (by decide) rfl ?_
  intro p e s m args below meth c s₁ B hml hv
  obtain ⟨rfl, hR, hK⟩ := hv
  have hts := atoms_spec (ws := (ws_ yX12_sortOf cX12_sortOf 2 (some .int))) B.pre
  rw [lg_entry_eq]
  exact wX12_sortOf_0 (E := ⟨⟨B.exec, B.bytes, hml, findClass_of_methodNamed B.named, fun w h => hts w (List.mem_cons_of_mem _ h)⟩, hK, B.returns, B.notSynchronized⟩) hf _ _ _ 0 0 (Nat.le_of_ble_eq_true rfl) (Nat.le_of_ble_eq_true rfl) hR va_S.rf (lv_entry [.ref x0, .ref x1] (n := 2) (Nat.le_of_ble_eq_true rfl))
end
abbrev rmX12_init : Room := { frames := 5, cells := 8, slots := 52, locals := 92 }
theorem cwX12_11 {R : Room} {s : State} {args : Array Value} (ht : ∀ w ∈ lw_all, w.before args s = true) (hl : va_Nw (.methodLinkNest RX12 11 yX1_init "ChairRanks") s) (hR : rmX1_init.frames + 1 ≤ R.frames ∧ 8 + (1 + 11) + rmX1_init.locals ≤ R.locals) : va_CN R s args RX12 11 yX1_init "ChairRanks" cX1_init 1 none (ws_ yX1_init cX1_init 1 none) rmX1_init 7 39 0 ∧ yX1_init.name = "<init>" ∧ (Cond.instanceMethod yX1_init).before args s = true :=
  ⟨va_cnB 0 ht (lw_meth q115) rfl rfl rfl hl (ht _ q69) (by decide +kernel) hR, rfl, ht _ q114⟩
section
variable {p : Program} {l : Launch} {e : Env} {s : State} {m : MethodId} {args : Array Value} {below : List Frame} {meth : Method} {c : Code} {D : va_G} {cA : Nat → ClassId} {A : Nat → Prop} {Zs : XZ} {Xf : AH} {r : Int32} {rl : Int64} {ra : Nat} {tv : Unit ⊕ Nat} {ti : Int32 ⊕ Nat} {tr : Nat ⊕ Nat} {q2 : Option Nat}
def fX12_init  (X : AH) (x0 : Nat) (x1 : Nat) (x2 : Int32) : Option AH :=
  (some (xnw X (.inl (1, [.int 0, .int 0, .null, .null, .null, .null, .null, .null, .int 0, .int 0, .null, .int 0, .null])))).bind fun X1 =>
  (fX1_init X1 X.1).bind fun X2 =>
  (pF X2 x0 12 6 (.ref X.1)).bind fun X4 =>
  (pF X4 x0 12 0 (.ref x1)).bind fun X5 =>
  (pF X5 x0 12 1 (.int x2)).bind fun X6 =>
  some X6
theorem wX12_init_0 (E : xE p m c cX12_init 3 s args RX12 D cA A Zs meth none) (hin : meth.name = "<init>") {X : AH} {x0 : Nat} {x1 : Nat} {x2 : Int32} (hf : fX12_init X x0 x1 x2 = some Xf) : ∀ (H : Heap) (locs : List Loc) (ls : Array Slot) (cells slots : Nat), cells + 8 ≤ 8 → slots + 52 ≤ 52 → xR D cA A Zs X H → va_S A s.heap H locs → lv_has ls 3 [(0, .ref x0), (1, .ref x1), (2, .int x2)] → W p l e rmX12_init s m args below meth c H locs cells slots (MQ below (xQv D cA A Zs Xf) args s 8 52 A) (F0 m 0 ls []) := by
  intro H locs ls cells slots hc hs hR hS hl
  refine lv_aload_n E.hx E.hb dX12_init_0 rfl (lv_at hl 0 rfl) ?_
  refine W.objInit E.hx E.hb E.ho (E.ht _ q484) (E.ht _ q107) (E.ht _ q108) rfl (by rw [E.1.2.2.1]; exact hl.1) rfl dX12_init_1 (Nat.le_of_ble_eq_true rfl) (Nat.le_of_ble_eq_true rfl) ?_
  refine W.eq (g2 := F0 m 4 ls []) rfl ?_
  refine lv_aload_n E.hx E.hb dX12_init_4 rfl (lv_at hl 0 rfl) ?_
  obtain ⟨X1, hX1, hf⟩ := bd_e hf
  refine xnew (ci := 1) E hR hS in_X1 tyX1 tyX1_ok q485 q112 q69 rfl dfX1 (Nat.le_trans (by omega) (Nat.le_refl 8)) (Nat.le_trans (by omega) (Nat.le_refl 52)) dX12_init_5 (fun H hR hS => ?_)
  rw [Option.some.inj hX1] at hR
  refine lv_dup E.hx E.hb dX12_init_8 rfl ?_
  obtain ⟨X2, hX2, hf⟩ := bd_e hf
  refine xrun_v (va_runIN (As := []) (rest := [.ref X.1, .ref x0]) E.1 (tX1_init l hX2) (cwX12_11 E.ht (E.2.1.2.2.2.1 ("ChairRanks$Reader", 11, ⟨"ChairRanks$Ministry", "<init>", "()V"⟩, "ChairRanks") (by decide +kernel)) ⟨Nat.le_of_ble_eq_true rfl, Nat.le_of_ble_eq_true rfl⟩) (xPreS E hR hS) rfl rfl hl.1 rfl (lv_room (Nat.le_of_ble_eq_true rfl)) dX12_init_9 ⟨Nat.le_trans (by omega) (Nat.le_refl 8), Nat.le_trans (by omega) (Nat.le_refl 52)⟩) hS (fun H locs hR hS => ?_)
  obtain ⟨X4, hX4, hf⟩ := bd_e hf
  refine xpX12_12 E hR hS hin hX4 dX12_init_12 (fun H locs hR hS => ?_)
  refine lv_aload_n E.hx E.hb dX12_init_15 rfl (lv_at hl 0 rfl) ?_
  refine lv_aload_n E.hx E.hb dX12_init_16 rfl (lv_at hl 1 rfl) ?_
  obtain ⟨X5, hX5, hf⟩ := bd_e hf
  refine xpX12_18 E hR hS hin hX5 dX12_init_17 (fun H locs hR hS => ?_)
  refine lv_aload_n E.hx E.hb dX12_init_20 rfl (lv_at hl 0 rfl) ?_
  refine lv_iload_n E.hx E.hb dX12_init_21 rfl (lv_at hl 2 rfl) ?_
  obtain ⟨X6, hX6, hf⟩ := bd_e hf
  refine xpX12_22 E hR hS hin hX6 dX12_init_22 (fun H locs hR hS => ?_)
  obtain rfl := Option.some.inj hf
  exact xret_v E (by omega) (by omega) hR hS dX12_init_25
theorem tX12_init (l : Launch) {D : va_G} {cA : Nat → ClassId} {A : Nat → Prop} {Zs : XZ} {X Xf : AH} {x0 : Nat} {x1 : Nat} {x2 : Int32}  (hf : fX12_init X x0 x1 x2 = some Xf) : Met l yX12_init (ws_ yX12_init cX12_init 3 none) rmX12_init (xPc D cA A Zs X [.ref x0, .ref x1, .int x2]) (xQv D cA A Zs Xf) 8 52 A := by
  refine Met.ofW (cc := cX12_init) (maxL := 3) (ret := none) (by decide) rfl ?_
  intro p e s m args below meth c s₁ B hml hv
  obtain ⟨rfl, hR, hK⟩ := hv
  have hts := atoms_spec (ws := (ws_ yX12_init cX12_init 3 none)) B.pre
  rw [lg_entry_eq]
  exact wX12_init_0 (E := ⟨⟨B.exec, B.bytes, hml, findClass_of_methodNamed B.named, fun w h => hts w (List.mem_cons_of_mem _ h)⟩, hK, B.returns, B.notSynchronized⟩) (name_of_methodNamed B.named B.method).1 hf _ _ _ 0 0 (Nat.le_of_ble_eq_true rfl) (Nat.le_of_ble_eq_true rfl) hR va_S.rf (lv_entry [.ref x0, .ref x1, .int x2] (n := 3) (Nat.le_of_ble_eq_true rfl))
end
abbrev rmX12_look : Room := { frames := 1, cells := 0, slots := 0, locals := 12 }
section
variable {p : Program} {l : Launch} {e : Env} {s : State} {m : MethodId} {args : Array Value} {below : List Frame} {meth : Method} {c : Code} {D : va_G} {cA : Nat → ClassId} {A : Nat → Prop} {Zs : XZ} {Xf : AH} {r : Int32} {rl : Int64} {ra : Nat} {tv : Unit ⊕ Nat} {ti : Int32 ⊕ Nat} {tr : Nat ⊕ Nat} {q2 : Option Nat}
def fX12_look  (X : AH) (x0 : Nat) : Option (Int32 × AH) :=
  (gI X x0 12 2).bind fun v1 =>
  (gI X x0 12 1).bind fun v2 =>
  if v2 ≤ v1 then (some ((-1000000), X)) else ((gR X x0 12 0).bind fun v4 =>
  (gI X x0 12 2).bind fun v5 =>
  (gA X v4 1 v5).bind fun v6 =>
  some ((v6 &&& 255), X))
theorem wX12_look_0 (E : xE p m c cX12_look 1 s args RX12 D cA A Zs meth (some .int)) {X : AH} {x0 : Nat} (hf : fX12_look X x0 = some (r, Xf)) : ∀ (H : Heap) (locs : List Loc) (ls : Array Slot) (cells slots : Nat), cells + 0 ≤ 0 → slots + 0 ≤ 0 → xR D cA A Zs X H → va_S A s.heap H locs → lv_has ls 1 [(0, .ref x0)] → W p l e rmX12_look s m args below meth c H locs cells slots (MQ below (xQi D cA A Zs r Xf) args s 0 0 A) (F0 m 0 ls []) := by
  intro H locs ls cells slots hc hs hR hS hl
  refine lv_aload_n E.hx E.hb dX12_look_0 rfl (lv_at hl 0 rfl) ?_
  obtain ⟨v1, hv1, hf⟩ := bd_e hf
  refine xgX12_26 E hR hv1 dX12_look_1 ?_
  refine lv_aload_n E.hx E.hb dX12_look_4 rfl (lv_at hl 0 rfl) ?_
  obtain ⟨v2, hv2, hf⟩ := bd_e hf
  refine xgX12_22 E hR hv2 dX12_look_5 ?_
  refine lv_icmp_ge (tgt := 27) E.hx E.hb dX12_look_8 (by decide) (fun c3 => ?_) (fun c3 => ?_)
  · have hf := it_t hf c3
    refine lv_ldc (v := (-1000000)) E.hx E.hb E.ho (E.ht _ q522) dX12_look_27 ?_
    obtain ⟨rfl, rfl⟩ := rt_e hf
    exact xret_i E (by omega) (by omega) hR hS dX12_look_29
  · have hf := it_f hf c3
    refine lv_aload_n E.hx E.hb dX12_look_11 rfl (lv_at hl 0 rfl) ?_
    obtain ⟨v4, hv4, hf⟩ := bd_e hf
    refine xgX12_18 E hR hv4 dX12_look_12 ?_
    refine lv_aload_n E.hx E.hb dX12_look_15 rfl (lv_at hl 0 rfl) ?_
    obtain ⟨v5, hv5, hf⟩ := bd_e hf
    refine xgX12_26 E hR hv5 dX12_look_16 ?_
    obtain ⟨v6, hv6, hf⟩ := bd_e hf
    refine xbld E hR hv6 dX12_look_19 ?_
    refine lv_sipush (v := 255) E.hx E.hb dX12_look_20 (by decide) ?_
    refine lv_iand E.hx E.hb dX12_look_23 ?_
    refine lv_goto (tgt := 29) E.hx E.hb dX12_look_24 (by decide) ?_
    obtain ⟨rfl, rfl⟩ := rt_e hf
    exact xret_i E (by omega) (by omega) hR hS dX12_look_29
theorem tX12_look (l : Launch) {D : va_G} {cA : Nat → ClassId} {A : Nat → Prop} {Zs : XZ} {X Xf : AH} {x0 : Nat} {r : Int32} (hf : fX12_look X x0 = some (r, Xf)) : Met l yX12_look (ws_ yX12_look cX12_look 1 (some .int)) rmX12_look (xPc D cA A Zs X [.ref x0]) (xQi D cA A Zs r Xf) 0 0 A := by
  refine Met.ofW (cc := cX12_look) (maxL := 1) (ret := (some .int)) (by decide) rfl ?_
  intro p e s m args below meth c s₁ B hml hv
  obtain ⟨rfl, hR, hK⟩ := hv
  have hts := atoms_spec (ws := (ws_ yX12_look cX12_look 1 (some .int))) B.pre
  rw [lg_entry_eq]
  exact wX12_look_0 (E := ⟨⟨B.exec, B.bytes, hml, findClass_of_methodNamed B.named, fun w h => hts w (List.mem_cons_of_mem _ h)⟩, hK, B.returns, B.notSynchronized⟩) hf _ _ _ 0 0 (Nat.le_of_ble_eq_true rfl) (Nat.le_of_ble_eq_true rfl) hR va_S.rf (lv_entry [.ref x0] (n := 1) (Nat.le_of_ble_eq_true rfl))
end
abbrev rmX12_next : Room := { frames := 2, cells := 0, slots := 0, locals := 37 }
theorem cwX12_33 {R : Room} {s : State} {args : Array Value} (ht : ∀ w ∈ lw_all, w.before args s = true) (hR : rmX12_look.frames + 1 ≤ R.frames ∧ 8 + (1 + 11) + rmX12_look.locals ≤ R.locals) : CallW R s args RX12 RX12 33 yX12_look cX12_look 1 (some .int) (ws_ yX12_look cX12_look 1 (some .int)) rmX12_look 0 0 0 :=
  cwV 0 ht (lw_V q518 q520 qs5 q90 q521) rfl rfl rfl (by decide +kernel) hR
theorem cwX12_47 {R : Room} {s : State} {args : Array Value} (ht : ∀ w ∈ lw_all, w.before args s = true) (hl : va_Nw (.methodLinkNest RX12 47 yX0_isIn "ChairRanks") s) (hR : rmX0_isIn.frames + 1 ≤ R.frames ∧ 8 + (6 + 11) + rmX0_isIn.locals ≤ R.locals) : va_CN R s args RX12 47 yX0_isIn "ChairRanks" cX0_isIn 6 (some .boolean) (ws_ yX0_isIn cX0_isIn 6 (some .boolean)) rmX0_isIn 0 0 3 ∧ (Cond.static yX0_isIn).before args s = true ∧ True :=
  ⟨va_cnB 3 ht (lw_meth q317) rfl rfl rfl hl (ht _ q68) (by decide +kernel) hR, ht _ q316, trivial⟩
section
variable {p : Program} {l : Launch} {e : Env} {s : State} {m : MethodId} {args : Array Value} {below : List Frame} {meth : Method} {c : Code} {D : va_G} {cA : Nat → ClassId} {A : Nat → Prop} {Zs : XZ} {Xf : AH} {r : Int32} {rl : Int64} {ra : Nat} {tv : Unit ⊕ Nat} {ti : Int32 ⊕ Nat} {tr : Nat ⊕ Nat} {q2 : Option Nat}
def fX12_next_b104 (k51 : AH → Nat → Option AH) (X : AH) (s0 : Nat) (s1 : Int32) (x0 : Nat) : Option AH :=
  (pF X s0 12 5 (.int s1)).bind fun X1 =>
  (gI X1 x0 12 2).bind fun v2 =>
  (pF X1 x0 12 2 (.int (v2 + 1))).bind fun X3 =>
  k51 X3 x0
theorem wX12_next_b104 (E : xE p m c cX12_next 2 s args RX12 D cA A Zs meth none) {k51 : AH → Nat → Option AH} (hk51 : ∀ (X : AH) (x0 : Nat), k51 X x0 = some Xf → ∀ (H : Heap) (locs : List Loc) (ls : Array Slot) (cells slots : Nat), cells + 0 ≤ 0 → slots + 0 ≤ 0 → xR D cA A Zs X H → va_S A s.heap H locs → lv_has ls 2 [(0, .ref x0)] → W p l e rmX12_next s m args below meth c H locs cells slots (MQ below (xQv D cA A Zs Xf) args s 0 0 A) (F0 m 51 ls [])) {X : AH} {s0 : Nat} {s1 : Int32} {x0 : Nat} (hf : fX12_next_b104 k51 X s0 s1 x0 = some Xf) : ∀ (H : Heap) (locs : List Loc) (ls : Array Slot) (cells slots : Nat), cells + 0 ≤ 0 → slots + 0 ≤ 0 → xR D cA A Zs X H → va_S A s.heap H locs → lv_has ls 2 [(0, .ref x0)] → W p l e rmX12_next s m args below meth c H locs cells slots (MQ below (xQv D cA A Zs Xf) args s 0 0 A) (F0 m 104 ls [.int s1, .ref s0]) := by
  intro H locs ls cells slots hc hs hR hS hl
  obtain ⟨X1, hX1, hf⟩ := bd_e hf
  refine xpX12_37 E hR hS hX1 dX12_next_104 (fun H locs hR hS => ?_)
  refine lv_aload_n E.hx E.hb dX12_next_107 rfl (lv_at hl 0 rfl) ?_
  refine lv_dup E.hx E.hb dX12_next_108 rfl ?_
  obtain ⟨v2, hv2, hf⟩ := bd_e hf
  refine xgX12_26 E hR hv2 dX12_next_109 ?_
  refine lv_iconst (v := 1) E.hx E.hb dX12_next_112 (by decide) ?_
  refine lv_iadd E.hx E.hb dX12_next_113 ?_
  obtain ⟨X3, hX3, hf⟩ := bd_e hf
  refine xpX12_26 E hR hS hX3 dX12_next_114 (fun H locs hR hS => ?_)
  refine lv_goto (tgt := 51) E.hx E.hb dX12_next_117 (by decide) ?_
  exact hk51 X3 _ hf _ _ _ _ _ (by omega) (by omega) hR hS (lv_sub hl [0] rfl)
def fX12_next_b139  (X : AH) (s0 : Nat) (s1 : Int32) : Option AH :=
  (pF X s0 12 3 (.int s1)).bind fun X1 =>
  some X1
theorem wX12_next_b139 (E : xE p m c cX12_next 2 s args RX12 D cA A Zs meth none) {X : AH} {s0 : Nat} {s1 : Int32} (hf : fX12_next_b139 X s0 s1 = some Xf) : ∀ (H : Heap) (locs : List Loc) (ls : Array Slot) (cells slots : Nat), cells + 0 ≤ 0 → slots + 0 ≤ 0 → xR D cA A Zs X H → va_S A s.heap H locs → lv_has ls 2 [] → W p l e rmX12_next s m args below meth c H locs cells slots (MQ below (xQv D cA A Zs Xf) args s 0 0 A) (F0 m 139 ls [.int s1, .ref s0]) := by
  intro H locs ls cells slots hc hs hR hS hl
  obtain ⟨X1, hX1, hf⟩ := bd_e hf
  refine xpX12_40 E hR hS hX1 dX12_next_139 (fun H locs hR hS => ?_)
  refine lv_goto (tgt := 198) E.hx E.hb dX12_next_142 (by decide) ?_
  obtain rfl := Option.some.inj hf
  exact xret_v E (by omega) (by omega) hR hS dX12_next_198
def fX12_next_L51  : Nat → AH → Nat → Option AH
  | 0, _, _ => none
  | n + 1, X, x0 =>
    (ck X x0 12).bind fun _ =>
    (fX12_look X x0).bind fun (v3, X2) =>
    (fX0_isIn (v3.toInt64) 48 57).bind fun v4 =>
    if v4 = 0 then ((gI X2 x0 12 2).bind fun v6 =>
    (gI X2 x0 12 4).bind fun v7 =>
    if 2 < (v6 - v7) then (fX12_next_b139 X2 x0 5) else (fX12_next_b139 X2 x0 2)) else ((gI X2 x0 12 2).bind fun v9 =>
    (gI X2 x0 12 4).bind fun v10 =>
    if 2 ≤ (v9 - v10) then ((gI X2 x0 12 5).bind fun v12 =>
    fX12_next_b104 (fX12_next_L51 n) X2 x0 v12 x0) else ((gI X2 x0 12 5).bind fun v13 =>
    (ck X2 x0 12).bind fun _ =>
    (fX12_look X2 x0).bind fun (v16, X15) =>
    fX12_next_b104 (fX12_next_L51 n) X15 x0 (((10 * v13) + v16) - 48) x0))
theorem wX12_next_L51 (E : xE p m c cX12_next 2 s args RX12 D cA A Zs meth none) : ∀ (n : Nat) (X : AH) (x0 : Nat), fX12_next_L51 n X x0 = some Xf → ∀ (H : Heap) (locs : List Loc) (ls : Array Slot) (cells slots : Nat), cells + 0 ≤ 0 → slots + 0 ≤ 0 → xR D cA A Zs X H → va_S A s.heap H locs → lv_has ls 2 [(0, .ref x0)] → W p l e rmX12_next s m args below meth c H locs cells slots (MQ below (xQv D cA A Zs Xf) args s 0 0 A) (F0 m 51 ls []) := by
  intro n
  induction n with
  | zero =>
    intro X x0 hf
    have hf : none = some Xf := hf
    cases hf
  | succ n ih =>
    intro X x0 hf H locs ls cells slots hc hs hR hS hl
    refine lv_aload_n E.hx E.hb dX12_next_51 rfl (lv_at hl 0 rfl) ?_
    obtain ⟨u1, hu1, hf⟩ := bd_e hf
    obtain ⟨⟨v3, X2⟩, hv3, hf⟩ := bd_e hf
    refine xrun_i (va_runV (As := []) (rest := []) E.1 (tX12_look l hv3) (cwX12_33 E.ht ⟨Nat.le_of_ble_eq_true rfl, Nat.le_of_ble_eq_true rfl⟩) (xPreV (ci := 12) E hR hS rfl (ck_e hu1)) rfl rfl hl.1 rfl (lv_room (Nat.le_of_ble_eq_true rfl)) dX12_next_52 ⟨Nat.le_trans (by omega) (Nat.le_refl 0), Nat.le_trans (by omega) (Nat.le_refl 0)⟩) hS (fun H locs hR hS => ?_)
    refine lv_i2l E.hx E.hb dX12_next_55 rfl ?_
    refine lv_ldc2 (v := 48) E.hx E.hb E.ho (E.ht _ q523) dX12_next_56 ?_
    refine lv_ldc2 (v := 57) E.hx E.hb E.ho (E.ht _ q524) dX12_next_59 ?_
    obtain ⟨v4, hv4, hf⟩ := bd_e hf
    refine scallN_i (rest := []) E.1 (tX0_isIn l hv4) (cwX12_47 E.ht (E.2.1.2.2.2.1 ("ChairRanks$Reader", 47, ⟨"ChairRanks", "isIn", "(JJJ)Z"⟩, "ChairRanks") (by decide +kernel)) ⟨Nat.le_of_ble_eq_true rfl, Nat.le_of_ble_eq_true rfl⟩) rfl hl.1 rfl (Nat.le_of_ble_eq_true rfl) dX12_next_62 ⟨Nat.le_trans (by omega) (Nat.le_refl 0), Nat.le_trans (by omega) (Nat.le_refl 0)⟩ ?_
    refine lv_if_eq (tgt := 120) E.hx E.hb dX12_next_65 (by decide) (fun c5 => ?_) (fun c5 => ?_)
    · have hf := it_t hf c5
      refine lv_aload_n E.hx E.hb dX12_next_120 rfl (lv_at hl 0 rfl) ?_
      refine lv_aload_n E.hx E.hb dX12_next_121 rfl (lv_at hl 0 rfl) ?_
      obtain ⟨v6, hv6, hf⟩ := bd_e hf
      refine xgX12_26 E hR hv6 dX12_next_122 ?_
      refine lv_aload_n E.hx E.hb dX12_next_125 rfl (lv_at hl 0 rfl) ?_
      obtain ⟨v7, hv7, hf⟩ := bd_e hf
      refine xgX12_30 E hR hv7 dX12_next_126 ?_
      refine lv_isub E.hx E.hb dX12_next_129 ?_
      refine lv_iconst (v := 2) E.hx E.hb dX12_next_130 (by decide) ?_
      refine lv_icmp_gt (tgt := 138) E.hx E.hb dX12_next_131 (by decide) (fun c8 => ?_) (fun c8 => ?_)
      · have hf := it_t hf c8
        refine lv_iconst (v := 5) E.hx E.hb dX12_next_138 (by decide) ?_
        exact wX12_next_b139 E  hf _ _ _ _ _ (by omega) (by omega) hR hS (lv_sub hl [] rfl)
      · have hf := it_f hf c8
        refine lv_iconst (v := 2) E.hx E.hb dX12_next_134 (by decide) ?_
        refine lv_goto (tgt := 139) E.hx E.hb dX12_next_135 (by decide) ?_
        exact wX12_next_b139 E  hf _ _ _ _ _ (by omega) (by omega) hR hS (lv_sub hl [] rfl)
    · have hf := it_f hf c5
      refine lv_aload_n E.hx E.hb dX12_next_68 rfl (lv_at hl 0 rfl) ?_
      refine lv_aload_n E.hx E.hb dX12_next_69 rfl (lv_at hl 0 rfl) ?_
      obtain ⟨v9, hv9, hf⟩ := bd_e hf
      refine xgX12_26 E hR hv9 dX12_next_70 ?_
      refine lv_aload_n E.hx E.hb dX12_next_73 rfl (lv_at hl 0 rfl) ?_
      obtain ⟨v10, hv10, hf⟩ := bd_e hf
      refine xgX12_30 E hR hv10 dX12_next_74 ?_
      refine lv_isub E.hx E.hb dX12_next_77 ?_
      refine lv_iconst (v := 2) E.hx E.hb dX12_next_78 (by decide) ?_
      refine lv_icmp_ge (tgt := 100) E.hx E.hb dX12_next_79 (by decide) (fun c11 => ?_) (fun c11 => ?_)
      · have hf := it_t hf c11
        refine lv_aload_n E.hx E.hb dX12_next_100 rfl (lv_at hl 0 rfl) ?_
        obtain ⟨v12, hv12, hf⟩ := bd_e hf
        refine xgX12_37 E hR hv12 dX12_next_101 ?_
        exact wX12_next_b104 E ih hf _ _ _ _ _ (by omega) (by omega) hR hS (lv_sub hl [0] rfl)
      · have hf := it_f hf c11
        refine lv_bipush (v := 10) E.hx E.hb dX12_next_82 (by decide) ?_
        refine lv_aload_n E.hx E.hb dX12_next_84 rfl (lv_at hl 0 rfl) ?_
        obtain ⟨v13, hv13, hf⟩ := bd_e hf
        refine xgX12_37 E hR hv13 dX12_next_85 ?_
        refine lv_imul E.hx E.hb dX12_next_88 ?_
        refine lv_aload_n E.hx E.hb dX12_next_89 rfl (lv_at hl 0 rfl) ?_
        obtain ⟨u14, hu14, hf⟩ := bd_e hf
        obtain ⟨⟨v16, X15⟩, hv16, hf⟩ := bd_e hf
        refine xrun_i (va_runV (As := []) (rest := [.int (10 * v13), .ref x0]) E.1 (tX12_look l hv16) (cwX12_33 E.ht ⟨Nat.le_of_ble_eq_true rfl, Nat.le_of_ble_eq_true rfl⟩) (xPreV (ci := 12) E hR hS rfl (ck_e hu14)) rfl rfl hl.1 rfl (lv_room (Nat.le_of_ble_eq_true rfl)) dX12_next_90 ⟨Nat.le_trans (by omega) (Nat.le_refl 0), Nat.le_trans (by omega) (Nat.le_refl 0)⟩) hS (fun H locs hR hS => ?_)
        refine lv_iadd E.hx E.hb dX12_next_93 ?_
        refine lv_bipush (v := 48) E.hx E.hb dX12_next_94 (by decide) ?_
        refine lv_isub E.hx E.hb dX12_next_96 ?_
        refine lv_goto (tgt := 104) E.hx E.hb dX12_next_97 (by decide) ?_
        exact wX12_next_b104 E ih hf _ _ _ _ _ (by omega) (by omega) hR hS (lv_sub hl [0] rfl)
def fX12_next_b195  (X : AH) (s0 : Nat) (s1 : Int32) : Option AH :=
  (pF X s0 12 3 (.int s1)).bind fun X1 =>
  some X1
theorem wX12_next_b195 (E : xE p m c cX12_next 2 s args RX12 D cA A Zs meth none) {X : AH} {s0 : Nat} {s1 : Int32} (hf : fX12_next_b195 X s0 s1 = some Xf) : ∀ (H : Heap) (locs : List Loc) (ls : Array Slot) (cells slots : Nat), cells + 0 ≤ 0 → slots + 0 ≤ 0 → xR D cA A Zs X H → va_S A s.heap H locs → lv_has ls 2 [] → W p l e rmX12_next s m args below meth c H locs cells slots (MQ below (xQv D cA A Zs Xf) args s 0 0 A) (F0 m 195 ls [.int s1, .ref s0]) := by
  intro H locs ls cells slots hc hs hR hS hl
  obtain ⟨X1, hX1, hf⟩ := bd_e hf
  refine xpX12_40 E hR hS hX1 dX12_next_195 (fun H locs hR hS => ?_)
  obtain rfl := Option.some.inj hf
  exact xret_v E (by omega) (by omega) hR hS dX12_next_198
def fX12_next  (X : AH) (x0 : Nat) : Option AH :=
  (gI X x0 12 2).bind fun v1 =>
  (pF X x0 12 4 (.int v1)).bind fun X2 =>
  (ck X2 x0 12).bind fun _ =>
  (fX12_look X2 x0).bind fun (v5, X4) =>
  (pF X4 x0 12 5 (.int v5)).bind fun X6 =>
  if v5 = (-1000000) then ((pF X6 x0 12 3 (.int 0)).bind fun X17 =>
  some X17) else ((fX0_isIn (v5.toInt64) 48 57).bind fun v8 =>
  if v8 = 0 then ((gI X6 x0 12 2).bind fun v10 =>
  (pF X6 x0 12 2 (.int (v10 + 1))).bind fun X11 =>
  (fX0_isIn (v5.toInt64) 97 122).bind fun v12 =>
  if v12 = 0 then (if v5 = 44 then (fX12_next_b195 X11 x0 3) else (if v5 = 59 then (fX12_next_b195 X11 x0 4) else (fX12_next_b195 X11 x0 5))) else (fX12_next_b195 X11 x0 1)) else ((pF X6 x0 12 5 (.int 0)).bind fun X16 =>
  fX12_next_L51 2000 X16 x0))
theorem wX12_next_0 (E : xE p m c cX12_next 2 s args RX12 D cA A Zs meth none) {X : AH} {x0 : Nat} (hf : fX12_next X x0 = some Xf) : ∀ (H : Heap) (locs : List Loc) (ls : Array Slot) (cells slots : Nat), cells + 0 ≤ 0 → slots + 0 ≤ 0 → xR D cA A Zs X H → va_S A s.heap H locs → lv_has ls 2 [(0, .ref x0)] → W p l e rmX12_next s m args below meth c H locs cells slots (MQ below (xQv D cA A Zs Xf) args s 0 0 A) (F0 m 0 ls []) := by
  intro H locs ls cells slots hc hs hR hS hl
  refine lv_aload_n E.hx E.hb dX12_next_0 rfl (lv_at hl 0 rfl) ?_
  refine lv_aload_n E.hx E.hb dX12_next_1 rfl (lv_at hl 0 rfl) ?_
  obtain ⟨v1, hv1, hf⟩ := bd_e hf
  refine xgX12_26 E hR hv1 dX12_next_2 ?_
  obtain ⟨X2, hX2, hf⟩ := bd_e hf
  refine xpX12_30 E hR hS hX2 dX12_next_5 (fun H locs hR hS => ?_)
  refine lv_aload_n E.hx E.hb dX12_next_8 rfl (lv_at hl 0 rfl) ?_
  obtain ⟨u3, hu3, hf⟩ := bd_e hf
  obtain ⟨⟨v5, X4⟩, hv5, hf⟩ := bd_e hf
  refine xrun_i (va_runV (As := []) (rest := []) E.1 (tX12_look l hv5) (cwX12_33 E.ht ⟨Nat.le_of_ble_eq_true rfl, Nat.le_of_ble_eq_true rfl⟩) (xPreV (ci := 12) E hR hS rfl (ck_e hu3)) rfl rfl hl.1 rfl (lv_room (Nat.le_of_ble_eq_true rfl)) dX12_next_9 ⟨Nat.le_trans (by omega) (Nat.le_refl 0), Nat.le_trans (by omega) (Nat.le_refl 0)⟩) hS (fun H locs hR hS => ?_)
  refine lv_istore_n (lv' := [(1, .int v5), (0, .ref x0)]) E.hx E.hb dX12_next_12 rfl hl (by decide) rfl (fun ls hl => ?_)
  refine lv_aload_n E.hx E.hb dX12_next_13 rfl (lv_at hl 1 rfl) ?_
  refine lv_iload_n E.hx E.hb dX12_next_14 rfl (lv_at hl 0 rfl) ?_
  obtain ⟨X6, hX6, hf⟩ := bd_e hf
  refine xpX12_37 E hR hS hX6 dX12_next_15 (fun H locs hR hS => ?_)
  refine lv_iload_n E.hx E.hb dX12_next_18 rfl (lv_at hl 0 rfl) ?_
  refine lv_ldc (v := (-1000000)) E.hx E.hb E.ho (E.ht _ q522) dX12_next_19 ?_
  refine lv_icmp_ne (tgt := 32) E.hx E.hb dX12_next_21 (by decide) (fun c7 => ?_) (fun c7 => ?_)
  · have hf := it_f hf c7
    refine lv_iload_n E.hx E.hb dX12_next_32 rfl (lv_at hl 0 rfl) ?_
    refine lv_i2l E.hx E.hb dX12_next_33 rfl ?_
    refine lv_ldc2 (v := 48) E.hx E.hb E.ho (E.ht _ q523) dX12_next_34 ?_
    refine lv_ldc2 (v := 57) E.hx E.hb E.ho (E.ht _ q524) dX12_next_37 ?_
    obtain ⟨v8, hv8, hf⟩ := bd_e hf
    refine scallN_i (rest := []) E.1 (tX0_isIn l hv8) (cwX12_47 E.ht (E.2.1.2.2.2.1 ("ChairRanks$Reader", 47, ⟨"ChairRanks", "isIn", "(JJJ)Z"⟩, "ChairRanks") (by decide +kernel)) ⟨Nat.le_of_ble_eq_true rfl, Nat.le_of_ble_eq_true rfl⟩) rfl hl.1 rfl (Nat.le_of_ble_eq_true rfl) dX12_next_40 ⟨Nat.le_trans (by omega) (Nat.le_refl 0), Nat.le_trans (by omega) (Nat.le_refl 0)⟩ ?_
    refine lv_if_eq (tgt := 145) E.hx E.hb dX12_next_43 (by decide) (fun c9 => ?_) (fun c9 => ?_)
    · have hf := it_t hf c9
      refine lv_aload_n E.hx E.hb dX12_next_145 rfl (lv_at hl 1 rfl) ?_
      refine lv_dup E.hx E.hb dX12_next_146 rfl ?_
      obtain ⟨v10, hv10, hf⟩ := bd_e hf
      refine xgX12_26 E hR hv10 dX12_next_147 ?_
      refine lv_iconst (v := 1) E.hx E.hb dX12_next_150 (by decide) ?_
      refine lv_iadd E.hx E.hb dX12_next_151 ?_
      obtain ⟨X11, hX11, hf⟩ := bd_e hf
      refine xpX12_26 E hR hS hX11 dX12_next_152 (fun H locs hR hS => ?_)
      refine lv_aload_n E.hx E.hb dX12_next_155 rfl (lv_at hl 1 rfl) ?_
      refine lv_iload_n E.hx E.hb dX12_next_156 rfl (lv_at hl 0 rfl) ?_
      refine lv_i2l E.hx E.hb dX12_next_157 rfl ?_
      refine lv_ldc2 (v := 97) E.hx E.hb E.ho (E.ht _ q526) dX12_next_158 ?_
      refine lv_ldc2 (v := 122) E.hx E.hb E.ho (E.ht _ q527) dX12_next_161 ?_
      obtain ⟨v12, hv12, hf⟩ := bd_e hf
      refine scallN_i (rest := [.ref x0]) E.1 (tX0_isIn l hv12) (cwX12_47 E.ht (E.2.1.2.2.2.1 ("ChairRanks$Reader", 47, ⟨"ChairRanks", "isIn", "(JJJ)Z"⟩, "ChairRanks") (by decide +kernel)) ⟨Nat.le_of_ble_eq_true rfl, Nat.le_of_ble_eq_true rfl⟩) rfl hl.1 rfl (Nat.le_of_ble_eq_true rfl) dX12_next_164 ⟨Nat.le_trans (by omega) (Nat.le_refl 0), Nat.le_trans (by omega) (Nat.le_refl 0)⟩ ?_
      refine lv_if_eq (tgt := 174) E.hx E.hb dX12_next_167 (by decide) (fun c13 => ?_) (fun c13 => ?_)
      · have hf := it_t hf c13
        refine lv_iload_n E.hx E.hb dX12_next_174 rfl (lv_at hl 0 rfl) ?_
        refine lv_bipush (v := 44) E.hx E.hb dX12_next_175 (by decide) ?_
        refine lv_icmp_ne (tgt := 184) E.hx E.hb dX12_next_177 (by decide) (fun c14 => ?_) (fun c14 => ?_)
        · have hf := it_f hf c14
          refine lv_iload_n E.hx E.hb dX12_next_184 rfl (lv_at hl 0 rfl) ?_
          refine lv_bipush (v := 59) E.hx E.hb dX12_next_185 (by decide) ?_
          refine lv_icmp_ne (tgt := 194) E.hx E.hb dX12_next_187 (by decide) (fun c15 => ?_) (fun c15 => ?_)
          · have hf := it_f hf c15
            refine lv_iconst (v := 5) E.hx E.hb dX12_next_194 (by decide) ?_
            exact wX12_next_b195 E  hf _ _ _ _ _ (by omega) (by omega) hR hS (lv_sub hl [] rfl)
          · have hf := it_t hf c15
            refine lv_iconst (v := 4) E.hx E.hb dX12_next_190 (by decide) ?_
            refine lv_goto (tgt := 195) E.hx E.hb dX12_next_191 (by decide) ?_
            exact wX12_next_b195 E  hf _ _ _ _ _ (by omega) (by omega) hR hS (lv_sub hl [] rfl)
        · have hf := it_t hf c14
          refine lv_iconst (v := 3) E.hx E.hb dX12_next_180 (by decide) ?_
          refine lv_goto (tgt := 195) E.hx E.hb dX12_next_181 (by decide) ?_
          exact wX12_next_b195 E  hf _ _ _ _ _ (by omega) (by omega) hR hS (lv_sub hl [] rfl)
      · have hf := it_f hf c13
        refine lv_iconst (v := 1) E.hx E.hb dX12_next_170 (by decide) ?_
        refine lv_goto (tgt := 195) E.hx E.hb dX12_next_171 (by decide) ?_
        exact wX12_next_b195 E  hf _ _ _ _ _ (by omega) (by omega) hR hS (lv_sub hl [] rfl)
    · have hf := it_f hf c9
      refine lv_aload_n E.hx E.hb dX12_next_46 rfl (lv_at hl 1 rfl) ?_
      refine lv_iconst (v := 0) E.hx E.hb dX12_next_47 (by decide) ?_
      obtain ⟨X16, hX16, hf⟩ := bd_e hf
      refine xpX12_37 E hR hS hX16 dX12_next_48 (fun H locs hR hS => ?_)
      exact wX12_next_L51 E  2000 X16 _ hf _ _ _ _ _ (by omega) (by omega) hR hS (lv_sub hl [1] rfl)
  · have hf := it_t hf c7
    refine lv_aload_n E.hx E.hb dX12_next_24 rfl (lv_at hl 1 rfl) ?_
    refine lv_iconst (v := 0) E.hx E.hb dX12_next_25 (by decide) ?_
    obtain ⟨X17, hX17, hf⟩ := bd_e hf
    refine xpX12_40 E hR hS hX17 dX12_next_26 (fun H locs hR hS => ?_)
    refine lv_goto (tgt := 198) E.hx E.hb dX12_next_29 (by decide) ?_
    obtain rfl := Option.some.inj hf
    exact xret_v E (by omega) (by omega) hR hS dX12_next_198
theorem tX12_next (l : Launch) {D : va_G} {cA : Nat → ClassId} {A : Nat → Prop} {Zs : XZ} {X Xf : AH} {x0 : Nat}  (hf : fX12_next X x0 = some Xf) : Met l yX12_next (ws_ yX12_next cX12_next 2 none) rmX12_next (xPc D cA A Zs X [.ref x0]) (xQv D cA A Zs Xf) 0 0 A := by
  refine Met.ofW (cc := cX12_next) (maxL := 2) (ret := none) (by decide) rfl ?_
  intro p e s m args below meth c s₁ B hml hv
  obtain ⟨rfl, hR, hK⟩ := hv
  have hts := atoms_spec (ws := (ws_ yX12_next cX12_next 2 none)) B.pre
  rw [lg_entry_eq]
  exact wX12_next_0 (E := ⟨⟨B.exec, B.bytes, hml, findClass_of_methodNamed B.named, fun w h => hts w (List.mem_cons_of_mem _ h)⟩, hK, B.returns, B.notSynchronized⟩) hf _ _ _ 0 0 (Nat.le_of_ble_eq_true rfl) (Nat.le_of_ble_eq_true rfl) hR va_S.rf (lv_entry [.ref x0] (n := 2) (Nat.le_of_ble_eq_true rfl))
end
abbrev rmX12_must : Room := { frames := 4, cells := 1, slots := 8, locals := 82 }
theorem cwX12_57 {R : Room} {s : State} {args : Array Value} (ht : ∀ w ∈ lw_all, w.before args s = true) (hR : rmX13_init.frames + 1 ≤ R.frames ∧ 8 + (3 + 11) + rmX13_init.locals ≤ R.locals) : CallB R s args RX12 57 yX13_init cX13_init 3 none (ws_ yX13_init cX13_init 3 none) rmX13_init 0 0 2 ∧ yX13_init.name = "<init>" ∧ (Cond.instanceMethod yX13_init).before args s = true :=
  cwI 2 ht (lw_meth q547) rfl rfl rfl (ht _ q91) (ht _ q545) (ht _ q546) rfl (by decide +kernel) hR
section
variable {p : Program} {l : Launch} {e : Env} {s : State} {m : MethodId} {args : Array Value} {below : List Frame} {meth : Method} {c : Code} {D : va_G} {cA : Nat → ClassId} {A : Nat → Prop} {Zs : XZ} {Xf : AH} {r : Int32} {rl : Int64} {ra : Nat} {tv : Unit ⊕ Nat} {ti : Int32 ⊕ Nat} {tr : Nat ⊕ Nat} {q2 : Option Nat}
def fX12_must  (X : AH) (x0 : Nat) (x1 : Int32) (x2 : Int32) : Option ((Unit ⊕ Nat) × AH) :=
  if x1 = 0 then ((some (xnw X (.inl (13, [.null, .null, .null, .null, .null, .int 0, .int 0, .int 0])))).bind fun X2 =>
  (gI X2 x0 12 4).bind fun v3 =>
  (fX13_init X2 X.1 x2 v3).bind fun X4 =>
  some (.inr X.1, X4)) else (some (.inl (), X))
theorem wX12_must_0 (E : xE p m c cX12_must 3 s args RX12 D cA A Zs meth none) (hne : c.exceptionTable.toList = []) {X : AH} {x0 : Nat} {x1 : Int32} {x2 : Int32} (hf : fX12_must X x0 x1 x2 = some (tv, Xf)) : ∀ (H : Heap) (locs : List Loc) (ls : Array Slot) (cells slots : Nat), cells + 1 ≤ 1 → slots + 8 ≤ 8 → xR D cA A Zs X H → va_S A s.heap H locs → lv_has ls 3 [(0, .ref x0), (1, .int x1), (2, .int x2)] → W p l e rmX12_must s m args below meth c H locs cells slots (MQT below (xQT D cA A Zs (ov tv) Xf) args s 1 8 A) (F0 m 0 ls []) := by
  intro H locs ls cells slots hc hs hR hS hl
  refine lv_iload_n E.hx E.hb dX12_must_0 rfl (lv_at hl 1 rfl) ?_
  refine lv_if_ne (tgt := 17) E.hx E.hb dX12_must_1 (by decide) (fun c1 => ?_) (fun c1 => ?_)
  · have hf := it_f hf c1
    obtain ⟨rfl, rfl⟩ := rt_e hf
    exact xretT_v E (by omega) (by omega) hR hS dX12_must_17
  · have hf := it_t hf c1
    obtain ⟨X2, hX2, hf⟩ := bd_e hf
    refine xnew (ci := 13) E hR hS in_X13 tyX13 tyX13_ok q536 q537 q91 rfl dfX13 (Nat.le_trans (by omega) (Nat.le_refl 1)) (Nat.le_trans (by omega) (Nat.le_refl 8)) dX12_must_4 (fun H hR hS => ?_)
    rw [Option.some.inj hX2] at hR
    refine lv_dup E.hx E.hb dX12_must_7 rfl ?_
    refine lv_iload_n E.hx E.hb dX12_must_8 rfl (lv_at hl 2 rfl) ?_
    refine lv_aload_n E.hx E.hb dX12_must_9 rfl (lv_at hl 0 rfl) ?_
    obtain ⟨v3, hv3, hf⟩ := bd_e hf
    refine xgX12_30 E hR hv3 dX12_must_10 ?_
    obtain ⟨X4, hX4, hf⟩ := bd_e hf
    refine xrun_v (va_runI (As := [.int x2, .int v3]) (rest := [.ref X.1]) E.1 (tX13_init l hX4) (cwX12_57 E.ht ⟨Nat.le_of_ble_eq_true rfl, Nat.le_of_ble_eq_true rfl⟩) (xPreS E hR hS) rfl rfl hl.1 rfl (lv_room (Nat.le_of_ble_eq_true rfl)) dX12_must_13 ⟨Nat.le_trans (by omega) (Nat.le_refl 1), Nat.le_trans (by omega) (Nat.le_refl 8)⟩) hS (fun H locs hR hS => ?_)
    obtain ⟨rfl, rfl⟩ := rt_e hf
    exact xathrow E hne rfl (by omega) (by omega) hR hS dX12_must_16
theorem tX12_must (l : Launch) {D : va_G} {cA : Nat → ClassId} {A : Nat → Prop} {Zs : XZ} {X Xf : AH} {x0 : Nat} {x1 : Int32} {x2 : Int32} {tv : Unit ⊕ Nat} (hf : fX12_must X x0 x1 x2 = some (tv, Xf)) : MetT l yX12_must (ws_ yX12_must cX12_must 3 none) rmX12_must (xPc D cA A Zs X [.ref x0, .int x1, .int x2]) (xQT D cA A Zs (ov tv) Xf) 1 8 A := by
  refine MetT.ofW (cc := cX12_must) (maxL := 3) (ret := none) (by decide) rfl ?_
  intro p e s m args below meth c s₁ B hml hne hv
  obtain ⟨rfl, hR, hK⟩ := hv
  have hts := atoms_spec (ws := (ws_ yX12_must cX12_must 3 none)) B.pre
  rw [lg_entry_eq]
  exact wX12_must_0 (E := ⟨⟨B.exec, B.bytes, hml, findClass_of_methodNamed B.named, fun w h => hts w (List.mem_cons_of_mem _ h)⟩, hK, B.returns, B.notSynchronized⟩) hne hf _ _ _ 0 0 (Nat.le_of_ble_eq_true rfl) (Nat.le_of_ble_eq_true rfl) hR va_S.rf (lv_entry [.ref x0, .int x1, .int x2] (n := 3) (Nat.le_of_ble_eq_true rfl))
end
abbrev rmX12_isLetter : Room := { frames := 1, cells := 0, slots := 0, locals := 12 }
section
variable {p : Program} {l : Launch} {e : Env} {s : State} {m : MethodId} {args : Array Value} {below : List Frame} {meth : Method} {c : Code} {D : va_G} {cA : Nat → ClassId} {A : Nat → Prop} {Zs : XZ} {Xf : AH} {r : Int32} {rl : Int64} {ra : Nat} {tv : Unit ⊕ Nat} {ti : Int32 ⊕ Nat} {tr : Nat ⊕ Nat} {q2 : Option Nat}
def fX12_isLetter  (X : AH) (x0 : Nat) (x1 : Int32) : Option (Int32 × AH) :=
  (gI X x0 12 3).bind fun v1 =>
  if v1 = 1 then ((gI X x0 12 5).bind fun v3 =>
  if v3 = x1 then (some (1, X)) else (some (0, X))) else (some (0, X))
theorem wX12_isLetter_0 (E : xE p m c cX12_isLetter 2 s args RX12 D cA A Zs meth (some .boolean)) {X : AH} {x0 : Nat} {x1 : Int32} (hf : fX12_isLetter X x0 x1 = some (r, Xf)) : ∀ (H : Heap) (locs : List Loc) (ls : Array Slot) (cells slots : Nat), cells + 0 ≤ 0 → slots + 0 ≤ 0 → xR D cA A Zs X H → va_S A s.heap H locs → lv_has ls 2 [(0, .ref x0), (1, .int x1)] → W p l e rmX12_isLetter s m args below meth c H locs cells slots (MQ below (xQi D cA A Zs r Xf) args s 0 0 A) (F0 m 0 ls []) := by
  intro H locs ls cells slots hc hs hR hS hl
  refine lv_aload_n E.hx E.hb dX12_isLetter_0 rfl (lv_at hl 0 rfl) ?_
  obtain ⟨v1, hv1, hf⟩ := bd_e hf
  refine xgX12_40 E hR hv1 dX12_isLetter_1 ?_
  refine lv_iconst (v := 1) E.hx E.hb dX12_isLetter_4 (by decide) ?_
  refine lv_icmp_ne (tgt := 20) E.hx E.hb dX12_isLetter_5 (by decide) (fun c2 => ?_) (fun c2 => ?_)
  · have hf := it_f hf c2
    refine lv_iconst (v := 0) E.hx E.hb dX12_isLetter_20 (by decide) ?_
    obtain ⟨rfl, rfl⟩ := rt_e hf
    exact xret_z E rfl (by omega) (by omega) hR hS dX12_isLetter_21
  · have hf := it_t hf c2
    refine lv_aload_n E.hx E.hb dX12_isLetter_8 rfl (lv_at hl 0 rfl) ?_
    obtain ⟨v3, hv3, hf⟩ := bd_e hf
    refine xgX12_37 E hR hv3 dX12_isLetter_9 ?_
    refine lv_iload_n E.hx E.hb dX12_isLetter_12 rfl (lv_at hl 1 rfl) ?_
    refine lv_icmp_ne (tgt := 20) E.hx E.hb dX12_isLetter_13 (by decide) (fun c4 => ?_) (fun c4 => ?_)
    · have hf := it_f hf c4
      refine lv_iconst (v := 0) E.hx E.hb dX12_isLetter_20 (by decide) ?_
      obtain ⟨rfl, rfl⟩ := rt_e hf
      exact xret_z E rfl (by omega) (by omega) hR hS dX12_isLetter_21
    · have hf := it_t hf c4
      refine lv_iconst (v := 1) E.hx E.hb dX12_isLetter_16 (by decide) ?_
      refine lv_goto (tgt := 21) E.hx E.hb dX12_isLetter_17 (by decide) ?_
      obtain ⟨rfl, rfl⟩ := rt_e hf
      exact xret_z E rfl (by omega) (by omega) hR hS dX12_isLetter_21
theorem tX12_isLetter (l : Launch) {D : va_G} {cA : Nat → ClassId} {A : Nat → Prop} {Zs : XZ} {X Xf : AH} {x0 : Nat} {x1 : Int32} {r : Int32} (hf : fX12_isLetter X x0 x1 = some (r, Xf)) : Met l yX12_isLetter (ws_ yX12_isLetter cX12_isLetter 2 (some .boolean)) rmX12_isLetter (xPc D cA A Zs X [.ref x0, .int x1]) (xQi D cA A Zs r Xf) 0 0 A := by
  refine Met.ofW (cc := cX12_isLetter) (maxL := 2) (ret := (some .boolean)) (by decide) rfl ?_
  intro p e s m args below meth c s₁ B hml hv
  obtain ⟨rfl, hR, hK⟩ := hv
  have hts := atoms_spec (ws := (ws_ yX12_isLetter cX12_isLetter 2 (some .boolean))) B.pre
  rw [lg_entry_eq]
  exact wX12_isLetter_0 (E := ⟨⟨B.exec, B.bytes, hml, findClass_of_methodNamed B.named, fun w h => hts w (List.mem_cons_of_mem _ h)⟩, hK, B.returns, B.notSynchronized⟩) hf _ _ _ 0 0 (Nat.le_of_ble_eq_true rfl) (Nat.le_of_ble_eq_true rfl) hR va_S.rf (lv_entry [.ref x0, .int x1] (n := 2) (Nat.le_of_ble_eq_true rfl))
end
abbrev rmX12_figure : Room := { frames := 5, cells := 2, slots := 16, locals := 104 }
theorem cwX12_60 {R : Room} {s : State} {args : Array Value} (ht : ∀ w ∈ lw_all, w.before args s = true) (hR : rmX12_must.frames + 1 ≤ R.frames ∧ 8 + (3 + 11) + rmX12_must.locals ≤ R.locals) : CallW R s args RX12 RX12 60 yX12_must cX12_must 3 none (ws_ yX12_must cX12_must 3 none) rmX12_must 1 8 2 :=
  cwV 2 ht (lw_V q532 q534 qs7 q90 q535) rfl rfl rfl (by decide +kernel) hR
theorem cwX12_64 {R : Room} {s : State} {args : Array Value} (ht : ∀ w ∈ lw_all, w.before args s = true) (hR : rmX12_next.frames + 1 ≤ R.frames ∧ 8 + (2 + 11) + rmX12_next.locals ≤ R.locals) : CallW R s args RX12 RX12 64 yX12_next cX12_next 2 none (ws_ yX12_next cX12_next 2 none) rmX12_next 0 0 0 :=
  cwV 0 ht (lw_V q514 q516 qs4 q90 q517) rfl rfl rfl (by decide +kernel) hR
section
variable {p : Program} {l : Launch} {e : Env} {s : State} {m : MethodId} {args : Array Value} {below : List Frame} {meth : Method} {c : Code} {D : va_G} {cA : Nat → ClassId} {A : Nat → Prop} {Zs : XZ} {Xf : AH} {r : Int32} {rl : Int64} {ra : Nat} {tv : Unit ⊕ Nat} {ti : Int32 ⊕ Nat} {tr : Nat ⊕ Nat} {q2 : Option Nat}
def fX12_figure_b14  (X : AH) (s0 : Nat) (s1 : Int32) (x0 : Nat) (x1 : Int32) (x2 : Int32) : Option ((Int32 ⊕ Nat) × AH) :=
  (ck X s0 12).bind fun _ =>
  (fX12_must X s0 s1 1).bind fun (o1, X2) => match o1 with
    | .inl _ => ((gI X2 x0 12 5).bind fun v5 =>
  (fX0_isIn (v5.toInt64) (x1.toInt64) (x2.toInt64)).bind fun v6 =>
  (ck X2 x0 12).bind fun _ =>
  (fX12_must X2 x0 v6 2).bind fun (o7, X8) => match o7 with
    | .inl _ => ((gI X8 x0 12 5).bind fun v11 =>
  (ck X8 x0 12).bind fun _ =>
  (fX12_next X8 x0).bind fun X13 =>
  some (.inl v11, X13))
    | .inr y10 => (some (.inr y10, X8)))
    | .inr y4 => (some (.inr y4, X2))
theorem wX12_figure_b14 (E : xE p m c cX12_figure 4 s args RX12 D cA A Zs meth (some .int)) (hne : c.exceptionTable.toList = []) {X : AH} {s0 : Nat} {s1 : Int32} {x0 : Nat} {x1 : Int32} {x2 : Int32} (hf : fX12_figure_b14 X s0 s1 x0 x1 x2 = some (ti, Xf)) : ∀ (H : Heap) (locs : List Loc) (ls : Array Slot) (cells slots : Nat), cells + 2 ≤ 2 → slots + 16 ≤ 16 → xR D cA A Zs X H → va_S A s.heap H locs → lv_has ls 4 [(0, .ref x0), (1, .int x1), (2, .int x2)] → W p l e rmX12_figure s m args below meth c H locs cells slots (MQT below (xQT D cA A Zs (oi ti) Xf) args s 2 16 A) (F0 m 14 ls [.int s1, .ref s0]) := by
  intro H locs ls cells slots hc hs hR hS hl
  refine lv_iconst (v := 1) E.hx E.hb dX12_figure_14 (by decide) ?_
  obtain ⟨u16, hu16, hf⟩ := bd_e hf
  obtain ⟨⟨o1, X2⟩, ho1, hf⟩ := bd_e hf
  cases o1 with
  | inl v3 =>
    refine xrunT_v (runVT (As := [.int s1, .int 1]) (rest := []) E.1 (tX12_must l ho1) (cwX12_60 E.ht ⟨Nat.le_of_ble_eq_true rfl, Nat.le_of_ble_eq_true rfl⟩) (xPreV (ci := 12) E hR hS rfl (ck_e hu16)) rfl rfl hl.1 rfl (lv_room (Nat.le_of_ble_eq_true rfl)) dX12_figure_15 ⟨Nat.le_trans (by omega) (Nat.le_refl 2), Nat.le_trans (by omega) (Nat.le_refl 16)⟩) hS (fun H locs hR hS => ?_)
    refine lv_aload_n E.hx E.hb dX12_figure_18 rfl (lv_at hl 0 rfl) ?_
    refine lv_aload_n E.hx E.hb dX12_figure_19 rfl (lv_at hl 0 rfl) ?_
    obtain ⟨v5, hv5, hf⟩ := bd_e hf
    refine xgX12_37 E hR hv5 dX12_figure_20 ?_
    refine lv_i2l E.hx E.hb dX12_figure_23 rfl ?_
    refine lv_iload_n E.hx E.hb dX12_figure_24 rfl (lv_at hl 1 rfl) ?_
    refine lv_i2l E.hx E.hb dX12_figure_25 rfl ?_
    refine lv_iload_n E.hx E.hb dX12_figure_26 rfl (lv_at hl 2 rfl) ?_
    refine lv_i2l E.hx E.hb dX12_figure_27 rfl ?_
    obtain ⟨v6, hv6, hf⟩ := bd_e hf
    refine scallN_i (rest := [.ref x0]) E.1 (tX0_isIn l hv6) (cwX12_47 E.ht (E.2.1.2.2.2.1 ("ChairRanks$Reader", 47, ⟨"ChairRanks", "isIn", "(JJJ)Z"⟩, "ChairRanks") (by decide +kernel)) ⟨Nat.le_of_ble_eq_true rfl, Nat.le_of_ble_eq_true rfl⟩) rfl hl.1 rfl (Nat.le_of_ble_eq_true rfl) dX12_figure_28 ⟨Nat.le_trans (by omega) (Nat.le_refl 2), Nat.le_trans (by omega) (Nat.le_refl 16)⟩ ?_
    refine lv_iconst (v := 2) E.hx E.hb dX12_figure_31 (by decide) ?_
    obtain ⟨u15, hu15, hf⟩ := bd_e hf
    obtain ⟨⟨o7, X8⟩, ho7, hf⟩ := bd_e hf
    cases o7 with
    | inl v9 =>
      refine xrunT_v (runVT (As := [.int v6, .int 2]) (rest := []) E.1 (tX12_must l ho7) (cwX12_60 E.ht ⟨Nat.le_of_ble_eq_true rfl, Nat.le_of_ble_eq_true rfl⟩) (xPreV (ci := 12) E hR hS rfl (ck_e hu15)) rfl rfl hl.1 rfl (lv_room (Nat.le_of_ble_eq_true rfl)) dX12_figure_32 ⟨Nat.le_trans (by omega) (Nat.le_refl 2), Nat.le_trans (by omega) (Nat.le_refl 16)⟩) hS (fun H locs hR hS => ?_)
      refine lv_aload_n E.hx E.hb dX12_figure_35 rfl (lv_at hl 0 rfl) ?_
      obtain ⟨v11, hv11, hf⟩ := bd_e hf
      refine xgX12_37 E hR hv11 dX12_figure_36 ?_
      refine lv_istore_n (lv' := [(3, .int v11), (0, .ref x0), (1, .int x1), (2, .int x2)]) E.hx E.hb dX12_figure_39 rfl hl (by decide) rfl (fun ls hl => ?_)
      refine lv_aload_n E.hx E.hb dX12_figure_40 rfl (lv_at hl 1 rfl) ?_
      obtain ⟨u12, hu12, hf⟩ := bd_e hf
      obtain ⟨X13, hX13, hf⟩ := bd_e hf
      refine xrun_v (va_runV (As := []) (rest := []) E.1 (tX12_next l hX13) (cwX12_64 E.ht ⟨Nat.le_of_ble_eq_true rfl, Nat.le_of_ble_eq_true rfl⟩) (xPreV (ci := 12) E hR hS rfl (ck_e hu12)) rfl rfl hl.1 rfl (lv_room (Nat.le_of_ble_eq_true rfl)) dX12_figure_41 ⟨Nat.le_trans (by omega) (Nat.le_refl 2), Nat.le_trans (by omega) (Nat.le_refl 16)⟩) hS (fun H locs hR hS => ?_)
      refine lv_iload_n E.hx E.hb dX12_figure_44 rfl (lv_at hl 0 rfl) ?_
      obtain ⟨rfl, rfl⟩ := rt_e hf
      exact xretT_i E (by omega) (by omega) hR hS dX12_figure_45
    | inr y10 =>
      obtain ⟨rfl, rfl⟩ := rt_e hf
      exact xrunT_out E hne (runVT (As := [.int v6, .int 2]) (rest := []) E.1 (tX12_must l ho7) (cwX12_60 E.ht ⟨Nat.le_of_ble_eq_true rfl, Nat.le_of_ble_eq_true rfl⟩) (xPreV (ci := 12) E hR hS rfl (ck_e hu15)) rfl rfl hl.1 rfl (lv_room (Nat.le_of_ble_eq_true rfl)) dX12_figure_32 ⟨Nat.le_trans (by omega) (Nat.le_refl 2), Nat.le_trans (by omega) (Nat.le_refl 16)⟩) rfl rfl (by omega) (by omega) hS
  | inr y4 =>
    obtain ⟨rfl, rfl⟩ := rt_e hf
    exact xrunT_out E hne (runVT (As := [.int s1, .int 1]) (rest := []) E.1 (tX12_must l ho1) (cwX12_60 E.ht ⟨Nat.le_of_ble_eq_true rfl, Nat.le_of_ble_eq_true rfl⟩) (xPreV (ci := 12) E hR hS rfl (ck_e hu16)) rfl rfl hl.1 rfl (lv_room (Nat.le_of_ble_eq_true rfl)) dX12_figure_15 ⟨Nat.le_trans (by omega) (Nat.le_refl 2), Nat.le_trans (by omega) (Nat.le_refl 16)⟩) rfl rfl (by omega) (by omega) hS
def fX12_figure  (X : AH) (x0 : Nat) (x1 : Int32) (x2 : Int32) : Option ((Int32 ⊕ Nat) × AH) :=
  (gI X x0 12 3).bind fun v1 =>
  if v1 = 2 then (fX12_figure_b14 X x0 1 x0 x1 x2) else (fX12_figure_b14 X x0 0 x0 x1 x2)
theorem wX12_figure_0 (E : xE p m c cX12_figure 4 s args RX12 D cA A Zs meth (some .int)) (hne : c.exceptionTable.toList = []) {X : AH} {x0 : Nat} {x1 : Int32} {x2 : Int32} (hf : fX12_figure X x0 x1 x2 = some (ti, Xf)) : ∀ (H : Heap) (locs : List Loc) (ls : Array Slot) (cells slots : Nat), cells + 2 ≤ 2 → slots + 16 ≤ 16 → xR D cA A Zs X H → va_S A s.heap H locs → lv_has ls 4 [(0, .ref x0), (1, .int x1), (2, .int x2)] → W p l e rmX12_figure s m args below meth c H locs cells slots (MQT below (xQT D cA A Zs (oi ti) Xf) args s 2 16 A) (F0 m 0 ls []) := by
  intro H locs ls cells slots hc hs hR hS hl
  refine lv_aload_n E.hx E.hb dX12_figure_0 rfl (lv_at hl 0 rfl) ?_
  refine lv_aload_n E.hx E.hb dX12_figure_1 rfl (lv_at hl 0 rfl) ?_
  obtain ⟨v1, hv1, hf⟩ := bd_e hf
  refine xgX12_40 E hR hv1 dX12_figure_2 ?_
  refine lv_iconst (v := 2) E.hx E.hb dX12_figure_5 (by decide) ?_
  refine lv_icmp_ne (tgt := 13) E.hx E.hb dX12_figure_6 (by decide) (fun c2 => ?_) (fun c2 => ?_)
  · have hf := it_f hf c2
    refine lv_iconst (v := 0) E.hx E.hb dX12_figure_13 (by decide) ?_
    exact wX12_figure_b14 E hne  hf _ _ _ _ _ (by omega) (by omega) hR hS (lv_sub hl [0, 1, 2] rfl)
  · have hf := it_t hf c2
    refine lv_iconst (v := 1) E.hx E.hb dX12_figure_9 (by decide) ?_
    refine lv_goto (tgt := 14) E.hx E.hb dX12_figure_10 (by decide) ?_
    exact wX12_figure_b14 E hne  hf _ _ _ _ _ (by omega) (by omega) hR hS (lv_sub hl [0, 1, 2] rfl)
theorem tX12_figure (l : Launch) {D : va_G} {cA : Nat → ClassId} {A : Nat → Prop} {Zs : XZ} {X Xf : AH} {x0 : Nat} {x1 : Int32} {x2 : Int32} {ti : Int32 ⊕ Nat} (hf : fX12_figure X x0 x1 x2 = some (ti, Xf)) : MetT l yX12_figure (ws_ yX12_figure cX12_figure 4 (some .int)) rmX12_figure (xPc D cA A Zs X [.ref x0, .int x1, .int x2]) (xQT D cA A Zs (oi ti) Xf) 2 16 A := by
  refine MetT.ofW (cc := cX12_figure) (maxL := 4) (ret := (some .int)) (by decide) rfl ?_
  intro p e s m args below meth c s₁ B hml hne hv
  obtain ⟨rfl, hR, hK⟩ := hv
  have hts := atoms_spec (ws := (ws_ yX12_figure cX12_figure 4 (some .int))) B.pre
  rw [lg_entry_eq]
  exact wX12_figure_0 (E := ⟨⟨B.exec, B.bytes, hml, findClass_of_methodNamed B.named, fun w h => hts w (List.mem_cons_of_mem _ h)⟩, hK, B.returns, B.notSynchronized⟩) hne hf _ _ _ 0 0 (Nat.le_of_ble_eq_true rfl) (Nat.le_of_ble_eq_true rfl) hR va_S.rf (lv_entry [.ref x0, .int x1, .int x2] (n := 4) (Nat.le_of_ble_eq_true rfl))
end
abbrev rmX12_sign : Room := { frames := 5, cells := 1, slots := 8, locals := 104 }
section
variable {p : Program} {l : Launch} {e : Env} {s : State} {m : MethodId} {args : Array Value} {below : List Frame} {meth : Method} {c : Code} {D : va_G} {cA : Nat → ClassId} {A : Nat → Prop} {Zs : XZ} {Xf : AH} {r : Int32} {rl : Int64} {ra : Nat} {tv : Unit ⊕ Nat} {ti : Int32 ⊕ Nat} {tr : Nat ⊕ Nat} {q2 : Option Nat}
def fX12_sign_b14  (X : AH) (s0 : Nat) (s1 : Int32) (x0 : Nat) : Option ((Unit ⊕ Nat) × AH) :=
  (ck X s0 12).bind fun _ =>
  (fX12_must X s0 s1 1).bind fun (o1, X2) => match o1 with
    | .inl _ => ((ck X2 x0 12).bind fun _ =>
  (fX12_next X2 x0).bind fun X6 =>
  some (.inl (), X6))
    | .inr y4 => (some (.inr y4, X2))
theorem wX12_sign_b14 (E : xE p m c cX12_sign 2 s args RX12 D cA A Zs meth none) (hne : c.exceptionTable.toList = []) {X : AH} {s0 : Nat} {s1 : Int32} {x0 : Nat} (hf : fX12_sign_b14 X s0 s1 x0 = some (tv, Xf)) : ∀ (H : Heap) (locs : List Loc) (ls : Array Slot) (cells slots : Nat), cells + 1 ≤ 1 → slots + 8 ≤ 8 → xR D cA A Zs X H → va_S A s.heap H locs → lv_has ls 2 [(0, .ref x0)] → W p l e rmX12_sign s m args below meth c H locs cells slots (MQT below (xQT D cA A Zs (ov tv) Xf) args s 1 8 A) (F0 m 14 ls [.int s1, .ref s0]) := by
  intro H locs ls cells slots hc hs hR hS hl
  refine lv_iconst (v := 1) E.hx E.hb dX12_sign_14 (by decide) ?_
  obtain ⟨u8, hu8, hf⟩ := bd_e hf
  obtain ⟨⟨o1, X2⟩, ho1, hf⟩ := bd_e hf
  cases o1 with
  | inl v3 =>
    refine xrunT_v (runVT (As := [.int s1, .int 1]) (rest := []) E.1 (tX12_must l ho1) (cwX12_60 E.ht ⟨Nat.le_of_ble_eq_true rfl, Nat.le_of_ble_eq_true rfl⟩) (xPreV (ci := 12) E hR hS rfl (ck_e hu8)) rfl rfl hl.1 rfl (lv_room (Nat.le_of_ble_eq_true rfl)) dX12_sign_15 ⟨Nat.le_trans (by omega) (Nat.le_refl 1), Nat.le_trans (by omega) (Nat.le_refl 8)⟩) hS (fun H locs hR hS => ?_)
    refine lv_aload_n E.hx E.hb dX12_sign_18 rfl (lv_at hl 0 rfl) ?_
    obtain ⟨u5, hu5, hf⟩ := bd_e hf
    obtain ⟨X6, hX6, hf⟩ := bd_e hf
    refine xrun_v (va_runV (As := []) (rest := []) E.1 (tX12_next l hX6) (cwX12_64 E.ht ⟨Nat.le_of_ble_eq_true rfl, Nat.le_of_ble_eq_true rfl⟩) (xPreV (ci := 12) E hR hS rfl (ck_e hu5)) rfl rfl hl.1 rfl (lv_room (Nat.le_of_ble_eq_true rfl)) dX12_sign_19 ⟨Nat.le_trans (by omega) (Nat.le_refl 1), Nat.le_trans (by omega) (Nat.le_refl 8)⟩) hS (fun H locs hR hS => ?_)
    obtain ⟨rfl, rfl⟩ := rt_e hf
    exact xretT_v E (by omega) (by omega) hR hS dX12_sign_22
  | inr y4 =>
    obtain ⟨rfl, rfl⟩ := rt_e hf
    exact xrunT_out E hne (runVT (As := [.int s1, .int 1]) (rest := []) E.1 (tX12_must l ho1) (cwX12_60 E.ht ⟨Nat.le_of_ble_eq_true rfl, Nat.le_of_ble_eq_true rfl⟩) (xPreV (ci := 12) E hR hS rfl (ck_e hu8)) rfl rfl hl.1 rfl (lv_room (Nat.le_of_ble_eq_true rfl)) dX12_sign_15 ⟨Nat.le_trans (by omega) (Nat.le_refl 1), Nat.le_trans (by omega) (Nat.le_refl 8)⟩) rfl rfl (by omega) (by omega) hS
def fX12_sign  (X : AH) (x0 : Nat) (x1 : Int32) : Option ((Unit ⊕ Nat) × AH) :=
  (gI X x0 12 3).bind fun v1 =>
  if v1 = x1 then (fX12_sign_b14 X x0 1 x0) else (fX12_sign_b14 X x0 0 x0)
theorem wX12_sign_0 (E : xE p m c cX12_sign 2 s args RX12 D cA A Zs meth none) (hne : c.exceptionTable.toList = []) {X : AH} {x0 : Nat} {x1 : Int32} (hf : fX12_sign X x0 x1 = some (tv, Xf)) : ∀ (H : Heap) (locs : List Loc) (ls : Array Slot) (cells slots : Nat), cells + 1 ≤ 1 → slots + 8 ≤ 8 → xR D cA A Zs X H → va_S A s.heap H locs → lv_has ls 2 [(0, .ref x0), (1, .int x1)] → W p l e rmX12_sign s m args below meth c H locs cells slots (MQT below (xQT D cA A Zs (ov tv) Xf) args s 1 8 A) (F0 m 0 ls []) := by
  intro H locs ls cells slots hc hs hR hS hl
  refine lv_aload_n E.hx E.hb dX12_sign_0 rfl (lv_at hl 0 rfl) ?_
  refine lv_aload_n E.hx E.hb dX12_sign_1 rfl (lv_at hl 0 rfl) ?_
  obtain ⟨v1, hv1, hf⟩ := bd_e hf
  refine xgX12_40 E hR hv1 dX12_sign_2 ?_
  refine lv_iload_n E.hx E.hb dX12_sign_5 rfl (lv_at hl 1 rfl) ?_
  refine lv_icmp_ne (tgt := 13) E.hx E.hb dX12_sign_6 (by decide) (fun c2 => ?_) (fun c2 => ?_)
  · have hf := it_f hf c2
    refine lv_iconst (v := 0) E.hx E.hb dX12_sign_13 (by decide) ?_
    exact wX12_sign_b14 E hne  hf _ _ _ _ _ (by omega) (by omega) hR hS (lv_sub hl [0] rfl)
  · have hf := it_t hf c2
    refine lv_iconst (v := 1) E.hx E.hb dX12_sign_9 (by decide) ?_
    refine lv_goto (tgt := 14) E.hx E.hb dX12_sign_10 (by decide) ?_
    exact wX12_sign_b14 E hne  hf _ _ _ _ _ (by omega) (by omega) hR hS (lv_sub hl [0] rfl)
theorem tX12_sign (l : Launch) {D : va_G} {cA : Nat → ClassId} {A : Nat → Prop} {Zs : XZ} {X Xf : AH} {x0 : Nat} {x1 : Int32} {tv : Unit ⊕ Nat} (hf : fX12_sign X x0 x1 = some (tv, Xf)) : MetT l yX12_sign (ws_ yX12_sign cX12_sign 2 none) rmX12_sign (xPc D cA A Zs X [.ref x0, .int x1]) (xQT D cA A Zs (ov tv) Xf) 1 8 A := by
  refine MetT.ofW (cc := cX12_sign) (maxL := 2) (ret := none) (by decide) rfl ?_
  intro p e s m args below meth c s₁ B hml hne hv
  obtain ⟨rfl, hR, hK⟩ := hv
  have hts := atoms_spec (ws := (ws_ yX12_sign cX12_sign 2 none)) B.pre
  rw [lg_entry_eq]
  exact wX12_sign_0 (E := ⟨⟨B.exec, B.bytes, hml, findClass_of_methodNamed B.named, fun w h => hts w (List.mem_cons_of_mem _ h)⟩, hK, B.returns, B.notSynchronized⟩) hne hf _ _ _ 0 0 (Nat.le_of_ble_eq_true rfl) (Nat.le_of_ble_eq_true rfl) hR va_S.rf (lv_entry [.ref x0, .int x1] (n := 2) (Nat.le_of_ble_eq_true rfl))
end
abbrev rmX12_more : Room := { frames := 6, cells := 3, slots := 24, locals := 127 }
theorem cwX12_67 {R : Room} {s : State} {args : Array Value} (ht : ∀ w ∈ lw_all, w.before args s = true) (hR : rmX12_sign.frames + 1 ≤ R.frames ∧ 8 + (2 + 11) + rmX12_sign.locals ≤ R.locals) : CallW R s args RX12 RX12 67 yX12_sign cX12_sign 2 none (ws_ yX12_sign cX12_sign 2 none) rmX12_sign 1 8 1 :=
  cwV 1 ht (lw_V q567 q569 qs10 q90 q570) rfl rfl rfl (by decide +kernel) hR
theorem cwX12_71 {R : Room} {s : State} {args : Array Value} (ht : ∀ w ∈ lw_all, w.before args s = true) (hR : rmX12_figure.frames + 1 ≤ R.frames ∧ 8 + (4 + 11) + rmX12_figure.locals ≤ R.locals) : CallW R s args RX12 RX12 71 yX12_figure cX12_figure 4 (some .int) (ws_ yX12_figure cX12_figure 4 (some .int)) rmX12_figure 2 16 2 :=
  cwV 2 ht (lw_V q559 q561 qs8 q90 q562) rfl rfl rfl (by decide +kernel) hR
section
variable {p : Program} {l : Launch} {e : Env} {s : State} {m : MethodId} {args : Array Value} {below : List Frame} {meth : Method} {c : Code} {D : va_G} {cA : Nat → ClassId} {A : Nat → Prop} {Zs : XZ} {Xf : AH} {r : Int32} {rl : Int64} {ra : Nat} {tv : Unit ⊕ Nat} {ti : Int32 ⊕ Nat} {tr : Nat ⊕ Nat} {q2 : Option Nat}
def fX12_more  (X : AH) (x0 : Nat) (x1 : Int32) (x2 : Int32) : Option ((Int32 ⊕ Nat) × AH) :=
  (ck X x0 12).bind fun _ =>
  (fX12_sign X x0 3).bind fun (o1, X2) => match o1 with
    | .inl _ => ((ck X2 x0 12).bind fun _ =>
  (fX12_figure X2 x0 x1 x2).bind fun (o5, X6) => match o5 with
    | .inl v7 => (some (.inl v7, X6))
    | .inr y8 => (some (.inr y8, X6)))
    | .inr y4 => (some (.inr y4, X2))
theorem wX12_more_0 (E : xE p m c cX12_more 3 s args RX12 D cA A Zs meth (some .int)) (hne : c.exceptionTable.toList = []) {X : AH} {x0 : Nat} {x1 : Int32} {x2 : Int32} (hf : fX12_more X x0 x1 x2 = some (ti, Xf)) : ∀ (H : Heap) (locs : List Loc) (ls : Array Slot) (cells slots : Nat), cells + 3 ≤ 3 → slots + 24 ≤ 24 → xR D cA A Zs X H → va_S A s.heap H locs → lv_has ls 3 [(0, .ref x0), (1, .int x1), (2, .int x2)] → W p l e rmX12_more s m args below meth c H locs cells slots (MQT below (xQT D cA A Zs (oi ti) Xf) args s 3 24 A) (F0 m 0 ls []) := by
  intro H locs ls cells slots hc hs hR hS hl
  refine lv_aload_n E.hx E.hb dX12_more_0 rfl (lv_at hl 0 rfl) ?_
  refine lv_iconst (v := 3) E.hx E.hb dX12_more_1 (by decide) ?_
  obtain ⟨u10, hu10, hf⟩ := bd_e hf
  obtain ⟨⟨o1, X2⟩, ho1, hf⟩ := bd_e hf
  cases o1 with
  | inl v3 =>
    refine xrunT_v (runVT (As := [.int 3]) (rest := []) E.1 (tX12_sign l ho1) (cwX12_67 E.ht ⟨Nat.le_of_ble_eq_true rfl, Nat.le_of_ble_eq_true rfl⟩) (xPreV (ci := 12) E hR hS rfl (ck_e hu10)) rfl rfl hl.1 rfl (lv_room (Nat.le_of_ble_eq_true rfl)) dX12_more_2 ⟨Nat.le_trans (by omega) (Nat.le_refl 3), Nat.le_trans (by omega) (Nat.le_refl 24)⟩) hS (fun H locs hR hS => ?_)
    refine lv_aload_n E.hx E.hb dX12_more_5 rfl (lv_at hl 0 rfl) ?_
    refine lv_iload_n E.hx E.hb dX12_more_6 rfl (lv_at hl 1 rfl) ?_
    refine lv_iload_n E.hx E.hb dX12_more_7 rfl (lv_at hl 2 rfl) ?_
    obtain ⟨u9, hu9, hf⟩ := bd_e hf
    obtain ⟨⟨o5, X6⟩, ho5, hf⟩ := bd_e hf
    cases o5 with
    | inl v7 =>
      refine xrunT_i (runVT (As := [.int x1, .int x2]) (rest := []) E.1 (tX12_figure l ho5) (cwX12_71 E.ht ⟨Nat.le_of_ble_eq_true rfl, Nat.le_of_ble_eq_true rfl⟩) (xPreV (ci := 12) E hR hS rfl (ck_e hu9)) rfl rfl hl.1 rfl (lv_room (Nat.le_of_ble_eq_true rfl)) dX12_more_8 ⟨Nat.le_trans (by omega) (Nat.le_refl 3), Nat.le_trans (by omega) (Nat.le_refl 24)⟩) hS (fun H locs hR hS => ?_)
      obtain ⟨rfl, rfl⟩ := rt_e hf
      exact xretT_i E (by omega) (by omega) hR hS dX12_more_11
    | inr y8 =>
      obtain ⟨rfl, rfl⟩ := rt_e hf
      exact xrunT_out E hne (runVT (As := [.int x1, .int x2]) (rest := []) E.1 (tX12_figure l ho5) (cwX12_71 E.ht ⟨Nat.le_of_ble_eq_true rfl, Nat.le_of_ble_eq_true rfl⟩) (xPreV (ci := 12) E hR hS rfl (ck_e hu9)) rfl rfl hl.1 rfl (lv_room (Nat.le_of_ble_eq_true rfl)) dX12_more_8 ⟨Nat.le_trans (by omega) (Nat.le_refl 3), Nat.le_trans (by omega) (Nat.le_refl 24)⟩) rfl rfl (by omega) (by omega) hS
  | inr y4 =>
    obtain ⟨rfl, rfl⟩ := rt_e hf
    exact xrunT_out E hne (runVT (As := [.int 3]) (rest := []) E.1 (tX12_sign l ho1) (cwX12_67 E.ht ⟨Nat.le_of_ble_eq_true rfl, Nat.le_of_ble_eq_true rfl⟩) (xPreV (ci := 12) E hR hS rfl (ck_e hu10)) rfl rfl hl.1 rfl (lv_room (Nat.le_of_ble_eq_true rfl)) dX12_more_2 ⟨Nat.le_trans (by omega) (Nat.le_refl 3), Nat.le_trans (by omega) (Nat.le_refl 24)⟩) rfl rfl (by omega) (by omega) hS
theorem tX12_more (l : Launch) {D : va_G} {cA : Nat → ClassId} {A : Nat → Prop} {Zs : XZ} {X Xf : AH} {x0 : Nat} {x1 : Int32} {x2 : Int32} {ti : Int32 ⊕ Nat} (hf : fX12_more X x0 x1 x2 = some (ti, Xf)) : MetT l yX12_more (ws_ yX12_more cX12_more 3 (some .int)) rmX12_more (xPc D cA A Zs X [.ref x0, .int x1, .int x2]) (xQT D cA A Zs (oi ti) Xf) 3 24 A := by
  refine MetT.ofW (cc := cX12_more) (maxL := 3) (ret := (some .int)) (by decide) rfl ?_
  intro p e s m args below meth c s₁ B hml hne hv
  obtain ⟨rfl, hR, hK⟩ := hv
  have hts := atoms_spec (ws := (ws_ yX12_more cX12_more 3 (some .int))) B.pre
  rw [lg_entry_eq]
  exact wX12_more_0 (E := ⟨⟨B.exec, B.bytes, hml, findClass_of_methodNamed B.named, fun w h => hts w (List.mem_cons_of_mem _ h)⟩, hK, B.returns, B.notSynchronized⟩) hne hf _ _ _ 0 0 (Nat.le_of_ble_eq_true rfl) (Nat.le_of_ble_eq_true rfl) hR va_S.rf (lv_entry [.ref x0, .int x1, .int x2] (n := 3) (Nat.le_of_ble_eq_true rfl))
end
abbrev rmX12_begin : Room := { frames := 5, cells := 1, slots := 8, locals := 104 }
section
variable {p : Program} {l : Launch} {e : Env} {s : State} {m : MethodId} {args : Array Value} {below : List Frame} {meth : Method} {c : Code} {D : va_G} {cA : Nat → ClassId} {A : Nat → Prop} {Zs : XZ} {Xf : AH} {r : Int32} {rl : Int64} {ra : Nat} {tv : Unit ⊕ Nat} {ti : Int32 ⊕ Nat} {tr : Nat ⊕ Nat} {q2 : Option Nat}
def fX12_begin_b11  (X : AH) (s0 : Nat) (s1 : Int32) (x0 : Nat) : Option ((Unit ⊕ Nat) × AH) :=
  (ck X s0 12).bind fun _ =>
  (fX12_must X s0 s1 3).bind fun (o1, X2) => match o1 with
    | .inl _ => ((ck X2 x0 12).bind fun _ =>
  (fX12_next X2 x0).bind fun X6 =>
  some (.inl (), X6))
    | .inr y4 => (some (.inr y4, X2))
theorem wX12_begin_b11 (E : xE p m c cX12_begin 3 s args RX12 D cA A Zs meth none) (hne : c.exceptionTable.toList = []) {X : AH} {s0 : Nat} {s1 : Int32} {x0 : Nat} (hf : fX12_begin_b11 X s0 s1 x0 = some (tv, Xf)) : ∀ (H : Heap) (locs : List Loc) (ls : Array Slot) (cells slots : Nat), cells + 1 ≤ 1 → slots + 8 ≤ 8 → xR D cA A Zs X H → va_S A s.heap H locs → lv_has ls 3 [(0, .ref x0)] → W p l e rmX12_begin s m args below meth c H locs cells slots (MQT below (xQT D cA A Zs (ov tv) Xf) args s 1 8 A) (F0 m 11 ls [.int s1, .ref s0]) := by
  intro H locs ls cells slots hc hs hR hS hl
  refine lv_iconst (v := 3) E.hx E.hb dX12_begin_11 (by decide) ?_
  obtain ⟨u8, hu8, hf⟩ := bd_e hf
  obtain ⟨⟨o1, X2⟩, ho1, hf⟩ := bd_e hf
  cases o1 with
  | inl v3 =>
    refine xrunT_v (runVT (As := [.int s1, .int 3]) (rest := []) E.1 (tX12_must l ho1) (cwX12_60 E.ht ⟨Nat.le_of_ble_eq_true rfl, Nat.le_of_ble_eq_true rfl⟩) (xPreV (ci := 12) E hR hS rfl (ck_e hu8)) rfl rfl hl.1 rfl (lv_room (Nat.le_of_ble_eq_true rfl)) dX12_begin_12 ⟨Nat.le_trans (by omega) (Nat.le_refl 1), Nat.le_trans (by omega) (Nat.le_refl 8)⟩) hS (fun H locs hR hS => ?_)
    refine lv_aload_n E.hx E.hb dX12_begin_15 rfl (lv_at hl 0 rfl) ?_
    obtain ⟨u5, hu5, hf⟩ := bd_e hf
    obtain ⟨X6, hX6, hf⟩ := bd_e hf
    refine xrun_v (va_runV (As := []) (rest := []) E.1 (tX12_next l hX6) (cwX12_64 E.ht ⟨Nat.le_of_ble_eq_true rfl, Nat.le_of_ble_eq_true rfl⟩) (xPreV (ci := 12) E hR hS rfl (ck_e hu5)) rfl rfl hl.1 rfl (lv_room (Nat.le_of_ble_eq_true rfl)) dX12_begin_16 ⟨Nat.le_trans (by omega) (Nat.le_refl 1), Nat.le_trans (by omega) (Nat.le_refl 8)⟩) hS (fun H locs hR hS => ?_)
    obtain ⟨rfl, rfl⟩ := rt_e hf
    exact xretT_v E (by omega) (by omega) hR hS dX12_begin_19
  | inr y4 =>
    obtain ⟨rfl, rfl⟩ := rt_e hf
    exact xrunT_out E hne (runVT (As := [.int s1, .int 3]) (rest := []) E.1 (tX12_must l ho1) (cwX12_60 E.ht ⟨Nat.le_of_ble_eq_true rfl, Nat.le_of_ble_eq_true rfl⟩) (xPreV (ci := 12) E hR hS rfl (ck_e hu8)) rfl rfl hl.1 rfl (lv_room (Nat.le_of_ble_eq_true rfl)) dX12_begin_12 ⟨Nat.le_trans (by omega) (Nat.le_refl 1), Nat.le_trans (by omega) (Nat.le_refl 8)⟩) rfl rfl (by omega) (by omega) hS
def fX12_begin  (X : AH) (x0 : Nat) (x1 : Int32) (x2 : Int32) : Option ((Unit ⊕ Nat) × AH) :=
  if x2 ≤ x1 then (fX12_begin_b11 X x0 0 x0) else (fX12_begin_b11 X x0 1 x0)
theorem wX12_begin_0 (E : xE p m c cX12_begin 3 s args RX12 D cA A Zs meth none) (hne : c.exceptionTable.toList = []) {X : AH} {x0 : Nat} {x1 : Int32} {x2 : Int32} (hf : fX12_begin X x0 x1 x2 = some (tv, Xf)) : ∀ (H : Heap) (locs : List Loc) (ls : Array Slot) (cells slots : Nat), cells + 1 ≤ 1 → slots + 8 ≤ 8 → xR D cA A Zs X H → va_S A s.heap H locs → lv_has ls 3 [(0, .ref x0), (1, .int x1), (2, .int x2)] → W p l e rmX12_begin s m args below meth c H locs cells slots (MQT below (xQT D cA A Zs (ov tv) Xf) args s 1 8 A) (F0 m 0 ls []) := by
  intro H locs ls cells slots hc hs hR hS hl
  refine lv_aload_n E.hx E.hb dX12_begin_0 rfl (lv_at hl 0 rfl) ?_
  refine lv_iload_n E.hx E.hb dX12_begin_1 rfl (lv_at hl 1 rfl) ?_
  refine lv_iload_n E.hx E.hb dX12_begin_2 rfl (lv_at hl 2 rfl) ?_
  refine lv_icmp_ge (tgt := 10) E.hx E.hb dX12_begin_3 (by decide) (fun c1 => ?_) (fun c1 => ?_)
  · have hf := it_t hf c1
    refine lv_iconst (v := 0) E.hx E.hb dX12_begin_10 (by decide) ?_
    exact wX12_begin_b11 E hne  hf _ _ _ _ _ (by omega) (by omega) hR hS (lv_sub hl [0] rfl)
  · have hf := it_f hf c1
    refine lv_iconst (v := 1) E.hx E.hb dX12_begin_6 (by decide) ?_
    refine lv_goto (tgt := 11) E.hx E.hb dX12_begin_7 (by decide) ?_
    exact wX12_begin_b11 E hne  hf _ _ _ _ _ (by omega) (by omega) hR hS (lv_sub hl [0] rfl)
theorem tX12_begin (l : Launch) {D : va_G} {cA : Nat → ClassId} {A : Nat → Prop} {Zs : XZ} {X Xf : AH} {x0 : Nat} {x1 : Int32} {x2 : Int32} {tv : Unit ⊕ Nat} (hf : fX12_begin X x0 x1 x2 = some (tv, Xf)) : MetT l yX12_begin (ws_ yX12_begin cX12_begin 3 none) rmX12_begin (xPc D cA A Zs X [.ref x0, .int x1, .int x2]) (xQT D cA A Zs (ov tv) Xf) 1 8 A := by
  refine MetT.ofW (cc := cX12_begin) (maxL := 3) (ret := none) (by decide) rfl ?_
  intro p e s m args below meth c s₁ B hml hne hv
  obtain ⟨rfl, hR, hK⟩ := hv
  have hts := atoms_spec (ws := (ws_ yX12_begin cX12_begin 3 none)) B.pre
  rw [lg_entry_eq]
  exact wX12_begin_0 (E := ⟨⟨B.exec, B.bytes, hml, findClass_of_methodNamed B.named, fun w h => hts w (List.mem_cons_of_mem _ h)⟩, hK, B.returns, B.notSynchronized⟩) hne hf _ _ _ 0 0 (Nat.le_of_ble_eq_true rfl) (Nat.le_of_ble_eq_true rfl) hR va_S.rf (lv_entry [.ref x0, .int x1, .int x2] (n := 3) (Nat.le_of_ble_eq_true rfl))
end
abbrev rmX12_chair : Room := { frames := 7, cells := 12, slots := 121, locals := 151 }
theorem cwX12_100 {R : Room} {s : State} {args : Array Value} (ht : ∀ w ∈ lw_all, w.before args s = true) (hR : rmX12_sortOf.frames + 1 ≤ R.frames ∧ 8 + (2 + 11) + rmX12_sortOf.locals ≤ R.locals) : CallW R s args RX12 RX12 100 yX12_sortOf cX12_sortOf 2 (some .int) (ws_ yX12_sortOf cX12_sortOf 2 (some .int)) rmX12_sortOf 0 0 1 :=
  cwV 1 ht (lw_V q572 q574 qs11 q90 q575) rfl rfl rfl (by decide +kernel) hR
theorem cwX12_110 {R : Room} {s : State} {args : Array Value} (ht : ∀ w ∈ lw_all, w.before args s = true) (hR : rmX1_many.frames + 1 ≤ R.frames ∧ 8 + (1 + 11) + rmX1_many.locals ≤ R.locals) : CallW R s args RX12 RX1 110 yX1_many cX1_many 1 (some .int) (ws_ yX1_many cX1_many 1 (some .int)) rmX1_many 0 0 0 :=
  cwV 0 ht (lw_V q631 q632 q633 q69 q634) rfl rfl rfl (by decide +kernel) hR
theorem cwX12_113 {R : Room} {s : State} {args : Array Value} (ht : ∀ w ∈ lw_all, w.before args s = true) (hR : rmX12_begin.frames + 1 ≤ R.frames ∧ 8 + (3 + 11) + rmX12_begin.locals ≤ R.locals) : CallW R s args RX12 RX12 113 yX12_begin cX12_begin 3 none (ws_ yX12_begin cX12_begin 3 none) rmX12_begin 1 8 2 :=
  cwV 2 ht (lw_V q645 q647 qs13 q90 q648) rfl rfl rfl (by decide +kernel) hR
theorem cwX12_130 {R : Room} {s : State} {args : Array Value} (ht : ∀ w ∈ lw_all, w.before args s = true) (hl : va_Nw (.methodLinkNest RX12 130 yX0_chairBy "ChairRanks") s) (hR : rmX0_chairBy.frames + 1 ≤ R.frames ∧ 8 + (2 + 11) + rmX0_chairBy.locals ≤ R.locals) : va_CN R s args RX12 130 yX0_chairBy "ChairRanks" cX0_chairBy 2 (some (.object "ChairRanks$Chair")) (ws_ yX0_chairBy cX0_chairBy 2 (some (.object "ChairRanks$Chair"))) rmX0_chairBy 1 1 2 ∧ (Cond.static yX0_chairBy).before args s = true ∧ True :=
  ⟨va_cnB 2 ht (lw_meth q651) rfl rfl rfl hl (ht _ q68) (by decide +kernel) hR, ht _ q650, trivial⟩
theorem cwX12_134_J2 {R : Room} {s : State} {args : Array Value} (ht : ∀ w ∈ lw_all, w.before args s = true) (hF : va_Fw "java/util/ArrayList" ⟨"java/util/List", "add", "(Ljava/lang/Object;)Z"⟩ ⟨"java/util/ArrayList", "add", "(Ljava/lang/Object;)Z"⟩ s) (hR : rmJ2_add.frames + 1 ≤ R.frames ∧ 8 + (2 + 11) + rmJ2_add.locals ≤ R.locals) : va_CI R s args RX12 "java/util/ArrayList" 134 ⟨"java/util/List", "add", "(Ljava/lang/Object;)Z"⟩ yJ2_add cJ2_add 2 (some .boolean) (ws_ yJ2_add cJ2_add 2 (some .boolean)) rmJ2_add 1 40 1 :=
  va_cwF (ws := (ws_ yJ2_add cJ2_add 2 (some .boolean))) 1 ht (xwsF q653 q656 q658 q72 (lw_meth q660)) rfl rfl rfl hF (by decide +kernel) hR
theorem cwX12_95 {R : Room} {s : State} {args : Array Value} (ht : ∀ w ∈ lw_all, w.before args s = true) (hR : rmX12_more.frames + 1 ≤ R.frames ∧ 8 + (3 + 11) + rmX12_more.locals ≤ R.locals) : CallW R s args RX12 RX12 95 yX12_more cX12_more 3 (some .int) (ws_ yX12_more cX12_more 3 (some .int)) rmX12_more 3 24 2 :=
  cwV 2 ht (lw_V q563 q565 qs9 q90 q566) rfl rfl rfl (by decide +kernel) hR
section
variable {p : Program} {l : Launch} {e : Env} {s : State} {m : MethodId} {args : Array Value} {below : List Frame} {meth : Method} {c : Code} {D : va_G} {cA : Nat → ClassId} {A : Nat → Prop} {Zs : XZ} {Xf : AH} {r : Int32} {rl : Int64} {ra : Nat} {tv : Unit ⊕ Nat} {ti : Int32 ⊕ Nat} {tr : Nat ⊕ Nat} {q2 : Option Nat}
def fX12_chair  (X : AH) (x0 : Nat) : Option ((Unit ⊕ Nat) × AH) :=
  (ck X x0 12).bind fun _ =>
  (fX12_sortOf X x0 X.2.1.2.2.2.1).bind fun (v3, X2) =>
  (gR X2 x0 12 6).bind fun v4 =>
  (ck X2 v4 1).bind fun _ =>
  (fX1_many X2 v4).bind fun (v7, X6) =>
  (ck X6 x0 12).bind fun _ =>
  (fX12_begin X6 x0 v7 6).bind fun (o8, X9) => match o8 with
    | .inl _ => ((gR X9 x0 12 6).bind fun v12 =>
  (gR X9 v12 1 3).bind fun v13 =>
  (ck X9 x0 12).bind fun _ =>
  (fX12_figure X9 x0 0 60).bind fun (o14, X15) => match o14 with
    | .inl v16 => ((pA X15 v13 0 v7 v16).bind fun X18 =>
  (gR X18 x0 12 6).bind fun v19 =>
  (gR X18 v19 1 5).bind fun v20 =>
  (ck X18 x0 12).bind fun _ =>
  (fX12_more X18 x0 0 9).bind fun (o21, X22) => match o21 with
    | .inl v23 => ((pA X22 v20 0 v7 v23).bind fun X25 =>
  (gR X25 x0 12 6).bind fun v26 =>
  (gR X25 v26 1 6).bind fun v27 =>
  (ck X25 x0 12).bind fun _ =>
  (fX12_more X25 x0 0 3).bind fun (o28, X29) => match o28 with
    | .inl v30 => ((pA X29 v27 0 v7 v30).bind fun X32 =>
  (gR X32 x0 12 6).bind fun v33 =>
  (gR X32 v33 1 2).bind fun v34 =>
  (fX0_chairBy X32 v3 v7).bind fun (v36, X35) =>
  (ck X35 v34 9).bind fun _ =>
  (fJ2_add X35 v34 v36).bind fun (v39, X38) =>
  (ck X38 x0 12).bind fun _ =>
  (fX12_sign X38 x0 4).bind fun (o40, X41) => match o40 with
    | .inl _ => (some (.inl (), X41))
    | .inr y43 => (some (.inr y43, X41)))
    | .inr y31 => (some (.inr y31, X29)))
    | .inr y24 => (some (.inr y24, X22)))
    | .inr y17 => (some (.inr y17, X15)))
    | .inr y11 => (some (.inr y11, X9))
theorem wX12_chair_0 (E : xE p m c cX12_chair 3 s args RX12 D cA A Zs meth none) (hne : c.exceptionTable.toList = []) {X : AH} {x0 : Nat} (hf : fX12_chair X x0 = some (tv, Xf)) : ∀ (H : Heap) (locs : List Loc) (ls : Array Slot) (cells slots : Nat), cells + 12 ≤ 12 → slots + 121 ≤ 121 → xR D cA A Zs X H → va_S A s.heap H locs → lv_has ls 3 [(0, .ref x0)] → W p l e rmX12_chair s m args below meth c H locs cells slots (MQT below (xQT D cA A Zs (ov tv) Xf) args s 12 121 A) (F0 m 0 ls []) := by
  intro H locs ls cells slots hc hs hR hS hl
  refine lv_aload_n E.hx E.hb dX12_chair_0 rfl (lv_at hl 0 rfl) ?_
  refine xldcS (own2 := "") E hR dX12_chair_1 ?_
  obtain ⟨u1, hu1, hf⟩ := bd_e hf
  obtain ⟨⟨v3, X2⟩, hv3, hf⟩ := bd_e hf
  refine xrun_i (va_runV (As := [.ref X.2.1.2.2.2.1]) (rest := []) E.1 (tX12_sortOf l hv3) (cwX12_100 E.ht ⟨Nat.le_of_ble_eq_true rfl, Nat.le_of_ble_eq_true rfl⟩) (xPreV (ci := 12) E hR hS rfl (ck_e hu1)) rfl rfl hl.1 rfl (lv_room (Nat.le_of_ble_eq_true rfl)) dX12_chair_3 ⟨Nat.le_trans (by omega) (Nat.le_refl 12), Nat.le_trans (by omega) (Nat.le_refl 121)⟩) hS (fun H locs hR hS => ?_)
  refine lv_istore_n (lv' := [(1, .int v3), (0, .ref x0)]) E.hx E.hb dX12_chair_6 rfl hl (by decide) rfl (fun ls hl => ?_)
  refine lv_aload_n E.hx E.hb dX12_chair_7 rfl (lv_at hl 1 rfl) ?_
  obtain ⟨v4, hv4, hf⟩ := bd_e hf
  refine xgX12_12 E hR hv4 dX12_chair_8 ?_
  obtain ⟨u5, hu5, hf⟩ := bd_e hf
  obtain ⟨⟨v7, X6⟩, hv7, hf⟩ := bd_e hf
  refine xrun_i (va_runV (As := []) (rest := []) E.1 (tX1_many l hv7) (cwX12_110 E.ht ⟨Nat.le_of_ble_eq_true rfl, Nat.le_of_ble_eq_true rfl⟩) (xPreV (ci := 1) E hR hS rfl (ck_e hu5)) rfl rfl hl.1 rfl (lv_room (Nat.le_of_ble_eq_true rfl)) dX12_chair_11 ⟨Nat.le_trans (by omega) (Nat.le_refl 12), Nat.le_trans (by omega) (Nat.le_refl 121)⟩) hS (fun H locs hR hS => ?_)
  refine lv_istore_n (lv' := [(2, .int v7), (1, .int v3), (0, .ref x0)]) E.hx E.hb dX12_chair_14 rfl hl (by decide) rfl (fun ls hl => ?_)
  refine lv_aload_n E.hx E.hb dX12_chair_15 rfl (lv_at hl 2 rfl) ?_
  refine lv_iload_n E.hx E.hb dX12_chair_16 rfl (lv_at hl 0 rfl) ?_
  refine lv_bipush (v := 6) E.hx E.hb dX12_chair_17 (by decide) ?_
  obtain ⟨u48, hu48, hf⟩ := bd_e hf
  obtain ⟨⟨o8, X9⟩, ho8, hf⟩ := bd_e hf
  cases o8 with
  | inl v10 =>
    refine xrunT_v (runVT (As := [.int v7, .int 6]) (rest := []) E.1 (tX12_begin l ho8) (cwX12_113 E.ht ⟨Nat.le_of_ble_eq_true rfl, Nat.le_of_ble_eq_true rfl⟩) (xPreV (ci := 12) E hR hS rfl (ck_e hu48)) rfl rfl hl.1 rfl (lv_room (Nat.le_of_ble_eq_true rfl)) dX12_chair_19 ⟨Nat.le_trans (by omega) (Nat.le_refl 12), Nat.le_trans (by omega) (Nat.le_refl 121)⟩) hS (fun H locs hR hS => ?_)
    refine lv_aload_n E.hx E.hb dX12_chair_22 rfl (lv_at hl 2 rfl) ?_
    obtain ⟨v12, hv12, hf⟩ := bd_e hf
    refine xgX12_12 E hR hv12 dX12_chair_23 ?_
    obtain ⟨v13, hv13, hf⟩ := bd_e hf
    refine xgX12_116 E hR hv13 dX12_chair_26 ?_
    refine lv_iload_n E.hx E.hb dX12_chair_29 rfl (lv_at hl 0 rfl) ?_
    refine lv_aload_n E.hx E.hb dX12_chair_30 rfl (lv_at hl 2 rfl) ?_
    refine lv_iconst (v := 0) E.hx E.hb dX12_chair_31 (by decide) ?_
    refine lv_bipush (v := 60) E.hx E.hb dX12_chair_32 (by decide) ?_
    obtain ⟨u47, hu47, hf⟩ := bd_e hf
    obtain ⟨⟨o14, X15⟩, ho14, hf⟩ := bd_e hf
    cases o14 with
    | inl v16 =>
      refine xrunT_i (runVT (As := [.int 0, .int 60]) (rest := [.int v7, .ref v13]) E.1 (tX12_figure l ho14) (cwX12_71 E.ht ⟨Nat.le_of_ble_eq_true rfl, Nat.le_of_ble_eq_true rfl⟩) (xPreV (ci := 12) E hR hS rfl (ck_e hu47)) rfl rfl hl.1 rfl (lv_room (Nat.le_of_ble_eq_true rfl)) dX12_chair_34 ⟨Nat.le_trans (by omega) (Nat.le_refl 12), Nat.le_trans (by omega) (Nat.le_refl 121)⟩) hS (fun H locs hR hS => ?_)
      obtain ⟨X18, hX18, hf⟩ := bd_e hf
      refine xist E hR hS hX18 dX12_chair_37 (fun H locs hR hS => ?_)
      refine lv_aload_n E.hx E.hb dX12_chair_38 rfl (lv_at hl 2 rfl) ?_
      obtain ⟨v19, hv19, hf⟩ := bd_e hf
      refine xgX12_12 E hR hv19 dX12_chair_39 ?_
      obtain ⟨v20, hv20, hf⟩ := bd_e hf
      refine xgX12_120 E hR hv20 dX12_chair_42 ?_
      refine lv_iload_n E.hx E.hb dX12_chair_45 rfl (lv_at hl 0 rfl) ?_
      refine lv_aload_n E.hx E.hb dX12_chair_46 rfl (lv_at hl 2 rfl) ?_
      refine lv_iconst (v := 0) E.hx E.hb dX12_chair_47 (by decide) ?_
      refine lv_bipush (v := 9) E.hx E.hb dX12_chair_48 (by decide) ?_
      obtain ⟨u46, hu46, hf⟩ := bd_e hf
      obtain ⟨⟨o21, X22⟩, ho21, hf⟩ := bd_e hf
      cases o21 with
      | inl v23 =>
        refine xrunT_i (runVT (As := [.int 0, .int 9]) (rest := [.int v7, .ref v20]) E.1 (tX12_more l ho21) (cwX12_95 E.ht ⟨Nat.le_of_ble_eq_true rfl, Nat.le_of_ble_eq_true rfl⟩) (xPreV (ci := 12) E hR hS rfl (ck_e hu46)) rfl rfl hl.1 rfl (lv_room (Nat.le_of_ble_eq_true rfl)) dX12_chair_50 ⟨Nat.le_trans (by omega) (Nat.le_refl 12), Nat.le_trans (by omega) (Nat.le_refl 121)⟩) hS (fun H locs hR hS => ?_)
        obtain ⟨X25, hX25, hf⟩ := bd_e hf
        refine xist E hR hS hX25 dX12_chair_53 (fun H locs hR hS => ?_)
        refine lv_aload_n E.hx E.hb dX12_chair_54 rfl (lv_at hl 2 rfl) ?_
        obtain ⟨v26, hv26, hf⟩ := bd_e hf
        refine xgX12_12 E hR hv26 dX12_chair_55 ?_
        obtain ⟨v27, hv27, hf⟩ := bd_e hf
        refine xgX12_123 E hR hv27 dX12_chair_58 ?_
        refine lv_iload_n E.hx E.hb dX12_chair_61 rfl (lv_at hl 0 rfl) ?_
        refine lv_aload_n E.hx E.hb dX12_chair_62 rfl (lv_at hl 2 rfl) ?_
        refine lv_iconst (v := 0) E.hx E.hb dX12_chair_63 (by decide) ?_
        refine lv_iconst (v := 3) E.hx E.hb dX12_chair_64 (by decide) ?_
        obtain ⟨u45, hu45, hf⟩ := bd_e hf
        obtain ⟨⟨o28, X29⟩, ho28, hf⟩ := bd_e hf
        cases o28 with
        | inl v30 =>
          refine xrunT_i (runVT (As := [.int 0, .int 3]) (rest := [.int v7, .ref v27]) E.1 (tX12_more l ho28) (cwX12_95 E.ht ⟨Nat.le_of_ble_eq_true rfl, Nat.le_of_ble_eq_true rfl⟩) (xPreV (ci := 12) E hR hS rfl (ck_e hu45)) rfl rfl hl.1 rfl (lv_room (Nat.le_of_ble_eq_true rfl)) dX12_chair_65 ⟨Nat.le_trans (by omega) (Nat.le_refl 12), Nat.le_trans (by omega) (Nat.le_refl 121)⟩) hS (fun H locs hR hS => ?_)
          obtain ⟨X32, hX32, hf⟩ := bd_e hf
          refine xist E hR hS hX32 dX12_chair_68 (fun H locs hR hS => ?_)
          refine lv_aload_n E.hx E.hb dX12_chair_69 rfl (lv_at hl 2 rfl) ?_
          obtain ⟨v33, hv33, hf⟩ := bd_e hf
          refine xgX12_12 E hR hv33 dX12_chair_70 ?_
          obtain ⟨v34, hv34, hf⟩ := bd_e hf
          refine xgX12_126 E hR hv34 dX12_chair_73 ?_
          refine lv_iload_n E.hx E.hb dX12_chair_76 rfl (lv_at hl 1 rfl) ?_
          refine lv_iload_n E.hx E.hb dX12_chair_77 rfl (lv_at hl 0 rfl) ?_
          obtain ⟨⟨v36, X35⟩, hv36, hf⟩ := bd_e hf
          refine xrun_r (va_runSN (As := [.int v3, .int v7]) (rest := [.ref v34]) E.1 (tX0_chairBy l hv36) (cwX12_130 E.ht (E.2.1.2.2.2.1 ("ChairRanks$Reader", 130, ⟨"ChairRanks", "chairBy", "(II)LChairRanks$Chair;"⟩, "ChairRanks") (by decide +kernel)) ⟨Nat.le_of_ble_eq_true rfl, Nat.le_of_ble_eq_true rfl⟩) (xPreS E hR hS) rfl rfl hl.1 rfl (lv_room (Nat.le_of_ble_eq_true rfl)) dX12_chair_78 ⟨Nat.le_trans (by omega) (Nat.le_refl 12), Nat.le_trans (by omega) (Nat.le_refl 121)⟩) hS (fun H locs hR hS => ?_)
          obtain ⟨u37, hu37, hf⟩ := bd_e hf
          obtain ⟨⟨v39, X38⟩, hv39, hf⟩ := bd_e hf
          refine xrun5_i (va_runF (As := [.ref v36]) (rest := []) (xClassAt (ci := 9) E rfl) E.1 (tJ2_add l hv39) (cwX12_134_J2 E.ht (E.2.1.2.2.2.2.2.2.1 ("java/util/ArrayList", ⟨"java/util/List", "add", "(Ljava/lang/Object;)Z"⟩, ⟨"java/util/ArrayList", "add", "(Ljava/lang/Object;)Z"⟩) (by decide +kernel)) ⟨Nat.le_of_ble_eq_true rfl, Nat.le_of_ble_eq_true rfl⟩) (xPreV (ci := 9) E hR hS rfl (ck_e hu37)) rfl rfl hl.1 rfl (lv_room (Nat.le_of_ble_eq_true rfl)) dX12_chair_81 ⟨Nat.le_trans (by omega) (Nat.le_refl 12), Nat.le_trans (by omega) (Nat.le_refl 121)⟩) hS (fun H locs hR hS => ?_)
          refine lv_pop E.hx E.hb dX12_chair_86 rfl ?_
          refine lv_aload_n E.hx E.hb dX12_chair_87 rfl (lv_at hl 2 rfl) ?_
          refine lv_iconst (v := 4) E.hx E.hb dX12_chair_88 (by decide) ?_
          obtain ⟨u44, hu44, hf⟩ := bd_e hf
          obtain ⟨⟨o40, X41⟩, ho40, hf⟩ := bd_e hf
          cases o40 with
          | inl v42 =>
            refine xrunT_v (runVT (As := [.int 4]) (rest := []) E.1 (tX12_sign l ho40) (cwX12_67 E.ht ⟨Nat.le_of_ble_eq_true rfl, Nat.le_of_ble_eq_true rfl⟩) (xPreV (ci := 12) E hR hS rfl (ck_e hu44)) rfl rfl hl.1 rfl (lv_room (Nat.le_of_ble_eq_true rfl)) dX12_chair_89 ⟨Nat.le_trans (by omega) (Nat.le_refl 12), Nat.le_trans (by omega) (Nat.le_refl 121)⟩) hS (fun H locs hR hS => ?_)
            obtain ⟨rfl, rfl⟩ := rt_e hf
            exact xretT_v E (by omega) (by omega) hR hS dX12_chair_92
          | inr y43 =>
            obtain ⟨rfl, rfl⟩ := rt_e hf
            exact xrunT_out E hne (runVT (As := [.int 4]) (rest := []) E.1 (tX12_sign l ho40) (cwX12_67 E.ht ⟨Nat.le_of_ble_eq_true rfl, Nat.le_of_ble_eq_true rfl⟩) (xPreV (ci := 12) E hR hS rfl (ck_e hu44)) rfl rfl hl.1 rfl (lv_room (Nat.le_of_ble_eq_true rfl)) dX12_chair_89 ⟨Nat.le_trans (by omega) (Nat.le_refl 12), Nat.le_trans (by omega) (Nat.le_refl 121)⟩) rfl rfl (by omega) (by omega) hS
        | inr y31 =>
          obtain ⟨rfl, rfl⟩ := rt_e hf
          exact xrunT_out E hne (runVT (As := [.int 0, .int 3]) (rest := [.int v7, .ref v27]) E.1 (tX12_more l ho28) (cwX12_95 E.ht ⟨Nat.le_of_ble_eq_true rfl, Nat.le_of_ble_eq_true rfl⟩) (xPreV (ci := 12) E hR hS rfl (ck_e hu45)) rfl rfl hl.1 rfl (lv_room (Nat.le_of_ble_eq_true rfl)) dX12_chair_65 ⟨Nat.le_trans (by omega) (Nat.le_refl 12), Nat.le_trans (by omega) (Nat.le_refl 121)⟩) rfl rfl (by omega) (by omega) hS
      | inr y24 =>
        obtain ⟨rfl, rfl⟩ := rt_e hf
        exact xrunT_out E hne (runVT (As := [.int 0, .int 9]) (rest := [.int v7, .ref v20]) E.1 (tX12_more l ho21) (cwX12_95 E.ht ⟨Nat.le_of_ble_eq_true rfl, Nat.le_of_ble_eq_true rfl⟩) (xPreV (ci := 12) E hR hS rfl (ck_e hu46)) rfl rfl hl.1 rfl (lv_room (Nat.le_of_ble_eq_true rfl)) dX12_chair_50 ⟨Nat.le_trans (by omega) (Nat.le_refl 12), Nat.le_trans (by omega) (Nat.le_refl 121)⟩) rfl rfl (by omega) (by omega) hS
    | inr y17 =>
      obtain ⟨rfl, rfl⟩ := rt_e hf
      exact xrunT_out E hne (runVT (As := [.int 0, .int 60]) (rest := [.int v7, .ref v13]) E.1 (tX12_figure l ho14) (cwX12_71 E.ht ⟨Nat.le_of_ble_eq_true rfl, Nat.le_of_ble_eq_true rfl⟩) (xPreV (ci := 12) E hR hS rfl (ck_e hu47)) rfl rfl hl.1 rfl (lv_room (Nat.le_of_ble_eq_true rfl)) dX12_chair_34 ⟨Nat.le_trans (by omega) (Nat.le_refl 12), Nat.le_trans (by omega) (Nat.le_refl 121)⟩) rfl rfl (by omega) (by omega) hS
  | inr y11 =>
    obtain ⟨rfl, rfl⟩ := rt_e hf
    exact xrunT_out E hne (runVT (As := [.int v7, .int 6]) (rest := []) E.1 (tX12_begin l ho8) (cwX12_113 E.ht ⟨Nat.le_of_ble_eq_true rfl, Nat.le_of_ble_eq_true rfl⟩) (xPreV (ci := 12) E hR hS rfl (ck_e hu48)) rfl rfl hl.1 rfl (lv_room (Nat.le_of_ble_eq_true rfl)) dX12_chair_19 ⟨Nat.le_trans (by omega) (Nat.le_refl 12), Nat.le_trans (by omega) (Nat.le_refl 121)⟩) rfl rfl (by omega) (by omega) hS
theorem tX12_chair (l : Launch) {D : va_G} {cA : Nat → ClassId} {A : Nat → Prop} {Zs : XZ} {X Xf : AH} {x0 : Nat} {tv : Unit ⊕ Nat} (hf : fX12_chair X x0 = some (tv, Xf)) : MetT l yX12_chair (ws_ yX12_chair cX12_chair 3 none) rmX12_chair (xPc D cA A Zs X [.ref x0]) (xQT D cA A Zs (ov tv) Xf) 12 121 A := by
  refine MetT.ofW (cc := cX12_chair) (maxL := 3) (ret := none) (by decide) rfl ?_
  intro p e s m args below meth c s₁ B hml hne hv
  obtain ⟨rfl, hR, hK⟩ := hv
  have hts := atoms_spec (ws := (ws_ yX12_chair cX12_chair 3 none)) B.pre
  rw [lg_entry_eq]
  exact wX12_chair_0 (E := ⟨⟨B.exec, B.bytes, hml, findClass_of_methodNamed B.named, fun w h => hts w (List.mem_cons_of_mem _ h)⟩, hK, B.returns, B.notSynchronized⟩) hne hf _ _ _ 0 0 (Nat.le_of_ble_eq_true rfl) (Nat.le_of_ble_eq_true rfl) hR va_S.rf (lv_entry [.ref x0] (n := 3) (Nat.le_of_ble_eq_true rfl))
end
abbrev rmX12_all : Room := { frames := 8, cells := 117, slots := 1161, locals := 173 }
theorem cwX12_104 {R : Room} {s : State} {args : Array Value} (ht : ∀ w ∈ lw_all, w.before args s = true) (hR : rmX12_chair.frames + 1 ≤ R.frames ∧ 8 + (3 + 11) + rmX12_chair.locals ≤ R.locals) : CallW R s args RX12 RX12 104 yX12_chair cX12_chair 3 none (ws_ yX12_chair cX12_chair 3 none) rmX12_chair 12 121 0 :=
  cwV 0 ht (lw_V q627 q629 qs12 q90 q630) rfl rfl rfl (by decide +kernel) hR
theorem cwX12_88 {R : Room} {s : State} {args : Array Value} (ht : ∀ w ∈ lw_all, w.before args s = true) (hR : rmX12_isLetter.frames + 1 ≤ R.frames ∧ 8 + (2 + 11) + rmX12_isLetter.locals ≤ R.locals) : CallW R s args RX12 RX12 88 yX12_isLetter cX12_isLetter 2 (some .boolean) (ws_ yX12_isLetter cX12_isLetter 2 (some .boolean)) rmX12_isLetter 0 0 1 :=
  cwV 1 ht (lw_V q528 q530 qs6 q90 q531) rfl rfl rfl (by decide +kernel) hR
section
variable {p : Program} {l : Launch} {e : Env} {s : State} {m : MethodId} {args : Array Value} {below : List Frame} {meth : Method} {c : Code} {D : va_G} {cA : Nat → ClassId} {A : Nat → Prop} {Zs : XZ} {Xf : AH} {r : Int32} {rl : Int64} {ra : Nat} {tv : Unit ⊕ Nat} {ti : Int32 ⊕ Nat} {tr : Nat ⊕ Nat} {q2 : Option Nat}
def fX12_all_b97  (X : AH) (s0 : Nat) (s1 : Int32) (x0 : Nat) (x1 : Int32) : Option ((Unit ⊕ Nat) × AH) :=
  (ck X s0 12).bind fun _ =>
  (fX12_must X s0 s1 1).bind fun (o1, X2) => match o1 with
    | .inl _ => ((gR X2 x0 12 6).bind fun v5 =>
  (pF X2 v5 1 1 (.int x1)).bind fun X6 =>
  some (.inl (), X6))
    | .inr y4 => (some (.inr y4, X2))
theorem wX12_all_b97 (E : xE p m c cX12_all 2 s args RX12 D cA A Zs meth none) (hne : c.exceptionTable.toList = []) {X : AH} {s0 : Nat} {s1 : Int32} {x0 : Nat} {x1 : Int32} (hf : fX12_all_b97 X s0 s1 x0 x1 = some (tv, Xf)) : ∀ (H : Heap) (locs : List Loc) (ls : Array Slot) (cells slots : Nat), cells + 1 ≤ 117 → slots + 8 ≤ 1161 → xR D cA A Zs X H → va_S A s.heap H locs → lv_has ls 2 [(0, .ref x0), (1, .int x1)] → W p l e rmX12_all s m args below meth c H locs cells slots (MQT below (xQT D cA A Zs (ov tv) Xf) args s 117 1161 A) (F0 m 97 ls [.int s1, .ref s0]) := by
  intro H locs ls cells slots hc hs hR hS hl
  refine lv_iconst (v := 1) E.hx E.hb dX12_all_97 (by decide) ?_
  obtain ⟨u7, hu7, hf⟩ := bd_e hf
  obtain ⟨⟨o1, X2⟩, ho1, hf⟩ := bd_e hf
  cases o1 with
  | inl v3 =>
    refine xrunT_v (runVT (As := [.int s1, .int 1]) (rest := []) E.1 (tX12_must l ho1) (cwX12_60 E.ht ⟨Nat.le_of_ble_eq_true rfl, Nat.le_of_ble_eq_true rfl⟩) (xPreV (ci := 12) E hR hS rfl (ck_e hu7)) rfl rfl hl.1 rfl (lv_room (Nat.le_of_ble_eq_true rfl)) dX12_all_98 ⟨Nat.le_trans (by omega) (Nat.le_refl 117), Nat.le_trans (by omega) (Nat.le_refl 1161)⟩) hS (fun H locs hR hS => ?_)
    refine lv_aload_n E.hx E.hb dX12_all_101 rfl (lv_at hl 0 rfl) ?_
    obtain ⟨v5, hv5, hf⟩ := bd_e hf
    refine xgX12_12 E hR hv5 dX12_all_102 ?_
    refine lv_iload_n E.hx E.hb dX12_all_105 rfl (lv_at hl 1 rfl) ?_
    obtain ⟨X6, hX6, hf⟩ := bd_e hf
    refine xpX12_107 E hR hS hX6 dX12_all_106 (fun H locs hR hS => ?_)
    obtain ⟨rfl, rfl⟩ := rt_e hf
    exact xretT_v E (by omega) (by omega) hR hS dX12_all_109
  | inr y4 =>
    obtain ⟨rfl, rfl⟩ := rt_e hf
    exact xrunT_out E hne (runVT (As := [.int s1, .int 1]) (rest := []) E.1 (tX12_must l ho1) (cwX12_60 E.ht ⟨Nat.le_of_ble_eq_true rfl, Nat.le_of_ble_eq_true rfl⟩) (xPreV (ci := 12) E hR hS rfl (ck_e hu7)) rfl rfl hl.1 rfl (lv_room (Nat.le_of_ble_eq_true rfl)) dX12_all_98 ⟨Nat.le_trans (by omega) (Nat.le_refl 117), Nat.le_trans (by omega) (Nat.le_refl 1161)⟩) rfl rfl (by omega) (by omega) hS
def fX12_all_L66  : Nat → AH → Nat → Int32 → Option ((Unit ⊕ Nat) × AH)
  | 0, _, _, _ => none
  | n + 1, X, x0, x1 =>
    (ck X x0 12).bind fun _ =>
    (fX12_sortOf X x0 X.2.1.2.2.2.1).bind fun (v3, X2) =>
    if v3 = (-1000000) then ((gI X2 x0 12 3).bind fun v5 =>
    if v5 = 0 then (fX12_all_b97 X2 x0 1 x0 x1) else (fX12_all_b97 X2 x0 0 x0 x1)) else ((ck X2 x0 12).bind fun _ =>
    (fX12_chair X2 x0).bind fun (o7, X8) => match o7 with
      | .inl _ => ((fX12_all_L66 n) X8 x0 x1)
      | .inr y10 => (some (.inr y10, X8)))
theorem wX12_all_L66 (E : xE p m c cX12_all 2 s args RX12 D cA A Zs meth none) (hne : c.exceptionTable.toList = []) : ∀ (n : Nat) (X : AH) (x0 : Nat) (x1 : Int32), fX12_all_L66 n X x0 x1 = some (tv, Xf) → ∀ (H : Heap) (locs : List Loc) (ls : Array Slot) (cells slots : Nat), cells + (n * 12 + 1) ≤ 117 → slots + (n * 121 + 8) ≤ 1161 → xR D cA A Zs X H → va_S A s.heap H locs → lv_has ls 2 [(0, .ref x0), (1, .int x1)] → W p l e rmX12_all s m args below meth c H locs cells slots (MQT below (xQT D cA A Zs (ov tv) Xf) args s 117 1161 A) (F0 m 66 ls []) := by
  intro n
  induction n with
  | zero =>
    intro X x0 x1 hf
    have hf : none = some (tv, Xf) := hf
    cases hf
  | succ n ih =>
    intro X x0 x1 hf H locs ls cells slots hc hs hR hS hl
    refine lv_aload_n E.hx E.hb dX12_all_66 rfl (lv_at hl 0 rfl) ?_
    refine xldcS (own2 := "") E hR dX12_all_67 ?_
    obtain ⟨u1, hu1, hf⟩ := bd_e hf
    obtain ⟨⟨v3, X2⟩, hv3, hf⟩ := bd_e hf
    refine xrun_i (va_runV (As := [.ref X.2.1.2.2.2.1]) (rest := []) E.1 (tX12_sortOf l hv3) (cwX12_100 E.ht ⟨Nat.le_of_ble_eq_true rfl, Nat.le_of_ble_eq_true rfl⟩) (xPreV (ci := 12) E hR hS rfl (ck_e hu1)) rfl rfl hl.1 rfl (lv_room (Nat.le_of_ble_eq_true rfl)) dX12_all_69 ⟨Nat.le_trans (by omega) (Nat.le_refl 117), Nat.le_trans (by omega) (Nat.le_refl 1161)⟩) hS (fun H locs hR hS => ?_)
    refine lv_ldc (v := (-1000000)) E.hx E.hb E.ho (E.ht _ q522) dX12_all_72 ?_
    refine lv_icmp_eq (tgt := 84) E.hx E.hb dX12_all_74 (by decide) (fun c4 => ?_) (fun c4 => ?_)
    · have hf := it_t hf c4
      refine lv_aload_n E.hx E.hb dX12_all_84 rfl (lv_at hl 0 rfl) ?_
      refine lv_aload_n E.hx E.hb dX12_all_85 rfl (lv_at hl 0 rfl) ?_
      obtain ⟨v5, hv5, hf⟩ := bd_e hf
      refine xgX12_40 E hR hv5 dX12_all_86 ?_
      refine lv_if_ne (tgt := 96) E.hx E.hb dX12_all_89 (by decide) (fun c6 => ?_) (fun c6 => ?_)
      · have hf := it_f hf c6
        refine lv_iconst (v := 0) E.hx E.hb dX12_all_96 (by decide) ?_
        exact wX12_all_b97 E hne  hf _ _ _ _ _ (by omega) (by omega) hR hS (lv_sub hl [0, 1] rfl)
      · have hf := it_t hf c6
        refine lv_iconst (v := 1) E.hx E.hb dX12_all_92 (by decide) ?_
        refine lv_goto (tgt := 97) E.hx E.hb dX12_all_93 (by decide) ?_
        exact wX12_all_b97 E hne  hf _ _ _ _ _ (by omega) (by omega) hR hS (lv_sub hl [0, 1] rfl)
    · have hf := it_f hf c4
      refine lv_aload_n E.hx E.hb dX12_all_77 rfl (lv_at hl 0 rfl) ?_
      obtain ⟨u11, hu11, hf⟩ := bd_e hf
      obtain ⟨⟨o7, X8⟩, ho7, hf⟩ := bd_e hf
      cases o7 with
      | inl v9 =>
        refine xrunT_v (runVT (As := []) (rest := []) E.1 (tX12_chair l ho7) (cwX12_104 E.ht ⟨Nat.le_of_ble_eq_true rfl, Nat.le_of_ble_eq_true rfl⟩) (xPreV (ci := 12) E hR hS rfl (ck_e hu11)) rfl rfl hl.1 rfl (lv_room (Nat.le_of_ble_eq_true rfl)) dX12_all_78 ⟨Nat.le_trans (by omega) (Nat.le_refl 117), Nat.le_trans (by omega) (Nat.le_refl 1161)⟩) hS (fun H locs hR hS => ?_)
        refine lv_goto (tgt := 66) E.hx E.hb dX12_all_81 (by decide) ?_
        exact ih X8 _ _ hf _ _ _ _ _ (by omega) (by omega) hR hS (lv_sub hl [0, 1] rfl)
      | inr y10 =>
        obtain ⟨rfl, rfl⟩ := rt_e hf
        exact xrunT_out E hne (runVT (As := []) (rest := []) E.1 (tX12_chair l ho7) (cwX12_104 E.ht ⟨Nat.le_of_ble_eq_true rfl, Nat.le_of_ble_eq_true rfl⟩) (xPreV (ci := 12) E hR hS rfl (ck_e hu11)) rfl rfl hl.1 rfl (lv_room (Nat.le_of_ble_eq_true rfl)) dX12_all_78 ⟨Nat.le_trans (by omega) (Nat.le_refl 117), Nat.le_trans (by omega) (Nat.le_refl 1161)⟩) rfl rfl (by omega) (by omega) hS
def fX12_all_b62  (X : AH) (s0 : Nat) (s1 : Int32) (x0 : Nat) (x1 : Int32) : Option ((Unit ⊕ Nat) × AH) :=
  (ck X s0 12).bind fun _ =>
  (fX12_must X s0 s1 1).bind fun (o1, X2) => match o1 with
    | .inl _ => (fX12_all_L66 9 X2 x0 x1)
    | .inr y4 => (some (.inr y4, X2))
theorem wX12_all_b62 (E : xE p m c cX12_all 2 s args RX12 D cA A Zs meth none) (hne : c.exceptionTable.toList = []) {X : AH} {s0 : Nat} {s1 : Int32} {x0 : Nat} {x1 : Int32} (hf : fX12_all_b62 X s0 s1 x0 x1 = some (tv, Xf)) : ∀ (H : Heap) (locs : List Loc) (ls : Array Slot) (cells slots : Nat), cells + 110 ≤ 117 → slots + 1105 ≤ 1161 → xR D cA A Zs X H → va_S A s.heap H locs → lv_has ls 2 [(0, .ref x0), (1, .int x1)] → W p l e rmX12_all s m args below meth c H locs cells slots (MQT below (xQT D cA A Zs (ov tv) Xf) args s 117 1161 A) (F0 m 62 ls [.int s1, .ref s0]) := by
  intro H locs ls cells slots hc hs hR hS hl
  refine lv_iconst (v := 1) E.hx E.hb dX12_all_62 (by decide) ?_
  obtain ⟨u5, hu5, hf⟩ := bd_e hf
  obtain ⟨⟨o1, X2⟩, ho1, hf⟩ := bd_e hf
  cases o1 with
  | inl v3 =>
    refine xrunT_v (runVT (As := [.int s1, .int 1]) (rest := []) E.1 (tX12_must l ho1) (cwX12_60 E.ht ⟨Nat.le_of_ble_eq_true rfl, Nat.le_of_ble_eq_true rfl⟩) (xPreV (ci := 12) E hR hS rfl (ck_e hu5)) rfl rfl hl.1 rfl (lv_room (Nat.le_of_ble_eq_true rfl)) dX12_all_63 ⟨Nat.le_trans (by omega) (Nat.le_refl 117), Nat.le_trans (by omega) (Nat.le_refl 1161)⟩) hS (fun H locs hR hS => ?_)
    exact wX12_all_L66 E hne  9 X2 _ _ hf _ _ _ _ _ (by omega) (by omega) hR hS (lv_sub hl [0, 1] rfl)
  | inr y4 =>
    obtain ⟨rfl, rfl⟩ := rt_e hf
    exact xrunT_out E hne (runVT (As := [.int s1, .int 1]) (rest := []) E.1 (tX12_must l ho1) (cwX12_60 E.ht ⟨Nat.le_of_ble_eq_true rfl, Nat.le_of_ble_eq_true rfl⟩) (xPreV (ci := 12) E hR hS rfl (ck_e hu5)) rfl rfl hl.1 rfl (lv_room (Nat.le_of_ble_eq_true rfl)) dX12_all_63 ⟨Nat.le_trans (by omega) (Nat.le_refl 117), Nat.le_trans (by omega) (Nat.le_refl 1161)⟩) rfl rfl (by omega) (by omega) hS
def fX12_all  (X : AH) (x0 : Nat) : Option ((Unit ⊕ Nat) × AH) :=
  (ck X x0 12).bind fun _ =>
  (fX12_next X x0).bind fun X2 =>
  (ck X2 x0 12).bind fun _ =>
  (fX12_isLetter X2 x0 109).bind fun (v6, X5) =>
  (ck X5 x0 12).bind fun _ =>
  (fX12_must X5 x0 v6 1).bind fun (o7, X8) => match o7 with
    | .inl _ => ((ck X8 x0 12).bind fun _ =>
  (fX12_next X8 x0).bind fun X12 =>
  (gR X12 x0 12 6).bind fun v14 =>
  (ck X12 x0 12).bind fun _ =>
  (fX12_figure X12 x0 0 5).bind fun (o15, X16) => match o15 with
    | .inl v17 => ((pF X16 v14 1 0 (.int v17)).bind fun X19 =>
  (ck X19 x0 12).bind fun _ =>
  (fX12_more X19 x0 1 9).bind fun (o20, X21) => match o20 with
    | .inl v22 => ((ck X21 x0 12).bind fun _ =>
  (fX12_sign X21 x0 4).bind fun (o24, X25) => match o24 with
    | .inl _ => ((ck X25 x0 12).bind fun _ =>
  (fX12_sortOf X25 x0 X25.2.1.2.2.2.1).bind fun (v30, X29) =>
  if v30 = (-1000000) then (fX12_all_b62 X29 x0 0 x0 v22) else (fX12_all_b62 X29 x0 1 x0 v22))
    | .inr y27 => (some (.inr y27, X25)))
    | .inr y23 => (some (.inr y23, X21)))
    | .inr y18 => (some (.inr y18, X16)))
    | .inr y10 => (some (.inr y10, X8))
theorem wX12_all_0 (E : xE p m c cX12_all 2 s args RX12 D cA A Zs meth none) (hne : c.exceptionTable.toList = []) {X : AH} {x0 : Nat} (hf : fX12_all X x0 = some (tv, Xf)) : ∀ (H : Heap) (locs : List Loc) (ls : Array Slot) (cells slots : Nat), cells + 117 ≤ 117 → slots + 1161 ≤ 1161 → xR D cA A Zs X H → va_S A s.heap H locs → lv_has ls 2 [(0, .ref x0)] → W p l e rmX12_all s m args below meth c H locs cells slots (MQT below (xQT D cA A Zs (ov tv) Xf) args s 117 1161 A) (F0 m 0 ls []) := by
  intro H locs ls cells slots hc hs hR hS hl
  refine lv_aload_n E.hx E.hb dX12_all_0 rfl (lv_at hl 0 rfl) ?_
  obtain ⟨u1, hu1, hf⟩ := bd_e hf
  obtain ⟨X2, hX2, hf⟩ := bd_e hf
  refine xrun_v (va_runV (As := []) (rest := []) E.1 (tX12_next l hX2) (cwX12_64 E.ht ⟨Nat.le_of_ble_eq_true rfl, Nat.le_of_ble_eq_true rfl⟩) (xPreV (ci := 12) E hR hS rfl (ck_e hu1)) rfl rfl hl.1 rfl (lv_room (Nat.le_of_ble_eq_true rfl)) dX12_all_1 ⟨Nat.le_trans (by omega) (Nat.le_refl 117), Nat.le_trans (by omega) (Nat.le_refl 1161)⟩) hS (fun H locs hR hS => ?_)
  refine lv_aload_n E.hx E.hb dX12_all_4 rfl (lv_at hl 0 rfl) ?_
  refine lv_aload_n E.hx E.hb dX12_all_5 rfl (lv_at hl 0 rfl) ?_
  refine lv_bipush (v := 109) E.hx E.hb dX12_all_6 (by decide) ?_
  obtain ⟨u4, hu4, hf⟩ := bd_e hf
  obtain ⟨⟨v6, X5⟩, hv6, hf⟩ := bd_e hf
  refine xrun_i (va_runV (As := [.int 109]) (rest := [.ref x0]) E.1 (tX12_isLetter l hv6) (cwX12_88 E.ht ⟨Nat.le_of_ble_eq_true rfl, Nat.le_of_ble_eq_true rfl⟩) (xPreV (ci := 12) E hR hS rfl (ck_e hu4)) rfl rfl hl.1 rfl (lv_room (Nat.le_of_ble_eq_true rfl)) dX12_all_8 ⟨Nat.le_trans (by omega) (Nat.le_refl 117), Nat.le_trans (by omega) (Nat.le_refl 1161)⟩) hS (fun H locs hR hS => ?_)
  refine lv_iconst (v := 1) E.hx E.hb dX12_all_11 (by decide) ?_
  obtain ⟨u35, hu35, hf⟩ := bd_e hf
  obtain ⟨⟨o7, X8⟩, ho7, hf⟩ := bd_e hf
  cases o7 with
  | inl v9 =>
    refine xrunT_v (runVT (As := [.int v6, .int 1]) (rest := []) E.1 (tX12_must l ho7) (cwX12_60 E.ht ⟨Nat.le_of_ble_eq_true rfl, Nat.le_of_ble_eq_true rfl⟩) (xPreV (ci := 12) E hR hS rfl (ck_e hu35)) rfl rfl hl.1 rfl (lv_room (Nat.le_of_ble_eq_true rfl)) dX12_all_12 ⟨Nat.le_trans (by omega) (Nat.le_refl 117), Nat.le_trans (by omega) (Nat.le_refl 1161)⟩) hS (fun H locs hR hS => ?_)
    refine lv_aload_n E.hx E.hb dX12_all_15 rfl (lv_at hl 0 rfl) ?_
    obtain ⟨u11, hu11, hf⟩ := bd_e hf
    obtain ⟨X12, hX12, hf⟩ := bd_e hf
    refine xrun_v (va_runV (As := []) (rest := []) E.1 (tX12_next l hX12) (cwX12_64 E.ht ⟨Nat.le_of_ble_eq_true rfl, Nat.le_of_ble_eq_true rfl⟩) (xPreV (ci := 12) E hR hS rfl (ck_e hu11)) rfl rfl hl.1 rfl (lv_room (Nat.le_of_ble_eq_true rfl)) dX12_all_16 ⟨Nat.le_trans (by omega) (Nat.le_refl 117), Nat.le_trans (by omega) (Nat.le_refl 1161)⟩) hS (fun H locs hR hS => ?_)
    refine lv_aload_n E.hx E.hb dX12_all_19 rfl (lv_at hl 0 rfl) ?_
    obtain ⟨v14, hv14, hf⟩ := bd_e hf
    refine xgX12_12 E hR hv14 dX12_all_20 ?_
    refine lv_aload_n E.hx E.hb dX12_all_23 rfl (lv_at hl 0 rfl) ?_
    refine lv_iconst (v := 0) E.hx E.hb dX12_all_24 (by decide) ?_
    refine lv_iconst (v := 5) E.hx E.hb dX12_all_25 (by decide) ?_
    obtain ⟨u34, hu34, hf⟩ := bd_e hf
    obtain ⟨⟨o15, X16⟩, ho15, hf⟩ := bd_e hf
    cases o15 with
    | inl v17 =>
      refine xrunT_i (runVT (As := [.int 0, .int 5]) (rest := [.ref v14]) E.1 (tX12_figure l ho15) (cwX12_71 E.ht ⟨Nat.le_of_ble_eq_true rfl, Nat.le_of_ble_eq_true rfl⟩) (xPreV (ci := 12) E hR hS rfl (ck_e hu34)) rfl rfl hl.1 rfl (lv_room (Nat.le_of_ble_eq_true rfl)) dX12_all_26 ⟨Nat.le_trans (by omega) (Nat.le_refl 117), Nat.le_trans (by omega) (Nat.le_refl 1161)⟩) hS (fun H locs hR hS => ?_)
      obtain ⟨X19, hX19, hf⟩ := bd_e hf
      refine xpX12_92 E hR hS hX19 dX12_all_29 (fun H locs hR hS => ?_)
      refine lv_aload_n E.hx E.hb dX12_all_32 rfl (lv_at hl 0 rfl) ?_
      refine lv_iconst (v := 1) E.hx E.hb dX12_all_33 (by decide) ?_
      refine lv_bipush (v := 9) E.hx E.hb dX12_all_34 (by decide) ?_
      obtain ⟨u33, hu33, hf⟩ := bd_e hf
      obtain ⟨⟨o20, X21⟩, ho20, hf⟩ := bd_e hf
      cases o20 with
      | inl v22 =>
        refine xrunT_i (runVT (As := [.int 1, .int 9]) (rest := []) E.1 (tX12_more l ho20) (cwX12_95 E.ht ⟨Nat.le_of_ble_eq_true rfl, Nat.le_of_ble_eq_true rfl⟩) (xPreV (ci := 12) E hR hS rfl (ck_e hu33)) rfl rfl hl.1 rfl (lv_room (Nat.le_of_ble_eq_true rfl)) dX12_all_36 ⟨Nat.le_trans (by omega) (Nat.le_refl 117), Nat.le_trans (by omega) (Nat.le_refl 1161)⟩) hS (fun H locs hR hS => ?_)
        refine lv_istore_n (lv' := [(1, .int v22), (0, .ref x0)]) E.hx E.hb dX12_all_39 rfl hl (by decide) rfl (fun ls hl => ?_)
        refine lv_aload_n E.hx E.hb dX12_all_40 rfl (lv_at hl 1 rfl) ?_
        refine lv_iconst (v := 4) E.hx E.hb dX12_all_41 (by decide) ?_
        obtain ⟨u32, hu32, hf⟩ := bd_e hf
        obtain ⟨⟨o24, X25⟩, ho24, hf⟩ := bd_e hf
        cases o24 with
        | inl v26 =>
          refine xrunT_v (runVT (As := [.int 4]) (rest := []) E.1 (tX12_sign l ho24) (cwX12_67 E.ht ⟨Nat.le_of_ble_eq_true rfl, Nat.le_of_ble_eq_true rfl⟩) (xPreV (ci := 12) E hR hS rfl (ck_e hu32)) rfl rfl hl.1 rfl (lv_room (Nat.le_of_ble_eq_true rfl)) dX12_all_42 ⟨Nat.le_trans (by omega) (Nat.le_refl 117), Nat.le_trans (by omega) (Nat.le_refl 1161)⟩) hS (fun H locs hR hS => ?_)
          refine lv_aload_n E.hx E.hb dX12_all_45 rfl (lv_at hl 1 rfl) ?_
          refine lv_aload_n E.hx E.hb dX12_all_46 rfl (lv_at hl 1 rfl) ?_
          refine xldcS (own2 := "") E hR dX12_all_47 ?_
          obtain ⟨u28, hu28, hf⟩ := bd_e hf
          obtain ⟨⟨v30, X29⟩, hv30, hf⟩ := bd_e hf
          refine xrun_i (va_runV (As := [.ref X25.2.1.2.2.2.1]) (rest := [.ref x0]) E.1 (tX12_sortOf l hv30) (cwX12_100 E.ht ⟨Nat.le_of_ble_eq_true rfl, Nat.le_of_ble_eq_true rfl⟩) (xPreV (ci := 12) E hR hS rfl (ck_e hu28)) rfl rfl hl.1 rfl (lv_room (Nat.le_of_ble_eq_true rfl)) dX12_all_49 ⟨Nat.le_trans (by omega) (Nat.le_refl 117), Nat.le_trans (by omega) (Nat.le_refl 1161)⟩) hS (fun H locs hR hS => ?_)
          refine lv_ldc (v := (-1000000)) E.hx E.hb E.ho (E.ht _ q522) dX12_all_52 ?_
          refine lv_icmp_eq (tgt := 61) E.hx E.hb dX12_all_54 (by decide) (fun c31 => ?_) (fun c31 => ?_)
          · have hf := it_t hf c31
            refine lv_iconst (v := 0) E.hx E.hb dX12_all_61 (by decide) ?_
            exact wX12_all_b62 E hne  hf _ _ _ _ _ (by omega) (by omega) hR hS (lv_sub hl [1, 0] rfl)
          · have hf := it_f hf c31
            refine lv_iconst (v := 1) E.hx E.hb dX12_all_57 (by decide) ?_
            refine lv_goto (tgt := 62) E.hx E.hb dX12_all_58 (by decide) ?_
            exact wX12_all_b62 E hne  hf _ _ _ _ _ (by omega) (by omega) hR hS (lv_sub hl [1, 0] rfl)
        | inr y27 =>
          obtain ⟨rfl, rfl⟩ := rt_e hf
          exact xrunT_out E hne (runVT (As := [.int 4]) (rest := []) E.1 (tX12_sign l ho24) (cwX12_67 E.ht ⟨Nat.le_of_ble_eq_true rfl, Nat.le_of_ble_eq_true rfl⟩) (xPreV (ci := 12) E hR hS rfl (ck_e hu32)) rfl rfl hl.1 rfl (lv_room (Nat.le_of_ble_eq_true rfl)) dX12_all_42 ⟨Nat.le_trans (by omega) (Nat.le_refl 117), Nat.le_trans (by omega) (Nat.le_refl 1161)⟩) rfl rfl (by omega) (by omega) hS
      | inr y23 =>
        obtain ⟨rfl, rfl⟩ := rt_e hf
        exact xrunT_out E hne (runVT (As := [.int 1, .int 9]) (rest := []) E.1 (tX12_more l ho20) (cwX12_95 E.ht ⟨Nat.le_of_ble_eq_true rfl, Nat.le_of_ble_eq_true rfl⟩) (xPreV (ci := 12) E hR hS rfl (ck_e hu33)) rfl rfl hl.1 rfl (lv_room (Nat.le_of_ble_eq_true rfl)) dX12_all_36 ⟨Nat.le_trans (by omega) (Nat.le_refl 117), Nat.le_trans (by omega) (Nat.le_refl 1161)⟩) rfl rfl (by omega) (by omega) hS
    | inr y18 =>
      obtain ⟨rfl, rfl⟩ := rt_e hf
      exact xrunT_out E hne (runVT (As := [.int 0, .int 5]) (rest := [.ref v14]) E.1 (tX12_figure l ho15) (cwX12_71 E.ht ⟨Nat.le_of_ble_eq_true rfl, Nat.le_of_ble_eq_true rfl⟩) (xPreV (ci := 12) E hR hS rfl (ck_e hu34)) rfl rfl hl.1 rfl (lv_room (Nat.le_of_ble_eq_true rfl)) dX12_all_26 ⟨Nat.le_trans (by omega) (Nat.le_refl 117), Nat.le_trans (by omega) (Nat.le_refl 1161)⟩) rfl rfl (by omega) (by omega) hS
  | inr y10 =>
    obtain ⟨rfl, rfl⟩ := rt_e hf
    exact xrunT_out E hne (runVT (As := [.int v6, .int 1]) (rest := []) E.1 (tX12_must l ho7) (cwX12_60 E.ht ⟨Nat.le_of_ble_eq_true rfl, Nat.le_of_ble_eq_true rfl⟩) (xPreV (ci := 12) E hR hS rfl (ck_e hu35)) rfl rfl hl.1 rfl (lv_room (Nat.le_of_ble_eq_true rfl)) dX12_all_12 ⟨Nat.le_trans (by omega) (Nat.le_refl 117), Nat.le_trans (by omega) (Nat.le_refl 1161)⟩) rfl rfl (by omega) (by omega) hS
theorem tX12_all (l : Launch) {D : va_G} {cA : Nat → ClassId} {A : Nat → Prop} {Zs : XZ} {X Xf : AH} {x0 : Nat} {tv : Unit ⊕ Nat} (hf : fX12_all X x0 = some (tv, Xf)) : MetT l yX12_all (ws_ yX12_all cX12_all 2 none) rmX12_all (xPc D cA A Zs X [.ref x0]) (xQT D cA A Zs (ov tv) Xf) 117 1161 A := by
  refine MetT.ofW (cc := cX12_all) (maxL := 2) (ret := none) (by decide) rfl ?_
  intro p e s m args below meth c s₁ B hml hne hv
  obtain ⟨rfl, hR, hK⟩ := hv
  have hts := atoms_spec (ws := (ws_ yX12_all cX12_all 2 none)) B.pre
  rw [lg_entry_eq]
  exact wX12_all_0 (E := ⟨⟨B.exec, B.bytes, hml, findClass_of_methodNamed B.named, fun w h => hts w (List.mem_cons_of_mem _ h)⟩, hK, B.returns, B.notSynchronized⟩) hne hf _ _ _ 0 0 (Nat.le_of_ble_eq_true rfl) (Nat.le_of_ble_eq_true rfl) hR va_S.rf (lv_entry [.ref x0] (n := 2) (Nat.le_of_ble_eq_true rfl))
end
abbrev rmX0_ministry : Room := { frames := 9, cells := 126, slots := 1220, locals := 194 }
theorem cwX0_135 {R : Room} {s : State} {args : Array Value} (ht : ∀ w ∈ lw_all, w.before args s = true) (hR : rmX12_init.frames + 1 ≤ R.frames ∧ 8 + (3 + 11) + rmX12_init.locals ≤ R.locals) : CallB R s args RX0 135 yX12_init cX12_init 3 none (ws_ yX12_init cX12_init 3 none) rmX12_init 8 52 2 ∧ yX12_init.name = "<init>" ∧ (Cond.instanceMethod yX12_init).before args s = true :=
  cwI 2 ht (lw_meth q483) rfl rfl rfl (ht _ q90) (ht _ q481) (ht _ q482) rfl (by decide +kernel) hR
theorem cwX0_138 {R : Room} {s : State} {args : Array Value} (ht : ∀ w ∈ lw_all, w.before args s = true) (hR : rmX12_all.frames + 1 ≤ R.frames ∧ 8 + (2 + 11) + rmX12_all.locals ≤ R.locals) : CallW R s args RX0 RX12 138 yX12_all cX12_all 2 none (ws_ yX12_all cX12_all 2 none) rmX12_all 117 1161 0 :=
  cwV 0 ht (lw_V q510 q511 q512 q90 q513) rfl rfl rfl (by decide +kernel) hR
section
variable {p : Program} {l : Launch} {e : Env} {s : State} {m : MethodId} {args : Array Value} {below : List Frame} {meth : Method} {c : Code} {D : va_G} {cA : Nat → ClassId} {A : Nat → Prop} {Zs : XZ} {Xf : AH} {r : Int32} {rl : Int64} {ra : Nat} {tv : Unit ⊕ Nat} {ti : Int32 ⊕ Nat} {tr : Nat ⊕ Nat} {q2 : Option Nat}
def fX0_ministry  (X : AH) (x0 : Nat) : Option (Int32 × AH) :=
  (some (xnw X (.inl (12, [.null, .int 0, .int 0, .int 0, .int 0, .int 0, .null])))).bind fun X1 =>
  (gR X1 x0 0 1).bind fun v2 =>
  (gI X1 x0 0 2).bind fun v3 =>
  (fX12_init X1 X.1 v2 v3).bind fun X4 =>
  (pF X4 x0 0 2 (.int 0)).bind fun X6 =>
  (ck X6 X.1 12).bind fun _ =>
  (fX12_all X6 X.1).bind fun (o7, X8) => match o7 with
    | .inl _ => ((gR X8 x0 0 4).bind fun v11 =>
  (gR X8 X.1 12 6).bind fun v12 =>
  (ck X8 v11 1).bind fun _ =>
  (fX1_become X8 v11 v12).bind fun (v15, X14) =>
  (pF X14 x0 0 7 (.int 0)).bind fun X16 =>
  (gR X16 x0 0 4).bind fun v17 =>
  (ck X16 v17 1).bind fun _ =>
  (fX1_many X16 v17).bind fun (v20, X19) =>
  some (v20, X19))
    | .inr y10 => ((ck X8 y10 13).bind fun _ =>
  (gI X8 y10 13 6).bind fun v23 =>
  (pF X8 x0 0 3 (.int v23)).bind fun X24 =>
  (gI X24 y10 13 7).bind fun v25 =>
  some (((-1000100) - v25), X24))
theorem wX0_ministry_0 (E : xE p m c cX0_ministry 3 s args RX0 D cA A Zs meth (some .int)) (ht : c.exceptionTable.toList.map (fun h => (h.startPc, h.endPc, h.handlerPc, h.catchType)) = [(21, 25, 28, 141)]) {X : AH} {x0 : Nat} (hf : fX0_ministry X x0 = some (r, Xf)) : ∀ (H : Heap) (locs : List Loc) (ls : Array Slot) (cells slots : Nat), cells + 126 ≤ 126 → slots + 1220 ≤ 1220 → xR D cA A Zs X H → va_S A s.heap H locs → lv_has ls 3 [(0, .ref x0)] → W p l e rmX0_ministry s m args below meth c H locs cells slots (MQ below (xQi D cA A Zs r Xf) args s 126 1220 A) (F0 m 0 ls []) := by
  intro H locs ls cells slots hc hs hR hS hl
  obtain ⟨X1, hX1, hf⟩ := bd_e hf
  refine xnew (ci := 12) E hR hS in_X12 tyX12 tyX12_ok q479 q480 q90 rfl dfX12 (Nat.le_trans (by omega) (Nat.le_refl 126)) (Nat.le_trans (by omega) (Nat.le_refl 1220)) dX0_ministry_0 (fun H hR hS => ?_)
  rw [Option.some.inj hX1] at hR
  refine lv_dup E.hx E.hb dX0_ministry_3 rfl ?_
  refine lv_aload_n E.hx E.hb dX0_ministry_4 rfl (lv_at hl 0 rfl) ?_
  obtain ⟨v2, hv2, hf⟩ := bd_e hf
  refine xgX0_32 E hR hv2 dX0_ministry_5 ?_
  refine lv_aload_n E.hx E.hb dX0_ministry_8 rfl (lv_at hl 0 rfl) ?_
  obtain ⟨v3, hv3, hf⟩ := bd_e hf
  refine xgX0_129 E hR hv3 dX0_ministry_9 ?_
  obtain ⟨X4, hX4, hf⟩ := bd_e hf
  refine xrun_v (va_runI (As := [.ref v2, .int v3]) (rest := [.ref X.1]) E.1 (tX12_init l hX4) (cwX0_135 E.ht ⟨Nat.le_of_ble_eq_true rfl, Nat.le_of_ble_eq_true rfl⟩) (xPreS E hR hS) rfl rfl hl.1 rfl (lv_room (Nat.le_of_ble_eq_true rfl)) dX0_ministry_12 ⟨Nat.le_trans (by omega) (Nat.le_refl 126), Nat.le_trans (by omega) (Nat.le_refl 1220)⟩) hS (fun H locs hR hS => ?_)
  refine lv_astore_n (lv' := [(1, .ref X.1), (0, .ref x0)]) E.hx E.hb dX0_ministry_15 rfl hl (by decide) rfl (fun ls hl => ?_)
  refine lv_aload_n E.hx E.hb dX0_ministry_16 rfl (lv_at hl 1 rfl) ?_
  refine lv_iconst (v := 0) E.hx E.hb dX0_ministry_17 (by decide) ?_
  obtain ⟨X6, hX6, hf⟩ := bd_e hf
  refine xpX0_129 E hR hS hX6 dX0_ministry_18 (fun H locs hR hS => ?_)
  refine lv_aload_n E.hx E.hb dX0_ministry_21 rfl (lv_at hl 0 rfl) ?_
  obtain ⟨u21, hu21, hf⟩ := bd_e hf
  obtain ⟨⟨o7, X8⟩, ho7, hf⟩ := bd_e hf
  cases o7 with
  | inl v9 =>
    refine xrunT_v (runVT (As := []) (rest := []) E.1 (tX12_all l ho7) (cwX0_138 E.ht ⟨Nat.le_of_ble_eq_true rfl, Nat.le_of_ble_eq_true rfl⟩) (xPreV (ci := 12) E hR hS rfl (ck_e hu21)) rfl rfl hl.1 rfl (lv_room (Nat.le_of_ble_eq_true rfl)) dX0_ministry_22 ⟨Nat.le_trans (by omega) (Nat.le_refl 126), Nat.le_trans (by omega) (Nat.le_refl 1220)⟩) hS (fun H locs hR hS => ?_)
    refine lv_goto (tgt := 45) E.hx E.hb dX0_ministry_25 (by decide) ?_
    refine lv_aload_n E.hx E.hb dX0_ministry_45 rfl (lv_at hl 1 rfl) ?_
    obtain ⟨v11, hv11, hf⟩ := bd_e hf
    refine xgX0_39 E hR hv11 dX0_ministry_46 ?_
    refine lv_aload_n E.hx E.hb dX0_ministry_49 rfl (lv_at hl 0 rfl) ?_
    obtain ⟨v12, hv12, hf⟩ := bd_e hf
    refine xgX0_153 E hR hv12 dX0_ministry_50 ?_
    obtain ⟨u13, hu13, hf⟩ := bd_e hf
    obtain ⟨⟨v15, X14⟩, hv15, hf⟩ := bd_e hf
    refine xrun_r (va_runV (As := [.ref v12]) (rest := []) E.1 (tX1_become l hv15) (cwX0_156 E.ht ⟨Nat.le_of_ble_eq_true rfl, Nat.le_of_ble_eq_true rfl⟩) (xPreV (ci := 1) E hR hS rfl (ck_e hu13)) rfl rfl hl.1 rfl (lv_room (Nat.le_of_ble_eq_true rfl)) dX0_ministry_53 ⟨Nat.le_trans (by omega) (Nat.le_refl 126), Nat.le_trans (by omega) (Nat.le_refl 1220)⟩) hS (fun H locs hR hS => ?_)
    refine lv_pop E.hx E.hb dX0_ministry_56 rfl ?_
    refine lv_aload_n E.hx E.hb dX0_ministry_57 rfl (lv_at hl 1 rfl) ?_
    refine lv_iconst (v := 0) E.hx E.hb dX0_ministry_58 (by decide) ?_
    obtain ⟨X16, hX16, hf⟩ := bd_e hf
    refine xpX0_160 E hR hS hX16 dX0_ministry_59 (fun H locs hR hS => ?_)
    refine lv_aload_n E.hx E.hb dX0_ministry_62 rfl (lv_at hl 1 rfl) ?_
    obtain ⟨v17, hv17, hf⟩ := bd_e hf
    refine xgX0_39 E hR hv17 dX0_ministry_63 ?_
    obtain ⟨u18, hu18, hf⟩ := bd_e hf
    obtain ⟨⟨v20, X19⟩, hv20, hf⟩ := bd_e hf
    refine xrun_i (va_runV (As := []) (rest := []) E.1 (tX1_many l hv20) (cwX0_163 E.ht ⟨Nat.le_of_ble_eq_true rfl, Nat.le_of_ble_eq_true rfl⟩) (xPreV (ci := 1) E hR hS rfl (ck_e hu18)) rfl rfl hl.1 rfl (lv_room (Nat.le_of_ble_eq_true rfl)) dX0_ministry_66 ⟨Nat.le_trans (by omega) (Nat.le_refl 126), Nat.le_trans (by omega) (Nat.le_refl 1220)⟩) hS (fun H locs hR hS => ?_)
    obtain ⟨rfl, rfl⟩ := rt_e hf
    exact xret_i E (by omega) (by omega) hR hS dX0_ministry_69
  | inr y10 =>
    obtain ⟨u22, hu22, hf⟩ := bd_e hf
    refine xrunT_catch (hp := []) (q := (21, 25, 28, 141)) (hr' := []) (ci := 13) (name := "ChairRanks$Fault") E ht rfl (by decide) (by decide) (by decide) q478 rfl (E.2.1.2.1 ("ChairRanks$Fault", "ChairRanks$Fault") (by decide +kernel)) (ck_e hu22) (runVT (As := []) (rest := []) E.1 (tX12_all l ho7) (cwX0_138 E.ht ⟨Nat.le_of_ble_eq_true rfl, Nat.le_of_ble_eq_true rfl⟩) (xPreV (ci := 12) E hR hS rfl (ck_e hu21)) rfl rfl hl.1 rfl (lv_room (Nat.le_of_ble_eq_true rfl)) dX0_ministry_22 ⟨Nat.le_trans (by omega) (Nat.le_refl 126), Nat.le_trans (by omega) (Nat.le_refl 1220)⟩) rfl hS (fun H locs hR hS => ?_)
    refine lv_astore_n (lv' := [(2, .ref y10), (1, .ref X.1), (0, .ref x0)]) E.hx E.hb dX0_ministry_28 rfl hl (by decide) rfl (fun ls hl => ?_)
    refine lv_aload_n E.hx E.hb dX0_ministry_29 rfl (lv_at hl 2 rfl) ?_
    refine lv_aload_n E.hx E.hb dX0_ministry_30 rfl (lv_at hl 0 rfl) ?_
    obtain ⟨v23, hv23, hf⟩ := bd_e hf
    refine xgX0_143 E hR hv23 dX0_ministry_31 ?_
    obtain ⟨X24, hX24, hf⟩ := bd_e hf
    refine xpX0_146 E hR hS hX24 dX0_ministry_34 (fun H locs hR hS => ?_)
    refine lv_ldc (v := (-1000100)) E.hx E.hb E.ho (E.ht _ q718) dX0_ministry_37 ?_
    refine lv_aload_n E.hx E.hb dX0_ministry_39 rfl (lv_at hl 0 rfl) ?_
    obtain ⟨v25, hv25, hf⟩ := bd_e hf
    refine xgX0_150 E hR hv25 dX0_ministry_40 ?_
    refine lv_isub E.hx E.hb dX0_ministry_43 ?_
    obtain ⟨rfl, rfl⟩ := rt_e hf
    exact xret_i E (by omega) (by omega) hR hS dX0_ministry_44
theorem tX0_ministry (l : Launch) {D : va_G} {cA : Nat → ClassId} {A : Nat → Prop} {Zs : XZ} {X Xf : AH} {x0 : Nat} {r : Int32} (hf : fX0_ministry X x0 = some (r, Xf)) : Met l yX0_ministry (wsW_ yX0_ministry cX0_ministry 3 (some .int) [(21, 25, 28, 141)]) rmX0_ministry (xPc D cA A Zs X [.ref x0]) (xQi D cA A Zs r Xf) 126 1220 A := by
  refine Met.ofWH (cc := cX0_ministry) (maxL := 3) (ret := (some .int)) (by decide) rfl ?_
  intro p e s m args below meth c s₁ B hml ht hv
  obtain ⟨rfl, hR, hK⟩ := hv
  have hts := atoms_spec (ws := (wsW_ yX0_ministry cX0_ministry 3 (some .int) [(21, 25, 28, 141)])) B.pre
  rw [lg_entry_eq]
  exact wX0_ministry_0 (E := ⟨⟨B.exec, B.bytes, hml, findClass_of_methodNamed B.named, fun w h => hts w (List.mem_cons_of_mem _ h)⟩, hK, B.returns, B.notSynchronized⟩) ht hf _ _ _ 0 0 (Nat.le_of_ble_eq_true rfl) (Nat.le_of_ble_eq_true rfl) hR va_S.rf (lv_entry [.ref x0] (n := 3) (Nat.le_of_ble_eq_true rfl))
end
