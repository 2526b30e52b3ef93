/-! the model's world: one object, thirteen arrays; its state is a table of ints: row 0 its int fields, row k the array at o + k -/
set_option maxRecDepth 100000
abbrev MS : Type := Nat → Nat → Int32
def up2 (σ : MS) (k i : Nat) (x : Int32) : MS := fun a => if a = k then upd (σ a) i x else σ a
theorem it_t {α : Sort _} {c : Prop} [Decidable c] {A B r : α} (h : (if c then A else B) = r) (hc : c) : A = r := (if_pos hc).symm.trans h
theorem it_f {α : Sort _} {c : Prop} [Decidable c] {A B r : α} (h : (if c then A else B) = r) (hc : ¬ c) : B = r := (if_neg hc).symm.trans h
theorem bd_e {α β : Type} {x : Option α} {f : α → Option β} {r : β} (h : x.bind f = some r) : ∃ a, x = some a ∧ f a = some r := Option.bind_eq_some_iff.mp h
def rd (f : Nat → Int32) (n : Nat) (i : Int32) : Option Int32 := if i < 0 ∨ n ≤ i.toNatClampNeg then none else some (f i.toNatClampNeg)
theorem rd_e {f : Nat → Int32} {n : Nat} {i v : Int32} (h : rd f n i = some v) : vp_in i n ∧ f i.toNatClampNeg = v := by
  unfold rd at h
  by_cases c : i < 0 ∨ n ≤ i.toNatClampNeg
  · rw [if_pos c] at h; cases h
  · rw [if_neg c] at h; exact ⟨c, Option.some.inj h⟩
def mwr (σ : MS) (k n : Nat) (i x : Int32) : Option MS := if i < 0 ∨ n ≤ i.toNatClampNeg then none else some (up2 σ k i.toNatClampNeg x)
theorem mwr_e {σ σ' : MS} {k n : Nat} {i x : Int32} (h : mwr σ k n i x = some σ') : vp_in i n ∧ up2 σ k i.toNatClampNeg x = σ' := by
  unfold mwr at h
  by_cases c : i < 0 ∨ n ≤ i.toNatClampNeg
  · rw [if_pos c] at h; cases h
  · rw [if_neg c] at h; exact ⟨c, Option.some.inj h⟩
def dv (x y : Int32) : Option Int32 := if y = 0 then none else some (x / y)
theorem dv_e {x y v : Int32} (h : dv x y = some v) : ¬ y = 0 ∧ x / y = v := by
  unfold dv at h
  by_cases c : y = 0
  · rw [if_pos c] at h; cases h
  · rw [if_neg c] at h; exact ⟨c, Option.some.inj h⟩
def rmd (x y : Int32) : Option Int32 := if y = 0 then none else some (x - x / y * y)
theorem rmd_e {x y v : Int32} (h : rmd x y = some v) : ¬ y = 0 ∧ x - x / y * y = v := by
  unfold rmd at h
  by_cases c : y = 0
  · rw [if_pos c] at h; cases h
  · rw [if_neg c] at h; exact ⟨c, Option.some.inj h⟩
def dvl (x y : Int64) : Option Int64 := if y = 0 then none else some (x / y)
theorem dvl_e {x y v : Int64} (h : dvl x y = some v) : ¬ y = 0 ∧ x / y = v := by
  unfold dvl at h
  by_cases c : y = 0
  · rw [if_pos c] at h; cases h
  · rw [if_neg c] at h; exact ⟨c, Option.some.inj h⟩
def rml (x y : Int64) : Option Int64 := if y = 0 then none else some (x - x / y * y)
theorem rml_e {x y v : Int64} (h : rml x y = some v) : ¬ y = 0 ∧ x - x / y * y = v := by
  unfold rml at h
  by_cases c : y = 0
  · rw [if_pos c] at h; cases h
  · rw [if_neg c] at h; exact ⟨c, Option.some.inj h⟩
def bz (x : Int32) : Option Int32 := if x = 0 ∨ x = 1 then some x else none
theorem bz_e {x v : Int32} (h : bz x = some v) : narrow .boolean (.int x) = .int x ∧ x = v := by
  unfold bz at h
  by_cases c : x = 0 ∨ x = 1
  · rw [if_pos c] at h
    refine ⟨?_, Option.some.inj h⟩
    rcases c with rfl | rfl <;> rfl
  · rw [if_neg c] at h; cases h

abbrev mCl : List vw_C := [(RX9, TX9, 25)]
abbrev mF (o : Nat) (σ : MS) : List Value := [.ref (o + 1), .ref (o + 2), .ref (o + 3), .int (σ 0 3), .int (σ 0 4), .ref (o + 4), .ref (o + 5), .ref (o + 6), .int (σ 0 8), .int (σ 0 9), .int (σ 0 10), .int (σ 0 11), .int (σ 0 12), .int (σ 0 13), .int (σ 0 14), .ref (o + 7), .ref (o + 8), .int (σ 0 17), .ref (o + 9), .int (σ 0 19), .ref (o + 10), .ref (o + 11), .ref (o + 12), .ref (o + 13), .int (σ 0 24)]
abbrev mW (cI cZ : ClassId) (o : Nat) (σ : MS) : va_W := [(o, .inr (0, mF o σ)), (o + 1, .inl (cI, 8, .inl (σ 1))), (o + 2, .inl (cI, 8, .inl (σ 2))), (o + 3, .inl (cI, 320, .inl (σ 3))), (o + 4, .inl (cI, 41, .inl (σ 4))), (o + 5, .inl (cI, 40, .inl (σ 5))), (o + 6, .inl (cI, 120, .inl (σ 6))), (o + 7, .inl (cI, 41, .inl (σ 7))), (o + 8, .inl (cI, 6, .inl (σ 8))), (o + 9, .inl (cI, 984, .inl (σ 9))), (o + 10, .inl (cI, 41, .inl (σ 10))), (o + 11, .inl (cZ, 2, .inl (σ 11))), (o + 12, .inl (cI, 82, .inl (σ 12))), (o + 13, .inl (cI, 16, .inl (σ 13)))]
def mR (G : va_G) (cI cZ : ClassId) (o : Nat) (σ : MS) (H : Heap) : Prop := va_P G mCl (mW cI cZ o σ) H
def mA (o : Nat) : Nat → Prop := fun q => o ≤ q ∧ q < o + 14
theorem mD {cI cZ : ClassId} {o : Nat} {σ : MS} : va_D (mA o) (mW cI cZ o σ) := by
  have key : ∀ (k : Nat) (q : Nat × va_E), (mW cI cZ o σ)[k]? = some q → q.1 = o + k ∧ k < 14 := by
    intro k q hk
    match k, hk with
    | 0, hk => cases hk; exact ⟨rfl, by decide⟩
    | 1, hk => cases hk; exact ⟨rfl, by decide⟩
    | 2, hk => cases hk; exact ⟨rfl, by decide⟩
    | 3, hk => cases hk; exact ⟨rfl, by decide⟩
    | 4, hk => cases hk; exact ⟨rfl, by decide⟩
    | 5, hk => cases hk; exact ⟨rfl, by decide⟩
    | 6, hk => cases hk; exact ⟨rfl, by decide⟩
    | 7, hk => cases hk; exact ⟨rfl, by decide⟩
    | 8, hk => cases hk; exact ⟨rfl, by decide⟩
    | 9, hk => cases hk; exact ⟨rfl, by decide⟩
    | 10, hk => cases hk; exact ⟨rfl, by decide⟩
    | 11, hk => cases hk; exact ⟨rfl, by decide⟩
    | 12, hk => cases hk; exact ⟨rfl, by decide⟩
    | 13, hk => cases hk; exact ⟨rfl, by decide⟩
    | k + 14, hk => simp at hk
  refine ⟨fun i j x y hi hj hxy => ?_, fun k q hk => ?_⟩
  · have h1 := (key i x hi).1
    have h2 := (key j y hj).1
    omega
  · obtain ⟨h1, h2⟩ := key k q hk
    exact ⟨by omega, by omega⟩
abbrev mTy (cI cZ : ClassId) : List (ClassId × FieldType) := [(cI, .int), (cZ, .boolean)]
def mE (p : Program) (m : MethodId) (c : Code) (cc : ByteArray) (nL : Nat) (s : State) (args : Array Value) (G : va_G) (cI cZ : ClassId) (meth : Method) (ret : Option FieldType) : Prop := CallFix p m c cc nL s args lw_all RX9 ∧ va_K G mCl (mTy cI cZ) s ∧ meth.sig.returnType = ret ∧ meth.locks = false
/-- the start and the ends of a method of the model -/
abbrev mPc (G : va_G) (cI cZ : ClassId) (o : Nat) (σ : MS) (av : List Value) : Array Value → State → Prop := va_Pc av (fun U => mR G cI cZ o σ U.heap ∧ va_K G mCl (mTy cI cZ) U)
abbrev mQi (G : va_G) (cI cZ : ClassId) (o : Nat) (r : Int32) (σ : MS) : Array Value → State → Outcome → State → Prop := va_Qi (fun (x : Int32) (_ : Unit) => x = r) (fun _ t => mR G cI cZ o σ t.heap) (mA o)
abbrev mQl (G : va_G) (cI cZ : ClassId) (o : Nat) (r : Int64) (σ : MS) : Array Value → State → Outcome → State → Prop := va_Ql (fun (x : Int64) (_ : Unit) => x = r) (fun _ t => mR G cI cZ o σ t.heap) (mA o)
abbrev mQv (G : va_G) (cI cZ : ClassId) (o : Nat) (σ : MS) : Array Value → State → Outcome → State → Prop := va_Qv (fun (_ : Unit) => True) (fun _ t => mR G cI cZ o σ t.heap) (mA o)
section MB
variable {p : Program} {l : Launch} {e : Env} {R : Room} {s : State} {m : MethodId} {args : Array Value} {below : List Frame} {meth : Method} {c : Code} {H : Heap} {locs : List Loc} {cells slots : Nat} {Q : State → Prop} {cc : ByteArray} {pc nL : Nat} {ls : Array Slot} {rest : List Value} {G : va_G} {cI cZ : ClassId} {o : Nat} {σ σ' : MS} {ret : Option FieldType}
theorem mE.hx (E : mE p m c cc nL s args G cI cZ meth ret) : p.tables.exec = Jvm.exec := E.1.1
theorem mE.hb (E : mE p m c cc nL s args G cI cZ meth ret) : c.code = cc := E.1.2.1
theorem mE.ho (E : mE p m c cc nL s args G cI cZ meth ret) : s.vm.findClass RX9 = some m.cls := E.1.2.2.2.1
theorem mE.ht (E : mE p m c cc nL s args G cI cZ meth ret) : ∀ w ∈ lw_all, w.before args s = true := E.1.2.2.2.2
theorem mE.hK (E : mE p m c cc nL s args G cI cZ meth ret) : va_K G mCl (mTy cI cZ) s := E.2.1
theorem mE.hr (E : mE p m c cc nL s args G cI cZ meth ret) : meth.sig.returnType = ret := E.2.2.1
theorem mE.hk (E : mE p m c cc nL s args G cI cZ meth ret) : meth.locks = false := E.2.2.2
abbrev WW (p : Program) (l : Launch) (e : Env) (R : Room) (s : State) (m : MethodId) (args : Array Value) (below : List Frame) (meth : Method) (c : Code) (H : Heap) (locs : List Loc) (cells slots : Nat) (Q : State → Prop) (g : JFrame) : Prop := W p l e R s m args below meth c H locs cells slots Q g
theorem mg_lanes (E : mE p m c cc nL s args G cI cZ meth ret) (hR : mR G cI cZ o σ H) (hdg : decode cc pc = .ok (.getfield 7, 3)) (k : W p l e R s m args below meth c H locs cells slots Q (F0 m (pc + 3) ls (.ref (o + 1) :: rest))) : W p l e R s m args below meth c H locs cells slots Q (F0 m pc ls (.ref o :: rest)) :=
  va_get E.hx E.hb E.ht in_X9 E.ho E.hK hR 0 rfl rfl 0 (by decide) (E.ht _ q1230) (fun _ h => h) rfl hdg k
theorem ml_lanes (E : mE p m c cc nL s args G cI cZ meth ret) (hR : mR G cI cZ o σ H) {i v : Int32} (h : rd (σ 1) 8 i = some v) (hdg : decode cc pc = .ok (.iaload, 1)) (k : W p l e R s m args below meth c H locs cells slots Q (F0 m (pc + 1) ls (.int v :: rest))) : W p l e R s m args below meth c H locs cells slots Q (F0 m pc ls (.int i :: .ref (o + 1) :: rest)) := by
  obtain ⟨h1, rfl⟩ := rd_e h
  exact va_iald E.hx E.hb E.hK hR 1 0 rfl rfl h1 hdg k
theorem ms_lanes (E : mE p m c cc nL s args G cI cZ meth ret) (hR : mR G cI cZ o σ H) (hS : va_S (mA o) s.heap H locs) {i x : Int32} (h : mwr σ 1 8 i x = some σ') (hdg : decode cc pc = .ok (.iastore, 1)) (k : ∀ (H : Heap) (locs : List Loc), mR G cI cZ o σ' H → va_S (mA o) s.heap H locs → W p l e R s m args below meth c H locs cells slots Q (F0 m (pc + 1) ls rest)) : W p l e R s m args below meth c H locs cells slots Q (F0 m pc ls (.int x :: .int i :: .ref (o + 1) :: rest)) := by
  obtain ⟨h1, rfl⟩ := mwr_e h
  exact va_iast E.hx E.hb E.hK hR mD hS 1 0 rfl rfl h1 hdg (fun H1 l1 hP _ hS1 => k H1 l1 hP hS1)
theorem mg_sizes (E : mE p m c cc nL s args G cI cZ meth ret) (hR : mR G cI cZ o σ H) (hdg : decode cc pc = .ok (.getfield 13, 3)) (k : W p l e R s m args below meth c H locs cells slots Q (F0 m (pc + 3) ls (.ref (o + 2) :: rest))) : W p l e R s m args below meth c H locs cells slots Q (F0 m pc ls (.ref o :: rest)) :=
  va_get E.hx E.hb E.ht in_X9 E.ho E.hK hR 0 rfl rfl 1 (by decide) (E.ht _ q1231) (fun _ h => h) rfl hdg k
theorem ml_sizes (E : mE p m c cc nL s args G cI cZ meth ret) (hR : mR G cI cZ o σ H) {i v : Int32} (h : rd (σ 2) 8 i = some v) (hdg : decode cc pc = .ok (.iaload, 1)) (k : W p l e R s m args below meth c H locs cells slots Q (F0 m (pc + 1) ls (.int v :: rest))) : W p l e R s m args below meth c H locs cells slots Q (F0 m pc ls (.int i :: .ref (o + 2) :: rest)) := by
  obtain ⟨h1, rfl⟩ := rd_e h
  exact va_iald E.hx E.hb E.hK hR 2 0 rfl rfl h1 hdg k
theorem ms_sizes (E : mE p m c cc nL s args G cI cZ meth ret) (hR : mR G cI cZ o σ H) (hS : va_S (mA o) s.heap H locs) {i x : Int32} (h : mwr σ 2 8 i x = some σ') (hdg : decode cc pc = .ok (.iastore, 1)) (k : ∀ (H : Heap) (locs : List Loc), mR G cI cZ o σ' H → va_S (mA o) s.heap H locs → W p l e R s m args below meth c H locs cells slots Q (F0 m (pc + 1) ls rest)) : W p l e R s m args below meth c H locs cells slots Q (F0 m pc ls (.int x :: .int i :: .ref (o + 2) :: rest)) := by
  obtain ⟨h1, rfl⟩ := mwr_e h
  exact va_iast E.hx E.hb E.hK hR mD hS 2 0 rfl rfl h1 hdg (fun H1 l1 hP _ hS1 => k H1 l1 hP hS1)
theorem mg_items (E : mE p m c cc nL s args G cI cZ meth ret) (hR : mR G cI cZ o σ H) (hdg : decode cc pc = .ok (.getfield 16, 3)) (k : W p l e R s m args below meth c H locs cells slots Q (F0 m (pc + 3) ls (.ref (o + 3) :: rest))) : W p l e R s m args below meth c H locs cells slots Q (F0 m pc ls (.ref o :: rest)) :=
  va_get E.hx E.hb E.ht in_X9 E.ho E.hK hR 0 rfl rfl 2 (by decide) (E.ht _ q1232) (fun _ h => h) rfl hdg k
theorem ml_items (E : mE p m c cc nL s args G cI cZ meth ret) (hR : mR G cI cZ o σ H) {i v : Int32} (h : rd (σ 3) 320 i = some v) (hdg : decode cc pc = .ok (.iaload, 1)) (k : W p l e R s m args below meth c H locs cells slots Q (F0 m (pc + 1) ls (.int v :: rest))) : W p l e R s m args below meth c H locs cells slots Q (F0 m pc ls (.int i :: .ref (o + 3) :: rest)) := by
  obtain ⟨h1, rfl⟩ := rd_e h
  exact va_iald E.hx E.hb E.hK hR 3 0 rfl rfl h1 hdg k
theorem ms_items (E : mE p m c cc nL s args G cI cZ meth ret) (hR : mR G cI cZ o σ H) (hS : va_S (mA o) s.heap H locs) {i x : Int32} (h : mwr σ 3 320 i x = some σ') (hdg : decode cc pc = .ok (.iastore, 1)) (k : ∀ (H : Heap) (locs : List Loc), mR G cI cZ o σ' H → va_S (mA o) s.heap H locs → W p l e R s m args below meth c H locs cells slots Q (F0 m (pc + 1) ls rest)) : W p l e R s m args below meth c H locs cells slots Q (F0 m pc ls (.int x :: .int i :: .ref (o + 3) :: rest)) := by
  obtain ⟨h1, rfl⟩ := mwr_e h
  exact va_iast E.hx E.hb E.hK hR mD hS 3 0 rfl rfl h1 hdg (fun H1 l1 hP _ hS1 => k H1 l1 hP hS1)
theorem mg_st (E : mE p m c cc nL s args G cI cZ meth ret) (hR : mR G cI cZ o σ H) (hdg : decode cc pc = .ok (.getfield 19, 3)) (k : W p l e R s m args below meth c H locs cells slots Q (F0 m (pc + 3) ls (.ref (o + 4) :: rest))) : W p l e R s m args below meth c H locs cells slots Q (F0 m pc ls (.ref o :: rest)) :=
  va_get E.hx E.hb E.ht in_X9 E.ho E.hK hR 0 rfl rfl 5 (by decide) (E.ht _ q1235) (fun _ h => h) rfl hdg k
theorem ml_st (E : mE p m c cc nL s args G cI cZ meth ret) (hR : mR G cI cZ o σ H) {i v : Int32} (h : rd (σ 4) 41 i = some v) (hdg : decode cc pc = .ok (.iaload, 1)) (k : W p l e R s m args below meth c H locs cells slots Q (F0 m (pc + 1) ls (.int v :: rest))) : W p l e R s m args below meth c H locs cells slots Q (F0 m pc ls (.int i :: .ref (o + 4) :: rest)) := by
  obtain ⟨h1, rfl⟩ := rd_e h
  exact va_iald E.hx E.hb E.hK hR 4 0 rfl rfl h1 hdg k
theorem ms_st (E : mE p m c cc nL s args G cI cZ meth ret) (hR : mR G cI cZ o σ H) (hS : va_S (mA o) s.heap H locs) {i x : Int32} (h : mwr σ 4 41 i x = some σ') (hdg : decode cc pc = .ok (.iastore, 1)) (k : ∀ (H : Heap) (locs : List Loc), mR G cI cZ o σ' H → va_S (mA o) s.heap H locs → W p l e R s m args below meth c H locs cells slots Q (F0 m (pc + 1) ls rest)) : W p l e R s m args below meth c H locs cells slots Q (F0 m pc ls (.int x :: .int i :: .ref (o + 4) :: rest)) := by
  obtain ⟨h1, rfl⟩ := mwr_e h
  exact va_iast E.hx E.hb E.hK hR mD hS 4 0 rfl rfl h1 hdg (fun H1 l1 hP _ hS1 => k H1 l1 hP hS1)
theorem mg_moved (E : mE p m c cc nL s args G cI cZ meth ret) (hR : mR G cI cZ o σ H) (hdg : decode cc pc = .ok (.getfield 22, 3)) (k : W p l e R s m args below meth c H locs cells slots Q (F0 m (pc + 3) ls (.ref (o + 5) :: rest))) : W p l e R s m args below meth c H locs cells slots Q (F0 m pc ls (.ref o :: rest)) :=
  va_get E.hx E.hb E.ht in_X9 E.ho E.hK hR 0 rfl rfl 6 (by decide) (E.ht _ q1236) (fun _ h => h) rfl hdg k
theorem ml_moved (E : mE p m c cc nL s args G cI cZ meth ret) (hR : mR G cI cZ o σ H) {i v : Int32} (h : rd (σ 5) 40 i = some v) (hdg : decode cc pc = .ok (.iaload, 1)) (k : W p l e R s m args below meth c H locs cells slots Q (F0 m (pc + 1) ls (.int v :: rest))) : W p l e R s m args below meth c H locs cells slots Q (F0 m pc ls (.int i :: .ref (o + 5) :: rest)) := by
  obtain ⟨h1, rfl⟩ := rd_e h
  exact va_iald E.hx E.hb E.hK hR 5 0 rfl rfl h1 hdg k
theorem ms_moved (E : mE p m c cc nL s args G cI cZ meth ret) (hR : mR G cI cZ o σ H) (hS : va_S (mA o) s.heap H locs) {i x : Int32} (h : mwr σ 5 40 i x = some σ') (hdg : decode cc pc = .ok (.iastore, 1)) (k : ∀ (H : Heap) (locs : List Loc), mR G cI cZ o σ' H → va_S (mA o) s.heap H locs → W p l e R s m args below meth c H locs cells slots Q (F0 m (pc + 1) ls rest)) : W p l e R s m args below meth c H locs cells slots Q (F0 m pc ls (.int x :: .int i :: .ref (o + 5) :: rest)) := by
  obtain ⟨h1, rfl⟩ := mwr_e h
  exact va_iast E.hx E.hb E.hK hR mD hS 5 0 rfl rfl h1 hdg (fun H1 l1 hP _ hS1 => k H1 l1 hP hS1)
theorem mg_tape (E : mE p m c cc nL s args G cI cZ meth ret) (hR : mR G cI cZ o σ H) (hdg : decode cc pc = .ok (.getfield 25, 3)) (k : W p l e R s m args below meth c H locs cells slots Q (F0 m (pc + 3) ls (.ref (o + 6) :: rest))) : W p l e R s m args below meth c H locs cells slots Q (F0 m pc ls (.ref o :: rest)) :=
  va_get E.hx E.hb E.ht in_X9 E.ho E.hK hR 0 rfl rfl 7 (by decide) (E.ht _ q1237) (fun _ h => h) rfl hdg k
theorem ml_tape (E : mE p m c cc nL s args G cI cZ meth ret) (hR : mR G cI cZ o σ H) {i v : Int32} (h : rd (σ 6) 120 i = some v) (hdg : decode cc pc = .ok (.iaload, 1)) (k : W p l e R s m args below meth c H locs cells slots Q (F0 m (pc + 1) ls (.int v :: rest))) : W p l e R s m args below meth c H locs cells slots Q (F0 m pc ls (.int i :: .ref (o + 6) :: rest)) := by
  obtain ⟨h1, rfl⟩ := rd_e h
  exact va_iald E.hx E.hb E.hK hR 6 0 rfl rfl h1 hdg k
theorem ms_tape (E : mE p m c cc nL s args G cI cZ meth ret) (hR : mR G cI cZ o σ H) (hS : va_S (mA o) s.heap H locs) {i x : Int32} (h : mwr σ 6 120 i x = some σ') (hdg : decode cc pc = .ok (.iastore, 1)) (k : ∀ (H : Heap) (locs : List Loc), mR G cI cZ o σ' H → va_S (mA o) s.heap H locs → W p l e R s m args below meth c H locs cells slots Q (F0 m (pc + 1) ls rest)) : W p l e R s m args below meth c H locs cells slots Q (F0 m pc ls (.int x :: .int i :: .ref (o + 6) :: rest)) := by
  obtain ⟨h1, rfl⟩ := mwr_e h
  exact va_iast E.hx E.hb E.hK hR mD hS 6 0 rfl rfl h1 hdg (fun H1 l1 hP _ hS1 => k H1 l1 hP hS1)
theorem mg_read (E : mE p m c cc nL s args G cI cZ meth ret) (hR : mR G cI cZ o σ H) (hdg : decode cc pc = .ok (.getfield 28, 3)) (k : W p l e R s m args below meth c H locs cells slots Q (F0 m (pc + 3) ls (.ref (o + 7) :: rest))) : W p l e R s m args below meth c H locs cells slots Q (F0 m pc ls (.ref o :: rest)) :=
  va_get E.hx E.hb E.ht in_X9 E.ho E.hK hR 0 rfl rfl 15 (by decide) (E.ht _ q1245) (fun _ h => h) rfl hdg k
theorem ml_read (E : mE p m c cc nL s args G cI cZ meth ret) (hR : mR G cI cZ o σ H) {i v : Int32} (h : rd (σ 7) 41 i = some v) (hdg : decode cc pc = .ok (.iaload, 1)) (k : W p l e R s m args below meth c H locs cells slots Q (F0 m (pc + 1) ls (.int v :: rest))) : W p l e R s m args below meth c H locs cells slots Q (F0 m pc ls (.int i :: .ref (o + 7) :: rest)) := by
  obtain ⟨h1, rfl⟩ := rd_e h
  exact va_iald E.hx E.hb E.hK hR 7 0 rfl rfl h1 hdg k
theorem ms_read (E : mE p m c cc nL s args G cI cZ meth ret) (hR : mR G cI cZ o σ H) (hS : va_S (mA o) s.heap H locs) {i x : Int32} (h : mwr σ 7 41 i x = some σ') (hdg : decode cc pc = .ok (.iastore, 1)) (k : ∀ (H : Heap) (locs : List Loc), mR G cI cZ o σ' H → va_S (mA o) s.heap H locs → W p l e R s m args below meth c H locs cells slots Q (F0 m (pc + 1) ls rest)) : W p l e R s m args below meth c H locs cells slots Q (F0 m pc ls (.int x :: .int i :: .ref (o + 7) :: rest)) := by
  obtain ⟨h1, rfl⟩ := mwr_e h
  exact va_iast E.hx E.hb E.hK hR mD hS 7 0 rfl rfl h1 hdg (fun H1 l1 hP _ hS1 => k H1 l1 hP hS1)
theorem mg_off (E : mE p m c cc nL s args G cI cZ meth ret) (hR : mR G cI cZ o σ H) (hdg : decode cc pc = .ok (.getfield 31, 3)) (k : W p l e R s m args below meth c H locs cells slots Q (F0 m (pc + 3) ls (.ref (o + 8) :: rest))) : W p l e R s m args below meth c H locs cells slots Q (F0 m pc ls (.ref o :: rest)) :=
  va_get E.hx E.hb E.ht in_X9 E.ho E.hK hR 0 rfl rfl 16 (by decide) (E.ht _ q1246) (fun _ h => h) rfl hdg k
theorem ml_off (E : mE p m c cc nL s args G cI cZ meth ret) (hR : mR G cI cZ o σ H) {i v : Int32} (h : rd (σ 8) 6 i = some v) (hdg : decode cc pc = .ok (.iaload, 1)) (k : W p l e R s m args below meth c H locs cells slots Q (F0 m (pc + 1) ls (.int v :: rest))) : W p l e R s m args below meth c H locs cells slots Q (F0 m pc ls (.int i :: .ref (o + 8) :: rest)) := by
  obtain ⟨h1, rfl⟩ := rd_e h
  exact va_iald E.hx E.hb E.hK hR 8 0 rfl rfl h1 hdg k
theorem ms_off (E : mE p m c cc nL s args G cI cZ meth ret) (hR : mR G cI cZ o σ H) (hS : va_S (mA o) s.heap H locs) {i x : Int32} (h : mwr σ 8 6 i x = some σ') (hdg : decode cc pc = .ok (.iastore, 1)) (k : ∀ (H : Heap) (locs : List Loc), mR G cI cZ o σ' H → va_S (mA o) s.heap H locs → W p l e R s m args below meth c H locs cells slots Q (F0 m (pc + 1) ls rest)) : W p l e R s m args below meth c H locs cells slots Q (F0 m pc ls (.int x :: .int i :: .ref (o + 8) :: rest)) := by
  obtain ⟨h1, rfl⟩ := mwr_e h
  exact va_iast E.hx E.hb E.hK hR mD hS 8 0 rfl rfl h1 hdg (fun H1 l1 hP _ hS1 => k H1 l1 hP hS1)
theorem mg_acts (E : mE p m c cc nL s args G cI cZ meth ret) (hR : mR G cI cZ o σ H) (hdg : decode cc pc = .ok (.getfield 34, 3)) (k : W p l e R s m args below meth c H locs cells slots Q (F0 m (pc + 3) ls (.ref (o + 9) :: rest))) : W p l e R s m args below meth c H locs cells slots Q (F0 m pc ls (.ref o :: rest)) :=
  va_get E.hx E.hb E.ht in_X9 E.ho E.hK hR 0 rfl rfl 18 (by decide) (E.ht _ q1248) (fun _ h => h) rfl hdg k
theorem ml_acts (E : mE p m c cc nL s args G cI cZ meth ret) (hR : mR G cI cZ o σ H) {i v : Int32} (h : rd (σ 9) 984 i = some v) (hdg : decode cc pc = .ok (.iaload, 1)) (k : W p l e R s m args below meth c H locs cells slots Q (F0 m (pc + 1) ls (.int v :: rest))) : W p l e R s m args below meth c H locs cells slots Q (F0 m pc ls (.int i :: .ref (o + 9) :: rest)) := by
  obtain ⟨h1, rfl⟩ := rd_e h
  exact va_iald E.hx E.hb E.hK hR 9 0 rfl rfl h1 hdg k
theorem ms_acts (E : mE p m c cc nL s args G cI cZ meth ret) (hR : mR G cI cZ o σ H) (hS : va_S (mA o) s.heap H locs) {i x : Int32} (h : mwr σ 9 984 i x = some σ') (hdg : decode cc pc = .ok (.iastore, 1)) (k : ∀ (H : Heap) (locs : List Loc), mR G cI cZ o σ' H → va_S (mA o) s.heap H locs → W p l e R s m args below meth c H locs cells slots Q (F0 m (pc + 1) ls rest)) : W p l e R s m args below meth c H locs cells slots Q (F0 m pc ls (.int x :: .int i :: .ref (o + 9) :: rest)) := by
  obtain ⟨h1, rfl⟩ := mwr_e h
  exact va_iast E.hx E.hb E.hK hR mD hS 9 0 rfl rfl h1 hdg (fun H1 l1 hP _ hS1 => k H1 l1 hP hS1)
theorem mg_aside (E : mE p m c cc nL s args G cI cZ meth ret) (hR : mR G cI cZ o σ H) (hdg : decode cc pc = .ok (.getfield 37, 3)) (k : W p l e R s m args below meth c H locs cells slots Q (F0 m (pc + 3) ls (.ref (o + 10) :: rest))) : W p l e R s m args below meth c H locs cells slots Q (F0 m pc ls (.ref o :: rest)) :=
  va_get E.hx E.hb E.ht in_X9 E.ho E.hK hR 0 rfl rfl 20 (by decide) (E.ht _ q1250) (fun _ h => h) rfl hdg k
theorem ml_aside (E : mE p m c cc nL s args G cI cZ meth ret) (hR : mR G cI cZ o σ H) {i v : Int32} (h : rd (σ 10) 41 i = some v) (hdg : decode cc pc = .ok (.iaload, 1)) (k : W p l e R s m args below meth c H locs cells slots Q (F0 m (pc + 1) ls (.int v :: rest))) : W p l e R s m args below meth c H locs cells slots Q (F0 m pc ls (.int i :: .ref (o + 10) :: rest)) := by
  obtain ⟨h1, rfl⟩ := rd_e h
  exact va_iald E.hx E.hb E.hK hR 10 0 rfl rfl h1 hdg k
theorem ms_aside (E : mE p m c cc nL s args G cI cZ meth ret) (hR : mR G cI cZ o σ H) (hS : va_S (mA o) s.heap H locs) {i x : Int32} (h : mwr σ 10 41 i x = some σ') (hdg : decode cc pc = .ok (.iastore, 1)) (k : ∀ (H : Heap) (locs : List Loc), mR G cI cZ o σ' H → va_S (mA o) s.heap H locs → W p l e R s m args below meth c H locs cells slots Q (F0 m (pc + 1) ls rest)) : W p l e R s m args below meth c H locs cells slots Q (F0 m pc ls (.int x :: .int i :: .ref (o + 10) :: rest)) := by
  obtain ⟨h1, rfl⟩ := mwr_e h
  exact va_iast E.hx E.hb E.hK hR mD hS 10 0 rfl rfl h1 hdg (fun H1 l1 hP _ hS1 => k H1 l1 hP hS1)
theorem mg_isKept (E : mE p m c cc nL s args G cI cZ meth ret) (hR : mR G cI cZ o σ H) (hdg : decode cc pc = .ok (.getfield 40, 3)) (k : W p l e R s m args below meth c H locs cells slots Q (F0 m (pc + 3) ls (.ref (o + 11) :: rest))) : W p l e R s m args below meth c H locs cells slots Q (F0 m pc ls (.ref o :: rest)) :=
  va_get E.hx E.hb E.ht in_X9 E.ho E.hK hR 0 rfl rfl 21 (by decide) (E.ht _ q1251) (fun _ h => h) rfl hdg k
theorem ml_isKept (E : mE p m c cc nL s args G cI cZ meth ret) (hR : mR G cI cZ o σ H) {i v : Int32} (h : rd (σ 11) 2 i = some v) (hdg : decode cc pc = .ok (.baload, 1)) (k : W p l e R s m args below meth c H locs cells slots Q (F0 m (pc + 1) ls (.int v :: rest))) : W p l e R s m args below meth c H locs cells slots Q (F0 m pc ls (.int i :: .ref (o + 11) :: rest)) := by
  obtain ⟨h1, rfl⟩ := rd_e h
  exact va_zald E.hx E.hb E.hK hR 11 1 rfl rfl h1 hdg k
theorem ms_isKept (E : mE p m c cc nL s args G cI cZ meth ret) (hR : mR G cI cZ o σ H) (hS : va_S (mA o) s.heap H locs) {i : Int32} (h : mwr σ 11 2 i 1 = some σ') (hdg : decode cc pc = .ok (.bastore, 1)) (k : ∀ (H : Heap) (locs : List Loc), mR G cI cZ o σ' H → va_S (mA o) s.heap H locs → W p l e R s m args below meth c H locs cells slots Q (F0 m (pc + 1) ls rest)) : W p l e R s m args below meth c H locs cells slots Q (F0 m pc ls (.int 1 :: .int i :: .ref (o + 11) :: rest)) := by
  obtain ⟨h1, rfl⟩ := mwr_e h
  exact va_zast E.hx E.hb E.hK hR mD hS 11 1 rfl rfl h1 hdg (fun H1 l1 hP _ hS1 => k H1 l1 hP hS1)
theorem mg_kept (E : mE p m c cc nL s args G cI cZ meth ret) (hR : mR G cI cZ o σ H) (hdg : decode cc pc = .ok (.getfield 44, 3)) (k : W p l e R s m args below meth c H locs cells slots Q (F0 m (pc + 3) ls (.ref (o + 12) :: rest))) : W p l e R s m args below meth c H locs cells slots Q (F0 m pc ls (.ref o :: rest)) :=
  va_get E.hx E.hb E.ht in_X9 E.ho E.hK hR 0 rfl rfl 22 (by decide) (E.ht _ q1252) (fun _ h => h) rfl hdg k
theorem ml_kept (E : mE p m c cc nL s args G cI cZ meth ret) (hR : mR G cI cZ o σ H) {i v : Int32} (h : rd (σ 12) 82 i = some v) (hdg : decode cc pc = .ok (.iaload, 1)) (k : W p l e R s m args below meth c H locs cells slots Q (F0 m (pc + 1) ls (.int v :: rest))) : W p l e R s m args below meth c H locs cells slots Q (F0 m pc ls (.int i :: .ref (o + 12) :: rest)) := by
  obtain ⟨h1, rfl⟩ := rd_e h
  exact va_iald E.hx E.hb E.hK hR 12 0 rfl rfl h1 hdg k
theorem ms_kept (E : mE p m c cc nL s args G cI cZ meth ret) (hR : mR G cI cZ o σ H) (hS : va_S (mA o) s.heap H locs) {i x : Int32} (h : mwr σ 12 82 i x = some σ') (hdg : decode cc pc = .ok (.iastore, 1)) (k : ∀ (H : Heap) (locs : List Loc), mR G cI cZ o σ' H → va_S (mA o) s.heap H locs → W p l e R s m args below meth c H locs cells slots Q (F0 m (pc + 1) ls rest)) : W p l e R s m args below meth c H locs cells slots Q (F0 m pc ls (.int x :: .int i :: .ref (o + 12) :: rest)) := by
  obtain ⟨h1, rfl⟩ := mwr_e h
  exact va_iast E.hx E.hb E.hK hR mD hS 12 0 rfl rfl h1 hdg (fun H1 l1 hP _ hS1 => k H1 l1 hP hS1)
theorem mg_trace (E : mE p m c cc nL s args G cI cZ meth ret) (hR : mR G cI cZ o σ H) (hdg : decode cc pc = .ok (.getfield 47, 3)) (k : W p l e R s m args below meth c H locs cells slots Q (F0 m (pc + 3) ls (.ref (o + 13) :: rest))) : W p l e R s m args below meth c H locs cells slots Q (F0 m pc ls (.ref o :: rest)) :=
  va_get E.hx E.hb E.ht in_X9 E.ho E.hK hR 0 rfl rfl 23 (by decide) (E.ht _ q1253) (fun _ h => h) rfl hdg k
theorem ml_trace (E : mE p m c cc nL s args G cI cZ meth ret) (hR : mR G cI cZ o σ H) {i v : Int32} (h : rd (σ 13) 16 i = some v) (hdg : decode cc pc = .ok (.iaload, 1)) (k : W p l e R s m args below meth c H locs cells slots Q (F0 m (pc + 1) ls (.int v :: rest))) : W p l e R s m args below meth c H locs cells slots Q (F0 m pc ls (.int i :: .ref (o + 13) :: rest)) := by
  obtain ⟨h1, rfl⟩ := rd_e h
  exact va_iald E.hx E.hb E.hK hR 13 0 rfl rfl h1 hdg k
theorem ms_trace (E : mE p m c cc nL s args G cI cZ meth ret) (hR : mR G cI cZ o σ H) (hS : va_S (mA o) s.heap H locs) {i x : Int32} (h : mwr σ 13 16 i x = some σ') (hdg : decode cc pc = .ok (.iastore, 1)) (k : ∀ (H : Heap) (locs : List Loc), mR G cI cZ o σ' H → va_S (mA o) s.heap H locs → W p l e R s m args below meth c H locs cells slots Q (F0 m (pc + 1) ls rest)) : W p l e R s m args below meth c H locs cells slots Q (F0 m pc ls (.int x :: .int i :: .ref (o + 13) :: rest)) := by
  obtain ⟨h1, rfl⟩ := mwr_e h
  exact va_iast E.hx E.hb E.hK hR mD hS 13 0 rfl rfl h1 hdg (fun H1 l1 hP _ hS1 => k H1 l1 hP hS1)
theorem mg_status (E : mE p m c cc nL s args G cI cZ meth ret) (hR : mR G cI cZ o σ H) (hdg : decode cc pc = .ok (.getfield 50, 3)) (k : W p l e R s m args below meth c H locs cells slots Q (F0 m (pc + 3) ls (.int (σ 0 3) :: rest))) : W p l e R s m args below meth c H locs cells slots Q (F0 m pc ls (.ref o :: rest)) :=
  va_get E.hx E.hb E.ht in_X9 E.ho E.hK hR 0 rfl rfl 3 (by decide) (E.ht _ q1233) (fun _ h => h) rfl hdg k
theorem mp_status (E : mE p m c cc nL s args G cI cZ meth ret) (hR : mR G cI cZ o σ H) (hS : va_S (mA o) s.heap H locs) {x : Int32} (hdg : decode cc pc = .ok (.putfield 50, 3)) (k : ∀ (H : Heap) (locs : List Loc), mR G cI cZ o (up2 σ 0 3 x) H → va_S (mA o) s.heap H locs → W p l e R s m args below meth c H locs cells slots Q (F0 m (pc + 3) ls rest)) : W p l e R s m args below meth c H locs cells slots Q (F0 m pc ls (.int x :: .ref o :: rest)) :=
  va_put E.hx E.hb E.ht in_X9 tyX9 tyX9_ok nmX9 E.ho E.hK hR mD hS 0 rfl rfl 3 (by decide) (E.ht _ q1233) (fun _ h => h) rfl (ty := .int) rfl rfl rfl (Nat.le_of_ble_eq_true rfl) hdg (fun H1 l1 hP _ hS1 => k H1 l1 hP hS1)
theorem mg_isThere (E : mE p m c cc nL s args G cI cZ meth ret) (hR : mR G cI cZ o σ H) (hdg : decode cc pc = .ok (.getfield 135, 3)) (k : W p l e R s m args below meth c H locs cells slots Q (F0 m (pc + 3) ls (.int (σ 0 4) :: rest))) : W p l e R s m args below meth c H locs cells slots Q (F0 m pc ls (.ref o :: rest)) :=
  va_get E.hx E.hb E.ht in_X9 E.ho E.hK hR 0 rfl rfl 4 (by decide) (E.ht _ q1234) (fun _ h => h) rfl hdg k
theorem mp_isThere (E : mE p m c cc nL s args G cI cZ meth ret) (hR : mR G cI cZ o σ H) (hS : va_S (mA o) s.heap H locs) (hdg : decode cc pc = .ok (.putfield 135, 3)) (k : ∀ (H : Heap) (locs : List Loc), mR G cI cZ o (up2 σ 0 4 1) H → va_S (mA o) s.heap H locs → W p l e R s m args below meth c H locs cells slots Q (F0 m (pc + 3) ls rest)) : W p l e R s m args below meth c H locs cells slots Q (F0 m pc ls (.int 1 :: .ref o :: rest)) :=
  va_put E.hx E.hb E.ht in_X9 tyX9 tyX9_ok nmX9 E.ho E.hK hR mD hS 0 rfl rfl 4 (by decide) (E.ht _ q1234) (fun _ h => h) rfl (ty := .boolean) rfl rfl rfl (Nat.le_of_ble_eq_true rfl) hdg (fun H1 l1 hP _ hS1 => k H1 l1 hP hS1)
theorem mg_bytes (E : mE p m c cc nL s args G cI cZ meth ret) (hR : mR G cI cZ o σ H) (hdg : decode cc pc = .ok (.getfield 81, 3)) (k : W p l e R s m args below meth c H locs cells slots Q (F0 m (pc + 3) ls (.int (σ 0 8) :: rest))) : W p l e R s m args below meth c H locs cells slots Q (F0 m pc ls (.ref o :: rest)) :=
  va_get E.hx E.hb E.ht in_X9 E.ho E.hK hR 0 rfl rfl 8 (by decide) (E.ht _ q1238) (fun _ h => h) rfl hdg k
theorem mp_bytes (E : mE p m c cc nL s args G cI cZ meth ret) (hR : mR G cI cZ o σ H) (hS : va_S (mA o) s.heap H locs) {x : Int32} (hdg : decode cc pc = .ok (.putfield 81, 3)) (k : ∀ (H : Heap) (locs : List Loc), mR G cI cZ o (up2 σ 0 8 x) H → va_S (mA o) s.heap H locs → W p l e R s m args below meth c H locs cells slots Q (F0 m (pc + 3) ls rest)) : W p l e R s m args below meth c H locs cells slots Q (F0 m pc ls (.int x :: .ref o :: rest)) :=
  va_put E.hx E.hb E.ht in_X9 tyX9 tyX9_ok nmX9 E.ho E.hK hR mD hS 0 rfl rfl 8 (by decide) (E.ht _ q1238) (fun _ h => h) rfl (ty := .int) rfl rfl rfl (Nat.le_of_ble_eq_true rfl) hdg (fun H1 l1 hP _ hS1 => k H1 l1 hP hS1)
theorem mg_latest (E : mE p m c cc nL s args G cI cZ meth ret) (hR : mR G cI cZ o σ H) (hdg : decode cc pc = .ok (.getfield 131, 3)) (k : W p l e R s m args below meth c H locs cells slots Q (F0 m (pc + 3) ls (.int (σ 0 9) :: rest))) : W p l e R s m args below meth c H locs cells slots Q (F0 m pc ls (.ref o :: rest)) :=
  va_get E.hx E.hb E.ht in_X9 E.ho E.hK hR 0 rfl rfl 9 (by decide) (E.ht _ q1239) (fun _ h => h) rfl hdg k
theorem mp_latest (E : mE p m c cc nL s args G cI cZ meth ret) (hR : mR G cI cZ o σ H) (hS : va_S (mA o) s.heap H locs) {x : Int32} (hdg : decode cc pc = .ok (.putfield 131, 3)) (k : ∀ (H : Heap) (locs : List Loc), mR G cI cZ o (up2 σ 0 9 x) H → va_S (mA o) s.heap H locs → W p l e R s m args below meth c H locs cells slots Q (F0 m (pc + 3) ls rest)) : W p l e R s m args below meth c H locs cells slots Q (F0 m pc ls (.int x :: .ref o :: rest)) :=
  va_put E.hx E.hb E.ht in_X9 tyX9 tyX9_ok nmX9 E.ho E.hK hR mD hS 0 rfl rfl 9 (by decide) (E.ht _ q1239) (fun _ h => h) rfl (ty := .int) rfl rfl rfl (Nat.le_of_ble_eq_true rfl) hdg (fun H1 l1 hP _ hS1 => k H1 l1 hP hS1)
theorem mg_place (E : mE p m c cc nL s args G cI cZ meth ret) (hR : mR G cI cZ o σ H) (hdg : decode cc pc = .ok (.getfield 85, 3)) (k : W p l e R s m args below meth c H locs cells slots Q (F0 m (pc + 3) ls (.int (σ 0 10) :: rest))) : W p l e R s m args below meth c H locs cells slots Q (F0 m pc ls (.ref o :: rest)) :=
  va_get E.hx E.hb E.ht in_X9 E.ho E.hK hR 0 rfl rfl 10 (by decide) (E.ht _ q1240) (fun _ h => h) rfl hdg k
theorem mp_place (E : mE p m c cc nL s args G cI cZ meth ret) (hR : mR G cI cZ o σ H) (hS : va_S (mA o) s.heap H locs) {x : Int32} (hdg : decode cc pc = .ok (.putfield 85, 3)) (k : ∀ (H : Heap) (locs : List Loc), mR G cI cZ o (up2 σ 0 10 x) H → va_S (mA o) s.heap H locs → W p l e R s m args below meth c H locs cells slots Q (F0 m (pc + 3) ls rest)) : W p l e R s m args below meth c H locs cells slots Q (F0 m pc ls (.int x :: .ref o :: rest)) :=
  va_put E.hx E.hb E.ht in_X9 tyX9 tyX9_ok nmX9 E.ho E.hK hR mD hS 0 rfl rfl 10 (by decide) (E.ht _ q1240) (fun _ h => h) rfl (ty := .int) rfl rfl rfl (Nat.le_of_ble_eq_true rfl) hdg (fun H1 l1 hP _ hS1 => k H1 l1 hP hS1)
theorem mg_token (E : mE p m c cc nL s args G cI cZ meth ret) (hR : mR G cI cZ o σ H) (hdg : decode cc pc = .ok (.getfield 91, 3)) (k : W p l e R s m args below meth c H locs cells slots Q (F0 m (pc + 3) ls (.int (σ 0 11) :: rest))) : W p l e R s m args below meth c H locs cells slots Q (F0 m pc ls (.ref o :: rest)) :=
  va_get E.hx E.hb E.ht in_X9 E.ho E.hK hR 0 rfl rfl 11 (by decide) (E.ht _ q1241) (fun _ h => h) rfl hdg k
theorem mp_token (E : mE p m c cc nL s args G cI cZ meth ret) (hR : mR G cI cZ o σ H) (hS : va_S (mA o) s.heap H locs) {x : Int32} (hdg : decode cc pc = .ok (.putfield 91, 3)) (k : ∀ (H : Heap) (locs : List Loc), mR G cI cZ o (up2 σ 0 11 x) H → va_S (mA o) s.heap H locs → W p l e R s m args below meth c H locs cells slots Q (F0 m (pc + 3) ls rest)) : W p l e R s m args below meth c H locs cells slots Q (F0 m pc ls (.int x :: .ref o :: rest)) :=
  va_put E.hx E.hb E.ht in_X9 tyX9 tyX9_ok nmX9 E.ho E.hK hR mD hS 0 rfl rfl 11 (by decide) (E.ht _ q1241) (fun _ h => h) rfl (ty := .int) rfl rfl rfl (Nat.le_of_ble_eq_true rfl) hdg (fun H1 l1 hP _ hS1 => k H1 l1 hP hS1)
theorem mg_value (E : mE p m c cc nL s args G cI cZ meth ret) (hR : mR G cI cZ o σ H) (hdg : decode cc pc = .ok (.getfield 94, 3)) (k : W p l e R s m args below meth c H locs cells slots Q (F0 m (pc + 3) ls (.int (σ 0 12) :: rest))) : W p l e R s m args below meth c H locs cells slots Q (F0 m pc ls (.ref o :: rest)) :=
  va_get E.hx E.hb E.ht in_X9 E.ho E.hK hR 0 rfl rfl 12 (by decide) (E.ht _ q1242) (fun _ h => h) rfl hdg k
theorem mp_value (E : mE p m c cc nL s args G cI cZ meth ret) (hR : mR G cI cZ o σ H) (hS : va_S (mA o) s.heap H locs) {x : Int32} (hdg : decode cc pc = .ok (.putfield 94, 3)) (k : ∀ (H : Heap) (locs : List Loc), mR G cI cZ o (up2 σ 0 12 x) H → va_S (mA o) s.heap H locs → W p l e R s m args below meth c H locs cells slots Q (F0 m (pc + 3) ls rest)) : W p l e R s m args below meth c H locs cells slots Q (F0 m pc ls (.int x :: .ref o :: rest)) :=
  va_put E.hx E.hb E.ht in_X9 tyX9 tyX9_ok nmX9 E.ho E.hK hR mD hS 0 rfl rfl 12 (by decide) (E.ht _ q1242) (fun _ h => h) rfl (ty := .int) rfl rfl rfl (Nat.le_of_ble_eq_true rfl) hdg (fun H1 l1 hP _ hS1 => k H1 l1 hP hS1)
theorem mg_begins (E : mE p m c cc nL s args G cI cZ meth ret) (hR : mR G cI cZ o σ H) (hdg : decode cc pc = .ok (.getfield 88, 3)) (k : W p l e R s m args below meth c H locs cells slots Q (F0 m (pc + 3) ls (.int (σ 0 13) :: rest))) : W p l e R s m args below meth c H locs cells slots Q (F0 m pc ls (.ref o :: rest)) :=
  va_get E.hx E.hb E.ht in_X9 E.ho E.hK hR 0 rfl rfl 13 (by decide) (E.ht _ q1243) (fun _ h => h) rfl hdg k
theorem mp_begins (E : mE p m c cc nL s args G cI cZ meth ret) (hR : mR G cI cZ o σ H) (hS : va_S (mA o) s.heap H locs) {x : Int32} (hdg : decode cc pc = .ok (.putfield 88, 3)) (k : ∀ (H : Heap) (locs : List Loc), mR G cI cZ o (up2 σ 0 13 x) H → va_S (mA o) s.heap H locs → W p l e R s m args below meth c H locs cells slots Q (F0 m (pc + 3) ls rest)) : W p l e R s m args below meth c H locs cells slots Q (F0 m pc ls (.int x :: .ref o :: rest)) :=
  va_put E.hx E.hb E.ht in_X9 tyX9 tyX9_ok nmX9 E.ho E.hK hR mD hS 0 rfl rfl 13 (by decide) (E.ht _ q1243) (fun _ h => h) rfl (ty := .int) rfl rfl rfl (Nat.le_of_ble_eq_true rfl) hdg (fun H1 l1 hP _ hS1 => k H1 l1 hP hS1)
theorem mg_wrong (E : mE p m c cc nL s args G cI cZ meth ret) (hR : mR G cI cZ o σ H) (hdg : decode cc pc = .ok (.getfield 105, 3)) (k : W p l e R s m args below meth c H locs cells slots Q (F0 m (pc + 3) ls (.int (σ 0 14) :: rest))) : W p l e R s m args below meth c H locs cells slots Q (F0 m pc ls (.ref o :: rest)) :=
  va_get E.hx E.hb E.ht in_X9 E.ho E.hK hR 0 rfl rfl 14 (by decide) (E.ht _ q1244) (fun _ h => h) rfl hdg k
theorem mp_wrong (E : mE p m c cc nL s args G cI cZ meth ret) (hR : mR G cI cZ o σ H) (hS : va_S (mA o) s.heap H locs) {x : Int32} (hdg : decode cc pc = .ok (.putfield 105, 3)) (k : ∀ (H : Heap) (locs : List Loc), mR G cI cZ o (up2 σ 0 14 x) H → va_S (mA o) s.heap H locs → W p l e R s m args below meth c H locs cells slots Q (F0 m (pc + 3) ls rest)) : W p l e R s m args below meth c H locs cells slots Q (F0 m pc ls (.int x :: .ref o :: rest)) :=
  va_put E.hx E.hb E.ht in_X9 tyX9 tyX9_ok nmX9 E.ho E.hK hR mD hS 0 rfl rfl 14 (by decide) (E.ht _ q1244) (fun _ h => h) rfl (ty := .int) rfl rfl rfl (Nat.le_of_ble_eq_true rfl) hdg (fun H1 l1 hP _ hS1 => k H1 l1 hP hS1)
theorem mg_caughtNow (E : mE p m c cc nL s args G cI cZ meth ret) (hR : mR G cI cZ o σ H) (hdg : decode cc pc = .ok (.getfield 156, 3)) (k : W p l e R s m args below meth c H locs cells slots Q (F0 m (pc + 3) ls (.int (σ 0 17) :: rest))) : W p l e R s m args below meth c H locs cells slots Q (F0 m pc ls (.ref o :: rest)) :=
  va_get E.hx E.hb E.ht in_X9 E.ho E.hK hR 0 rfl rfl 17 (by decide) (E.ht _ q1247) (fun _ h => h) rfl hdg k
theorem mp_caughtNow (E : mE p m c cc nL s args G cI cZ meth ret) (hR : mR G cI cZ o σ H) (hS : va_S (mA o) s.heap H locs) {x : Int32} (hdg : decode cc pc = .ok (.putfield 156, 3)) (k : ∀ (H : Heap) (locs : List Loc), mR G cI cZ o (up2 σ 0 17 x) H → va_S (mA o) s.heap H locs → W p l e R s m args below meth c H locs cells slots Q (F0 m (pc + 3) ls rest)) : W p l e R s m args below meth c H locs cells slots Q (F0 m pc ls (.int x :: .ref o :: rest)) :=
  va_put E.hx E.hb E.ht in_X9 tyX9 tyX9_ok nmX9 E.ho E.hK hR mD hS 0 rfl rfl 17 (by decide) (E.ht _ q1247) (fun _ h => h) rfl (ty := .int) rfl rfl rfl (Nat.le_of_ble_eq_true rfl) hdg (fun H1 l1 hP _ hS1 => k H1 l1 hP hS1)
theorem mg_actMany (E : mE p m c cc nL s args G cI cZ meth ret) (hR : mR G cI cZ o σ H) (hdg : decode cc pc = .ok (.getfield 139, 3)) (k : W p l e R s m args below meth c H locs cells slots Q (F0 m (pc + 3) ls (.int (σ 0 19) :: rest))) : W p l e R s m args below meth c H locs cells slots Q (F0 m pc ls (.ref o :: rest)) :=
  va_get E.hx E.hb E.ht in_X9 E.ho E.hK hR 0 rfl rfl 19 (by decide) (E.ht _ q1249) (fun _ h => h) rfl hdg k
theorem mp_actMany (E : mE p m c cc nL s args G cI cZ meth ret) (hR : mR G cI cZ o σ H) (hS : va_S (mA o) s.heap H locs) {x : Int32} (hdg : decode cc pc = .ok (.putfield 139, 3)) (k : ∀ (H : Heap) (locs : List Loc), mR G cI cZ o (up2 σ 0 19 x) H → va_S (mA o) s.heap H locs → W p l e R s m args below meth c H locs cells slots Q (F0 m (pc + 3) ls rest)) : W p l e R s m args below meth c H locs cells slots Q (F0 m pc ls (.int x :: .ref o :: rest)) :=
  va_put E.hx E.hb E.ht in_X9 tyX9 tyX9_ok nmX9 E.ho E.hK hR mD hS 0 rfl rfl 19 (by decide) (E.ht _ q1249) (fun _ h => h) rfl (ty := .int) rfl rfl rfl (Nat.le_of_ble_eq_true rfl) hdg (fun H1 l1 hP _ hS1 => k H1 l1 hP hS1)
theorem mg_traced (E : mE p m c cc nL s args G cI cZ meth ret) (hR : mR G cI cZ o σ H) (hdg : decode cc pc = .ok (.getfield 248, 3)) (k : W p l e R s m args below meth c H locs cells slots Q (F0 m (pc + 3) ls (.int (σ 0 24) :: rest))) : W p l e R s m args below meth c H locs cells slots Q (F0 m pc ls (.ref o :: rest)) :=
  va_get E.hx E.hb E.ht in_X9 E.ho E.hK hR 0 rfl rfl 24 (by decide) (E.ht _ q1254) (fun _ h => h) rfl hdg k
theorem mp_traced (E : mE p m c cc nL s args G cI cZ meth ret) (hR : mR G cI cZ o σ H) (hS : va_S (mA o) s.heap H locs) {x : Int32} (hdg : decode cc pc = .ok (.putfield 248, 3)) (k : ∀ (H : Heap) (locs : List Loc), mR G cI cZ o (up2 σ 0 24 x) H → va_S (mA o) s.heap H locs → W p l e R s m args below meth c H locs cells slots Q (F0 m (pc + 3) ls rest)) : W p l e R s m args below meth c H locs cells slots Q (F0 m pc ls (.int x :: .ref o :: rest)) :=
  va_put E.hx E.hb E.ht in_X9 tyX9 tyX9_ok nmX9 E.ho E.hK hR mD hS 0 rfl rfl 24 (by decide) (E.ht _ q1254) (fun _ h => h) rfl (ty := .int) rfl rfl rfl (Nat.le_of_ble_eq_true rfl) hdg (fun H1 l1 hP _ hS1 => k H1 l1 hP hS1)
/-- ends -/
theorem mret_i {r : Int32} (E : mE p m c cc nL s args G cI cZ meth (some .int)) (hR : mR G cI cZ o σ H) (hS : va_S (mA o) s.heap H locs) (hdg : decode cc pc = .ok (.ireturn, 1)) : W p l e R s m args below meth c H locs 0 0 (MQ below (mQi G cI cZ o r σ) args s 0 0 (mA o)) (F0 m pc ls [.int r]) := by
  have hk := E.hk
  exact W.iret E.hx E.hb E.hr (fun t ht hW => ⟨⟨r, (), rfl, rfl, by subst ht; exact hR⟩, hS.F ht⟩) hS.2.2 hdg
theorem mret_z {r : Int32} (E : mE p m c cc nL s args G cI cZ meth (some .boolean)) (hn : narrow .boolean (.int r) = .int r) (hR : mR G cI cZ o σ H) (hS : va_S (mA o) s.heap H locs) (hdg : decode cc pc = .ok (.ireturn, 1)) : W p l e R s m args below meth c H locs 0 0 (MQ below (mQi G cI cZ o r σ) args s 0 0 (mA o)) (F0 m pc ls [.int r]) := by
  have hk := E.hk
  exact W.zret E.hx E.hb E.hr hn (fun t ht hW => ⟨⟨r, (), rfl, rfl, by subst ht; exact hR⟩, hS.F ht⟩) hS.2.2 hdg
theorem mret_l {r : Int64} (E : mE p m c cc nL s args G cI cZ meth (some .long)) (hR : mR G cI cZ o σ H) (hS : va_S (mA o) s.heap H locs) (hdg : decode cc pc = .ok (.lreturn, 1)) : W p l e R s m args below meth c H locs 0 0 (MQ below (mQl G cI cZ o r σ) args s 0 0 (mA o)) (F0 m pc ls [.long r]) := by
  have hk := E.hk
  exact W.lret E.hx E.hb E.hr (fun t ht hW => ⟨⟨r, (), rfl, rfl, by subst ht; exact hR⟩, hS.F ht⟩) hS.2.2 hdg
theorem mret_v (E : mE p m c cc nL s args G cI cZ meth none) (hR : mR G cI cZ o σ H) (hS : va_S (mA o) s.heap H locs) (hdg : decode cc pc = .ok (.return_, 1)) : W p l e R s m args below meth c H locs 0 0 (MQ below (mQv G cI cZ o σ) args s 0 0 (mA o)) (F0 m pc ls []) := by
  have hk := E.hk
  exact W.vret E.hx E.hb E.hr (fun t ht hW => ⟨⟨(), rfl, trivial, by subst ht; exact hR⟩, hS.F ht⟩) hS.2.2 hdg
/-- calls -/
theorem mBlind {av : List Value} : FrameBlind (mPc G cI cZ o σ av) := fun a U g mk q => by
  obtain ⟨q0, qP, qK⟩ := q
  exact ⟨q0, qP, va_K.moved (u := U) (U := U.calling g mk a) (Vm.Alike.refl U.vm) qK⟩
theorem mPreV {As : List Value} (E : mE p m c cc nL s args G cI cZ meth ret) (hR : mR G cI cZ o σ H) : PreV s H RX9 o (mPc G cI cZ o σ (.ref o :: As)) As :=
  ⟨mBlind, va_recv (q := (RX9, TX9, 25)) E.hK hR (ci := 0) (q0 := 0) rfl rfl, fun U hU hW => ⟨rfl, by rw [hU]; exact hR, va_K.moved hW.alike E.hK⟩⟩
variable {y : MethodName} {bytes : ByteArray} {maxL n index : Nat} {ret2 : Option FieldType} {ws : List Cond} {rm : Room} {As : List Value} {st0 : List Value}
theorem mcall_i {r : Int32} (E : mE p m c cc nL s args G cI cZ meth ret) (hR : mR G cI cZ o σ H) (hS : va_S (mA o) s.heap H locs) (hM : Met l y ws rm (mPc G cI cZ o σ (.ref o :: As)) (mQi G cI cZ o r σ') 0 0 (mA o)) (cw : CallW R s args RX9 RX9 index y bytes maxL ret2 ws rm 0 0 n) (hn : As.length = n) (hsize : ls.size = nL) (hstack : st0 = As.reverse ++ .ref o :: rest) (hW : (rest.map fun v => v.category).sum ≤ 8) (hdg : decode cc pc = .ok (.invokevirtual index, 3)) (hf : cells ≤ R.cells ∧ slots ≤ R.slots)
    (k : ∀ (H : Heap) (locs : List Loc), mR G cI cZ o σ' H → va_S (mA o) s.heap H locs → W p l e R s m args below meth c H locs cells slots Q (F0 m (pc + 3) ls (.int r :: rest))) : W p l e R s m args below meth c H locs cells slots Q (F0 m pc ls st0) :=
  va_calli (va_runV (As := As) (rest := rest) E.1 hM cw (mPreV E hR) rfl hn hsize hstack (lv_room (m := m) (pc := pc) (ls := ls) (rest := rest) hW) hdg hf) hS (fun q _ h => h) (fun q h => h) (fun r1 u t H1 locs1 ht hvm hp hB hz hk hS1 => by
    subst ht
    rw [hp]
    exact k _ _ hB hS1)
theorem mcall_l {r : Int64} (E : mE p m c cc nL s args G cI cZ meth ret) (hR : mR G cI cZ o σ H) (hS : va_S (mA o) s.heap H locs) (hM : Met l y ws rm (mPc G cI cZ o σ (.ref o :: As)) (mQl G cI cZ o r σ') 0 0 (mA o)) (cw : CallW R s args RX9 RX9 index y bytes maxL ret2 ws rm 0 0 n) (hn : As.length = n) (hsize : ls.size = nL) (hstack : st0 = As.reverse ++ .ref o :: rest) (hW : (rest.map fun v => v.category).sum ≤ 8) (hdg : decode cc pc = .ok (.invokevirtual index, 3)) (hf : cells ≤ R.cells ∧ slots ≤ R.slots)
    (k : ∀ (H : Heap) (locs : List Loc), mR G cI cZ o σ' H → va_S (mA o) s.heap H locs → W p l e R s m args below meth c H locs cells slots Q (F0 m (pc + 3) ls (.long r :: rest))) : W p l e R s m args below meth c H locs cells slots Q (F0 m pc ls st0) :=
  va_calll (va_runV (As := As) (rest := rest) E.1 hM cw (mPreV E hR) rfl hn hsize hstack (lv_room (m := m) (pc := pc) (ls := ls) (rest := rest) hW) hdg hf) hS (fun q _ h => h) (fun q h => h) (fun r1 u t H1 locs1 ht hvm hp hB hz hk hS1 => by
    subst ht
    rw [hp]
    exact k _ _ hB hS1)
theorem mcall_v (E : mE p m c cc nL s args G cI cZ meth ret) (hR : mR G cI cZ o σ H) (hS : va_S (mA o) s.heap H locs) (hM : Met l y ws rm (mPc G cI cZ o σ (.ref o :: As)) (mQv G cI cZ o σ') 0 0 (mA o)) (cw : CallW R s args RX9 RX9 index y bytes maxL ret2 ws rm 0 0 n) (hn : As.length = n) (hsize : ls.size = nL) (hstack : st0 = As.reverse ++ .ref o :: rest) (hW : (rest.map fun v => v.category).sum ≤ 8) (hdg : decode cc pc = .ok (.invokevirtual index, 3)) (hf : cells ≤ R.cells ∧ slots ≤ R.slots)
    (k : ∀ (H : Heap) (locs : List Loc), mR G cI cZ o σ' H → va_S (mA o) s.heap H locs → W p l e R s m args below meth c H locs cells slots Q (F0 m (pc + 3) ls rest)) : W p l e R s m args below meth c H locs cells slots Q (F0 m pc ls st0) :=
  va_callv (va_runV (As := As) (rest := rest) E.1 hM cw (mPreV E hR) rfl hn hsize hstack (lv_room (m := m) (pc := pc) (ls := ls) (rest := rest) hW) hdg hf) hS (fun q _ h => h) (fun q h => h) (fun u t H1 locs1 ht hvm hp hB hz hk hS1 => by
    subst ht
    exact k _ _ hB hS1)
end MB
/-- static methods, without a world -/
def sE (p : Program) (m : MethodId) (c : Code) (cc : ByteArray) (nL : Nat) (s : State) (args : Array Value) (own : String) (meth : Method) (ret : Option FieldType) : Prop := CallFix p m c cc nL s args lw_all own ∧ meth.sig.returnType = ret ∧ meth.locks = false
abbrev sPc (av : List Value) : Array Value → State → Prop := va_Pc av (fun _ => True)
abbrev sQi (r : Int32) : Array Value → State → Outcome → State → Prop := vp_Si (fun x => x = r)
abbrev sQl (r : Int64) : Array Value → State → Outcome → State → Prop := vp_Sl (fun x => x = r)
section SB
variable {p : Program} {l : Launch} {e : Env} {R : Room} {s : State} {m : MethodId} {args : Array Value} {below : List Frame} {meth : Method} {c : Code} {H : Heap} {locs : List Loc} {cells slots : Nat} {Q : State → Prop} {cc : ByteArray} {pc nL : Nat} {ls : Array Slot} {rest : List Value} {ret : Option FieldType} {own : String}
theorem sE.hx (E : sE p m c cc nL s args own meth ret) : p.tables.exec = Jvm.exec := E.1.1
theorem sE.hb (E : sE p m c cc nL s args own meth ret) : c.code = cc := E.1.2.1
theorem sE.ho (E : sE p m c cc nL s args own meth ret) : s.vm.findClass own = some m.cls := E.1.2.2.2.1
theorem sE.ht (E : sE p m c cc nL s args own meth ret) : ∀ w ∈ lw_all, w.before args s = true := E.1.2.2.2.2
theorem sE.hr (E : sE p m c cc nL s args own meth ret) : meth.sig.returnType = ret := E.2.1
theorem sE.hk (E : sE p m c cc nL s args own meth ret) : meth.locks = false := E.2.2
theorem sret_i {r : Int32} (E : sE p m c cc nL s args own meth (some .int)) (hdg : decode cc pc = .ok (.ireturn, 1)) : W p l e R s m args below meth c s.heap [] 0 0 (MQ below (sQi r) args s 0 0 (fun _ => False)) (F0 m pc ls [.int r]) := by
  have hk := E.hk
  exact W.iret E.hx E.hb E.hr (fun t ht hW => ⟨r, rfl, rfl, ht⟩) (fun q h => by cases h) hdg
theorem sret_z {r : Int32} (E : sE p m c cc nL s args own meth (some .boolean)) (hn : narrow .boolean (.int r) = .int r) (hdg : decode cc pc = .ok (.ireturn, 1)) : W p l e R s m args below meth c s.heap [] 0 0 (MQ below (sQi r) args s 0 0 (fun _ => False)) (F0 m pc ls [.int r]) := by
  have hk := E.hk
  exact W.zret E.hx E.hb E.hr hn (fun t ht hW => ⟨r, rfl, rfl, ht⟩) (fun q h => by cases h) hdg
theorem sret_l {r : Int64} (E : sE p m c cc nL s args own meth (some .long)) (hdg : decode cc pc = .ok (.lreturn, 1)) : W p l e R s m args below meth c s.heap [] 0 0 (MQ below (sQl r) args s 0 0 (fun _ => False)) (F0 m pc ls [.long r]) := by
  have hk := E.hk
  exact W.lret E.hx E.hb E.hr (fun t ht hW => ⟨r, rfl, rfl, ht⟩) (fun q h => by cases h) hdg
variable {y : MethodName} {bytes : ByteArray} {maxL n index : Nat} {ret2 : Option FieldType} {ws : List Cond} {rm : Room} {As : List Value} {st0 : List Value}
theorem scall_i {r : Int32} (E : CallFix p m c cc nL s args lw_all own) (hM : Met l y ws rm (sPc As) (sQi r) 0 0 (fun _ => False)) (cw : CallB R s args own index y bytes maxL ret2 ws rm 0 0 n ∧ (Cond.static y).before args s = true) (hn : As.length = n) (hsize : ls.size = nL) (hstack : st0 = As.reverse ++ rest) (hW : (rest.map fun v => v.category).sum ≤ 8) (hdg : decode cc pc = .ok (.invokestatic index, 3)) (hf : cells ≤ R.cells ∧ slots ≤ R.slots)
    (k : W p l e R s m args below meth c H locs cells slots Q (F0 m (pc + 3) ls (.int r :: rest))) : W p l e R s m args below meth c H locs cells slots Q (F0 m pc ls st0) := by
  have hr := va_runS (e := e) (below := below) (meth := meth) (H := H) (locs := locs) (cells := cells) (slots := slots) (g := F0 m pc ls st0) (As := As) (rest := rest) E hM cw ⟨fun a U g mk q => q, fun U hU hW => ⟨rfl, trivial⟩⟩ rfl hn hsize hstack (lv_room (m := m) (pc := pc) (ls := ls) (rest := rest) hW) hdg hf
  intro T hT X
  obtain ⟨v, st₀, t, T', L, h0, X', hL, e1, e2, ⟨r1, hv, hp, hh⟩, st⟩ := hr T hT X
  cases hv
  have hLe : L = [] := by
    cases L with
    | nil => rfl
    | cons a L => exact (hL a List.mem_cons_self).elim
  subst hLe
  rw [List.append_nil] at X'
  obtain ⟨t2, a1, b1⟩ := k T' (by rw [e1, hh, h0]) X'
  rw [← hp] at a1
  exact ⟨t2, st t2 a1, b1⟩
theorem scall_l {r : Int64} (E : CallFix p m c cc nL s args lw_all own) (hM : Met l y ws rm (sPc As) (sQl r) 0 0 (fun _ => False)) (cw : CallB R s args own index y bytes maxL ret2 ws rm 0 0 n ∧ (Cond.static y).before args s = true) (hn : As.length = n) (hsize : ls.size = nL) (hstack : st0 = As.reverse ++ rest) (hW : (rest.map fun v => v.category).sum ≤ 8) (hdg : decode cc pc = .ok (.invokestatic index, 3)) (hf : cells ≤ R.cells ∧ slots ≤ R.slots)
    (k : W p l e R s m args below meth c H locs cells slots Q (F0 m (pc + 3) ls (.long r :: rest))) : W p l e R s m args below meth c H locs cells slots Q (F0 m pc ls st0) := by
  have hr := va_runS (e := e) (below := below) (meth := meth) (H := H) (locs := locs) (cells := cells) (slots := slots) (g := F0 m pc ls st0) (As := As) (rest := rest) E hM cw ⟨fun a U g mk q => q, fun U hU hW => ⟨rfl, trivial⟩⟩ rfl hn hsize hstack (lv_room (m := m) (pc := pc) (ls := ls) (rest := rest) hW) hdg hf
  intro T hT X
  obtain ⟨v, st₀, t, T', L, h0, X', hL, e1, e2, ⟨r1, hv, hp, hh⟩, st⟩ := hr T hT X
  cases hv
  have hLe : L = [] := by
    cases L with
    | nil => rfl
    | cons a L => exact (hL a List.mem_cons_self).elim
  subst hLe
  rw [List.append_nil] at X'
  obtain ⟨t2, a1, b1⟩ := k T' (by rw [e1, hh, h0]) X'
  rw [← hp] at a1
  exact ⟨t2, st t2 a1, b1⟩
end SB
