/-! the component's world: an abstract heap X = (next address, cells by address); a cell: an object (number of its class, fields), an int array (kind, length, contents), an array of references -/
set_option maxRecDepth 100000
abbrev XC : Type := (Nat × List Value) ⊕ ((Nat × Nat × (Nat → Int32)) ⊕ (Nat × Nat × (Nat → Option Nat)))
abbrev AH : Type := Nat × (Nat × Option Nat × Option Nat × Nat × Nat) × (Nat → Option XC)
abbrev XZ : Type := List (String × String × String × Value) × Nat × Nat
abbrev xCl : List vw_C := [(RX0, TX0, 12), (RX1, TX1, 13), (RX2, TX2, 2), (RJ7, TJ7, 6), (RX4, TX4, 1), (RX5, TX5, 1), (RX6, TX6, 1), (RX7, TX7, 1), (RX8, TX8, 1), (RJ2, TJ2, 3), (RX10, TX10, 7), (RX11, TX11, 2), (RX12, TX12, 7), (RX13, TX13, 8), (RJ17, TJ17, 6), (RX9, TX9, 25)]
abbrev xTy (cA : Nat → ClassId) : List (ClassId × FieldType) := [(cA 0, .int), (cA 1, .byte), (cA 2, .object "ChairRanks$Row"), (cA 3, .object "ChairRanks$Ministry"), (cA 4, .object "ChairRanks$Chair"), (cA 5, .object "java/lang/Object"), (cA 6, .boolean)]
def xc (cA : Nat → ClassId) (e : XC) : va_E := match e with
  | .inl o => .inr o
  | .inr (.inl (k, n, f)) => .inl (cA k, n, .inl f)
  | .inr (.inr (k, n, f)) => .inl (cA k, n, .inr (.inr (.inr (.inr f))))
def xR (D : va_G) (cA : Nat → ClassId) (A : Nat → Prop) (Zs : XZ) (X : AH) (H : Heap) : Prop :=
  H.size = X.1 ∧ ("java/util/ArrayList", "DEFAULTCAPACITY_EMPTY_ELEMENTDATA", "[Ljava/lang/Object;", Value.ref X.2.1.1) ∈ Zs.1 ∧ ("java/lang/Throwable", "UNASSIGNED_STACK", "[Ljava/lang/StackTraceElement;", va_rf X.2.1.2.1) ∈ Zs.1 ∧ ("java/lang/Throwable", "SUPPRESSED_SENTINEL", "Ljava/util/List;", va_rf X.2.1.2.2.1) ∈ Zs.1 ∧ X.2.1.2.2.2 = Zs.2 ∧ (∀ q, X.1 ≤ q → A q) ∧ ∀ (a : Nat) (e : XC), X.2.2 a = some e → va_at D xCl (a, xc cA e) H ∧ (A a ∨ ∃ k f, e = .inr (.inr (k, 0, f)))
def xup (X : AH) (a : Nat) (e : XC) : AH := (X.1, X.2.1, va_up X.2.2 a (some e))
def xnw (X : AH) (e : XC) : AH := (X.1 + 1, X.2.1, va_up X.2.2 X.1 (some e))
section XR
variable {D : va_G} {cA : Nat → ClassId} {A : Nat → Prop} {Zs : XZ} {X : AH} {H H1 : Heap} {a : Nat} {e : XC}
theorem xR.up (h : xR D cA A Zs X H) (z : H1.size = H.size) (o : ∀ q : Nat, q ≠ a → H1[q]? = H[q]?) (ha : A a) (hc : va_at D xCl (a, xc cA e) H1) : xR D cA A Zs (xup X a e) H1 := by
  refine ⟨z.trans h.1, h.2.1, h.2.2.1, h.2.2.2.1, h.2.2.2.2.1, h.2.2.2.2.2.1, fun b e' hb => ?_⟩
  by_cases q : b = a
  · subst q
    have : some e = some e' := by simpa [xup, va_up] using hb
    cases this
    exact ⟨hc, Or.inl ha⟩
  · have hb : X.2.2 b = some e' := by simpa [xup, va_up, q] using hb
    obtain ⟨h1, h2⟩ := h.2.2.2.2.2.2 b e' hb
    exact ⟨h1.kept (o b q), h2⟩
theorem xR.nw (h : xR D cA A Zs X H) (z : H1.size = H.size + 1) (o : ∀ q : Nat, q < H.size → H1[q]? = H[q]?) (hc : va_at D xCl (H.size, xc cA e) H1) : xR D cA A Zs (xnw X e) H1 := by
  have hz := h.1
  refine ⟨by rw [z, hz]; rfl, h.2.1, h.2.2.1, h.2.2.2.1, h.2.2.2.2.1, fun q hq => h.2.2.2.2.2.1 q (Nat.le_of_succ_le hq), fun b e' hb => ?_⟩
  by_cases q : b = X.1
  · subst q
    have : some e = some e' := by simpa [xnw, va_up] using hb
    cases this
    rw [hz] at hc
    exact ⟨hc, Or.inl (h.2.2.2.2.2.1 _ (Nat.le_refl _))⟩
  · have hb : X.2.2 b = some e' := by simpa [xnw, va_up, q] using hb
    obtain ⟨h1, h2⟩ := h.2.2.2.2.2.2 b e' hb
    exact ⟨h1.kept (o b h1.lt), h2⟩
theorem xR.one (h : xR D cA A Zs X H) (he : X.2.2 a = some e) : va_P D xCl [(a, xc cA e)] H := fun k q hk => by
  match k, hk with
  | 0, hk => cases hk; exact (h.2.2.2.2.2.2 a e he).1
  | k + 1, hk => simp at hk
theorem xR.inA {o : Nat × List Value} (h : xR D cA A Zs X H) (he : X.2.2 a = some (.inl o)) : A a := by
  rcases (h.2.2.2.2.2.2 a _ he).2 with h | ⟨k, f, h⟩
  · exact h
  · cases h
theorem xR.inAi {o : Nat × Nat × (Nat → Int32)} (h : xR D cA A Zs X H) (he : X.2.2 a = some (.inr (.inl o))) : A a := by
  rcases (h.2.2.2.2.2.2 a _ he).2 with h | ⟨k, f, h⟩
  · exact h
  · cases h
theorem xR.inAq {k n : Nat} {f : Nat → Option Nat} (h : xR D cA A Zs X H) (he : X.2.2 a = some (.inr (.inr (k, n, f)))) (hn : n ≠ 0) : A a := by
  rcases (h.2.2.2.2.2.2 a _ he).2 with h | ⟨k, f, h⟩
  · exact h
  · cases h; exact absurd rfl hn
theorem va_S.new {H0 : Heap} {locs : List Loc} (h : va_S A H0 H locs) (z : H1.size = H.size + 1) (o : ∀ q : Nat, q < H.size → H1[q]? = H[q]?) : va_S A H0 H1 locs :=
  ⟨by have := h.1; omega, fun q h1 h2 => (o q (Nat.lt_of_lt_of_le h1 h.1)).trans (h.2.1 q h1 h2), h.2.2⟩
end XR
/-! reading and writing the abstract heap -/
def gF (X : AH) (a ci k : Nat) : Option Value := match X.2.2 a with
  | some (.inl (c, fs)) => if c = ci then fs[k]? else none
  | _ => none
theorem gF_e {X : AH} {a ci k : Nat} {v : Value} (h : gF X a ci k = some v) : ∃ fs, X.2.2 a = some (.inl (ci, fs)) ∧ fs[k]? = some v := by
  unfold gF at h
  split at h
  · rename_i c fs e
    split at h
    · rename_i hc; subst hc; exact ⟨fs, e, h⟩
    · cases h
  · cases h
def gI (X : AH) (a ci k : Nat) : Option Int32 := match gF X a ci k with
  | some (.int v) => some v
  | _ => none
theorem gI_e {X : AH} {a ci k : Nat} {v : Int32} (h : gI X a ci k = some v) : ∃ fs, X.2.2 a = some (.inl (ci, fs)) ∧ fs[k]? = some (.int v) := by
  unfold gI at h
  split at h
  · rename_i w e; cases h; exact gF_e e
  · cases h
def gR (X : AH) (a ci k : Nat) : Option Nat := match gF X a ci k with
  | some (.ref v) => some v
  | _ => none
theorem gR_e {X : AH} {a ci k : Nat} {v : Nat} (h : gR X a ci k = some v) : ∃ fs, X.2.2 a = some (.inl (ci, fs)) ∧ fs[k]? = some (.ref v) := by
  unfold gR at h
  split at h
  · rename_i w e; cases h; exact gF_e e
  · cases h
def pF (X : AH) (a ci k : Nat) (v : Value) : Option AH := match X.2.2 a with
  | some (.inl (c, fs)) => if c = ci ∧ k < fs.length then some (xup X a (.inl (c, fs.set k v))) else none
  | _ => none
theorem pF_e {X X' : AH} {a ci k : Nat} {v : Value} (h : pF X a ci k v = some X') : ∃ fs, X.2.2 a = some (.inl (ci, fs)) ∧ k < fs.length ∧ xup X a (.inl (ci, fs.set k v)) = X' := by
  unfold pF at h
  split at h
  · rename_i c fs e
    split at h
    · rename_i hc; obtain ⟨rfl, hk⟩ := hc; exact ⟨fs, e, hk, Option.some.inj h⟩
    · cases h
  · cases h
/-- the length of an array -/
def gL (X : AH) (a kd : Nat) : Option Int32 := match X.2.2 a with
  | some (.inr (.inl (k, n, _))) => if k = kd then some (Int32.ofNat n) else none
  | some (.inr (.inr (k, n, _))) => if k = kd then some (Int32.ofNat n) else none
  | _ => none
theorem gL_e {X : AH} {a kd : Nat} {v : Int32} (h : gL X a kd = some v) : (∃ n f, X.2.2 a = some (.inr (.inl (kd, n, f))) ∧ Int32.ofNat n = v) ∨ (∃ n f, X.2.2 a = some (.inr (.inr (kd, n, f))) ∧ Int32.ofNat n = v) := by
  unfold gL at h
  split at h
  · rename_i k n f e
    split at h
    · rename_i hc; subst hc; exact Or.inl ⟨n, f, e, Option.some.inj h⟩
    · cases h
  · rename_i k n f e
    split at h
    · rename_i hc; subst hc; exact Or.inr ⟨n, f, e, Option.some.inj h⟩
    · cases h
  · cases h
def gA (X : AH) (a kd : Nat) (i : Int32) : Option Int32 := match X.2.2 a with
  | some (.inr (.inl (k, n, f))) => if k = kd then rd f n i else none
  | _ => none
theorem gA_e {X : AH} {a kd : Nat} {i v : Int32} (h : gA X a kd i = some v) : ∃ n f, X.2.2 a = some (.inr (.inl (kd, n, f))) ∧ vp_in i n ∧ f i.toNatClampNeg = v := by
  unfold gA at h
  split at h
  · rename_i k n f e
    split at h
    · rename_i hc; subst hc; exact ⟨n, f, e, rd_e h⟩
    · cases h
  · cases h
def pA (X : AH) (a kd : Nat) (i x : Int32) : Option AH := match X.2.2 a with
  | some (.inr (.inl (k, n, f))) => if k = kd ∧ ¬ (i < 0 ∨ n ≤ i.toNatClampNeg) then some (xup X a (.inr (.inl (k, n, upd f i.toNatClampNeg x)))) else none
  | _ => none
theorem pA_e {X X' : AH} {a kd : Nat} {i x : Int32} (h : pA X a kd i x = some X') : ∃ n f, X.2.2 a = some (.inr (.inl (kd, n, f))) ∧ vp_in i n ∧ xup X a (.inr (.inl (kd, n, upd f i.toNatClampNeg x))) = X' := by
  unfold pA at h
  split at h
  · rename_i k n f e
    split at h
    · rename_i hc; obtain ⟨rfl, hk⟩ := hc; exact ⟨n, f, e, hk, Option.some.inj h⟩
    · cases h
  · cases h
def gQ (X : AH) (a kd : Nat) (i : Int32) : Option (Option Nat) := match X.2.2 a with
  | some (.inr (.inr (k, n, f))) => if k = kd ∧ ¬ (i < 0 ∨ n ≤ i.toNatClampNeg) then some (f i.toNatClampNeg) else none
  | _ => none
theorem gQ_e {X : AH} {a kd : Nat} {i : Int32} {v : Option Nat} (h : gQ X a kd i = some v) : ∃ n f, X.2.2 a = some (.inr (.inr (kd, n, f))) ∧ vp_in i n ∧ f i.toNatClampNeg = v := by
  unfold gQ at h
  split at h
  · rename_i k n f e
    split at h
    · rename_i hc; obtain ⟨rfl, hk⟩ := hc; exact ⟨n, f, e, hk, Option.some.inj h⟩
    · cases h
  · cases h
def pQ (X : AH) (a kd : Nat) (i : Int32) (v : Option Nat) : Option AH := match X.2.2 a with
  | some (.inr (.inr (k, n, f))) => if k = kd ∧ ¬ (i < 0 ∨ n ≤ i.toNatClampNeg) then some (xup X a (.inr (.inr (k, n, va_up f i.toNatClampNeg v)))) else none
  | _ => none
theorem pQ_e {X X' : AH} {a kd : Nat} {i : Int32} {v : Option Nat} (h : pQ X a kd i v = some X') : ∃ n f, X.2.2 a = some (.inr (.inr (kd, n, f))) ∧ vp_in i n ∧ xup X a (.inr (.inr (kd, n, va_up f i.toNatClampNeg v))) = X' := by
  unfold pQ at h
  split at h
  · rename_i k n f e
    split at h
    · rename_i hc; obtain ⟨rfl, hk⟩ := hc; exact ⟨n, f, e, hk, Option.some.inj h⟩
    · cases h
  · cases h
/-- the class of an object -/
def gC (X : AH) (a : Nat) : Option Nat := match X.2.2 a with
  | some (.inl (c, _)) => some c
  | _ => none
theorem gC_e {X : AH} {a ci : Nat} (h : gC X a = some ci) : ∃ fs, X.2.2 a = some (.inl (ci, fs)) := by
  unfold gC at h
  split at h
  · rename_i c fs e; cases h; exact ⟨fs, e⟩
  · cases h
/-! the context of a walk: the tables' words that don't ride in the lists, the statics that are read -/
def xCast : List (String × String) := [("ChairRanks$Finding", "ChairRanks$Finding"), ("java/lang/ArrayIndexOutOfBoundsException", "java/lang/ArrayIndexOutOfBoundsException"), ("ChairRanks$Fault", "ChairRanks$Fault"), ("java/util/ArrayList", "java/util/List"), ("java/lang/ClassCastException", "java/lang/ClassCastException"), ("ChairRanks$Cushioned", "ChairRanks$Marked"), ("ChairRanks$Oak", "ChairRanks$Marked"), ("ChairRanks$Plain", "ChairRanks$Marked"), ("ChairRanks$Rocker", "ChairRanks$Marked"), ("ChairRanks$Throne", "ChairRanks$Marked"), ("java/lang/ArrayIndexOutOfBoundsException", "java/lang/IndexOutOfBoundsException"), ("ChairRanks$Cushioned", "ChairRanks$Chair"), ("ChairRanks$Oak", "ChairRanks$Chair"), ("ChairRanks$Plain", "ChairRanks$Chair"), ("ChairRanks$Rocker", "ChairRanks$Chair"), ("ChairRanks$Throne", "ChairRanks$Chair"), ("ChairRanks$Cushioned", "ChairRanks$Plain"), ("ChairRanks$Rocker", "ChairRanks$Plain"), ("ChairRanks$Throne", "ChairRanks$Oak"), ("ChairRanks$Row", "java/lang/Object"), ("ChairRanks$Ministry", "java/lang/Object"), ("ChairRanks$Chair", "java/lang/Object"), ("ChairRanks", "java/lang/Object"), ("java/util/ArrayList", "java/lang/Object"), ("ChairRanks$Trail", "java/lang/Object"), ("ChairRanks$Plain", "java/lang/Object"), ("ChairRanks$Rocker", "java/lang/Object"), ("ChairRanks$Cushioned", "java/lang/Object"), ("ChairRanks$Oak", "java/lang/Object"), ("ChairRanks$Throne", "java/lang/Object"), ("ChairRanksModel", "java/lang/Object"), ("ChairRanks$Finding", "java/lang/Object"), ("java/lang/ArrayIndexOutOfBoundsException", "java/lang/Object"), ("ChairRanks$Reader", "java/lang/Object"), ("ChairRanks$Fault", "java/lang/Object"), ("java/lang/ClassCastException", "java/lang/Object"), ("java/lang/Throwable", "java/lang/Object"), ("java/lang/String", "java/lang/Object"), ("[LChairRanks$Row;", "java/lang/Object"), ("[B", "java/lang/Object"), ("[I", "java/lang/Object"), ("[LChairRanks$Ministry;", "java/lang/Object"), ("[LChairRanks$Chair;", "java/lang/Object"), ("[Ljava/lang/Object;", "java/lang/Object"), ("[Z", "java/lang/Object")]
def xDecl : List MethodName := [⟨"java/lang/Exception", "<init>", "()V"⟩, ⟨"java/lang/Exception", "<init>", "(Ljava/lang/String;)V"⟩, ⟨"java/lang/Throwable", "<init>", "()V"⟩, ⟨"java/lang/Throwable", "<init>", "(Ljava/lang/String;)V"⟩, ⟨"java/lang/IndexOutOfBoundsException", "<init>", "()V"⟩, ⟨"java/lang/IndexOutOfBoundsException", "<init>", "(Ljava/lang/String;)V"⟩, ⟨"java/lang/RuntimeException", "<init>", "()V"⟩, ⟨"java/lang/RuntimeException", "<init>", "(Ljava/lang/String;)V"⟩, ⟨"java/util/List", "size", "()I"⟩, ⟨"java/util/List", "add", "(Ljava/lang/Object;)Z"⟩, ⟨"java/util/List", "get", "(I)Ljava/lang/Object;"⟩, ⟨"ChairRanks$Chair", "high", "(II)I"⟩, ⟨"ChairRanks$Chair", "kind", "()I"⟩, ⟨"ChairRanks$Marked", "mark", "(LChairRanks$Trail;LChairRanks$Ministry;)I"⟩, ⟨"ChairRanks$Marked", "number", "()I"⟩, ⟨"ChairRanks$Chair", "number", "()I"⟩, ⟨"java/lang/Object", "getClass", "()Ljava/lang/Class;"⟩]
def xMN : List (String × Nat × MethodName × String) := [("ChairRanks", 38, ⟨"ChairRanks$Ministry", "<init>", "()V"⟩, "ChairRanks"), ("ChairRanks", 55, ⟨"ChairRanks$Trail", "<init>", "()V"⟩, "ChairRanks"), ("ChairRanks$Reader", 11, ⟨"ChairRanks$Ministry", "<init>", "()V"⟩, "ChairRanks"), ("ChairRanks$Reader", 47, ⟨"ChairRanks", "isIn", "(JJJ)Z"⟩, "ChairRanks"), ("ChairRanks$Reader", 130, ⟨"ChairRanks", "chairBy", "(II)LChairRanks$Chair;"⟩, "ChairRanks"), ("ChairRanks$Row", 19, ⟨"ChairRanks", "must", "(ZI)V"⟩, "ChairRanks")]
def xFN : List (String × Nat × String × String × String × String) := [("ChairRanks", 376, "ChairRanks$Trail", "body", "[I", "ChairRanks"), ("ChairRanks", 374, "ChairRanks$Trail", "many", "I", "ChairRanks")]
def xAO : List String := ["ChairRanks$Row", "ChairRanks$Ministry", "ChairRanks$Chair", "java/lang/Object"]
def xFw : List (String × MethodName × MethodName) := [("java/util/ArrayList", ⟨"java/util/List", "size", "()I"⟩, ⟨"java/util/ArrayList", "size", "()I"⟩), ("java/util/ArrayList", ⟨"java/util/List", "add", "(Ljava/lang/Object;)Z"⟩, ⟨"java/util/ArrayList", "add", "(Ljava/lang/Object;)Z"⟩), ("java/util/ArrayList", ⟨"java/util/List", "get", "(I)Ljava/lang/Object;"⟩, ⟨"java/util/ArrayList", "get", "(I)Ljava/lang/Object;"⟩), ("ChairRanks$Plain", ⟨"ChairRanks$Marked", "number", "()I"⟩, ⟨"ChairRanks$Chair", "number", "()I"⟩), ("ChairRanks$Rocker", ⟨"ChairRanks$Marked", "number", "()I"⟩, ⟨"ChairRanks$Chair", "number", "()I"⟩), ("ChairRanks$Cushioned", ⟨"ChairRanks$Marked", "number", "()I"⟩, ⟨"ChairRanks$Chair", "number", "()I"⟩), ("ChairRanks$Oak", ⟨"ChairRanks$Marked", "number", "()I"⟩, ⟨"ChairRanks$Chair", "number", "()I"⟩), ("ChairRanks$Throne", ⟨"ChairRanks$Marked", "number", "()I"⟩, ⟨"ChairRanks$Chair", "number", "()I"⟩)]
/-- the String constant, and what is read of String's statics -/
def xStr (A : Nat → Prop) (Zs : XZ) (U : State) : Prop := vk_S 1 [5] [[112, 114, 99, 111, 116]] (fun _ => Zs.2.1) (fun _ => Zs.2.2) A U U.heap ∧ vk_R "ChairRanks$Reader" 98 "prcot" Zs.2.1 U ∧ va_Z "java/lang/String" "COMPACT_STRINGS" "Z" (.int 1) A U U.heap ∧ va_Zq "jdk/internal/util/Preconditions" "SIOOBE_FORMATTER" "Ljava/util/function/BiFunction;" A U U.heap
theorem xStr.moved {A : Nat → Prop} {Zs : XZ} {s U : State} (hW : s.WarmedH U.vm) (hh : ∀ a : Nat, a < s.heap.size → ¬ A a → U.heap[a]? = s.heap[a]?) (h : xStr A Zs s) : xStr A Zs U := by
  obtain ⟨h1, h2, h3, h4⟩ := h
  refine ⟨(vk_S.moved hW.alike h1).kept hh, vk_R.warm hW h2, (va_Z.moved hW.alike h3).kept hh, ?_⟩
  rcases h4 with h4 | ⟨t, h4⟩
  · exact Or.inl ((va_Z.moved hW.alike h4).kept hh)
  · exact Or.inr ⟨t, (va_Z.moved hW.alike h4).kept hh⟩
theorem xStr.same {A : Nat → Prop} {Zs : XZ} {s U : State} (hv : s.vm = U.vm) (hh : U.heap = s.heap) (h : xStr A Zs s) : xStr A Zs U := by
  have ha : s.vm.Alike U.vm := by rw [← hv]; exact Vm.Alike.refl s.vm
  obtain ⟨h1, h2, h3, h4⟩ := h
  refine ⟨by rw [hh]; exact vk_S.moved ha h1, vk_R.same hv.symm h2, by rw [hh]; exact va_Z.moved ha h3, ?_⟩
  rw [hh]
  rcases h4 with h4 | ⟨t, h4⟩
  · exact Or.inl (va_Z.moved ha h4)
  · exact Or.inr ⟨t, va_Z.moved ha h4⟩
def xK (D : va_G) (cA : Nat → ClassId) (A : Nat → Prop) (Zs : XZ) (U : State) : Prop := va_K D xCl (xTy cA) U ∧ (∀ q ∈ xCast, va_Nw (.castable q.1 q.2) U) ∧ (∀ x ∈ xDecl, va_Nw (.declares x) U) ∧ (∀ q ∈ xMN, va_Nw (.methodLinkNest q.1 q.2.1 q.2.2.1 q.2.2.2) U) ∧ (∀ q ∈ xFN, va_Nw (.fieldLinkNest q.1 q.2.1 q.2.2.1 q.2.2.2.1 q.2.2.2.2.1 q.2.2.2.2.2) U) ∧ (∀ C ∈ xAO, va_AO C U) ∧ (∀ q ∈ xFw, va_Fw q.1 q.2.1 q.2.2 U) ∧ (∀ q ∈ Zs.1, va_Z q.1 q.2.1 q.2.2.1 q.2.2.2 A U U.heap) ∧ xStr A Zs U
theorem xFw_ok : ∀ q ∈ xFw, q.2.1.cls ≠ "java/lang/invoke/MethodHandle" ∧ q.2.1.cls ≠ "java/lang/invoke/VarHandle" := by decide +kernel
theorem xK.moved {D : va_G} {cA : Nat → ClassId} {A : Nat → Prop} {Zs : XZ} {s U : State} (hW : s.WarmedH U.vm) (hh : ∀ a : Nat, a < s.heap.size → ¬ A a → U.heap[a]? = s.heap[a]?) (h : xK D cA A Zs s) : xK D cA A Zs U := by
  obtain ⟨h1, h2, h3, h4, h5, h6, h7, h8, h9⟩ := h
  exact ⟨va_K.moved hW.alike h1, fun q hq => va_Nw.warmC hW (h2 q hq), fun q hq => va_Nw.warmD hW (h3 q hq), fun q hq => va_Nw.warmM hW (h4 q hq), fun q hq => va_Nw.warmF hW (h5 q hq), fun q hq => va_AO.moved hW.alike (h6 q hq), fun q hq => va_Fw.moved (xFw_ok q hq) hW.alike (h7 q hq), fun q hq => (va_Z.moved hW.alike (h8 q hq)).kept hh, h9.moved hW hh⟩
theorem xK.same {D : va_G} {cA : Nat → ClassId} {A : Nat → Prop} {Zs : XZ} {s U : State} (hv : s.vm = U.vm) (hh : U.heap = s.heap) (h : xK D cA A Zs s) : xK D cA A Zs U := by
  have ha : s.vm.Alike U.vm := by rw [← hv]; exact Vm.Alike.refl s.vm
  obtain ⟨h1, h2, h3, h4, h5, h6, h7, h8, h9⟩ := h
  exact ⟨va_K.moved ha h1, fun q hq => va_Nw.same rfl hv (h2 q hq), fun q hq => va_Nw.same rfl hv (h3 q hq), fun q hq => va_Nw.same rfl hv (h4 q hq), fun q hq => va_Nw.same rfl hv (h5 q hq), fun q hq => va_AO.moved ha (h6 q hq), fun q hq => va_Fw.moved (xFw_ok q hq) ha (h7 q hq), fun q hq => by rw [hh]; exact va_Z.moved ha (h8 q hq), h9.same hv hh⟩
def xE (p : Program) (m : MethodId) (c : Code) (cc : ByteArray) (nL : Nat) (s : State) (args : Array Value) (own : String) (D : va_G) (cA : Nat → ClassId) (A : Nat → Prop) (Zs : XZ) (meth : Method) (ret : Option FieldType) : Prop := CallFix p m c cc nL s args lw_all own ∧ xK D cA A Zs s ∧ meth.sig.returnType = ret ∧ meth.locks = false
abbrev xPc (D : va_G) (cA : Nat → ClassId) (A : Nat → Prop) (Zs : XZ) (X : AH) (av : List Value) : Array Value → State → Prop := va_Pc av (fun U => xR D cA A Zs X U.heap ∧ xK D cA A Zs U)
abbrev xQi (D : va_G) (cA : Nat → ClassId) (A : Nat → Prop) (Zs : XZ) (r : Int32) (X : AH) : Array Value → State → Outcome → State → Prop := va_Qi (fun (x : Int32) (_ : Unit) => x = r) (fun _ t => xR D cA A Zs X t.heap) A
abbrev xQl (D : va_G) (cA : Nat → ClassId) (A : Nat → Prop) (Zs : XZ) (r : Int64) (X : AH) : Array Value → State → Outcome → State → Prop := va_Ql (fun (x : Int64) (_ : Unit) => x = r) (fun _ t => xR D cA A Zs X t.heap) A
abbrev xQv (D : va_G) (cA : Nat → ClassId) (A : Nat → Prop) (Zs : XZ) (X : AH) : Array Value → State → Outcome → State → Prop := va_Qv (fun (_ : Unit) => True) (fun _ t => xR D cA A Zs X t.heap) A
abbrev xQr (D : va_G) (cA : Nat → ClassId) (A : Nat → Prop) (Zs : XZ) (r : Nat) (X : AH) : Array Value → State → Outcome → State → Prop := va_Qr (fun (_ : Unit) => True) (fun _ a t => a = r ∧ xR D cA A Zs X t.heap) A
section XB
variable {p : Program} {l : Launch} {e : Env} {R : Room} {s : State} {m : MethodId} {args : Array Value} {below : List Frame} {meth : Method} {c : Code} {H : Heap} {locs : List Loc} {cells slots : Nat} {Q : State → Prop} {cc : ByteArray} {pc nL : Nat} {ls : Array Slot} {rest : List Value} {D : va_G} {cA : Nat → ClassId} {A : Nat → Prop} {Zs : XZ} {X X' : AH} {ret : Option FieldType} {own : String} {a : Nat}
theorem xE.hx (E : xE p m c cc nL s args own D cA A Zs meth ret) : p.tables.exec = Jvm.exec := E.1.1
theorem xE.hb (E : xE p m c cc nL s args own D cA A Zs meth ret) : c.code = cc := E.1.2.1
theorem xE.ho (E : xE p m c cc nL s args own D cA A Zs meth ret) : s.vm.findClass own = some m.cls := E.1.2.2.2.1
theorem xE.ht (E : xE p m c cc nL s args own D cA A Zs meth ret) : ∀ w ∈ lw_all, w.before args s = true := E.1.2.2.2.2
theorem xE.hK (E : xE p m c cc nL s args own D cA A Zs meth ret) : va_K D xCl (xTy cA) s := E.2.1.1
theorem xE.hr (E : xE p m c cc nL s args own D cA A Zs meth ret) : meth.sig.returnType = ret := E.2.2.1
theorem xE.hk (E : xE p m c cc nL s args own D cA A Zs meth ret) : meth.locks = false := E.2.2.2
variable {C ref host : String} {T : u_T} {N ci index k : Nat}
theorem xget {v : Value} (E : xE p m c cc nL s args own D cA A Zs meth ret) (hR : xR D cA A Zs X H) (hin : ∀ w ∈ u_ws C T N, w ∈ lw_all) (hc : xCl[ci]? = some (C, T, N)) (hk : k < N) (hlink : Cond.fieldLink own index ref (T k).2.1 (T k).2.2.1 ∈ lw_all) (hsame : ∀ x, s.fieldFound? (T k).1 (T k).2.1 (T k).2.2.1 = some x → s.fieldFound? ref (T k).2.1 (T k).2.2.1 = some x) (h : ∃ fs, X.2.2 a = some (.inl (ci, fs)) ∧ fs[k]? = some v) (hdg : decode cc pc = .ok (.getfield index, 3)) (kk : W p l e R s m args below meth c H locs cells slots Q (F0 m (pc + 3) ls (v :: rest))) : W p l e R s m args below meth c H locs cells slots Q (F0 m pc ls (.ref a :: rest)) := by
  obtain ⟨fs, h1, h2⟩ := h
  exact va_get E.hx E.hb E.ht hin E.ho E.hK (hR.one h1) 0 rfl hc k hk (E.ht _ hlink) hsame h2 hdg kk
theorem xput {v : Value} (E : xE p m c cc nL s args own D cA A Zs meth ret) (hR : xR D cA A Zs X H) (hS0 : va_S A s.heap H locs) (hin : ∀ w ∈ u_ws C T N, w ∈ lw_all) (ty0 : Nat → FieldType) (hty : ∀ k, k < N → parseFieldDescriptor (T k).2.2.1 = some (ty0 k)) (hnm : ∀ a, a < N → ∀ b, b < N → a ≠ b → (T a).2.1 ≠ (T b).2.1) (hc : xCl[ci]? = some (C, T, N)) (hk : k < N) (hlink : Cond.fieldLink own index ref (T k).2.1 (T k).2.2.1 ∈ lw_all) (hsame : ∀ x, s.fieldFound? (T k).1 (T k).2.1 (T k).2.2.1 = some x → s.fieldFound? ref (T k).2.1 (T k).2.2.1 = some x) (hfin : (T k).2.2.2 = false) {ty : FieldType} (hd : parseFieldDescriptor (T k).2.2.1 = some ty) (hn : narrow ty v = v) (hfit : fits ty v = true) (h : pF X a ci k v = some X') (hdg : decode cc pc = .ok (.putfield index, 3)) (kk : ∀ (H : Heap) (locs : List Loc), xR D cA A Zs X' H → va_S A s.heap H locs → W p l e R s m args below meth c H locs cells slots Q (F0 m (pc + 3) ls rest)) : W p l e R s m args below meth c H locs cells slots Q (F0 m pc ls (v :: .ref a :: rest)) := by
  obtain ⟨fs, he, hl, rfl⟩ := pF_e h
  have hts := E.ht
  have hK := E.hK
  have hap := va_apart (own := own) hts hin ty0 hty hnm hK hc
  have hP := hR.one he
  obtain ⟨r, h1, cell, q1, q2, q3, q4⟩ := hP 0 _ rfl
  have hr : r = (C, T, N) := Option.some.inj (h1.symm.trans hc)
  subst hr
  obtain ⟨hS, hfc, kC, hkC, hkind⟩ := hK.1 ci _ hc
  obtain ⟨cf, kf, fi, f, hi, hsl⟩ := hS k hk
  have hlay := hts _ (hin _ (u_in_lay hk))
  unfold u_lay at hlay
  rw [if_neg (by rw [hfin]; decide)] at hlay
  have hst := (u_facts hfc hkC (u_lays hts hin hk) hi).1
  have h6 := u_store hfc hkC hkind hlay hi hd hn hfit
  refine W.putK E.hx E.hb (f := f) ⟨E.ho, hts _ hlink, ⟨_, _, _, hsame _ hi⟩, hst⟩ (by rw [q2]; exact h6) q1 q3 (by rw [hsl]; exact k2_hasslot (q4 k hk)) rfl rfl hdg fun H' e1 e2 e3 => ?_
  rw [hsl] at e1 ⊢
  exact kk H' _ (hR.up e2 e3 (hR.inA he) ⟨_, hc, t_OB.to (V := updV (vp_V fs) k v) ⟨_, e1, q2, q3, t_set q4 hap hk v⟩ (fun j _ => vp_updV_set hl v j)⟩) (hS0.put e2 e3 (hR.inA he))
theorem xputF {v : Value} (E : xE p m c cc nL s args own D cA A Zs meth ret) (hR : xR D cA A Zs X H) (hS0 : va_S A s.heap H locs) (hin : ∀ w ∈ u_ws C T N, w ∈ lw_all) (ty0 : Nat → FieldType) (hty : ∀ k, k < N → parseFieldDescriptor (T k).2.2.1 = some (ty0 k)) (hnm : ∀ a, a < N → ∀ b, b < N → a ≠ b → (T a).2.1 ≠ (T b).2.1) (hc : xCl[ci]? = some (C, T, N)) (hk : k < N) (hlink : Cond.fieldLink own index ref (T k).2.1 (T k).2.2.1 ∈ lw_all) (hsame : ∀ x, s.fieldFound? (T k).1 (T k).2.1 (T k).2.2.1 = some x → s.fieldFound? ref (T k).2.1 (T k).2.2.1 = some x) (hfin : (T k).2.2.2 = true) (hin2 : meth.name = "<init>") (hdecl : (T k).1 = own) {ty : FieldType} (hd : parseFieldDescriptor (T k).2.2.1 = some ty) (hn : narrow ty v = v) (hfit : fits ty v = true) (h : pF X a ci k v = some X') (hdg : decode cc pc = .ok (.putfield index, 3)) (kk : ∀ (H : Heap) (locs : List Loc), xR D cA A Zs X' H → va_S A s.heap H locs → W p l e R s m args below meth c H locs cells slots Q (F0 m (pc + 3) ls rest)) : W p l e R s m args below meth c H locs cells slots Q (F0 m pc ls (v :: .ref a :: rest)) := by
  obtain ⟨fs, he, hl, rfl⟩ := pF_e h
  have hts := E.ht
  have hK := E.hK
  have hap := va_apart (own := own) hts hin ty0 hty hnm hK hc
  have hP := hR.one he
  obtain ⟨r, h1, cell, q1, q2, q3, q4⟩ := hP 0 _ rfl
  have hr : r = (C, T, N) := Option.some.inj (h1.symm.trans hc)
  subst hr
  obtain ⟨hS, hfc, kC, hkC, hkind⟩ := hK.1 ci _ hc
  obtain ⟨cf, kf, fi, f, hi, hsl⟩ := hS k hk
  have hlay := hts _ (hin _ (u_in_lay hk))
  unfold u_lay at hlay
  rw [if_pos hfin] at hlay
  have hst := (u_facts hfc hkC (u_lays hts hin hk) hi).1
  have hcf : m.cls = cf := by
    obtain ⟨_, _, c', _, _, _, -, -, hf', -, -, -, hown2, -⟩ := Cond.laysFinal_spec hlay
    have e1 : c' = cf := by have := hi.symm.trans hf'; simp at this; exact this.1.symm
    rw [hdecl] at hown2
    rw [← e1]; exact Option.some.inj (E.ho.symm.trans hown2)
  have h6 := u_fits hfc hkC hkind (Or.inr hlay) hi hd hn hfit
  refine W.putFinK E.hx E.hb E.ho (hts _ hlink) (hsame _ hi) hst hcf hin2 (by rw [q2]; exact h6) q1 q3 (by rw [hsl]; exact k2_hasslot (q4 k hk)) rfl rfl hdg fun H' e1 e2 e3 => ?_
  rw [hsl] at e1 ⊢
  exact kk H' _ (hR.up e2 e3 (hR.inA he) ⟨_, hc, t_OB.to (V := updV (vp_V fs) k v) ⟨_, e1, q2, q3, t_set q4 hap hk v⟩ (fun j _ => vp_updV_set hl v j)⟩) (hS0.put e2 e3 (hR.inA he))
/-! arrays -/
theorem xlen {kd : Nat} {v : Int32} {ty : FieldType} (E : xE p m c cc nL s args own D cA A Zs meth ret) (hR : xR D cA A Zs X H) (ht : (xTy cA)[kd]? = some (cA kd, ty)) (h : gL X a kd = some v) (hdg : decode cc pc = .ok (.arraylength, 1)) (kk : W p l e R s m args below meth c H locs cells slots Q (F0 m (pc + 1) ls (.int v :: rest))) : W p l e R s m args below meth c H locs cells slots Q (F0 m pc ls (.ref a :: rest)) := by
  rcases gL_e h with ⟨n, f, h1, h2⟩ | ⟨n, f, h1, h2⟩
  · exact va_alen E.hx E.hb E.hK (hR.one h1) 0 kd rfl ht h2 hdg kk
  · exact va_alen E.hx E.hb E.hK (hR.one h1) 0 kd rfl ht h2 hdg kk
theorem xild {i v : Int32} (E : xE p m c cc nL s args own D cA A Zs meth ret) (hR : xR D cA A Zs X H) (h : gA X a 0 i = some v) (hdg : decode cc pc = .ok (.iaload, 1)) (kk : W p l e R s m args below meth c H locs cells slots Q (F0 m (pc + 1) ls (.int v :: rest))) : W p l e R s m args below meth c H locs cells slots Q (F0 m pc ls (.int i :: .ref a :: rest)) := by
  obtain ⟨n, f, h1, h2, rfl⟩ := gA_e h
  exact va_iald E.hx E.hb E.hK (hR.one h1) 0 0 rfl rfl h2 hdg kk
theorem xbld {i v : Int32} (E : xE p m c cc nL s args own D cA A Zs meth ret) (hR : xR D cA A Zs X H) (h : gA X a 1 i = some v) (hdg : decode cc pc = .ok (.baload, 1)) (kk : W p l e R s m args below meth c H locs cells slots Q (F0 m (pc + 1) ls (.int v :: rest))) : W p l e R s m args below meth c H locs cells slots Q (F0 m pc ls (.int i :: .ref a :: rest)) := by
  obtain ⟨n, f, h1, h2, rfl⟩ := gA_e h
  exact va_bald E.hx E.hb E.hK (hR.one h1) 0 1 rfl rfl h2 hdg kk
theorem xald {kd : Nat} {i : Int32} {v : Option Nat} {C : String} (E : xE p m c cc nL s args own D cA A Zs meth ret) (hR : xR D cA A Zs X H) (ht : (xTy cA)[kd]? = some (cA kd, .object C)) (h : gQ X a kd i = some v) (hdg : decode cc pc = .ok (.aaload, 1)) (kk : W p l e R s m args below meth c H locs cells slots Q (F0 m (pc + 1) ls (va_rf v :: rest))) : W p l e R s m args below meth c H locs cells slots Q (F0 m pc ls (.int i :: .ref a :: rest)) := by
  obtain ⟨n, f, h1, h2, rfl⟩ := gQ_e h
  exact va_aldq E.hx E.hb E.hK (hR.one h1) 0 kd rfl ht h2 hdg kk
theorem xist {i x : Int32} (E : xE p m c cc nL s args own D cA A Zs meth ret) (hR : xR D cA A Zs X H) (hS : va_S A s.heap H locs) (h : pA X a 0 i x = some X') (hdg : decode cc pc = .ok (.iastore, 1)) (kk : ∀ (H : Heap) (locs : List Loc), xR D cA A Zs X' H → va_S A s.heap H locs → W p l e R s m args below meth c H locs cells slots Q (F0 m (pc + 1) ls rest)) : W p l e R s m args below meth c H locs cells slots Q (F0 m pc ls (.int x :: .int i :: .ref a :: rest)) := by
  obtain ⟨n, f, h1, hin, rfl⟩ := pA_e h
  have hP := hR.one h1
  refine W.iast E.hx E.hb (hP 0 _ rfl) ((E.hK.2 0 _ rfl).1 n (fun j => .int (f j))) (fun q => by cases q) (by show ¬ (i < 0 ∨ (arrV _ _ _).slots.size ≤ _); rw [arrV_size]; exact hin) rfl rfl hdg fun H1 e z oq => ?_
  refine kk H1 _ (hR.up z oq (hR.inAi h1) ?_) (hS.put z oq (hR.inAi h1))
  show H1[a]? = some (vp_cell _ _)
  rw [e]
  rw [vp_cell_i, vp_cell_i, arrV_store]
  congr 2
  funext q
  by_cases hq : q = i.toNatClampNeg
  · subst hq
    simp [updV, upd]
  · simp [updV, upd, hq]
theorem xbst {i x : Int32} (E : xE p m c cc nL s args own D cA A Zs meth ret) (hR : xR D cA A Zs X H) (hS : va_S A s.heap H locs) (h : pA X a 1 i (vp_nar .byte x) = some X') (hdg : decode cc pc = .ok (.bastore, 1)) (kk : ∀ (H : Heap) (locs : List Loc), xR D cA A Zs X' H → va_S A s.heap H locs → W p l e R s m args below meth c H locs cells slots Q (F0 m (pc + 1) ls rest)) : W p l e R s m args below meth c H locs cells slots Q (F0 m pc ls (.int x :: .int i :: .ref a :: rest)) := by
  obtain ⟨n, f, h1, hin, rfl⟩ := pA_e h
  have hP := hR.one h1
  refine W.bast E.hx E.hb (hP 0 _ rfl) ((E.hK.2 1 _ rfl).1 n (fun j => .int (f j))) (fun q => by cases q) (by show ¬ (i < 0 ∨ (arrV _ _ _).slots.size ≤ _); rw [arrV_size]; exact hin) rfl rfl hdg fun H1 e z oq => ?_
  refine kk H1 _ (hR.up z oq (hR.inAi h1) ?_) (hS.put z oq (hR.inAi h1))
  show H1[a]? = some (vp_cell _ _)
  rw [e]
  rw [vp_cell_i, vp_cell_i, arrV_store]
  congr 2
  funext q
  by_cases hq : q = i.toNatClampNeg
  · subst hq
    simp [updV, upd, vp_nar_byte, narrow]
  · simp [updV, upd, hq]
theorem xastN {kd : Nat} {i : Int32} {C : String} (E : xE p m c cc nL s args own D cA A Zs meth ret) (hR : xR D cA A Zs X H) (hS : va_S A s.heap H locs) (ht : (xTy cA)[kd]? = some (cA kd, .object C)) (h : pQ X a kd i none = some X') (hdg : decode cc pc = .ok (.aastore, 1)) (kk : ∀ (H : Heap) (locs : List Loc), xR D cA A Zs X' H → va_S A s.heap H locs → W p l e R s m args below meth c H locs cells slots Q (F0 m (pc + 1) ls rest)) : W p l e R s m args below meth c H locs cells slots Q (F0 m pc ls (.null :: .int i :: .ref a :: rest)) := by
  obtain ⟨n, f, h1, hin, rfl⟩ := pQ_e h
  have hn : n ≠ 0 := fun z => hin (Or.inr (by omega))
  have hP := hR.one h1
  refine va_WaastN (C := C) E.hx E.hb (hP 0 _ rfl) ((E.hK.2 kd _ ht).1 n (fun j => va_rf (f j))) (fun h => by cases h) (by show ¬ (i < 0 ∨ (arrV _ _ _).slots.size ≤ _); rw [arrV_size]; exact hin) rfl rfl hdg fun H1 e z oq => ?_
  refine kk H1 _ (hR.up z oq (hR.inAq h1 hn) ?_) (hS.put z oq (hR.inAq h1 hn))
  show H1[a]? = some (vp_cell _ _)
  rw [e]
  rw [vp_cell_q, vp_cell_q, arrV_store]
  congr 2
  funext q
  by_cases hq : q = i.toNatClampNeg
  · subst hq
    simp [updV, va_up, va_rf]
  · simp [updV, va_up, hq]
theorem xast {kd ci v : Nat} {i : Int32} {r : vw_C} {C : String} (E : xE p m c cc nL s args own D cA A Zs meth ret) (hR : xR D cA A Zs X H) (hS : va_S A s.heap H locs) (ht : (xTy cA)[kd]? = some (cA kd, .object C)) (hc : xCl[ci]? = some r) (hca : va_Nw (.castable r.1 C) s ∨ r.1 = C) (hv : gC X v = some ci) (h : pQ X a kd i (some v) = some X') (hdg : decode cc pc = .ok (.aastore, 1)) (kk : ∀ (H : Heap) (locs : List Loc), xR D cA A Zs X' H → va_S A s.heap H locs → W p l e R s m args below meth c H locs cells slots Q (F0 m (pc + 1) ls rest)) : W p l e R s m args below meth c H locs cells slots Q (F0 m pc ls (.ref v :: .int i :: .ref a :: rest)) := by
  obtain ⟨n, f, h1, hin, rfl⟩ := pQ_e h
  obtain ⟨fs, hv⟩ := gC_e hv
  have hn : n ≠ 0 := fun z => hin (Or.inr (by omega))
  have hP := hR.one h1
  have hlt : i.toNatClampNeg < n := Nat.not_le.mp fun q => hin (Or.inr q)
  have h0 : ¬ i < 0 := fun q => hin (Or.inl q)
  obtain ⟨r', hr', cellV, g1, g2, g3, -⟩ := (hR.one hv) 0 _ rfl
  have hcls := (E.hK.1 ci r hc).2
  obtain ⟨kA, comp, k1, k2, k3, -⟩ := (E.hK.2 kd _ ht).2
  obtain ⟨kE, hkE, -⟩ := Vm.findClass_spec k3
  have f3 : s.vm.assignable (D.1 ci) comp = true := by
    rcases hca with hca | hca
    · obtain ⟨c0, t1, f1, f2, f3⟩ := Cond.castable_spec (va_Nw.use (A := args) rfl hca)
      cases hcls.1.symm.trans f1
      cases k3.symm.trans f2
      exact f3
    · rw [← hca] at k3
      have hcomp : comp = D.1 ci := Option.some.inj (k3.symm.trans hcls.1)
      rw [hcomp]
      exact va_assign hcls
  obtain ⟨kC, hkC, -⟩ := hcls.2
  refine W.aast E.hx E.hb (hP 0 _ rfl) (fun q h => by cases h) (fun h => by cases h) k1 k2 rfl hkE ⟨h0, by show _ < (arrV _ _ _).slots.size; rw [arrV_size]; exact hlt⟩ g1 (fun q h => by rw [g3] at h; cases h) (by rw [g2]; exact hkC) (by rw [g2]; exact f3) rfl rfl hdg fun H1 e z oq => ?_
  refine kk H1 _ (hR.up z oq (hR.inAq h1 hn) ?_) (hS.put z oq (hR.inAq h1 hn))
  show H1[a]? = some (vp_cell _ _)
  rw [e]
  rw [vp_cell_q, vp_cell_q, arrV_store]
  congr 2
  funext q
  by_cases hq : q = i.toNatClampNeg
  · subst hq
    simp [updV, va_up, va_rf]
  · simp [updV, va_up, hq]
/-! making -/
theorem xnew {fs : List Value} (E : xE p m c cc nL s args own D cA A Zs meth ret) (hR : xR D cA A Zs X H) (hS : va_S A s.heap H locs) (hin : ∀ w ∈ u_ws C T N, w ∈ lw_all) (ty : Nat → FieldType) (hty : ∀ k, k < N → parseFieldDescriptor (T k).2.2.1 = some (ty k)) (hcl : Cond.classLink own index C ∈ lw_all) (hinst : Cond.instantiable C N ∈ lw_all) (hini : Cond.initialized C ∈ lw_all) (hc : xCl[ci]? = some (C, T, N)) (hfs : ∀ j, j < N → defaultValue (ty j) = vp_V fs j) (hcells : cells + 1 ≤ R.cells) (hslots : slots + N ≤ R.slots) (hdg : decode cc pc = .ok (.new index, 3))
    (kk : ∀ (H : Heap), xR D cA A Zs (xnw X (.inl (ci, fs))) H → va_S A s.heap H locs → W p l e R s m args below meth c H locs (cells + 1) (slots + N) Q (F0 m (pc + 3) ls (.ref X.1 :: rest))) : W p l e R s m args below meth c H locs cells slots Q (F0 m pc ls rest) := by
  have hKn := E.hK.1 ci _ hc
  refine W.newcK E.hx E.hb E.ho (E.ht _ hcl) (E.ht _ hinst) (E.ht _ hini) rfl hdg hcells hslots hKn.2.1 hR.1 fun H1 kC hkC e1 z1 o1 => ?_
  rw [← hR.1] at e1 z1 o1
  refine kk H1 (hR.nw z1 o1 ?_) (hS.new z1 o1)
  exact ⟨_, hc, (u_born ty E.ht hin hKn hkC e1 hty).to hfs⟩
theorem xnewa {n : Int32} {N' : Nat} (E : xE p m c cc nL s args own D cA A Zs meth ret) (hR : xR D cA A Zs X H) (hS : va_S A s.heap H locs) (hn : ¬ n < 0) (hN : n.toNatClampNeg = N') (hb : N' ≤ 1000) (hcells : cells + 1 ≤ R.cells) (hslots : slots + N' ≤ R.slots) (harr : Cond.arrayClass .int ∈ lw_all) (hdg : decode cc pc = .ok (.newarray .int, 2))
    (kk : ∀ (H : Heap), xR D cA A Zs (xnw X (.inr (.inl (0, N', fun _ => 0)))) H → va_S A s.heap H locs → W p l e R s m args below meth c H locs (cells + 1) (slots + N') Q (F0 m (pc + 2) ls (.ref X.1 :: rest))) : W p l e R s m args below meth c H locs cells slots Q (F0 m pc ls (.int n :: rest)) := by
  refine va_newaK (atype := .int) E.hx E.hb (E.ht _ harr) rfl hdg rfl hn hN (Nat.le_trans (Nat.mul_le_mul_right _ hb) (by decide)) hcells hslots hR.1 fun H1 c1 e1 z1 o1 hAr hNm => ?_
  rw [← hR.1] at e1 z1 o1
  have hid : c1 = cA 0 := Option.some.inj (hNm.symm.trans (E.hK.2 0 _ rfl).2)
  subst hid
  refine kk H1 (hR.nw z1 o1 ?_) (hS.new z1 o1)
  show H1[H.size]? = some (vp_cell _ _)
  rw [vp_cell_i]
  exact e1
theorem xnewb {n : Int32} {N' : Nat} (E : xE p m c cc nL s args own D cA A Zs meth ret) (hR : xR D cA A Zs X H) (hS : va_S A s.heap H locs) (hn : ¬ n < 0) (hN : n.toNatClampNeg = N') (hb : N' ≤ 1000) (hcells : cells + 1 ≤ R.cells) (hslots : slots + N' ≤ R.slots) (harr : Cond.arrayClass .byte ∈ lw_all) (hdg : decode cc pc = .ok (.newarray .byte, 2))
    (kk : ∀ (H : Heap), xR D cA A Zs (xnw X (.inr (.inl (1, N', fun _ => 0)))) H → va_S A s.heap H locs → W p l e R s m args below meth c H locs (cells + 1) (slots + N') Q (F0 m (pc + 2) ls (.ref X.1 :: rest))) : W p l e R s m args below meth c H locs cells slots Q (F0 m pc ls (.int n :: rest)) := by
  refine va_newaK (atype := .byte) E.hx E.hb (E.ht _ harr) rfl hdg rfl hn hN (Nat.le_trans (Nat.mul_le_mul_right _ hb) (by decide)) hcells hslots hR.1 fun H1 c1 e1 z1 o1 hAr hNm => ?_
  rw [← hR.1] at e1 z1 o1
  have hid : c1 = cA 1 := Option.some.inj (hNm.symm.trans (E.hK.2 1 _ rfl).2)
  subst hid
  refine kk H1 (hR.nw z1 o1 ?_) (hS.new z1 o1)
  show H1[H.size]? = some (vp_cell _ _)
  rw [vp_cell_i]
  exact e1
theorem xnewz {n : Int32} {N' : Nat} (E : xE p m c cc nL s args own D cA A Zs meth ret) (hR : xR D cA A Zs X H) (hS : va_S A s.heap H locs) (hn : ¬ n < 0) (hN : n.toNatClampNeg = N') (hb : N' ≤ 1000) (hcells : cells + 1 ≤ R.cells) (hslots : slots + N' ≤ R.slots) (harr : Cond.arrayClass .boolean ∈ lw_all) (hdg : decode cc pc = .ok (.newarray .boolean, 2))
    (kk : ∀ (H : Heap), xR D cA A Zs (xnw X (.inr (.inl (6, N', fun _ => 0)))) H → va_S A s.heap H locs → W p l e R s m args below meth c H locs (cells + 1) (slots + N') Q (F0 m (pc + 2) ls (.ref X.1 :: rest))) : W p l e R s m args below meth c H locs cells slots Q (F0 m pc ls (.int n :: rest)) := by
  refine va_newaK (atype := .boolean) E.hx E.hb (E.ht _ harr) rfl hdg rfl hn hN (Nat.le_trans (Nat.mul_le_mul_right _ hb) (by decide)) hcells hslots hR.1 fun H1 c1 e1 z1 o1 hAr hNm => ?_
  rw [← hR.1] at e1 z1 o1
  have hid : c1 = cA 6 := Option.some.inj (hNm.symm.trans (E.hK.2 6 _ rfl).2)
  subst hid
  refine kk H1 (hR.nw z1 o1 ?_) (hS.new z1 o1)
  show H1[H.size]? = some (vp_cell _ _)
  rw [vp_cell_i]
  exact e1
theorem xnewq {n : Int32} {N' kd : Nat} (E : xE p m c cc nL s args own D cA A Zs meth ret) (hR : xR D cA A Zs X H) (hS : va_S A s.heap H locs) (ht : (xTy cA)[kd]? = some (cA kd, .object C)) (hn : ¬ n < 0) (hN : n.toNatClampNeg = N') (hb : N' ≤ 1000) (hcells : cells + 1 ≤ R.cells) (hslots : slots + N' ≤ R.slots) (hclink : Cond.classLink own index C ∈ lw_all) (hover : va_AO C s) (hdg : decode cc pc = .ok (.anewarray index, 3))
    (kk : ∀ (H : Heap), xR D cA A Zs (xnw X (.inr (.inr (kd, N', fun _ => none)))) H → va_S A s.heap H locs → W p l e R s m args below meth c H locs (cells + 1) (slots + N') Q (F0 m (pc + 3) ls (.ref X.1 :: rest))) : W p l e R s m args below meth c H locs cells slots Q (F0 m pc ls (.int n :: rest)) := by
  subst hN
  refine W.anew E.hx E.hb E.ho (E.ht _ hclink) (va_AO.use hover) rfl hdg rfl hn (by omega) hcells hslots fun c1 kA comp f1 f2 f3 f4 => ?_
  generalize hH1 : H.push ({ cls := c1, slots := Array.replicate n.toNatClampNeg .null, vm := .none } : Cell) = H1
  have z1 : H1.size = H.size + 1 := by rw [← hH1, Array.size_push]
  have e1 : H1[H.size]? = some (arrV c1 n.toNatClampNeg (fun _ => .null)) := by rw [← hH1, Array.getElem?_push_size, ← arrV_new]
  have o1 : ∀ q : Nat, q < H.size → H1[q]? = H[q]? := fun q hq => by rw [← hH1, Array.getElem?_push, if_neg (Nat.ne_of_lt hq)]
  obtain ⟨kA', comp', k1, k2, k3, k4⟩ := (E.hK.2 kd _ ht).2
  have hid : c1 = cA kd := Option.some.inj (f1.symm.trans k4)
  subst hid
  rw [hR.1]
  refine kk H1 (hR.nw z1 o1 ?_) (hS.new z1 o1)
  show H1[H.size]? = some (vp_cell _ _)
  rw [vp_cell_q]
  exact e1
/-- System.arraycopy of ints -/
def cpA (X : AH) (a0 : Nat) (sp : Int32) (a : Nat) (dp n : Int32) : Option AH := match X.2.2 a0, X.2.2 a with
  | some (.inr (.inl (0, n0, f))), some (.inr (.inl (0, n1, g))) => if (¬ sp < 0) ∧ (¬ dp < 0) ∧ (¬ n < 0) ∧ sp.toNatClampNeg + n.toNatClampNeg ≤ n0 ∧ dp.toNatClampNeg + n.toNatClampNeg ≤ n1 then some (xup X a (.inr (.inl (0, n1, va_cpy f g sp.toNatClampNeg dp.toNatClampNeg n.toNatClampNeg)))) else none
  | _, _ => none
theorem cpA_e {X X' : AH} {a0 a : Nat} {sp dp n : Int32} (h : cpA X a0 sp a dp n = some X') : ∃ n0 n1 f g, X.2.2 a0 = some (.inr (.inl (0, n0, f))) ∧ X.2.2 a = some (.inr (.inl (0, n1, g))) ∧ ((¬ sp < 0) ∧ (¬ dp < 0) ∧ (¬ n < 0) ∧ sp.toNatClampNeg + n.toNatClampNeg ≤ n0 ∧ dp.toNatClampNeg + n.toNatClampNeg ≤ n1) ∧ xup X a (.inr (.inl (0, n1, va_cpy f g sp.toNatClampNeg dp.toNatClampNeg n.toNatClampNeg))) = X' := by
  unfold cpA at h
  split at h
  · rename_i n0 f n1 g e1 e2
    split at h
    · rename_i hc; exact ⟨n0, n1, f, g, e1, e2, hc, Option.some.inj h⟩
    · cases h
  · cases h
theorem xcopy {a0 : Nat} {sp dp n : Int32} (E : xE p m c cc nL s args own D cA A Zs meth ret) (hR : xR D cA A Zs X H) (hS : va_S A s.heap H locs) (hsz : ls.size = nL) (hlink : Cond.methodLink own index arraycopyName ∈ lw_all) (hnat : Cond.native arraycopyName ∈ lw_all) (hstat : Cond.static arraycopyName ∈ lw_all) (hini : Cond.initialized "java/lang/System" ∈ lw_all) (h : cpA X a0 sp a dp n = some X')
    (hframes : 1 ≤ R.frames) (hlocals : (rest.map fun v => v.category).sum + (nativeFrameWords "java/lang/System" "arraycopy" 5 + 11) ≤ R.locals) (hdg : decode cc pc = .ok (.invokestatic index, 3))
    (kk : ∀ (H : Heap) (locs : List Loc), xR D cA A Zs X' H → va_S A s.heap H locs → W p l e R s m args below meth c H locs cells slots Q (F0 m (pc + 3) ls rest)) : W p l e R s m args below meth c H locs cells slots Q (F0 m pc ls (.int n :: .int dp :: .ref a :: .int sp :: .ref a0 :: rest)) := by
  obtain ⟨n0, n1, f, g, ha0, ha1, ⟨h1, h2, h3, h4, h5⟩, rfl⟩ := cpA_e h
  have nn : ∀ z : Int32, ¬ z < 0 → z.toInt = (z.toNatClampNeg : Int) := by
    intro z hz
    have hz0 : (0 : Int) ≤ z.toInt := by
      have := Int32.not_lt.mp hz
      simpa using Int32.le_iff_toInt_le.mp this
    show z.toInt = ((z.toInt.toNat : Nat) : Int)
    omega
  have hml : c.maxLocals = ls.size := E.1.2.2.1.trans hsz.symm
  intro T hT Y
  have hc0 : H[a0]? = some (vp_cell (cA 0) (n0, .inl f)) := (hR.one ha0) 0 _ rfl
  have hc1 : H[a]? = some (vp_cell (cA 0) (n1, .inl g)) := (hR.one ha1) 0 _ rfl
  have hAa := hR.inAi ha1
  obtain ⟨-, k0, hk0, cm0, hkk0⟩ := (E.hK.2 0 _ rfl).1 n0 (fun j => .int (f j))
  obtain ⟨-, k1, hk1, cm1, hkk1⟩ := (E.hK.2 0 _ rfl).1 n1 (fun j => .int (g j))
  obtain ⟨vm', X', step⟩ := Y.arraycopy E.hx E.ho (E.ht _ hlink) (E.ht _ hnat) (E.ht _ hstat) (E.ht _ hini) (src := a0) (dst := a) (cs := vp_cell (cA 0) (n0, .inl f)) (cd := vp_cell (cA 0) (n1, .inl g)) (srcPos := sp) (destPos := dp) (n := n) (by rw [hT]; exact hc0) (by rw [hT]; exact hc1)
    (fun _ h => by cases h) (fun _ h => by cases h) (fun h => by cases h) (fun h => by cases h) hk0 hk1 hkk0 hkk1 (by simp [refKind]) h1 h2 h3
    (by rw [nn sp h1, nn n h3]; show ¬ _ > ((arrV (cA 0) n0 (fun j => .int (f j))).slots.size : Int); rw [arrV_size]; omega)
    (by rw [nn dp h2, nn n h3]; show ¬ _ > ((arrV (cA 0) n1 (fun j => .int (g j))).slots.size : Int); rw [arrV_size]; omega)
    (fun vm₁ _ i hi => by
      have e : (vp_cell (cA 0) (n0, .inl f)).slots.getD (sp.toNatClampNeg + i) .null = .int (f (sp.toNatClampNeg + i)) := by
        show (arrV (cA 0) n0 (fun j => .int (f j))).slots.getD _ _ = _
        rw [Array.getD_eq_getD_getElem?, arrV_read _ _ (by omega)]
        rfl
      refine ⟨?_, ?_⟩
      · rw [e]
        rfl
      · rw [e]
        exact trivial)
    (g := F0 m pc ls (.int n :: .int dp :: .ref a :: .int sp :: .ref a0 :: rest)) rfl (by rw [hml]) (rest := rest) rfl (by rw [E.hb]; exact hdg) hframes (by show 2 * 0 + _ + _ ≤ _; omega)
  have e1 : copied (vp_cell (cA 0) (n0, .inl f)) (vp_cell (cA 0) (n1, .inl g)) sp dp n = vp_cell (cA 0) (n1, .inl (va_cpy f g sp.toNatClampNeg dp.toNatClampNeg n.toNatClampNeg)) := va_copied (fun z => .int z) (cA 0) (cA 0) f g h4
  rw [e1] at X' step
  have hl : a < H.size := (Array.getElem?_eq_some_iff.mp hc1).1
  have hheap : ((T.setVm vm').setCell a (vp_cell (cA 0) (n1, .inl (va_cpy f g sp.toNatClampNeg dp.toNatClampNeg n.toNatClampNeg)))).heap = H.setIfInBounds a (vp_cell (cA 0) (n1, .inl (va_cpy f g sp.toNatClampNeg dp.toNatClampNeg n.toNatClampNeg))) := by rw [← hT]; rfl
  have oq : ∀ q : Nat, q ≠ a → (H.setIfInBounds a (vp_cell (cA 0) (n1, .inl (va_cpy f g sp.toNatClampNeg dp.toNatClampNeg n.toNatClampNeg))))[q]? = H[q]? := fun q hq => by simp [Array.getElem?_setIfInBounds, Ne.symm hq]
  obtain ⟨t, a1, b1⟩ := kk _ _ (hR.up (a := a) (e := .inr (.inl (0, n1, va_cpy f g sp.toNatClampNeg dp.toNatClampNeg n.toNatClampNeg))) (by simp) oq hAa (show (H.setIfInBounds a _)[a]? = some _ by simp [Array.getElem?_setIfInBounds, hl])) ⟨by simp; exact hS.1, fun q g1 g2 => by
      rw [oq q (fun e => g2 (by rw [e]; exact hAa))]
      exact hS.2.1 q g1 g2, fun q hq => by
      rcases List.mem_append.mp hq with h | h
      · exact hS.2.2 q h
      · obtain ⟨z, -, hz⟩ := List.mem_map.mp h
        rw [← hz]
        exact hAa⟩ _ hheap X'
  exact ⟨t, step t a1, b1⟩
/-! ends -/
theorem xret_i {r : Int32} {mc ms : Nat} (E : xE p m c cc nL s args own D cA A Zs meth (some .int)) (hc : cells ≤ mc) (hs : slots ≤ ms) (hR : xR D cA A Zs X H) (hS : va_S A s.heap H locs) (hdg : decode cc pc = .ok (.ireturn, 1)) : W p l e R s m args below meth c H locs cells slots (MQ below (xQi D cA A Zs r X) args s mc ms A) (F0 m pc ls [.int r]) := by
  have hk := E.hk
  refine W.widen (k := mc) (n := ms) hc hs ?_
  exact W.iret E.hx E.hb E.hr (fun t ht hW => ⟨⟨r, (), rfl, rfl, by subst ht; exact hR⟩, hS.F ht⟩) hS.2.2 hdg
theorem xret_z {r : Int32} {mc ms : Nat} (E : xE p m c cc nL s args own D cA A Zs meth (some .boolean)) (hn : narrow .boolean (.int r) = .int r) (hc : cells ≤ mc) (hs : slots ≤ ms) (hR : xR D cA A Zs X H) (hS : va_S A s.heap H locs) (hdg : decode cc pc = .ok (.ireturn, 1)) : W p l e R s m args below meth c H locs cells slots (MQ below (xQi D cA A Zs r X) args s mc ms A) (F0 m pc ls [.int r]) := by
  have hk := E.hk
  refine W.widen (k := mc) (n := ms) hc hs ?_
  exact W.zret E.hx E.hb E.hr hn (fun t ht hW => ⟨⟨r, (), rfl, rfl, by subst ht; exact hR⟩, hS.F ht⟩) hS.2.2 hdg
theorem xret_l {r : Int64} {mc ms : Nat} (E : xE p m c cc nL s args own D cA A Zs meth (some .long)) (hc : cells ≤ mc) (hs : slots ≤ ms) (hR : xR D cA A Zs X H) (hS : va_S A s.heap H locs) (hdg : decode cc pc = .ok (.lreturn, 1)) : W p l e R s m args below meth c H locs cells slots (MQ below (xQl D cA A Zs r X) args s mc ms A) (F0 m pc ls [.long r]) := by
  have hk := E.hk
  refine W.widen (k := mc) (n := ms) hc hs ?_
  exact W.lret E.hx E.hb E.hr (fun t ht hW => ⟨⟨r, (), rfl, rfl, by subst ht; exact hR⟩, hS.F ht⟩) hS.2.2 hdg
theorem xret_v {mc ms : Nat} (E : xE p m c cc nL s args own D cA A Zs meth none) (hc : cells ≤ mc) (hs : slots ≤ ms) (hR : xR D cA A Zs X H) (hS : va_S A s.heap H locs) (hdg : decode cc pc = .ok (.return_, 1)) : W p l e R s m args below meth c H locs cells slots (MQ below (xQv D cA A Zs X) args s mc ms A) (F0 m pc ls []) := by
  have hk := E.hk
  refine W.widen (k := mc) (n := ms) hc hs ?_
  exact W.vret E.hx E.hb E.hr (fun t ht hW => ⟨⟨(), rfl, trivial, by subst ht; exact hR⟩, hS.F ht⟩) hS.2.2 hdg
theorem xret_r {r : Nat} {mc ms : Nat} {rt : FieldType} (E : xE p m c cc nL s args own D cA A Zs meth (some rt)) (hrt : (∃ n, rt = .object n) ∨ ∃ t, rt = .array t) (hc : cells ≤ mc) (hs : slots ≤ ms) (hR : xR D cA A Zs X H) (hS : va_S A s.heap H locs) (hdg : decode cc pc = .ok (.areturn, 1)) : W p l e R s m args below meth c H locs cells slots (MQ below (xQr D cA A Zs r X) args s mc ms A) (F0 m pc ls [.ref r]) := by
  have hk := E.hk
  refine W.widen (k := mc) (n := ms) hc hs ?_
  exact W.aret E.hx E.hb E.hr hrt (Or.inr ⟨r, rfl⟩) (fun t ht hW => ⟨⟨(), r, rfl, trivial, rfl, by subst ht; exact hR⟩, hS.F ht⟩) hS.2.2 hdg
/-! calls -/
theorem xBlind {av : List Value} : FrameBlind (xPc D cA A Zs X av) := fun a U g mk q => by
  obtain ⟨q0, qP, qK⟩ := q
  exact ⟨q0, qP, xK.same (s := U) (U := U.calling g mk a) rfl rfl qK⟩
theorem xrecv {r : vw_C} (E : xE p m c cc nL s args own D cA A Zs meth ret) (hR : xR D cA A Zs X H) (hc : xCl[ci]? = some r) (hv : gC X a = some ci) : ∃ cell : Cell, H[a]? = some cell ∧ cell.vm.isStatics = false ∧ s.vm.findClass r.1 = some cell.cls := by
  obtain ⟨fs, h⟩ := gC_e hv
  exact va_recv E.hK (hR.one h) hc (q0 := 0) rfl
theorem xPreV {r : vw_C} {As : List Value} (E : xE p m c cc nL s args own D cA A Zs meth ret) (hR : xR D cA A Zs X H) (hS : va_S A s.heap H locs) (hc : xCl[ci]? = some r) (hv : gC X a = some ci) : PreV s H r.1 a (xPc D cA A Zs X (.ref a :: As)) As :=
  ⟨xBlind, xrecv E hR hc hv, fun U hU hW => ⟨rfl, by rw [hU]; exact hR, xK.moved hW (by rw [hU]; exact hS.2.1) E.2.1⟩⟩
theorem xPreS {As : List Value} (E : xE p m c cc nL s args own D cA A Zs meth ret) (hR : xR D cA A Zs X H) (hS : va_S A s.heap H locs) : PreS s H (xPc D cA A Zs X As) As :=
  ⟨xBlind, fun U hU hW => ⟨rfl, by rw [hU]; exact hR, xK.moved hW (by rw [hU]; exact hS.2.1) E.2.1⟩⟩
theorem xClassAt {r : vw_C} (E : xE p m c cc nL s args own D cA A Zs meth ret) (hc : xCl[ci]? = some r) : ClassAt s r.1 (D.1 ci) := (E.hK.1 ci r hc).2
variable {y : MethodName} {bytes : ByteArray} {maxL n : Nat} {ret2 : Option FieldType} {ws : List Cond} {rm : Room} {As : List Value} {st0 : List Value} {mc ms : Nat} {a1 : Array Value}
/-- behind a call -/
theorem xrun_i {r : Int32} (hr : va_Run p l e R s m args below meth c H locs cells slots mc ms (F0 m pc ls st0) rest (xQi D cA A Zs r X' a1) A) (hS : va_S A s.heap H locs) (k : ∀ (H : Heap) (locs : List Loc), xR D cA A Zs X' H → va_S A s.heap H locs → W p l e R s m args below meth c H locs (cells + mc) (slots + ms) Q (F0 m (pc + 3) ls (.int r :: rest))) : W p l e R s m args below meth c H locs cells slots Q (F0 m pc ls st0) :=
  va_calli hr hS (fun q _ h => h) (fun q h => h) (fun r1 u t H1 locs1 ht hvm hp hB hz hk hS1 => by
    subst ht
    rw [hp]
    exact k _ _ hB hS1)
theorem xrun_l {r : Int64} (hr : va_Run p l e R s m args below meth c H locs cells slots mc ms (F0 m pc ls st0) rest (xQl D cA A Zs r X' a1) A) (hS : va_S A s.heap H locs) (k : ∀ (H : Heap) (locs : List Loc), xR D cA A Zs X' H → va_S A s.heap H locs → W p l e R s m args below meth c H locs (cells + mc) (slots + ms) Q (F0 m (pc + 3) ls (.long r :: rest))) : W p l e R s m args below meth c H locs cells slots Q (F0 m pc ls st0) :=
  va_calll hr hS (fun q _ h => h) (fun q h => h) (fun r1 u t H1 locs1 ht hvm hp hB hz hk hS1 => by
    subst ht
    rw [hp]
    exact k _ _ hB hS1)
theorem xrun_v (hr : va_Run p l e R s m args below meth c H locs cells slots mc ms (F0 m pc ls st0) rest (xQv D cA A Zs X' a1) A) (hS : va_S A s.heap H locs) (k : ∀ (H : Heap) (locs : List Loc), xR D cA A Zs X' H → va_S A s.heap H locs → W p l e R s m args below meth c H locs (cells + mc) (slots + ms) Q (F0 m (pc + 3) ls rest)) : W p l e R s m args below meth c H locs cells slots Q (F0 m pc ls st0) :=
  va_callv hr hS (fun q _ h => h) (fun q h => h) (fun u t H1 locs1 ht hvm hp hB hz hk hS1 => by
    subst ht
    exact k _ _ hB hS1)
theorem xrun_r {r : Nat} (hr : va_Run p l e R s m args below meth c H locs cells slots mc ms (F0 m pc ls st0) rest (xQr D cA A Zs r X' a1) A) (hS : va_S A s.heap H locs) (k : ∀ (H : Heap) (locs : List Loc), xR D cA A Zs X' H → va_S A s.heap H locs → W p l e R s m args below meth c H locs (cells + mc) (slots + ms) Q (F0 m (pc + 3) ls (.ref r :: rest))) : W p l e R s m args below meth c H locs cells slots Q (F0 m pc ls st0) :=
  va_callr hr hS (fun q _ h => h) (fun q h => h) (fun u a2 t H1 locs1 ht hvm hp hB hz hk hS1 => by
    subst ht
    obtain ⟨rfl, hB⟩ := hB
    exact k _ _ hB hS1)
theorem xrun5_i {r : Int32} (hr : va_Run5 p l e R s m args below meth c H locs cells slots mc ms (F0 m pc ls st0) rest (xQi D cA A Zs r X' a1) A) (hS : va_S A s.heap H locs) (k : ∀ (H : Heap) (locs : List Loc), xR D cA A Zs X' H → va_S A s.heap H locs → W p l e R s m args below meth c H locs (cells + mc) (slots + ms) Q (F0 m (pc + 5) ls (.int r :: rest))) : W p l e R s m args below meth c H locs cells slots Q (F0 m pc ls st0) := by
  intro T hT Y
  obtain ⟨v, st₀, t, T', L, h0, X', hL, e1, e2, ⟨⟨r1, u, hv, hp, hb⟩, hz, hk⟩, st⟩ := hr T hT Y
  cases hv
  rw [h0] at hz hk
  have hp : r1 = r := hp
  subst hp
  obtain ⟨t2, a2, b2⟩ := k T'.heap (locs ++ L) (by rw [e1]; exact hb) ⟨Nat.le_trans hS.1 (by rw [e1]; exact hz), fun q h1 h2 => by rw [e1, hk q (Nat.lt_of_lt_of_le h1 hS.1) h2]; exact hS.2.1 q h1 h2, fun q hq => by
      rcases List.mem_append.mp hq with h | h
      · exact hS.2.2 q h
      · exact hL q h⟩ T' rfl X'
  exact ⟨t2, st t2 a2, b2⟩
theorem xrun5_r {r : Nat} (hr : va_Run5 p l e R s m args below meth c H locs cells slots mc ms (F0 m pc ls st0) rest (xQr D cA A Zs r X' a1) A) (hS : va_S A s.heap H locs) (k : ∀ (H : Heap) (locs : List Loc), xR D cA A Zs X' H → va_S A s.heap H locs → W p l e R s m args below meth c H locs (cells + mc) (slots + ms) Q (F0 m (pc + 5) ls (.ref r :: rest))) : W p l e R s m args below meth c H locs cells slots Q (F0 m pc ls st0) := by
  intro T hT Y
  obtain ⟨v, st₀, t, T', L, h0, X', hL, e1, e2, ⟨⟨u, r1, hv, -, hr1, hb⟩, hz, hk⟩, st⟩ := hr T hT Y
  cases hv
  rw [h0] at hz hk
  subst hr1
  obtain ⟨t2, a2, b2⟩ := k T'.heap (locs ++ L) (by rw [e1]; exact hb) ⟨Nat.le_trans hS.1 (by rw [e1]; exact hz), fun q h1 h2 => by rw [e1, hk q (Nat.lt_of_lt_of_le h1 hS.1) h2]; exact hS.2.1 q h1 h2, fun q hq => by
      rcases List.mem_append.mp hq with h | h
      · exact hS.2.2 q h
      · exact hL q h⟩ T' rfl X'
  exact ⟨t2, st t2 a2, b2⟩
/-- what a virtual call asks where the method that runs isn't the named one -/
theorem xCU {owner : String} {x : MethodName} {ws' : List Cond} {Cn : String} (ht : ∀ w ∈ lw_all, w.before args s = true) (hG : GoodIn lw_all ws) (hw : ws = Cond.code y bytes maxL ret2 :: ws') (hrc : rm.cells = mc) (hrs : rm.slots = ms) (hl : Cond.methodLink own index x ∈ lw_all) (hsm : Cond.sameMethod x.cls owner x.name x.desc ∈ lw_all) (hd : va_Decl s ⟨owner, x.name, x.desc⟩) (hse : Cond.selects Cn x y ∈ lw_all) (hi : Cond.instanceMethod y ∈ lw_all) (hini : Cond.initialized y.cls ∈ lw_all)
    (ho : owner ≠ "java/lang/invoke/MethodHandle" ∧ owner ≠ "java/lang/invoke/VarHandle" ∧ (parseMethodDescriptor x.desc).map (fun d => d.parameters.length) = some n) (hR : rm.frames + 1 ≤ R.frames ∧ 8 + (maxL + 11) + rm.locals ≤ R.locals) : va_CU R s args own Cn owner index x y bytes maxL ret2 ws rm mc ms n := by
  have hc : Cond.code y bytes maxL ret2 ∈ ws := by rw [hw]; exact List.mem_cons_self
  refine ⟨⟨hrc, hrs, hR.1, hR.2, pay_in ht hG, hc⟩, ht _ (hG _ hc).1, ht _ hini, ⟨ho.1, ho.2.1⟩, fun sig h => ?_, ht _ hl, ht _ hsm, hd, ht _ hse, ht _ hi⟩
  have h2 := ho.2.2
  rw [h] at h2
  exact (Option.some.inj h2).symm
/-- an element that isn't null -/
def gQn (X : AH) (a kd : Nat) (i : Int32) : Option Nat := (gQ X a kd i).bind id
theorem gQn_e {X : AH} {a kd : Nat} {i : Int32} {v : Nat} (h : gQn X a kd i = some v) : gQ X a kd i = some (some v) := by
  obtain ⟨o, h1, h2⟩ := bd_e h
  cases o with
  | none => cases h2
  | some b => cases h2; exact h1
theorem xaldn {kd : Nat} {i : Int32} {v : Nat} {C : String} (E : xE p m c cc nL s args own D cA A Zs meth ret) (hR : xR D cA A Zs X H) (ht : (xTy cA)[kd]? = some (cA kd, .object C)) (h : gQn X a kd i = some v) (hdg : decode cc pc = .ok (.aaload, 1)) (kk : W p l e R s m args below meth c H locs cells slots Q (F0 m (pc + 1) ls (.ref v :: rest))) : W p l e R s m args below meth c H locs cells slots Q (F0 m pc ls (.int i :: .ref a :: rest)) :=
  xald E hR ht (gQn_e h) hdg kk
/-- a chair's number, whatever its kind -/
def isCh (c : Nat) : Bool := c == 4 || c == 5 || c == 6 || c == 7 || c == 8
def gCh (X : AH) (a : Nat) : Option Nat := (gC X a).bind fun c => if isCh c = true then some c else none
theorem gCh_e {X : AH} {a c : Nat} (h : gCh X a = some c) : gC X a = some c ∧ (c = 4 ∨ c = 5 ∨ c = 6 ∨ c = 7 ∨ c = 8) := by
  obtain ⟨o, h1, h2⟩ := bd_e h
  by_cases q : isCh o = true
  · rw [if_pos q] at h2
    cases h2
    refine ⟨h1, ?_⟩
    simp [isCh] at q
    omega
  · rw [if_neg q] at h2; cases h2
def ck (X : AH) (a ci : Nat) : Option Unit := if gC X a = some ci then some () else none
theorem ck_e {X : AH} {a ci : Nat} {u : Unit} (h : ck X a ci = some u) : gC X a = some ci := by
  unfold ck at h
  by_cases q : gC X a = some ci
  · exact q
  · rw [if_neg q] at h; cases h
def szg (n : Int32) (M : Nat) : Option Nat := if n < 0 ∨ M < n.toNatClampNeg then none else some n.toNatClampNeg
theorem szg_e {n : Int32} {M N : Nat} (h : szg n M = some N) : ¬ n < 0 ∧ n.toNatClampNeg = N ∧ N ≤ M := by
  unfold szg at h
  by_cases q : n < 0 ∨ M < n.toNatClampNeg
  · rw [if_pos q] at h; cases h
  · rw [if_neg q] at h
    cases h
    exact ⟨fun z => q (Or.inl z), rfl, Nat.not_lt.mp fun z => q (Or.inr z)⟩
def gN (X : AH) (a : Nat) : Option Int32 := (gCh X a).bind fun c => gI X a c 0
def pN (X : AH) (a : Nat) (v : Int32) : Option AH := (gCh X a).bind fun c => pF X a c 0 (.int v)
theorem xgN {v : Int32} (E : xE p m c cc nL s args RX3 D cA A Zs meth ret) (hR : xR D cA A Zs X H) (h : gN X a = some v) (hlink : Cond.fieldLink RX3 index "ChairRanks$Chair" "number" "I" ∈ lw_all) (hdg : decode cc pc = .ok (.getfield index, 3)) (kk : W p l e R s m args below meth c H locs cells slots Q (F0 m (pc + 3) ls (.int v :: rest))) : W p l e R s m args below meth c H locs cells slots Q (F0 m pc ls (.ref a :: rest)) := by
  obtain ⟨o, h1, h2⟩ := bd_e h
  obtain ⟨-, hc⟩ := gCh_e h1
  rcases hc with rfl | rfl | rfl | rfl | rfl
  · exact xget (k := 0) E hR in_X4 rfl (by decide) hlink (fun _ h => h) (gI_e h2) hdg kk
  · exact xget (k := 0) E hR in_X5 rfl (by decide) hlink (fun _ h => h) (gI_e h2) hdg kk
  · exact xget (k := 0) E hR in_X6 rfl (by decide) hlink (fun _ h => h) (gI_e h2) hdg kk
  · exact xget (k := 0) E hR in_X7 rfl (by decide) hlink (fun _ h => h) (gI_e h2) hdg kk
  · exact xget (k := 0) E hR in_X8 rfl (by decide) hlink (fun _ h => h) (gI_e h2) hdg kk
theorem xpN {v : Int32} (E : xE p m c cc nL s args RX3 D cA A Zs meth ret) (hR : xR D cA A Zs X H) (hS : va_S A s.heap H locs) (hin : meth.name = "<init>") (h : pN X a v = some X') (hlink : Cond.fieldLink RX3 index "ChairRanks$Chair" "number" "I" ∈ lw_all) (hdg : decode cc pc = .ok (.putfield index, 3)) (kk : ∀ (H : Heap) (locs : List Loc), xR D cA A Zs X' H → va_S A s.heap H locs → W p l e R s m args below meth c H locs cells slots Q (F0 m (pc + 3) ls rest)) : W p l e R s m args below meth c H locs cells slots Q (F0 m pc ls (.int v :: .ref a :: rest)) := by
  obtain ⟨o, h1, h2⟩ := bd_e h
  obtain ⟨-, hc⟩ := gCh_e h1
  rcases hc with rfl | rfl | rfl | rfl | rfl
  · exact xputF (k := 0) E hR hS in_X4 tyX4 tyX4_ok nmX4 rfl (by decide) hlink (fun _ h => h) rfl hin rfl (ty := .int) rfl rfl rfl h2 hdg kk
  · exact xputF (k := 0) E hR hS in_X5 tyX5 tyX5_ok nmX5 rfl (by decide) hlink (fun _ h => h) rfl hin rfl (ty := .int) rfl rfl rfl h2 hdg kk
  · exact xputF (k := 0) E hR hS in_X6 tyX6 tyX6_ok nmX6 rfl (by decide) hlink (fun _ h => h) rfl hin rfl (ty := .int) rfl rfl rfl h2 hdg kk
  · exact xputF (k := 0) E hR hS in_X7 tyX7 tyX7_ok nmX7 rfl (by decide) hlink (fun _ h => h) rfl hin rfl (ty := .int) rfl rfl rfl h2 hdg kk
  · exact xputF (k := 0) E hR hS in_X8 tyX8 tyX8_ok nmX8 rfl (by decide) hlink (fun _ h => h) rfl hin rfl (ty := .int) rfl rfl rfl h2 hdg kk
theorem xcastC {ci : Nat} (E : xE p m c cc nL s args own D cA A Zs meth ret) (hR : xR D cA A Zs X H) (h : gCh X a = some ci) (hlink : Cond.classLink own index "ChairRanks$Chair" ∈ lw_all) (hdg : decode cc pc = .ok (.checkcast index, 3)) (kk : W p l e R s m args below meth c H locs cells slots Q (F0 m (pc + 3) ls (.ref a :: rest))) : W p l e R s m args below meth c H locs cells slots Q (F0 m pc ls (.ref a :: rest)) := by
  obtain ⟨h1, hc⟩ := gCh_e h
  rcases hc with rfl | rfl | rfl | rfl | rfl
  · exact va_castY (C := "ChairRanks$Plain") E.hx E.hb E.ho (E.ht _ hlink) (E.2.1.2.1 ("ChairRanks$Plain", "ChairRanks$Chair") (by decide +kernel)) (xrecv E hR (ci := 4) rfl h1) hdg kk
  · exact va_castY (C := "ChairRanks$Rocker") E.hx E.hb E.ho (E.ht _ hlink) (E.2.1.2.1 ("ChairRanks$Rocker", "ChairRanks$Chair") (by decide +kernel)) (xrecv E hR (ci := 5) rfl h1) hdg kk
  · exact va_castY (C := "ChairRanks$Cushioned") E.hx E.hb E.ho (E.ht _ hlink) (E.2.1.2.1 ("ChairRanks$Cushioned", "ChairRanks$Chair") (by decide +kernel)) (xrecv E hR (ci := 6) rfl h1) hdg kk
  · exact va_castY (C := "ChairRanks$Oak") E.hx E.hb E.ho (E.ht _ hlink) (E.2.1.2.1 ("ChairRanks$Oak", "ChairRanks$Chair") (by decide +kernel)) (xrecv E hR (ci := 7) rfl h1) hdg kk
  · exact va_castY (C := "ChairRanks$Throne") E.hx E.hb E.ho (E.ht _ hlink) (E.2.1.2.1 ("ChairRanks$Throne", "ChairRanks$Chair") (by decide +kernel)) (xrecv E hR (ci := 8) rfl h1) hdg kk
/-- a chair into an array of objects -/
theorem xastO {v ci : Nat} {i : Int32} (E : xE p m c cc nL s args own D cA A Zs meth ret) (hR : xR D cA A Zs X H) (hS : va_S A s.heap H locs) (hv : gCh X v = some ci) (h : pQ X a 5 i (some v) = some X') (hdg : decode cc pc = .ok (.aastore, 1)) (kk : ∀ (H : Heap) (locs : List Loc), xR D cA A Zs X' H → va_S A s.heap H locs → W p l e R s m args below meth c H locs cells slots Q (F0 m (pc + 1) ls rest)) : W p l e R s m args below meth c H locs cells slots Q (F0 m pc ls (.ref v :: .int i :: .ref a :: rest)) := by
  obtain ⟨h1, hc⟩ := gCh_e hv
  rcases hc with rfl | rfl | rfl | rfl | rfl
  · exact xast (kd := 5) (ci := 4) E hR hS rfl rfl (Or.inl (E.2.1.2.1 ("ChairRanks$Plain", "java/lang/Object") (by decide +kernel))) h1 h hdg kk
  · exact xast (kd := 5) (ci := 5) E hR hS rfl rfl (Or.inl (E.2.1.2.1 ("ChairRanks$Rocker", "java/lang/Object") (by decide +kernel))) h1 h hdg kk
  · exact xast (kd := 5) (ci := 6) E hR hS rfl rfl (Or.inl (E.2.1.2.1 ("ChairRanks$Cushioned", "java/lang/Object") (by decide +kernel))) h1 h hdg kk
  · exact xast (kd := 5) (ci := 7) E hR hS rfl rfl (Or.inl (E.2.1.2.1 ("ChairRanks$Oak", "java/lang/Object") (by decide +kernel))) h1 h hdg kk
  · exact xast (kd := 5) (ci := 8) E hR hS rfl rfl (Or.inl (E.2.1.2.1 ("ChairRanks$Throne", "java/lang/Object") (by decide +kernel))) h1 h hdg kk
/-- a chair into an array of chairs -/
theorem xastC {v ci : Nat} {i : Int32} (E : xE p m c cc nL s args own D cA A Zs meth ret) (hR : xR D cA A Zs X H) (hS : va_S A s.heap H locs) (hv : gCh X v = some ci) (h : pQ X a 4 i (some v) = some X') (hdg : decode cc pc = .ok (.aastore, 1)) (kk : ∀ (H : Heap) (locs : List Loc), xR D cA A Zs X' H → va_S A s.heap H locs → W p l e R s m args below meth c H locs cells slots Q (F0 m (pc + 1) ls rest)) : W p l e R s m args below meth c H locs cells slots Q (F0 m pc ls (.ref v :: .int i :: .ref a :: rest)) := by
  obtain ⟨h1, hc⟩ := gCh_e hv
  rcases hc with rfl | rfl | rfl | rfl | rfl
  · exact xast (kd := 4) (ci := 4) E hR hS rfl rfl (Or.inl (E.2.1.2.1 ("ChairRanks$Plain", "ChairRanks$Chair") (by decide +kernel))) h1 h hdg kk
  · exact xast (kd := 4) (ci := 5) E hR hS rfl rfl (Or.inl (E.2.1.2.1 ("ChairRanks$Rocker", "ChairRanks$Chair") (by decide +kernel))) h1 h hdg kk
  · exact xast (kd := 4) (ci := 6) E hR hS rfl rfl (Or.inl (E.2.1.2.1 ("ChairRanks$Cushioned", "ChairRanks$Chair") (by decide +kernel))) h1 h hdg kk
  · exact xast (kd := 4) (ci := 7) E hR hS rfl rfl (Or.inl (E.2.1.2.1 ("ChairRanks$Oak", "ChairRanks$Chair") (by decide +kernel))) h1 h hdg kk
  · exact xast (kd := 4) (ci := 8) E hR hS rfl rfl (Or.inl (E.2.1.2.1 ("ChairRanks$Throne", "ChairRanks$Chair") (by decide +kernel))) h1 h hdg kk
/-- the empty array that a new list has -/
theorem xgetE (E : xE p m c cc nL s args own D cA A Zs meth ret) (hR : xR D cA A Zs X H) (hS : va_S A s.heap H locs) (hlink : Cond.fieldLink own index "java/util/ArrayList" "DEFAULTCAPACITY_EMPTY_ELEMENTDATA" "[Ljava/lang/Object;" ∈ lw_all) (hdg : decode cc pc = .ok (.getstatic index, 3)) (kk : W p l e R s m args below meth c H locs cells slots Q (F0 m (pc + 3) ls (.ref X.2.1.1 :: rest))) : W p l e R s m args below meth c H locs cells slots Q (F0 m pc ls rest) :=
  va_gets E.hx E.hb (E.2.1.2.2.2.2.2.2.2.1 _ hR.2.1) hS E.ho (E.ht _ hlink) (fun _ h => h) hdg kk
theorem xgetU (E : xE p m c cc nL s args own D cA A Zs meth ret) (hR : xR D cA A Zs X H) (hS : va_S A s.heap H locs) (hlink : Cond.fieldLink own index "java/lang/Throwable" "UNASSIGNED_STACK" "[Ljava/lang/StackTraceElement;" ∈ lw_all) (hdg : decode cc pc = .ok (.getstatic index, 3)) (kk : W p l e R s m args below meth c H locs cells slots Q (F0 m (pc + 3) ls (va_rf X.2.1.2.1 :: rest))) : W p l e R s m args below meth c H locs cells slots Q (F0 m pc ls rest) :=
  va_gets E.hx E.hb (E.2.1.2.2.2.2.2.2.2.1 _ hR.2.2.1) hS E.ho (E.ht _ hlink) (fun _ h => h) hdg kk
theorem xgetS (E : xE p m c cc nL s args own D cA A Zs meth ret) (hR : xR D cA A Zs X H) (hS : va_S A s.heap H locs) (hlink : Cond.fieldLink own index "java/lang/Throwable" "SUPPRESSED_SENTINEL" "Ljava/util/List;" ∈ lw_all) (hdg : decode cc pc = .ok (.getstatic index, 3)) (kk : W p l e R s m args below meth c H locs cells slots Q (F0 m (pc + 3) ls (va_rf X.2.1.2.2.1 :: rest))) : W p l e R s m args below meth c H locs cells slots Q (F0 m pc ls rest) :=
  va_gets E.hx E.hb (E.2.1.2.2.2.2.2.2.2.1 _ hR.2.2.2.1) hS E.ho (E.ht _ hlink) (fun _ h => h) hdg kk
/-! the String constant -/
def strV (X : AH) (a : Nat) : Option Nat := if a = X.2.1.2.2.2.1 then some X.2.1.2.2.2.2 else none
def strC (X : AH) (a : Nat) : Option Int32 := if a = X.2.1.2.2.2.1 then some 0 else none
def strL (X : AH) (a : Nat) : Option Int32 := if a = X.2.1.2.2.2.2 then some 5 else none
def strB (X : AH) (a : Nat) (i : Int32) : Option Int32 := if a = X.2.1.2.2.2.2 then rd (fun j => [112, 114, 99, 111, 116].getD j 0) 5 i else none
def ckS (X : AH) (a : Nat) : Option Unit := if a = X.2.1.2.2.2.1 then some () else none
theorem strV_e {X : AH} {a v : Nat} (h : strV X a = some v) : a = X.2.1.2.2.2.1 ∧ v = X.2.1.2.2.2.2 := by
  unfold strV at h
  split at h
  · rename_i q; exact ⟨q, (Option.some.inj h).symm⟩
  · cases h
theorem strC_e {X : AH} {a : Nat} {v : Int32} (h : strC X a = some v) : a = X.2.1.2.2.2.1 ∧ v = 0 := by
  unfold strC at h
  split at h
  · rename_i q; exact ⟨q, (Option.some.inj h).symm⟩
  · cases h
theorem strL_e {X : AH} {a : Nat} {v : Int32} (h : strL X a = some v) : a = X.2.1.2.2.2.2 ∧ v = 5 := by
  unfold strL at h
  split at h
  · rename_i q; exact ⟨q, (Option.some.inj h).symm⟩
  · cases h
theorem strB_e {X : AH} {a : Nat} {i v : Int32} (h : strB X a i = some v) : a = X.2.1.2.2.2.2 ∧ vp_in i 5 ∧ [112, 114, 99, 111, 116].getD i.toNatClampNeg 0 = v := by
  unfold strB at h
  split at h
  · rename_i q; exact ⟨q, rd_e h⟩
  · cases h
theorem ckS_e {X : AH} {a : Nat} {u : Unit} (h : ckS X a = some u) : a = X.2.1.2.2.2.1 := by
  unfold ckS at h
  split at h
  · rename_i q; exact q
  · cases h
theorem xldcS {own2 : String} (E : xE p m c cc nL s args RX12 D cA A Zs meth ret) (hR : xR D cA A Zs X H) (hdg : decode cc pc = .ok (.ldc 98, 2)) (kk : W p l e R s m args below meth c H locs cells slots Q (F0 m (pc + 2) ls (.ref X.2.1.2.2.2.1 :: rest))) : W p l e R s m args below meth c H locs cells slots Q (F0 m pc ls rest) := by
  have hz := E.2.1.2.2.2.2.2.2.2.2.2.1
  rw [← show X.2.1.2.2.2 = Zs.2 from hR.2.2.2.2.1] at hz
  exact va_ldcS E.hx E.hb E.ho hz hdg kk
theorem xstrV {v : Nat} (E : xE p m c cc nL s args own D cA A Zs meth ret) (hR : xR D cA A Zs X H) (hS : va_S A s.heap H locs) (h : strV X a = some v) (hlink : Cond.fieldLink own index "java/lang/String" "value" "[B" ∈ lw_all) (hdg : decode cc pc = .ok (.getfield index, 3)) (kk : W p l e R s m args below meth c H locs cells slots Q (F0 m (pc + 3) ls (.ref v :: rest))) : W p l e R s m args below meth c H locs cells slots Q (F0 m pc ls (.ref a :: rest)) := by
  obtain ⟨rfl, rfl⟩ := strV_e h
  have hz := (E.2.1.2.2.2.2.2.2.2.2.1.1 0 (by decide)).2.2.1
  have e := hR.2.2.2.2.1
  rw [show Zs.2.1 = X.2.1.2.2.2.1 by rw [e], show Zs.2.2 = X.2.1.2.2.2.2 by rw [e]] at hz
  exact vk_getf E.hx E.hb hz hS E.ho (E.ht _ hlink) (fun _ h => h) hdg kk
theorem xstrC {v : Int32} (E : xE p m c cc nL s args own D cA A Zs meth ret) (hR : xR D cA A Zs X H) (hS : va_S A s.heap H locs) (h : strC X a = some v) (hlink : Cond.fieldLink own index "java/lang/String" "coder" "B" ∈ lw_all) (hdg : decode cc pc = .ok (.getfield index, 3)) (kk : W p l e R s m args below meth c H locs cells slots Q (F0 m (pc + 3) ls (.int v :: rest))) : W p l e R s m args below meth c H locs cells slots Q (F0 m pc ls (.ref a :: rest)) := by
  obtain ⟨rfl, rfl⟩ := strC_e h
  have hz := (E.2.1.2.2.2.2.2.2.2.2.1.1 0 (by decide)).2.1
  have e := hR.2.2.2.2.1
  rw [show Zs.2.1 = X.2.1.2.2.2.1 by rw [e]] at hz
  exact vk_getf E.hx E.hb hz hS E.ho (E.ht _ hlink) (fun _ h => h) hdg kk
theorem xstrL {v : Int32} (E : xE p m c cc nL s args own D cA A Zs meth ret) (hR : xR D cA A Zs X H) (hS : va_S A s.heap H locs) (h : strL X a = some v) (hdg : decode cc pc = .ok (.arraylength, 1)) (kk : W p l e R s m args below meth c H locs cells slots Q (F0 m (pc + 1) ls (.int v :: rest))) : W p l e R s m args below meth c H locs cells slots Q (F0 m pc ls (.ref a :: rest)) := by
  obtain ⟨rfl, rfl⟩ := strL_e h
  have hz := (E.2.1.2.2.2.2.2.2.2.2.1.1 0 (by decide)).2.2.2
  have e := hR.2.2.2.2.1
  rw [show Zs.2.2 = X.2.1.2.2.2.2 by rw [e]] at hz
  exact va_tlen E.hx E.hb hz hS rfl hdg kk
theorem xstrB {i v : Int32} (E : xE p m c cc nL s args own D cA A Zs meth ret) (hR : xR D cA A Zs X H) (hS : va_S A s.heap H locs) (h : strB X a i = some v) (hdg : decode cc pc = .ok (.baload, 1)) (kk : W p l e R s m args below meth c H locs cells slots Q (F0 m (pc + 1) ls (.int v :: rest))) : W p l e R s m args below meth c H locs cells slots Q (F0 m pc ls (.int i :: .ref a :: rest)) := by
  obtain ⟨rfl, h1, rfl⟩ := strB_e h
  have hz := (E.2.1.2.2.2.2.2.2.2.2.1.1 0 (by decide)).2.2.2
  have e := hR.2.2.2.2.1
  rw [show Zs.2.2 = X.2.1.2.2.2.2 by rw [e]] at hz
  exact va_tb E.hx E.hb hz hS h1 rfl hdg kk
theorem xgetC (E : xE p m c cc nL s args own D cA A Zs meth ret) (hR : xR D cA A Zs X H) (hS : va_S A s.heap H locs) (hlink : Cond.fieldLink own index "java/lang/String" "COMPACT_STRINGS" "Z" ∈ lw_all) (hdg : decode cc pc = .ok (.getstatic index, 3)) (kk : W p l e R s m args below meth c H locs cells slots Q (F0 m (pc + 3) ls (.int 1 :: rest))) : W p l e R s m args below meth c H locs cells slots Q (F0 m pc ls rest) :=
  va_gets E.hx E.hb E.2.1.2.2.2.2.2.2.2.2.2.2.1 hS E.ho (E.ht _ hlink) (fun _ h => h) hdg kk
/-- a static of which only 'null or a reference' is known -/
theorem xgetF (E : xE p m c cc nL s args own D cA A Zs meth ret) (hS : va_S A s.heap H locs) (hlink : Cond.fieldLink own index "jdk/internal/util/Preconditions" "SIOOBE_FORMATTER" "Ljava/util/function/BiFunction;" ∈ lw_all) (hdg : decode cc pc = .ok (.getstatic index, 3)) (kk : ∀ u : Option Nat, W p l e R s m args below meth c H locs cells slots Q (F0 m (pc + 3) ls (va_rf u :: rest))) : W p l e R s m args below meth c H locs cells slots Q (F0 m pc ls rest) := by
  rcases E.2.1.2.2.2.2.2.2.2.2.2.2.2 with h | ⟨t, h⟩
  · exact va_gets E.hx E.hb h hS E.ho (E.ht _ hlink) (fun _ h => h) hdg (kk none)
  · exact va_gets E.hx E.hb h hS E.ho (E.ht _ hlink) (fun _ h => h) hdg (kk (some t))
theorem xret_n {r : Int32} {mc ms : Nat} {ty : FieldType} (E : xE p m c cc nL s args own D cA A Zs meth (some ty)) (hn : narrow ty (.int r) = .int r) (hc : cells ≤ mc) (hs : slots ≤ ms) (hR : xR D cA A Zs X H) (hS : va_S A s.heap H locs) (hdg : decode cc pc = .ok (.ireturn, 1)) : W p l e R s m args below meth c H locs cells slots (MQ below (xQi D cA A Zs r X) args s mc ms A) (F0 m pc ls [.int r]) := by
  have hk := E.hk
  refine W.widen (k := mc) (n := ms) hc hs ?_
  exact W.zret E.hx E.hb E.hr hn (fun t ht hW => ⟨⟨r, (), rfl, rfl, by subst ht; exact hR⟩, hS.F ht⟩) hS.2.2 hdg
def ngC (v : Int32) : Option Int32 := if vp_nar .char v = v then some v else none
theorem ngC_e {x v : Int32} (h : ngC x = some v) : narrow .char (.int x) = .int x ∧ x = v := by
  unfold ngC at h
  split at h
  · rename_i q; exact ⟨by show Value.int (vp_nar .char x) = _; rw [q], Option.some.inj h⟩
  · cases h
def ngB (v : Int32) : Option Int32 := if vp_nar .byte v = v then some v else none
theorem ngB_e {x v : Int32} (h : ngB x = some v) : narrow .byte (.int x) = .int x ∧ x = v := by
  unfold ngB at h
  split at h
  · rename_i q; exact ⟨by show Value.int (vp_nar .byte x) = _; rw [q], Option.some.inj h⟩
  · cases h
theorem xPreVS {As : List Value} (E : xE p m c cc nL s args own D cA A Zs meth ret) (hR : xR D cA A Zs X H) (hS : va_S A s.heap H locs) (h : a = X.2.1.2.2.2.1) : PreV s H "java/lang/String" a (xPc D cA A Zs X (.ref a :: As)) As := by
  refine ⟨xBlind, ?_, fun U hU hW => ⟨rfl, by rw [hU]; exact hR, xK.moved hW (by rw [hU]; exact hS.2.1) E.2.1⟩⟩
  have e := hR.2.2.2.2.1
  have := vk_recv (i := 0) E.2.1.2.2.2.2.2.2.2.2.1 (by decide) hS
  rw [show Zs.2.1 = X.2.1.2.2.2.1 by rw [e], ← h] at this
  exact this
theorem xacmp_eq {b : Nat} {off : Int} {tgt : Nat} (hexec : p.tables.exec = Jvm.exec) (hb : c.code = cc) (hdg : decode cc pc = .ok (.if_acmp .eq off, 3)) (ht : (pc : Int) + off = (tgt : Int)) (kt : a = b → W p l e R s m args below meth c H locs cells slots Q (F0 m tgt ls rest)) (kf : ¬ a = b → W p l e R s m args below meth c H locs cells slots Q (F0 m (pc + 3) ls rest)) : W p l e R s m args below meth c H locs cells slots Q (F0 m pc ls (.ref b :: .ref a :: rest)) :=
  lv_acmp_eq (rx := some a) (ry := some b) hexec hb hdg ht (fun h => kt (Option.some.inj h)) (fun h => kf fun z => h (by rw [z]))
theorem xacmp_ne {b : Nat} {off : Int} {tgt : Nat} (hexec : p.tables.exec = Jvm.exec) (hb : c.code = cc) (hdg : decode cc pc = .ok (.if_acmp .ne off, 3)) (ht : (pc : Int) + off = (tgt : Int)) (kt : ¬ a = b → W p l e R s m args below meth c H locs cells slots Q (F0 m tgt ls rest)) (kf : a = b → W p l e R s m args below meth c H locs cells slots Q (F0 m (pc + 3) ls rest)) : W p l e R s m args below meth c H locs cells slots Q (F0 m pc ls (.ref b :: .ref a :: rest)) :=
  lv_acmp_ne (rx := some a) (ry := some b) hexec hb hdg ht (fun h => kt fun z => h (by rw [z])) (fun h => kf (Option.some.inj h))
end XB
theorem xwsF {own C : String} {idx : Nat} {x y : MethodName} {ws : List Cond} (h1 : Cond.methodLink own idx x ∈ lw_all) (h2 : Cond.selects C x y ∈ lw_all) (h3 : Cond.instanceMethod y ∈ lw_all) (h4 : Cond.initialized y.cls ∈ lw_all) (h : GoodIn lw_all ws) : GoodIn lw_all (va_wsF own idx C x y ws) := by
  refine lw_app ?_ h
  intro w hw
  simp only [List.mem_cons, List.not_mem_nil, or_false] at hw
  rcases hw with e | e | e | e
  · rw [e]; exact h1
  · rw [e]; exact h2
  · rw [e]; exact h3
  · rw [e]; exact h4
theorem xwsSU {own : String} {idx : Nat} {y : MethodName} {ws : List Cond} (h1 : Cond.methodLink own idx y ∈ lw_all) (h2 : Cond.sameMethod y.cls y.cls y.name y.desc ∈ lw_all) (h3 : Cond.superclass own y.cls ∈ lw_all) (h4 : Cond.instanceMethod y ∈ lw_all) (h5 : Cond.initialized y.cls ∈ lw_all) (h : GoodIn lw_all ws) : GoodIn lw_all (va_wsSU own idx y ws) := by
  refine lw_app ?_ h
  intro w hw
  simp only [List.mem_cons, List.not_mem_nil, or_false] at hw
  rcases hw with e | e | e | e | e
  · rw [e]; exact h1
  · rw [e]; exact h2
  · rw [e]; exact h3
  · rw [e]; exact h4
  · rw [e]; exact h5
section SN
variable {p : Program} {l : Launch} {e : Env} {R : Room} {s : State} {m : MethodId} {args : Array Value} {below : List Frame} {meth : Method} {c : Code} {H : Heap} {locs : List Loc} {cells slots : Nat} {Q : State → Prop} {cc : ByteArray} {pc nL : Nat} {ls : Array Slot} {rest : List Value} {own host : String}
variable {y : MethodName} {bytes : ByteArray} {maxL n index : Nat} {ret2 : Option FieldType} {ws : List Cond} {rm : Room} {As : List Value} {st0 : List Value}
theorem scallN_i {r : Int32} (E : CallFix p m c cc nL s args lw_all own) (hM : Met l y ws rm (sPc As) (sQi r) 0 0 (fun _ => False)) (cw : va_CN R s args own index y host bytes maxL ret2 ws rm 0 0 n ∧ (Cond.static y).before args s = true ∧ True) (hn : As.length = n) (hsize : ls.size = nL) (hstack : st0 = As.reverse ++ rest) (hW : (rest.map fun v => v.category).sum ≤ 8) (hdg : decode cc pc = .ok (.invokestatic index, 3)) (hf : cells ≤ R.cells ∧ slots ≤ R.slots)
    (k : W p l e R s m args below meth c H locs cells slots Q (F0 m (pc + 3) ls (.int r :: rest))) : W p l e R s m args below meth c H locs cells slots Q (F0 m pc ls st0) := by
  have hr := va_runSN (e := e) (below := below) (meth := meth) (H := H) (locs := locs) (cells := cells) (slots := slots) (g := F0 m pc ls st0) (As := As) (rest := rest) E hM cw ⟨fun a U g mk q => q, fun U hU hW => ⟨rfl, trivial⟩⟩ rfl hn hsize hstack (lv_room (m := m) (pc := pc) (ls := ls) (rest := rest) hW) hdg hf
  intro T hT X
  obtain ⟨v, st₀, t, T', L, h0, X', hL, e1, e2, ⟨r1, hv, hp, hh⟩, st⟩ := hr T hT X
  cases hv
  have hLe : L = [] := by
    cases L with
    | nil => rfl
    | cons a L => exact (hL a List.mem_cons_self).elim
  subst hLe
  rw [List.append_nil] at X'
  obtain ⟨t2, a1, b1⟩ := k T' (by rw [e1, hh, h0]) X'
  rw [← hp] at a1
  exact ⟨t2, st t2 a1, b1⟩
end SN

section MM
variable {p : Program} {l : Launch} {e : Env} {R : Room} {s : State} {m : MethodId} {args : Array Value} {below : List Frame} {meth : Method} {c : Code} {H : Heap} {locs : List Loc} {cells slots : Nat} {Q : State → Prop} {cc : ByteArray} {pc nL : Nat} {ls : Array Slot} {rest : List Value} {own : String} {index : Nat} {D : va_G} {cA : Nat → ClassId} {A : Nat → Prop} {Zs : XZ} {ret : Option FieldType}
def jmax (x y : Int32) : Int32 := if x < y then y else x
theorem xmmax {x y : Int32} (E : xE p m c cc nL s args own D cA A Zs meth ret) (hsz : ls.size = nL) (hlink : Cond.methodLink own index ⟨"java/lang/Math", "max", "(II)I"⟩ ∈ lw_all) (hframes : 1 ≤ R.frames) (hlocals : (rest.map fun v => v.category).sum + 13 ≤ R.locals) (hc : cells ≤ R.cells) (hs : slots ≤ R.slots) (hdg : decode cc pc = .ok (.invokestatic index, 3)) (kk : W p l e R s m args below meth c H locs cells slots Q (F0 m (pc + 3) ls (.int (jmax x y) :: rest))) : W p l e R s m args below meth c H locs cells slots Q (F0 m pc ls (.int y :: .int x :: rest)) :=
  va_mmax E.hx E.hb (E.1.2.2.1.trans hsz.symm) E.ho (E.ht _ hlink) (E.ht _ q677) (E.ht _ q96) (E.ht _ q678) hframes hlocals hc hs hdg kk
def jmin (x y : Int32) : Int32 := if y < x then y else x
theorem xmmin {x y : Int32} (E : xE p m c cc nL s args own D cA A Zs meth ret) (hsz : ls.size = nL) (hlink : Cond.methodLink own index ⟨"java/lang/Math", "min", "(II)I"⟩ ∈ lw_all) (hframes : 1 ≤ R.frames) (hlocals : (rest.map fun v => v.category).sum + 13 ≤ R.locals) (hc : cells ≤ R.cells) (hs : slots ≤ R.slots) (hdg : decode cc pc = .ok (.invokestatic index, 3)) (kk : W p l e R s m args below meth c H locs cells slots Q (F0 m (pc + 3) ls (.int (jmin x y) :: rest))) : W p l e R s m args below meth c H locs cells slots Q (F0 m pc ls (.int y :: .int x :: rest)) :=
  va_mmin E.hx E.hb (E.1.2.2.1.trans hsz.symm) E.ho (E.ht _ hlink) (E.ht _ q713) (E.ht _ q96) (E.ht _ q714) hframes hlocals hc hs hdg kk
end MM
