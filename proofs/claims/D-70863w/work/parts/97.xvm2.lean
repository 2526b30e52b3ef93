/-! the machine's own exceptions over the abstract heap -/
def xsk (X : AH) : AH := (X.1 + 3, X.2)
def xLsL : List (String × String) := [("UNASSIGNED_STACK", "[Ljava/lang/StackTraceElement;"), ("SUPPRESSED_SENTINEL", "Ljava/util/List;")]
def xLs (n d : String) (A : Nat → Prop) (U : State) (H : Heap) : Prop := ∃ (c : ClassId) (k : Class) (i : Nat) (f : Field) (a : Nat) (cell : Cell), U.vm.findClass "java/lang/Throwable" = some c ∧ U.fieldFound? "java/lang/Throwable" n d = some (c, k, i, f) ∧ f.isStatic = true ∧ k.statics = some a ∧ H[a]? = some cell ∧ cell.vm.isStatics = true ∧ cell.cls = c ∧ f.slot < cell.slots.size ∧ k.staticTypes[f.slot]? = some f.type ∧ ¬ A a
theorem xLs.of {n d : String} {A : Nat → Prop} {U : State} {args : Array Value} (h : (Cond.laysStatic "java/lang/Throwable" n d).before args U = true) (hA : ∀ (a : Nat) (cell : Cell), U.heap[a]? = some cell → ¬ A a) : xLs n d A U U.heap := by
  obtain ⟨c, k, i, f, a, cell, h1, h2, h3, h4, h5, h6, h7, h8, h9⟩ := Cond.laysStatic_spec h
  exact ⟨c, k, i, f, a, cell, h1, h2, h3, h4, h5, h6, h7, h8, h9, hA a cell h5⟩
theorem xLs.use {n d : String} {A : Nat → Prop} {U : State} {args : Array Value} (h : xLs n d A U U.heap) : (Cond.laysStatic "java/lang/Throwable" n d).before args U = true := by
  obtain ⟨c, k, i, f, a, cell, h1, h2, h3, h4, h5, h6, h7, h8, h9, -⟩ := h
  simp only [Cond.before, Cond.holds, Cond.value, h1, h2, h4, Option.bind_some, h5, Option.map_some, h3, h6, h7, h8, h9, decide_true, Bool.and_true, beq_self_eq_true, Option.getD_some]
theorem xLs.moved {n d : String} {A : Nat → Prop} {s U : State} (hW : s.WarmedH U.vm) (hh : ∀ a : Nat, a < s.heap.size → ¬ A a → U.heap[a]? = s.heap[a]?) (h : xLs n d A s s.heap) : xLs n d A U U.heap := by
  obtain ⟨c, k, i, f, a, cell, h1, h2, h3, h4, h5, h6, h7, h8, h9, h10⟩ := h
  obtain ⟨k', hi', he⟩ := State.fieldFound?_setVm hW.alike h2
  have hlt : a < s.heap.size := (Array.getElem?_eq_some_iff.mp h5).1
  exact ⟨c, k', i, f, a, cell, by rw [hW.alike.findClass]; exact h1, hi', h3, by rw [he]; exact h4, by rw [hh a hlt h10]; exact h5, h6, h7, h8, by rw [he]; exact h9, h10⟩
def xNot : List (String × String) := [("ChairRanks$Plain", "ChairRanks$Rocker"), ("ChairRanks$Plain", "ChairRanks$Cushioned"), ("ChairRanks$Plain", "ChairRanks$Oak"), ("ChairRanks$Plain", "ChairRanks$Throne"), ("ChairRanks$Rocker", "ChairRanks$Cushioned"), ("ChairRanks$Rocker", "ChairRanks$Oak"), ("ChairRanks$Rocker", "ChairRanks$Throne"), ("ChairRanks$Cushioned", "ChairRanks$Rocker"), ("ChairRanks$Cushioned", "ChairRanks$Oak"), ("ChairRanks$Cushioned", "ChairRanks$Throne"), ("ChairRanks$Oak", "ChairRanks$Plain"), ("ChairRanks$Oak", "ChairRanks$Rocker"), ("ChairRanks$Oak", "ChairRanks$Cushioned"), ("ChairRanks$Oak", "ChairRanks$Throne"), ("ChairRanks$Throne", "ChairRanks$Plain"), ("ChairRanks$Throne", "ChairRanks$Rocker"), ("ChairRanks$Throne", "ChairRanks$Cushioned")]
def xNc (C T : String) (U : State) : Prop := ∃ c t, U.vm.findClass C = some c ∧ U.vm.findClass T = some t ∧ U.vm.assignable c t = false
theorem xNc.moved {C T : String} {s U : State} (hW : s.WarmedH U.vm) (h : xNc C T s) : xNc C T U := by
  obtain ⟨c, t, h1, h2, h3⟩ := h
  exact ⟨c, t, by rw [hW.alike.findClass]; exact h1, by rw [hW.alike.findClass]; exact h2, by rw [hW.alike.assignable]; exact h3⟩
def xMod (U : State) : Prop := (U.vm.modules.all fun m => m.loader.isSome || m.name == "java.base" || !(castPackages_1.any fun p => m.packages.contains p)) = true
theorem xMod.moved {s U : State} (hW : s.WarmedH U.vm) (h : xMod s) : xMod U := by
  unfold xMod at h ⊢
  rw [hW.1]; exact h
/-- what copy and as want beside xK -/
def xX (A : Nat → Prop) (U : State) : Prop := (∀ q ∈ xLsL, xLs q.1 q.2 A U U.heap) ∧ (∀ q ∈ xNot, xNc q.1 q.2 U) ∧ xMod U
theorem xX.moved {A : Nat → Prop} {s U : State} (hW : s.WarmedH U.vm) (hh : ∀ a : Nat, a < s.heap.size → ¬ A a → U.heap[a]? = s.heap[a]?) (h : xX A s) : xX A U :=
  ⟨fun q hq => (h.1 q hq).moved hW hh, fun q hq => (h.2.1 q hq).moved hW, h.2.2.moved hW⟩
abbrev aN : List String := ["java/lang/IndexOutOfBoundsException", "java/lang/RuntimeException", "java/lang/Exception"]
abbrev cN : List String := ["java/lang/RuntimeException", "java/lang/Exception"]
def vmEx (cls : String) : List Cond := [.castable cls cls, .laysStatic "java/lang/Throwable" "UNASSIGNED_STACK" "[Ljava/lang/StackTraceElement;", .laysStatic "java/lang/Throwable" "SUPPRESSED_SENTINEL" "Ljava/util/List;", .isRef (.static "java/lang/Throwable" "UNASSIGNED_STACK" "[Ljava/lang/StackTraceElement;"), .isRef (.static "java/lang/Throwable" "SUPPRESSED_SENTINEL" "Ljava/util/List;")]
def isDecl (w : Cond) : Bool := match w with
  | .declares x => decide (x ∈ xDecl)
  | _ => false
theorem aN_ok : (Bundle.messageArmAtoms "java/lang/ArrayIndexOutOfBoundsException" aN).all (fun w => (decide (w ∈ lw_tbl) && goodWord w) || decide (w ∈ vmEx "java/lang/ArrayIndexOutOfBoundsException") || isDecl w) = true := by decide +kernel
theorem cN_ok : (Bundle.messageArmAtoms "java/lang/ClassCastException" cN).all (fun w => (decide (w ∈ lw_tbl) && goodWord w) || decide (w ∈ vmEx "java/lang/ClassCastException") || isDecl w) = true := by decide +kernel
