/-! a new Ministry: eight cells from the first free one on -/
theorem nep (p : Nat) {k : Nat} (h : 0 < k) : p + k ≠ p := by omega
theorem pen (p : Nat) {k : Nat} (h : 0 < k) : p ≠ p + k := by omega
theorem xnw_1 {X : AH} {e : XC} : (xnw X e).1 = X.1 + 1 := rfl
theorem xup_1 {X : AH} {a : Nat} {e : XC} : (xup X a e).1 = X.1 := rfl
theorem x_listInit {X : AH} {a : Nat} (hw : wfX X) (h : X.2.2 a = some (.inl (9, [.int 0, .null, .int 0]))) : ∃ Y, fJ2_init X a = some Y ∧ Y.1 = X.1 ∧ Y.2.1 = X.2.1 ∧ wfX Y ∧ Y.2.2 a = some (.inl (9, [.int 0, .ref X.2.1.1, .int 0])) ∧ ∀ b, b ≠ a → Y.2.2 b = X.2.2 b := by
  have h1 : pF X a 9 0 (.int 0) = some (xup X a (.inl (9, [.int 0, .null, .int 0]))) := pF_of h (Nat.le_of_ble_eq_true rfl)
  have h2 : pF (xup X a (.inl (9, [.int 0, .null, .int 0]))) a 9 1 (.ref X.2.1.1) = some (xup (xup X a (.inl (9, [.int 0, .null, .int 0]))) a (.inl (9, [.int 0, .ref X.2.1.1, .int 0]))) := pF_of xup_s (Nat.le_of_ble_eq_true rfl)
  refine ⟨xup (xup X a (.inl (9, [.int 0, .null, .int 0]))) a (.inl (9, [.int 0, .ref X.2.1.1, .int 0])), ?_, rfl, rfl, fun b hb => ?_, xup_s, fun b hb => by rw [xup_n hb, xup_n hb]⟩
  · unfold fJ2_init fJ1_init fJ0_init
    simp only [Option.bind_some, h1]
    rw [show (xup X a (.inl (9, [.int 0, .null, .int 0]))).2.1.1 = X.2.1.1 from rfl, h2]; rfl
  · have l := hw.lt h
    have hb : X.1 ≤ b := hb
    rw [xup_n (by omega), xup_n (by omega)]; exact hw b hb
theorem x_newMin {X : AH} (hw : wfX X) : ∃ Y, fX1_init (xnw X (.inl (1, [.int 0, .int 0, .null, .null, .null, .null, .null, .null, .int 0, .int 0, .null, .int 0, .null]))) X.1 = some Y ∧ MinAt Y X.1 (X.1 + 1) (fun _ => 0) NO .null ∧ Y.2.2 (X.1 + 1) = some (.inl (9, [.int 0, .ref X.2.1.1, .int 0])) ∧ Y.1 = X.1 + 8 ∧ AgX (fun _ => False) X Y := by
  generalize hp : X.1 = p
  have nz : ∀ Z W : AH, AgX (fun a => p ≤ a) Z W → AgX (fun a => p ≤ a) Z W := fun _ _ h => h
  have a0 : AgX (fun a => p ≤ a) X (xnw X (.inl (1, [.int 0, .int 0, .null, .null, .null, .null, .null, .null, .int 0, .int 0, .null, .int 0, .null]))) := AgX.nw hw
  have o0 : (xnw X (.inl (1, [.int 0, .int 0, .null, .null, .null, .null, .null, .null, .int 0, .int 0, .null, .int 0, .null]))).2.2 p = some (.inl (1, [.int 0, .int 0, .null, .null, .null, .null, .null, .null, .int 0, .int 0, .null, .int 0, .null])) := by rw [← hp]; exact xnw_s
  have s0 : (xnw X (.inl (1, [.int 0, .int 0, .null, .null, .null, .null, .null, .null, .int 0, .int 0, .null, .int 0, .null]))).1 = p + 1 := by rw [xnw_1, hp]
  have c0 : (xnw X (.inl (1, [.int 0, .int 0, .null, .null, .null, .null, .null, .null, .int 0, .int 0, .null, .int 0, .null]))).2.1 = X.2.1 := rfl
  generalize xnw X (.inl (1, [.int 0, .int 0, .null, .null, .null, .null, .null, .null, .int 0, .int 0, .null, .int 0, .null])) = X0 at a0 o0 s0 c0
  unfold fX1_init
  rw [Option.bind_some]
  have a1 : AgX (fun a => p ≤ a) X0 (xnw X0 (.inl (9, [.int 0, .null, .int 0]))) := AgX.nw a0.w
  have o1 : (xnw X0 (.inl (9, [.int 0, .null, .int 0]))).2.2 p = some (.inl (1, [.int 0, .int 0, .null, .null, .null, .null, .null, .null, .int 0, .int 0, .null, .int 0, .null])) := by rw [xnw_n (by omega)]; exact o0
  have l1 : (xnw X0 (.inl (9, [.int 0, .null, .int 0]))).2.2 (p + 1) = some (.inl (9, [.int 0, .null, .int 0])) := by rw [← s0]; exact xnw_s
  have s1 : (xnw X0 (.inl (9, [.int 0, .null, .int 0]))).1 = p + 2 := by rw [xnw_1, s0]
  have c1 : (xnw X0 (.inl (9, [.int 0, .null, .int 0]))).2.1 = X.2.1 := c0
  rw [s0]
  generalize xnw X0 (.inl (9, [.int 0, .null, .int 0])) = X1 at a1 o1 l1 s1 c1
  obtain ⟨X2, i2, s2, c2, w2, l2, n2⟩ := x_listInit a1.w l1
  rw [s1] at s2
  rw [c1] at c2 l2
  have o2 : X2.2.2 p = some (.inl (1, [.int 0, .int 0, .null, .null, .null, .null, .null, .null, .int 0, .int 0, .null, .int 0, .null])) := by rw [n2 p (by omega)]; exact o1
  have a2 : AgX (fun a => p ≤ a) X X2 := by
    refine ⟨c2, by omega, fun b hb _ => ?_, fun b e he _ => ?_, w2⟩
    · rw [n2 b (by omega)]; exact (a0.tr a1).2.2.1 b hb (by omega)
    · have := hw.lt he
      rw [n2 b (by omega), (a0.tr a1).2.2.1 b this (by omega)]; exact he
  rw [i2, Option.bind_some]
  have e4 : pF X2 p 1 2 (.ref (p + 1)) = some (xup X2 p (.inl (1, [.int 0, .int 0, .ref (p + 1), .null, .null, .null, .null, .null, .int 0, .int 0, .null, .int 0, .null]))) := pF_of o2 (Nat.le_of_ble_eq_true rfl)
  rw [e4, Option.bind_some]
  have g4 : AgX (fun a => a = p) X2 (xup X2 p (.inl (1, [.int 0, .int 0, .ref (p + 1), .null, .null, .null, .null, .null, .int 0, .int 0, .null, .int 0, .null]))) := AgX.up w2 o2 (ni_o (Or.inl (by decide))) rfl
  have o4 : (xup X2 p (.inl (1, [.int 0, .int 0, .ref (p + 1), .null, .null, .null, .null, .null, .int 0, .int 0, .null, .int 0, .null]))).2.2 p = some (.inl (1, [.int 0, .int 0, .ref (p + 1), .null, .null, .null, .null, .null, .int 0, .int 0, .null, .int 0, .null])) := xup_s
  have s4 : (xup X2 p (.inl (1, [.int 0, .int 0, .ref (p + 1), .null, .null, .null, .null, .null, .int 0, .int 0, .null, .int 0, .null]))).1 = p + 2 := by rw [xup_1]; exact s2
  clear e4
  generalize xup X2 p (.inl (1, [.int 0, .int 0, .ref (p + 1), .null, .null, .null, .null, .null, .int 0, .int 0, .null, .int 0, .null])) = X4 at g4 o4 s4
  rw [Option.bind_some, s4]
  have g5 : AgX (fun a => a = p) X4 (xnw X4 (.inr (.inl (0, 6, fun _ => 0)))) := AgX.nw g4.w
  have o5 : (xnw X4 (.inr (.inl (0, 6, fun _ => 0)))).2.2 p = some (.inl (1, [.int 0, .int 0, .ref (p + 1), .null, .null, .null, .null, .null, .int 0, .int 0, .null, .int 0, .null])) := by rw [xnw_n (by rw [s4]; exact pen p (by decide))]; exact o4
  have z2 : (xnw X4 (.inr (.inl (0, 6, fun _ => 0)))).2.2 (p + 2) = some (.inr (.inl (0, 6, fun _ => 0))) := by rw [← s4]; exact xnw_s
  have s5 : (xnw X4 (.inr (.inl (0, 6, fun _ => 0)))).1 = p + 3 := by rw [xnw_1, s4]
  generalize xnw X4 (.inr (.inl (0, 6, fun _ => 0))) = X5 at g5 o5 z2 s5
  have e6 : pF X5 p 1 3 (.ref (p + 2)) = some (xup X5 p (.inl (1, [.int 0, .int 0, .ref (p + 1), .ref (p + 2), .null, .null, .null, .null, .int 0, .int 0, .null, .int 0, .null]))) := pF_of o5 (Nat.le_of_ble_eq_true rfl)
  rw [e6, Option.bind_some]
  have g6 : AgX (fun a => a = p) X5 (xup X5 p (.inl (1, [.int 0, .int 0, .ref (p + 1), .ref (p + 2), .null, .null, .null, .null, .int 0, .int 0, .null, .int 0, .null]))) := AgX.up g5.w o5 (ni_o (Or.inl (by decide))) rfl
  have o6 : (xup X5 p (.inl (1, [.int 0, .int 0, .ref (p + 1), .ref (p + 2), .null, .null, .null, .null, .int 0, .int 0, .null, .int 0, .null]))).2.2 p = some (.inl (1, [.int 0, .int 0, .ref (p + 1), .ref (p + 2), .null, .null, .null, .null, .int 0, .int 0, .null, .int 0, .null])) := xup_s
  have s6 : (xup X5 p (.inl (1, [.int 0, .int 0, .ref (p + 1), .ref (p + 2), .null, .null, .null, .null, .int 0, .int 0, .null, .int 0, .null]))).1 = p + 3 := by rw [xup_1]; exact s5
  clear e6
  generalize xup X5 p (.inl (1, [.int 0, .int 0, .ref (p + 1), .ref (p + 2), .null, .null, .null, .null, .int 0, .int 0, .null, .int 0, .null])) = X6 at g6 o6 s6
  rw [Option.bind_some, s6]
  have g7 : AgX (fun a => a = p) X6 (xnw X6 (.inr (.inl (0, 6, fun _ => 0)))) := AgX.nw g6.w
  have o7 : (xnw X6 (.inr (.inl (0, 6, fun _ => 0)))).2.2 p = some (.inl (1, [.int 0, .int 0, .ref (p + 1), .ref (p + 2), .null, .null, .null, .null, .int 0, .int 0, .null, .int 0, .null])) := by rw [xnw_n (by rw [s6]; exact pen p (by decide))]; exact o6
  have z3 : (xnw X6 (.inr (.inl (0, 6, fun _ => 0)))).2.2 (p + 3) = some (.inr (.inl (0, 6, fun _ => 0))) := by rw [← s6]; exact xnw_s
  have s7 : (xnw X6 (.inr (.inl (0, 6, fun _ => 0)))).1 = p + 4 := by rw [xnw_1, s6]
  generalize xnw X6 (.inr (.inl (0, 6, fun _ => 0))) = X7 at g7 o7 z3 s7
  have e8 : pF X7 p 1 4 (.ref (p + 3)) = some (xup X7 p (.inl (1, [.int 0, .int 0, .ref (p + 1), .ref (p + 2), .ref (p + 3), .null, .null, .null, .int 0, .int 0, .null, .int 0, .null]))) := pF_of o7 (Nat.le_of_ble_eq_true rfl)
  rw [e8, Option.bind_some]
  have g8 : AgX (fun a => a = p) X7 (xup X7 p (.inl (1, [.int 0, .int 0, .ref (p + 1), .ref (p + 2), .ref (p + 3), .null, .null, .null, .int 0, .int 0, .null, .int 0, .null]))) := AgX.up g7.w o7 (ni_o (Or.inl (by decide))) rfl
  have o8 : (xup X7 p (.inl (1, [.int 0, .int 0, .ref (p + 1), .ref (p + 2), .ref (p + 3), .null, .null, .null, .int 0, .int 0, .null, .int 0, .null]))).2.2 p = some (.inl (1, [.int 0, .int 0, .ref (p + 1), .ref (p + 2), .ref (p + 3), .null, .null, .null, .int 0, .int 0, .null, .int 0, .null])) := xup_s
  have s8 : (xup X7 p (.inl (1, [.int 0, .int 0, .ref (p + 1), .ref (p + 2), .ref (p + 3), .null, .null, .null, .int 0, .int 0, .null, .int 0, .null]))).1 = p + 4 := by rw [xup_1]; exact s7
  clear e8
  generalize xup X7 p (.inl (1, [.int 0, .int 0, .ref (p + 1), .ref (p + 2), .ref (p + 3), .null, .null, .null, .int 0, .int 0, .null, .int 0, .null])) = X8 at g8 o8 s8
  rw [Option.bind_some, s8]
  have g9 : AgX (fun a => a = p) X8 (xnw X8 (.inr (.inl (0, 6, fun _ => 0)))) := AgX.nw g8.w
  have o9 : (xnw X8 (.inr (.inl (0, 6, fun _ => 0)))).2.2 p = some (.inl (1, [.int 0, .int 0, .ref (p + 1), .ref (p + 2), .ref (p + 3), .null, .null, .null, .int 0, .int 0, .null, .int 0, .null])) := by rw [xnw_n (by rw [s8]; exact pen p (by decide))]; exact o8
  have z4 : (xnw X8 (.inr (.inl (0, 6, fun _ => 0)))).2.2 (p + 4) = some (.inr (.inl (0, 6, fun _ => 0))) := by rw [← s8]; exact xnw_s
  have s9 : (xnw X8 (.inr (.inl (0, 6, fun _ => 0)))).1 = p + 5 := by rw [xnw_1, s8]
  generalize xnw X8 (.inr (.inl (0, 6, fun _ => 0))) = X9 at g9 o9 z4 s9
  have e10 : pF X9 p 1 5 (.ref (p + 4)) = some (xup X9 p (.inl (1, [.int 0, .int 0, .ref (p + 1), .ref (p + 2), .ref (p + 3), .ref (p + 4), .null, .null, .int 0, .int 0, .null, .int 0, .null]))) := pF_of o9 (Nat.le_of_ble_eq_true rfl)
  rw [e10, Option.bind_some]
  have g10 : AgX (fun a => a = p) X9 (xup X9 p (.inl (1, [.int 0, .int 0, .ref (p + 1), .ref (p + 2), .ref (p + 3), .ref (p + 4), .null, .null, .int 0, .int 0, .null, .int 0, .null]))) := AgX.up g9.w o9 (ni_o (Or.inl (by decide))) rfl
  have o10 : (xup X9 p (.inl (1, [.int 0, .int 0, .ref (p + 1), .ref (p + 2), .ref (p + 3), .ref (p + 4), .null, .null, .int 0, .int 0, .null, .int 0, .null]))).2.2 p = some (.inl (1, [.int 0, .int 0, .ref (p + 1), .ref (p + 2), .ref (p + 3), .ref (p + 4), .null, .null, .int 0, .int 0, .null, .int 0, .null])) := xup_s
  have s10 : (xup X9 p (.inl (1, [.int 0, .int 0, .ref (p + 1), .ref (p + 2), .ref (p + 3), .ref (p + 4), .null, .null, .int 0, .int 0, .null, .int 0, .null]))).1 = p + 5 := by rw [xup_1]; exact s9
  clear e10
  generalize xup X9 p (.inl (1, [.int 0, .int 0, .ref (p + 1), .ref (p + 2), .ref (p + 3), .ref (p + 4), .null, .null, .int 0, .int 0, .null, .int 0, .null])) = X10 at g10 o10 s10
  rw [Option.bind_some, s10]
  have g11 : AgX (fun a => a = p) X10 (xnw X10 (.inr (.inl (0, 6, fun _ => 0)))) := AgX.nw g10.w
  have o11 : (xnw X10 (.inr (.inl (0, 6, fun _ => 0)))).2.2 p = some (.inl (1, [.int 0, .int 0, .ref (p + 1), .ref (p + 2), .ref (p + 3), .ref (p + 4), .null, .null, .int 0, .int 0, .null, .int 0, .null])) := by rw [xnw_n (by rw [s10]; exact pen p (by decide))]; exact o10
  have z5 : (xnw X10 (.inr (.inl (0, 6, fun _ => 0)))).2.2 (p + 5) = some (.inr (.inl (0, 6, fun _ => 0))) := by rw [← s10]; exact xnw_s
  have s11 : (xnw X10 (.inr (.inl (0, 6, fun _ => 0)))).1 = p + 6 := by rw [xnw_1, s10]
  generalize xnw X10 (.inr (.inl (0, 6, fun _ => 0))) = X11 at g11 o11 z5 s11
  have e12 : pF X11 p 1 6 (.ref (p + 5)) = some (xup X11 p (.inl (1, [.int 0, .int 0, .ref (p + 1), .ref (p + 2), .ref (p + 3), .ref (p + 4), .ref (p + 5), .null, .int 0, .int 0, .null, .int 0, .null]))) := pF_of o11 (Nat.le_of_ble_eq_true rfl)
  rw [e12, Option.bind_some]
  have g12 : AgX (fun a => a = p) X11 (xup X11 p (.inl (1, [.int 0, .int 0, .ref (p + 1), .ref (p + 2), .ref (p + 3), .ref (p + 4), .ref (p + 5), .null, .int 0, .int 0, .null, .int 0, .null]))) := AgX.up g11.w o11 (ni_o (Or.inl (by decide))) rfl
  have o12 : (xup X11 p (.inl (1, [.int 0, .int 0, .ref (p + 1), .ref (p + 2), .ref (p + 3), .ref (p + 4), .ref (p + 5), .null, .int 0, .int 0, .null, .int 0, .null]))).2.2 p = some (.inl (1, [.int 0, .int 0, .ref (p + 1), .ref (p + 2), .ref (p + 3), .ref (p + 4), .ref (p + 5), .null, .int 0, .int 0, .null, .int 0, .null])) := xup_s
  have s12 : (xup X11 p (.inl (1, [.int 0, .int 0, .ref (p + 1), .ref (p + 2), .ref (p + 3), .ref (p + 4), .ref (p + 5), .null, .int 0, .int 0, .null, .int 0, .null]))).1 = p + 6 := by rw [xup_1]; exact s11
  clear e12
  generalize xup X11 p (.inl (1, [.int 0, .int 0, .ref (p + 1), .ref (p + 2), .ref (p + 3), .ref (p + 4), .ref (p + 5), .null, .int 0, .int 0, .null, .int 0, .null])) = X12 at g12 o12 s12
  rw [Option.bind_some, s12]
  have g13 : AgX (fun a => a = p) X12 (xnw X12 (.inr (.inl (0, 6, fun _ => 0)))) := AgX.nw g12.w
  have o13 : (xnw X12 (.inr (.inl (0, 6, fun _ => 0)))).2.2 p = some (.inl (1, [.int 0, .int 0, .ref (p + 1), .ref (p + 2), .ref (p + 3), .ref (p + 4), .ref (p + 5), .null, .int 0, .int 0, .null, .int 0, .null])) := by rw [xnw_n (by rw [s12]; exact pen p (by decide))]; exact o12
  have z6 : (xnw X12 (.inr (.inl (0, 6, fun _ => 0)))).2.2 (p + 6) = some (.inr (.inl (0, 6, fun _ => 0))) := by rw [← s12]; exact xnw_s
  have s13 : (xnw X12 (.inr (.inl (0, 6, fun _ => 0)))).1 = p + 7 := by rw [xnw_1, s12]
  generalize xnw X12 (.inr (.inl (0, 6, fun _ => 0))) = X13 at g13 o13 z6 s13
  have e14 : pF X13 p 1 7 (.ref (p + 6)) = some (xup X13 p (.inl (1, [.int 0, .int 0, .ref (p + 1), .ref (p + 2), .ref (p + 3), .ref (p + 4), .ref (p + 5), .ref (p + 6), .int 0, .int 0, .null, .int 0, .null]))) := pF_of o13 (Nat.le_of_ble_eq_true rfl)
  rw [e14, Option.bind_some]
  have g14 : AgX (fun a => a = p) X13 (xup X13 p (.inl (1, [.int 0, .int 0, .ref (p + 1), .ref (p + 2), .ref (p + 3), .ref (p + 4), .ref (p + 5), .ref (p + 6), .int 0, .int 0, .null, .int 0, .null]))) := AgX.up g13.w o13 (ni_o (Or.inl (by decide))) rfl
  have o14 : (xup X13 p (.inl (1, [.int 0, .int 0, .ref (p + 1), .ref (p + 2), .ref (p + 3), .ref (p + 4), .ref (p + 5), .ref (p + 6), .int 0, .int 0, .null, .int 0, .null]))).2.2 p = some (.inl (1, [.int 0, .int 0, .ref (p + 1), .ref (p + 2), .ref (p + 3), .ref (p + 4), .ref (p + 5), .ref (p + 6), .int 0, .int 0, .null, .int 0, .null])) := xup_s
  have s14 : (xup X13 p (.inl (1, [.int 0, .int 0, .ref (p + 1), .ref (p + 2), .ref (p + 3), .ref (p + 4), .ref (p + 5), .ref (p + 6), .int 0, .int 0, .null, .int 0, .null]))).1 = p + 7 := by rw [xup_1]; exact s13
  clear e14
  generalize xup X13 p (.inl (1, [.int 0, .int 0, .ref (p + 1), .ref (p + 2), .ref (p + 3), .ref (p + 4), .ref (p + 5), .ref (p + 6), .int 0, .int 0, .null, .int 0, .null])) = X14 at g14 o14 s14
  rw [Option.bind_some, s14]
  have g15 : AgX (fun a => a = p) X14 (xnw X14 (.inr (.inl (0, 6, fun _ => 0)))) := AgX.nw g14.w
  have o15 : (xnw X14 (.inr (.inl (0, 6, fun _ => 0)))).2.2 p = some (.inl (1, [.int 0, .int 0, .ref (p + 1), .ref (p + 2), .ref (p + 3), .ref (p + 4), .ref (p + 5), .ref (p + 6), .int 0, .int 0, .null, .int 0, .null])) := by rw [xnw_n (by rw [s14]; exact pen p (by decide))]; exact o14
  have z7 : (xnw X14 (.inr (.inl (0, 6, fun _ => 0)))).2.2 (p + 7) = some (.inr (.inl (0, 6, fun _ => 0))) := by rw [← s14]; exact xnw_s
  have s15 : (xnw X14 (.inr (.inl (0, 6, fun _ => 0)))).1 = p + 8 := by rw [xnw_1, s14]
  generalize xnw X14 (.inr (.inl (0, 6, fun _ => 0))) = X15 at g15 o15 z7 s15
  have e16 : pF X15 p 1 10 (.ref (p + 7)) = some (xup X15 p (.inl (1, [.int 0, .int 0, .ref (p + 1), .ref (p + 2), .ref (p + 3), .ref (p + 4), .ref (p + 5), .ref (p + 6), .int 0, .int 0, .ref (p + 7), .int 0, .null]))) := pF_of o15 (Nat.le_of_ble_eq_true rfl)
  rw [e16, Option.bind_some]
  have g16 : AgX (fun a => a = p) X15 (xup X15 p (.inl (1, [.int 0, .int 0, .ref (p + 1), .ref (p + 2), .ref (p + 3), .ref (p + 4), .ref (p + 5), .ref (p + 6), .int 0, .int 0, .ref (p + 7), .int 0, .null]))) := AgX.up g15.w o15 (ni_o (Or.inl (by decide))) rfl
  have o16 : (xup X15 p (.inl (1, [.int 0, .int 0, .ref (p + 1), .ref (p + 2), .ref (p + 3), .ref (p + 4), .ref (p + 5), .ref (p + 6), .int 0, .int 0, .ref (p + 7), .int 0, .null]))).2.2 p = some (.inl (1, [.int 0, .int 0, .ref (p + 1), .ref (p + 2), .ref (p + 3), .ref (p + 4), .ref (p + 5), .ref (p + 6), .int 0, .int 0, .ref (p + 7), .int 0, .null])) := xup_s
  have s16 : (xup X15 p (.inl (1, [.int 0, .int 0, .ref (p + 1), .ref (p + 2), .ref (p + 3), .ref (p + 4), .ref (p + 5), .ref (p + 6), .int 0, .int 0, .ref (p + 7), .int 0, .null]))).1 = p + 8 := by rw [xup_1]; exact s15
  clear e16
  generalize xup X15 p (.inl (1, [.int 0, .int 0, .ref (p + 1), .ref (p + 2), .ref (p + 3), .ref (p + 4), .ref (p + 5), .ref (p + 6), .int 0, .int 0, .ref (p + 7), .int 0, .null])) = X16 at g16 o16 s16
  have e17 : pF X16 p 1 11 (.int (-1000000)) = some (xup X16 p (.inl (1, [.int 0, .int 0, .ref (p + 1), .ref (p + 2), .ref (p + 3), .ref (p + 4), .ref (p + 5), .ref (p + 6), .int 0, .int 0, .ref (p + 7), .int (-1000000), .null]))) := pF_of o16 (Nat.le_of_ble_eq_true rfl)
  rw [e17, Option.bind_some]
  have g17 : AgX (fun a => a = p) X16 (xup X16 p (.inl (1, [.int 0, .int 0, .ref (p + 1), .ref (p + 2), .ref (p + 3), .ref (p + 4), .ref (p + 5), .ref (p + 6), .int 0, .int 0, .ref (p + 7), .int (-1000000), .null]))) := AgX.up g16.w o16 (ni_o (Or.inl (by decide))) rfl
  have o17 : (xup X16 p (.inl (1, [.int 0, .int 0, .ref (p + 1), .ref (p + 2), .ref (p + 3), .ref (p + 4), .ref (p + 5), .ref (p + 6), .int 0, .int 0, .ref (p + 7), .int (-1000000), .null]))).2.2 p = some (.inl (1, [.int 0, .int 0, .ref (p + 1), .ref (p + 2), .ref (p + 3), .ref (p + 4), .ref (p + 5), .ref (p + 6), .int 0, .int 0, .ref (p + 7), .int (-1000000), .null])) := xup_s
  have s17 : (xup X16 p (.inl (1, [.int 0, .int 0, .ref (p + 1), .ref (p + 2), .ref (p + 3), .ref (p + 4), .ref (p + 5), .ref (p + 6), .int 0, .int 0, .ref (p + 7), .int (-1000000), .null]))).1 = p + 8 := by rw [xup_1]; exact s16
  clear e17
  generalize xup X16 p (.inl (1, [.int 0, .int 0, .ref (p + 1), .ref (p + 2), .ref (p + 3), .ref (p + 4), .ref (p + 5), .ref (p + 6), .int 0, .int 0, .ref (p + 7), .int (-1000000), .null])) = X17 at g17 o17 s17
  have gg : AgX (fun a => a = p) X2 X17 := (((((((((((((g4).tr g5).tr g6).tr g7).tr g8).tr g9).tr g10).tr g11).tr g12).tr g13).tr g14).tr g15).tr g16).tr g17
  have y2 : X17.2.2 (p + 2) = some (.inr (.inl (0, 6, fun _ => 0))) := ((((((((((((g6).tr g7).tr g8).tr g9).tr g10).tr g11).tr g12).tr g13).tr g14).tr g15).tr g16).tr g17).at g5.w z2 (by omega)
  have y3 : X17.2.2 (p + 3) = some (.inr (.inl (0, 6, fun _ => 0))) := ((((((((((g8).tr g9).tr g10).tr g11).tr g12).tr g13).tr g14).tr g15).tr g16).tr g17).at g7.w z3 (by omega)
  have y4 : X17.2.2 (p + 4) = some (.inr (.inl (0, 6, fun _ => 0))) := ((((((((g10).tr g11).tr g12).tr g13).tr g14).tr g15).tr g16).tr g17).at g9.w z4 (by omega)
  have y5 : X17.2.2 (p + 5) = some (.inr (.inl (0, 6, fun _ => 0))) := ((((((g12).tr g13).tr g14).tr g15).tr g16).tr g17).at g11.w z5 (by omega)
  have y6 : X17.2.2 (p + 6) = some (.inr (.inl (0, 6, fun _ => 0))) := ((((g14).tr g15).tr g16).tr g17).at g13.w z6 (by omega)
  have y7 : X17.2.2 (p + 7) = some (.inr (.inl (0, 6, fun _ => 0))) := ((g16).tr g17).at g15.w z7 (by omega)
  refine ⟨X17, rfl, ⟨o17, ⟨_, y2, fun _ _ => rfl⟩, ⟨_, y3, fun _ _ => rfl⟩, ⟨_, y4, fun _ _ => rfl⟩, ⟨_, y5, fun _ _ => rfl⟩, ⟨_, y6, fun _ _ => rfl⟩, _, y7⟩, gg.at w2 l2 (nep p (by decide)), s17, ?_⟩
  clear y2 y3 y4 y5 y6 y7
  have lt2 : ∀ b, b < X.1 → b < X2.1 := fun b hb => Nat.lt_of_lt_of_le hb a2.2.1
  have nb : ∀ b, b < X.1 → b ≠ p := fun b hb z => absurd hb (by rw [z, hp]; exact Nat.lt_irrefl _)
  have nb2 : ∀ b, b < X.1 → ¬ p ≤ b := fun b hb z => absurd hb (by rw [hp]; exact Nat.not_lt.mpr z)
  refine ⟨gg.1.trans a2.1, Nat.le_trans a2.2.1 gg.2.1, fun b hb _ => ?_, fun b e he _ => ?_, gg.w⟩
  · rw [gg.2.2.1 b (lt2 b hb) (nb b hb)]; exact a2.2.2.1 b hb (nb2 b hb)
  · have := hw.lt he
    rw [gg.2.2.1 b (lt2 b this) (nb b this), a2.2.2.1 b this (nb2 b this)]; exact he
