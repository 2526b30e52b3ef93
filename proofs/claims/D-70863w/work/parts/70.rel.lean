/-! the component against the model: the relation between its heap X and the model's state σ -/
def Shp (X : AH) (p : Nat) : Prop := ∃ (la : Nat) (μ : Nat → Int32) (tf : Int32) (tk : Value), MinAt X p la μ tf tk
def Sv (X : AH) (p n : Nat) (μ : Nat → Int32) : Prop := goodM n μ ∧ ∃ (la : Nat) (tk : Value), MinAt X p la μ NO tk ∧ ChL X la n μ
theorem Sv.Mn {X : AH} {p n : Nat} {μ : Nat → Int32} (h : Sv X p n μ) : Mn X p n μ := by
  obtain ⟨hg, la, tk, hM, hL⟩ := h
  have hn := hg.1
  exact ⟨la, μ, NO, tk, hM, hL, fun c hc => Or.inl ⟨(NO_ne (by omega)).symm, rfl⟩⟩
theorem Sv.shp {X : AH} {p n : Nat} {μ : Nat → Int32} (h : Sv X p n μ) : Shp X p := by
  obtain ⟨hg, la, tk, hM, hL⟩ := h
  exact ⟨la, μ, NO, tk, hM⟩
theorem Mn.shp {X : AH} {p n : Nat} {μ : Nat → Int32} (h : Mn X p n μ) : Shp X p := by
  obtain ⟨la, κ, tf, tk, hM, -⟩ := h
  exact ⟨la, μ, tf, tk, hM⟩
theorem Shp.ag {S : Nat → Prop} {X Y : AH} {p : Nat} (h : Shp X p) (g : AgX S X Y) (hw : wfX X) (hd : ∀ a, p ≤ a → a < p + 8 → ¬ S a) : Shp Y p := by
  obtain ⟨la, μ, tf, tk, hM⟩ := h
  exact ⟨la, μ, tf, tk, hM.ag g hw hd⟩
theorem Sv.ag {S : Nat → Prop} {X Y : AH} {p n : Nat} {μ : Nat → Int32} (h : Sv X p n μ) (g : AgX S X Y) (hw : wfX X) (hd : ∀ a, p ≤ a → a < p + 8 → ¬ S a) : Sv Y p n μ := by
  obtain ⟨hg, la, tk, hM, hL⟩ := h
  exact ⟨hg, la, tk, hM.ag g hw hd, hL.ag g⟩
theorem Shp.lt {X : AH} {p : Nat} (h : Shp X p) (hw : wfX X) : p + 8 ≤ X.1 := by
  obtain ⟨la, μ, tf, tk, hM⟩ := h
  obtain ⟨f, h7⟩ := hM.2.2.2.2.2.2
  have := hw.lt h7
  omega
abbrev crF (o : Nat) (σ : MS) (t : Nat) : List Value := [.ref (o + 1), .ref (o + 2), .int (σ 0 8), .int (σ 0 9), .ref (o + 3), .ref (o + 11), .ref (o + 19), .int (σ 0 19), .ref (o + 20), .ref t, .int (σ 0 3), .ref (o + 23)]
def lenB (i : Nat) : Nat := if i < 8 ∨ i = 34 then 2 else 8
def bse (g h h2 : Nat → Option Nat) (t : Nat) : Nat → Option Nat := fun i => if i < 8 then g i else if i < 32 then h (i - 8) else if i < 34 then h2 (i - 32) else if i = 34 then some t else none
def Dsj (W : Nat → Option Nat) : Prop := ∀ i j a b, i ≠ j → W i = some a → W j = some b → a + lenB i ≤ b ∨ b + lenB j ≤ a
def slc (f : Nat → Int32) (b : Nat) : Nat → Int32 := fun j => f (b + j)
def pObj (o t : Nat) (X : AH) (σ : MS) : Prop := X.2.2 o = some (.inl (0, crF o σ t))
def pRow (o : Nat) (X : AH) (σ : MS) (k : Nat) (w : Option Nat) : Prop := (w = none ∧ σ 2 k = -1) ∨ ∃ (r len : Nat) (f : Nat → Int32), w = some r ∧ σ 2 k = nI len ∧ len ≤ 40 ∧ o + 29 ≤ r ∧ X.2.2 r = some (.inl (11, [.int (σ 1 k), .ref (r + 1)])) ∧ X.2.2 (r + 1) = some (.inr (.inl (0, len, f))) ∧ ∀ j, j < len → f j = σ 3 (40 * k + j)
def pRows (o : Nat) (g : Nat → Option Nat) (X : AH) (σ : MS) : Prop := X.2.2 (o + 1) = some (.inr (.inr (2, 8, g))) ∧ ∀ k, k < 8 → pRow o X σ k (g k)
def pTape (o : Nat) (X : AH) (σ : MS) : Prop := ∃ (f : Nat → Int32) (b : Nat), X.2.2 (o + 2) = some (.inr (.inl (1, 120, f))) ∧ σ 0 8 = nI b ∧ b ≤ 120 ∧ ∀ j, j < b → ∃ v, v < 256 ∧ f j &&& 255 = nI v ∧ σ 6 j = nI v
def thr (i : Int32) (n : Nat) (μ : Nat → Int32) : Prop := (i = 0 ∧ n = 0 ∧ μ 1 = 0) ∨ (i = 1 ∧ 1 ≤ n ∧ ¬ μ 1 ≤ 0)
def pMin (o : Nat) (X : AH) (σ : MS) : Prop := ∃ n, Sv X (o + 3) n (σ 4) ∧ thr (σ 0 4) n (σ 4)
def pPast (o : Nat) (h : Nat → Option Nat) (X : AH) (σ : MS) : Prop := ∃ a, X.2.2 (o + 19) = some (.inr (.inr (3, 24, h))) ∧ σ 0 19 = nI a ∧ a ≤ 24 ∧ (0 < a → σ 0 4 = 1) ∧ (∀ k, k < a → ∃ p n, h k = some p ∧ Sv X p n (slc (σ 9) (41 * k)) ∧ 1 ≤ n ∧ ¬ slc (σ 9) (41 * k) 1 ≤ 0) ∧ ∀ k p, k < 24 → h k = some p → o + 29 ≤ p ∧ Shp X p
def pImg (o : Nat) (h2 : Nat → Option Nat) (X : AH) (σ : MS) : Prop := X.2.2 (o + 20) = some (.inr (.inr (3, 2, h2))) ∧ ∀ k, k < 2 → (h2 k = none ∧ σ 11 k = 0) ∨ ∃ p n, h2 k = some p ∧ σ 11 k = 1 ∧ σ 0 4 = 1 ∧ o + 29 ≤ p ∧ Sv X p n (slc (σ 12) (41 * k)) ∧ 1 ≤ n ∧ ¬ slc (σ 12) (41 * k) 1 ≤ 0
def pTrl (o t : Nat) (X : AH) (σ : MS) : Prop := ∃ (f : Nat → Int32) (q : Nat), (t = o + 21 ∨ o + 29 ≤ t) ∧ X.2.2 t = some (.inl (2, [.ref (t + 1), .int (σ 0 24)])) ∧ X.2.2 (t + 1) = some (.inr (.inl (0, 16, f))) ∧ σ 0 24 = nI q ∧ q ≤ 16 ∧ ∀ j, j < q → f j = σ 13 j
def pTkn (o : Nat) (X : AH) : Prop := ∃ g : Nat → Option Nat, X.2.2 (o + 23) = some (.inr (.inr (4, 5, g))) ∧ ∀ i, i < 5 → g i = some (o + 24 + i) ∧ X.2.2 (o + 24 + i) = some (.inl (4 + i, [.int 0]))
def pEmp (o : Nat) (X : AH) : Prop := X.2.1.1 < o ∧ ∃ f : Nat → Option Nat, X.2.2 X.2.1.1 = some (.inr (.inr (5, 0, f)))
def Rl (o t : Nat) (g h h2 : Nat → Option Nat) (X : AH) (σ : MS) : Prop := wfX X ∧ o + 29 ≤ X.1 ∧ pObj o t X σ ∧ pRows o g X σ ∧ pTape o X σ ∧ pMin o X σ ∧ Shp X (o + 11) ∧ pPast o h X σ ∧ pImg o h2 X σ ∧ pTrl o t X σ ∧ pTkn o X ∧ pEmp o X ∧ Dsj (bse g h h2 t)
def Rel (o : Nat) (X : AH) (σ : MS) : Prop := ∃ (t : Nat) (g h h2 : Nat → Option Nat), Rl o t g h h2 X σ
/-- the same answer, and the relation holds behind it -/
def Same {α : Type} (o : Nat) (x : Option (α × AH)) (y : Option (α × MS)) : Prop := ∃ (r : α) (Y : AH) (σ' : MS), x = some (r, Y) ∧ y = some (r, σ') ∧ Rel o Y σ'
section RL
variable {S : Nat → Prop} {o t : Nat} {g h h2 : Nat → Option Nat} {X Y : AH} {σ σ' : MS}
theorem Rl.rel (R : Rl o t g h h2 X σ) : Rel o X σ := ⟨t, g, h, h2, R⟩
theorem Rl.w (R : Rl o t g h h2 X σ) : wfX X := R.1
theorem Rl.sz (R : Rl o t g h h2 X σ) : o + 29 ≤ X.1 := R.2.1
theorem Rl.obj (R : Rl o t g h h2 X σ) : pObj o t X σ := R.2.2.1
theorem Rl.rows (R : Rl o t g h h2 X σ) : pRows o g X σ := R.2.2.2.1
theorem Rl.tape (R : Rl o t g h h2 X σ) : pTape o X σ := R.2.2.2.2.1
theorem Rl.min (R : Rl o t g h h2 X σ) : pMin o X σ := R.2.2.2.2.2.1
theorem Rl.tri (R : Rl o t g h h2 X σ) : Shp X (o + 11) := R.2.2.2.2.2.2.1
theorem Rl.past (R : Rl o t g h h2 X σ) : pPast o h X σ := R.2.2.2.2.2.2.2.1
theorem Rl.img (R : Rl o t g h h2 X σ) : pImg o h2 X σ := R.2.2.2.2.2.2.2.2.1
theorem Rl.trl (R : Rl o t g h h2 X σ) : pTrl o t X σ := R.2.2.2.2.2.2.2.2.2.1
theorem Rl.tkn (R : Rl o t g h h2 X σ) : pTkn o X := R.2.2.2.2.2.2.2.2.2.2.1
theorem Rl.emp (R : Rl o t g h h2 X σ) : pEmp o X := R.2.2.2.2.2.2.2.2.2.2.2.1
theorem Rl.dsj (R : Rl o t g h h2 X σ) : Dsj (bse g h h2 t) := R.2.2.2.2.2.2.2.2.2.2.2.2
theorem pRow.ag {k : Nat} {w : Option Nat} (H : pRow o X σ k w) (G : AgX S X Y) (hw : wfX X) (hs : ∀ r, w = some r → ¬ S r ∧ ¬ S (r + 1)) : pRow o Y σ k w := by
  rcases H with H | ⟨r, len, f, e, h1, h2, h3, h4, h5, h6⟩
  · exact Or.inl H
  · exact Or.inr ⟨r, len, f, e, h1, h2, h3, G.at hw h4 (hs r e).1, G.at hw h5 (hs r e).2, h6⟩
theorem pRows.ag (H : pRows o g X σ) (G : AgX S X Y) (hw : wfX X) (h1 : ¬ S (o + 1)) (hs : ∀ a, o + 29 ≤ a → ¬ S a) : pRows o g Y σ := by
  refine ⟨G.at hw H.1 h1, fun k hk => (H.2 k hk).ag G hw fun r e => ?_⟩
  rcases H.2 k hk with H | ⟨r', len, f, e', h1, h2, h3, -⟩
  · rw [H.1] at e; cases e
  · rw [e] at e'; cases e'
    exact ⟨hs _ (by omega), hs _ (by omega)⟩
theorem pTape.ag (H : pTape o X σ) (G : AgX S X Y) (hw : wfX X) (h1 : ¬ S (o + 2)) : pTape o Y σ := by
  obtain ⟨f, b, k1, k2⟩ := H
  exact ⟨f, b, G.at hw k1 h1, k2⟩
theorem pMin.ag (H : pMin o X σ) (G : AgX S X Y) (hw : wfX X) (hs : ∀ a, o + 3 ≤ a → a < o + 11 → ¬ S a) : pMin o Y σ := by
  obtain ⟨n, k1, k2⟩ := H
  exact ⟨n, k1.ag G hw (fun a a1 a2 => hs a a1 (by omega)), k2⟩
theorem pPast.ag (H : pPast o h X σ) (G : AgX S X Y) (hw : wfX X) (h1 : ¬ S (o + 19)) (hs : ∀ a, o + 29 ≤ a → ¬ S a) : pPast o h Y σ := by
  obtain ⟨a, k1, k2, k3, k4, k5, k6⟩ := H
  refine ⟨a, G.at hw k1 h1, k2, k3, k4, fun k hk => ?_, fun k p hk e => ?_⟩
  · obtain ⟨p, n, e, q1, q2⟩ := k5 k hk
    have := (k6 k p (by omega) e).1
    exact ⟨p, n, e, q1.ag G hw (fun a a1 a2 => hs a (by omega)), q2⟩
  · obtain ⟨q1, q2⟩ := k6 k p hk e
    exact ⟨q1, q2.ag G hw (fun a a1 a2 => hs a (by omega))⟩
theorem pImg.ag (H : pImg o h2 X σ) (G : AgX S X Y) (hw : wfX X) (h1 : ¬ S (o + 20)) (hs : ∀ a, o + 29 ≤ a → ¬ S a) : pImg o h2 Y σ := by
  refine ⟨G.at hw H.1 h1, fun k hk => ?_⟩
  rcases H.2 k hk with H | ⟨p, n, e, q1, q2, q3, q4, q5⟩
  · exact Or.inl H
  · exact Or.inr ⟨p, n, e, q1, q2, q3, q4.ag G hw (fun a a1 a2 => hs a (by omega)), q5⟩
theorem pTrl.ag (H : pTrl o t X σ) (G : AgX S X Y) (hw : wfX X) (h1 : ¬ S t) (h2 : ¬ S (t + 1)) : pTrl o t Y σ := by
  obtain ⟨f, q, k1, k2, k3, k4⟩ := H
  exact ⟨f, q, k1, G.at hw k2 h1, G.at hw k3 h2, k4⟩
theorem pTrl.dj (H : pTrl o t X σ) : t = o + 21 ∨ o + 29 ≤ t := by
  obtain ⟨f, q, k1, -⟩ := H
  exact k1
theorem pTkn.ag (H : pTkn o X) (G : AgX S X Y) : pTkn o Y := by
  obtain ⟨g, k1, k2⟩ := H
  exact ⟨g, G.2.2.2.1 _ _ k1 (im_q (by omega)), fun i hi => ⟨(k2 i hi).1, G.2.2.2.1 _ _ (k2 i hi).2 (im_o (by omega) (by omega))⟩⟩
theorem pEmp.ag (H : pEmp o X) (G : AgX S X Y) : pEmp o Y := by
  obtain ⟨k1, f, k2⟩ := H
  unfold pEmp
  rw [G.1]
  exact ⟨k1, f, G.2.2.2.1 _ _ k2 (im_q (by omega))⟩
/-- nothing is touched -/
theorem Rl.new (R : Rl o t g h h2 X σ) (G : AgX (fun _ => False) X Y) : Rl o t g h h2 Y σ :=
  ⟨G.w, Nat.le_trans R.sz G.2.1, G.at R.w R.obj (fun z => z), R.rows.ag G R.w (fun z => z) (fun _ _ z => z), R.tape.ag G R.w (fun z => z), R.min.ag G R.w (fun _ _ _ z => z), R.tri.ag G R.w (fun _ _ _ z => z), R.past.ag G R.w (fun z => z) (fun _ _ z => z), R.img.ag G R.w (fun z => z) (fun _ _ z => z), R.trl.ag G R.w (fun z => z) (fun z => z), R.tkn.ag G, R.emp.ag G, R.dsj⟩
/-- the trial alone is touched -/
theorem Rl.trial (R : Rl o t g h h2 X σ) (G : AgX (blk (o + 11)) X Y) (hY : Shp Y (o + 11)) : Rl o t g h h2 Y σ := by
  have n : ∀ a, a < o + 11 ∨ o + 19 ≤ a → ¬ blk (o + 11) a := fun a h z => by unfold blk at z; omega
  have ht := R.trl.dj
  refine ⟨G.w, Nat.le_trans R.sz G.2.1, G.at R.w R.obj (n _ (by omega)), R.rows.ag G R.w (n _ (by omega)) (fun a _ => n a (by omega)), R.tape.ag G R.w (n _ (by omega)), R.min.ag G R.w (fun a _ _ => n a (by omega)), hY, R.past.ag G R.w (n _ (by omega)) (fun a _ => n a (by omega)), R.img.ag G R.w (n _ (by omega)) (fun a _ => n a (by omega)), R.trl.ag G R.w (n _ (by omega)) (n _ (by omega)), R.tkn.ag G, R.emp.ag G, R.dsj⟩
/-- the ministry alone is touched -/
theorem Rl.mini (R : Rl o t g h h2 X σ) (G : AgX (blk (o + 3)) X Y) (hY : pMin o Y σ') (e : ∀ k, k ≠ 4 → σ' k = σ k) : Rl o t g h h2 Y σ' := by
  have n : ∀ a, a < o + 3 ∨ o + 11 ≤ a → ¬ blk (o + 3) a := fun a h z => by unfold blk at z; omega
  have ht := R.trl.dj
  have e0 := e 0 (by omega)
  have e1 := e 1 (by omega)
  have e2 := e 2 (by omega)
  have e3 := e 3 (by omega)
  have e6 := e 6 (by omega)
  have e9 := e 9 (by omega)
  have e11 := e 11 (by omega)
  have e12 := e 12 (by omega)
  have e13 := e 13 (by omega)
  have q1 : pObj o t Y σ := G.at R.w R.obj (n _ (by omega))
  have q2 : pRows o g Y σ := R.rows.ag G R.w (n _ (by omega)) (fun a _ => n a (by omega))
  have q3 : pTape o Y σ := R.tape.ag G R.w (n _ (by omega))
  have q4 : pPast o h Y σ := R.past.ag G R.w (n _ (by omega)) (fun a _ => n a (by omega))
  have q5 : pImg o h2 Y σ := R.img.ag G R.w (n _ (by omega)) (fun a _ => n a (by omega))
  have q6 : pTrl o t Y σ := R.trl.ag G R.w (n _ (by omega)) (n _ (by omega))
  refine ⟨G.w, Nat.le_trans R.sz G.2.1, ?_, ?_, ?_, hY, R.tri.ag G R.w (fun a _ _ => n a (by omega)), ?_, ?_, ?_, R.tkn.ag G, R.emp.ag G, R.dsj⟩
  · unfold pObj crF at q1 ⊢; rw [e0]; exact q1
  · unfold pRows pRow at q2 ⊢; rw [e1, e2, e3]; exact q2
  · unfold pTape at q3 ⊢; rw [e0, e6]; exact q3
  · unfold pPast at q4 ⊢; rw [e0, e9]; exact q4
  · unfold pImg at q5 ⊢; rw [e0, e11, e12]; exact q5
  · unfold pTrl at q6 ⊢; rw [e0, e13]; exact q6
/-- what the model alone uses may change -/
def Req (σ σ' : MS) : Prop := (∀ k, k = 1 ∨ k = 2 ∨ k = 3 ∨ k = 4 ∨ k = 6 ∨ k = 9 ∨ k = 11 ∨ k = 12 ∨ k = 13 → σ' k = σ k) ∧ ∀ j, j = 3 ∨ j = 4 ∨ j = 8 ∨ j = 9 ∨ j = 19 ∨ j = 24 → σ' 0 j = σ 0 j
theorem Rl.req (R : Rl o t g h h2 X σ) (e : Req σ σ') : Rl o t g h h2 X σ' := by
  obtain ⟨e, z⟩ := e
  have e1 := e 1 (by omega)
  have e2 := e 2 (by omega)
  have e3 := e 3 (by omega)
  have e4 := e 4 (by omega)
  have e6 := e 6 (by omega)
  have e9 := e 9 (by omega)
  have e11 := e 11 (by omega)
  have e12 := e 12 (by omega)
  have e13 := e 13 (by omega)
  have z3 := z 3 (by omega)
  have z4 := z 4 (by omega)
  have z8 := z 8 (by omega)
  have z9 := z 9 (by omega)
  have z19 := z 19 (by omega)
  have z24 := z 24 (by omega)
  refine ⟨R.w, R.sz, ?_, ?_, ?_, ?_, R.tri, ?_, ?_, ?_, R.tkn, R.emp, R.dsj⟩
  · have q := R.obj
    unfold pObj crF at q ⊢; rw [z8, z9, z19, z3]; exact q
  · have q := R.rows
    unfold pRows pRow at q ⊢; rw [e1, e2, e3]; exact q
  · have q := R.tape
    unfold pTape at q ⊢; rw [z8, e6]; exact q
  · have q := R.min
    unfold pMin at q ⊢; rw [z4, e4]; exact q
  · have q := R.past
    unfold pPast at q ⊢; rw [z19, z4, e9]; exact q
  · have q := R.img
    unfold pImg at q ⊢; rw [z4, e11, e12]; exact q
  · have q := R.trl
    unfold pTrl at q ⊢; rw [z24, e13]; exact q
/-- an int field of the object is written -/
theorem Rl.fld {fs : List Value} (R : Rl o t g h h2 X σ) (hf : fs = crF o σ' t) (e : ∀ k, k ≠ 0 → σ' k = σ k) (z4 : σ' 0 4 = σ 0 4) (z24 : σ' 0 24 = σ 0 24) (ht : pTape o X σ') (hp : pPast o h X σ') : Rl o t g h h2 (xup X o (.inl (0, fs))) σ' ∧ AgX (fun a => a = o) X (xup X o (.inl (0, fs))) := by
  have G : AgX (fun a => a = o) X (xup X o (.inl (0, fs))) := AgX.up R.w R.obj (ni_o (by omega)) rfl
  have n : ∀ a, a < o ∨ o + 1 ≤ a → ¬ (fun a => a = o) a := fun a h z => by have z : a = o := z; omega
  have hd := R.trl.dj
  have e1 := e 1 (by omega)
  have e2 := e 2 (by omega)
  have e3 := e 3 (by omega)
  have e4 := e 4 (by omega)
  have e11 := e 11 (by omega)
  have e12 := e 12 (by omega)
  have e13 := e 13 (by omega)
  have q2 := R.rows.ag G R.w (n _ (by omega)) (fun a _ => n a (by omega))
  have q5 := R.img.ag G R.w (n _ (by omega)) (fun a _ => n a (by omega))
  have q6 := R.trl.ag G R.w (n _ (by omega)) (n _ (by omega))
  have q7 := R.min.ag G R.w (fun a _ _ => n a (by omega))
  refine ⟨⟨G.w, R.sz, ?_, ?_, ht.ag G R.w (n _ (by omega)), ?_, R.tri.ag G R.w (fun a _ _ => n a (by omega)), hp.ag G R.w (n _ (by omega)) (fun a _ => n a (by omega)), ?_, ?_, R.tkn.ag G, R.emp.ag G, R.dsj⟩, G⟩
  · unfold pObj; rw [xup_s, hf]
  · unfold pRows pRow at q2 ⊢; rw [e1, e2, e3]; exact q2
  · unfold pMin at q7 ⊢; rw [z4, e4]; exact q7
  · unfold pImg at q5 ⊢; rw [z4, e11, e12]; exact q5
  · unfold pTrl at q6 ⊢; rw [z24, e13]; exact q6
theorem Rl.ck0 (R : Rl o t g h h2 X σ) : ck X o 0 = some () := ck_of R.obj
theorem Rl.r0 (R : Rl o t g h h2 X σ) : gR X o 0 0 = some (o + 1) := gR_of R.obj rfl
theorem Rl.r1 (R : Rl o t g h h2 X σ) : gR X o 0 1 = some (o + 2) := gR_of R.obj rfl
theorem Rl.r4 (R : Rl o t g h h2 X σ) : gR X o 0 4 = some (o + 3) := gR_of R.obj rfl
theorem Rl.r5 (R : Rl o t g h h2 X σ) : gR X o 0 5 = some (o + 11) := gR_of R.obj rfl
theorem Rl.r6 (R : Rl o t g h h2 X σ) : gR X o 0 6 = some (o + 19) := gR_of R.obj rfl
theorem Rl.r8 (R : Rl o t g h h2 X σ) : gR X o 0 8 = some (o + 20) := gR_of R.obj rfl
theorem Rl.r9 (R : Rl o t g h h2 X σ) : gR X o 0 9 = some t := gR_of R.obj rfl
theorem Rl.r11 (R : Rl o t g h h2 X σ) : gR X o 0 11 = some (o + 23) := gR_of R.obj rfl
theorem Rl.i2 (R : Rl o t g h h2 X σ) : gI X o 0 2 = some (σ 0 8) := gI_of R.obj rfl
theorem Rl.i3 (R : Rl o t g h h2 X σ) : gI X o 0 3 = some (σ 0 9) := gI_of R.obj rfl
theorem Rl.i7 (R : Rl o t g h h2 X σ) : gI X o 0 7 = some (σ 0 19) := gI_of R.obj rfl
theorem Rl.i10 (R : Rl o t g h h2 X σ) : gI X o 0 10 = some (σ 0 3) := gI_of R.obj rfl
/-- the status is written -/
theorem Rl.stat (R : Rl o t g h h2 X σ) (x : Int32) : ∃ Y, pF X o 0 10 (.int x) = some Y ∧ Rl o t g h h2 Y (up2 σ 0 3 x) ∧ AgX (fun a => a = o) X Y := by
  have e : ∀ j, j ≠ 3 → up2 σ 0 3 x 0 j = σ 0 j := fun j hj => by rw [up2_s, upd_n hj]
  have ek : ∀ k, k ≠ 0 → up2 σ 0 3 x k = σ k := fun k hk => up2_n hk
  refine ⟨_, pF_of R.obj (Nat.le_of_ble_eq_true rfl), R.fld ?_ ek (e 4 (by omega)) (e 24 (by omega)) ?_ ?_⟩
  · show _ = crF o (up2 σ 0 3 x) t
    unfold crF
    rw [e 8 (by omega), e 9 (by omega), e 19 (by omega), up2_s, upd_s]; rfl
  · have q := R.tape
    unfold pTape at q ⊢; rw [e 8 (by omega), ek 6 (by omega)]; exact q
  · have q := R.past
    unfold pPast at q ⊢; rw [e 19 (by omega), e 4 (by omega), ek 9 (by omega)]; exact q
theorem Rl.well (R : Rl o t g h h2 X σ) (v : Int32) : ∃ Y, fX0_well X o v = some (v, Y) ∧ fX9_well σ v = some (v, up2 σ 0 3 0) ∧ Rl o t g h h2 Y (up2 σ 0 3 0) ∧ AgX (fun a => a = o) X Y := by
  obtain ⟨Y, e, r, G⟩ := R.stat 0
  refine ⟨Y, ?_, rfl, r, G⟩
  unfold fX0_well
  rw [e]; rfl
end RL
/-! numbers within bounds -/
theorem in_def (x : Int32) (a b : Int64) : fX9_in x.toInt64 a b = if a.toInt ≤ x.toInt ∧ x.toInt ≤ b.toInt then some 1 else some 0 := by
  unfold fX9_in
  have e : x.toInt64.toInt = x.toInt := Int32.toInt_toInt64 x
  by_cases h1 : lg_cmp x.toInt64 a < 0
  · have := (lg_cmp_lt _ _).mp h1
    rw [Int64.lt_iff_toInt_lt, e] at this
    rw [if_pos h1, if_neg (by omega)]
  · have k1 : ¬ x.toInt64 < a := fun z => h1 ((lg_cmp_lt _ _).mpr z)
    rw [Int64.lt_iff_toInt_lt, e] at k1
    rw [if_neg h1]
    by_cases h2 : 0 < lg_cmp x.toInt64 b
    · have := (lg_cmp_gt _ _).mp h2
      rw [Int64.lt_iff_toInt_lt, e] at this
      rw [if_pos h2, if_neg (by omega)]
    · have k2 : ¬ b < x.toInt64 := fun z => h2 ((lg_cmp_gt _ _).mpr z)
      rw [Int64.lt_iff_toInt_lt, e] at k2
      rw [if_neg h2, if_pos (by omega)]
theorem nI_ofInt {x : Int32} {j : Nat} (h : x.toInt = (j : Int)) : x = nI j := by
  apply Int32.toInt_inj.mp
  have hb := Int32.toInt_lt x
  rw [nI_toInt (by omega), h]
theorem inN (x : Int32) {a b : Int64} (lo hi : Nat) (ha : a = lN lo) (hb : b = lN hi) (hl : lo < 2 ^ 31) (hh : hi < 2 ^ 31) : fX9_in x.toInt64 a b = some 0 ∨ (fX9_in x.toInt64 a b = some 1 ∧ ∃ j, lo ≤ j ∧ j ≤ hi ∧ x = nI j) := by
  rw [in_def, ha, hb, lN_toInt hl, lN_toInt hh]
  by_cases h : (lo : Int) ≤ x.toInt ∧ x.toInt ≤ (hi : Int)
  · rw [if_pos h]
    exact Or.inr ⟨rfl, x.toInt.toNat, by omega, by omega, nI_ofInt (by omega)⟩
  · rw [if_neg h]
    exact Or.inl rfl
theorem inC (x : Int32) {n : Nat} (hn : n ≤ 40) : fX9_in x.toInt64 0 ((nI n - 1).toInt64) = some 0 ∨ (fX9_in x.toInt64 0 ((nI n - 1).toInt64) = some 1 ∧ ∃ j, j < n ∧ x = nI j) := by
  have e0 : (0 : Int64).toInt = 0 := by decide
  have e1 : (nI n - 1).toInt64.toInt = (n : Int) - 1 := by
    rw [Int32.toInt_toInt64]
    exact pk_sub_toInt (b := 1) (by omega) (by omega)
  rw [in_def, e0, e1]
  by_cases h : (0 : Int) ≤ x.toInt ∧ x.toInt ≤ (n : Int) - 1
  · rw [if_pos h]
    exact Or.inr ⟨rfl, x.toInt.toNat, by omega, nI_ofInt (by omega)⟩
  · rw [if_neg h]
    exact Or.inl rfl
theorem bz0 : bz 0 = some 0 := rfl
theorem bz1 : bz 1 = some 1 := rfl
section RM
variable {o t n : Nat} {g h h2 : Nat → Option Nat} {X Y : AH} {σ σ' : MS}
theorem Rl.isChair (R : Rl o t g h h2 X σ) (hS : Sv X (o + 3) n (σ 4)) (x : Int32) : (fX0_isChair X o x = some (0, X) ∧ fX9_isChair σ x = some (0, σ)) ∨ (∃ j, j < n ∧ x = nI j ∧ fX0_isChair X o x = some (1, X) ∧ fX9_isChair σ x = some (1, σ)) := by
  have hn := hS.1.1
  have hm := hS.1.2.1
  have e2 : rd (σ 4) 41 2 = some (nI n) := by rw [← hm]; exact rd_nI (j := 2) (by omega) (by omega)
  have a1 : ∀ y, fX0_isIn x.toInt64 0 ((nI n - 1).toInt64) = y → fX0_isChair X o x = (y.bind bz).bind fun v => some (v, X) := fun y hy => by
    unfold fX0_isChair
    simp only [R.r4, hS.Mn.ck1, hS.Mn.many, Option.bind_some, hy]
    cases y <;> rfl
  have a2 : ∀ y, fX9_in x.toInt64 0 ((nI n - 1).toInt64) = y → fX9_isChair σ x = (y.bind bz).bind fun v => some (v, σ) := fun y hy => by
    unfold fX9_isChair
    simp only [e2, Option.bind_some, hy]
    cases y <;> rfl
  rcases inC x (show n ≤ 40 by omega) with e | ⟨e, j, hj, rfl⟩
  · exact Or.inl ⟨a1 _ e, a2 _ e⟩
  · exact Or.inr ⟨j, hj, rfl, a1 _ e, a2 _ e⟩
theorem Rl.isMin (R : Rl o t g h h2 X σ) (hS : Sv X (o + 3) n (σ 4)) (ht : thr (σ 0 4) n (σ 4)) : (fX0_isMinistry X o = some (0, X) ∧ σ 0 4 = 0) ∨ (1 ≤ n ∧ fX0_isMinistry X o = some (1, X) ∧ σ 0 4 = 1) := by
  unfold fX0_isMinistry
  simp only [R.r4, hS.Mn.g1, Option.bind_some]
  rcases ht with ⟨e1, e2, e3⟩ | ⟨e1, e2, e3⟩
  · exact Or.inl ⟨by rw [e3]; rfl, e1⟩
  · exact Or.inr ⟨e2, by rw [if_neg e3], e1⟩
end RM
