/-! THE THREE KINDS AS ONE: i 0 Direct, 1 Cascade, 2 Stepper -/
set_option maxRecDepth 100000
def nlI (i ns : Nat) : Nat := match i with
  | 0 => ns
  | 1 => ns
  | _ => 0
def cgI (i nc : Nat) : Int32 := match i with
  | 0 => 0
  | 1 => Int32.ofNat nc - 1
  | _ => -1
/-- rows 5 .. 8 of a sequence for method i, out of its rows 0 .. 4 -/
def qD (N ns nc : Nat) (q : MW) (i : Nat) : MW := (q.1, fun j => match j with
  | 5 => fun k => (gX11_before ns q (nI k)).getD 0
  | 6 => fun k => (gX11_groupOf N ns q nc (nI k)).getD 0
  | 7 => fun k => if i = 1 then (if (gX11_firstOf ns q nc ((gX11_groupOf N ns q nc (nI k)).getD 0)).getD 0 = nI k then 1 else 0) else (if k = 0 then 1 else 0)
  | 8 => fun k => if k = 0 then 1 else 0
  | j => q.2 j)
/-- a sequence that has its circuits -/
def SqK (N ns nc : Nat) (q : MW) : Prop := ns ≤ 16 ∧ ∀ k, k < ns → (∃ x, gX11_before ns q (nI k) = some x) ∧ ∃ g, gX11_groupOf N ns q nc (nI k) = some g ∧ ∃ f, gX11_firstOf ns q nc g = some f
theorem qD_before {N ns nc : Nat} {q : MW} {i : Nat} {x : Int32} : gX11_before ns (qD N ns nc q i) x = gX11_before ns q x := rfl
theorem qD_groupOf10 {N ns nc : Nat} {q : MW} {i : Nat} : ∀ (n : Nat) (x y z : Int32), gX11_groupOf_10 N ns (qD N ns nc q i) nc n x y z = gX11_groupOf_10 N ns q nc n x y z := by
  intro n
  induction n with
  | zero => intros; rfl
  | succ n ih =>
    intro x y z
    unfold gX11_groupOf_10
    simp only [ih]
    rfl
theorem qD_groupOf {N ns nc : Nat} {q : MW} {i : Nat} {x : Int32} : gX11_groupOf N ns (qD N ns nc q i) nc x = gX11_groupOf N ns q nc x := qD_groupOf10 _ _ _ _
theorem qD_firstOf {N ns nc : Nat} {q : MW} {i : Nat} {x : Int32} : gX11_firstOf ns (qD N ns nc q i) nc x = gX11_firstOf ns q nc x := rfl
theorem SqI.qD {T : Nat → ClassId} {b sa : Nat → Nat} {N ns nc : Nat} {q : MW} {cv : Value} {ws : va_W} {i : Nat} (h : SqI T b sa ns q cv ws) : SqI T b sa ns (qD N ns nc q i) cv ws := h
theorem CuI.qD {T : Nat → ClassId} {b : Nat → Nat} {N ns nc : Nat} {q : MW} {ws : va_W} {i : Nat} (h : CuI T b nc q ws) : CuI T b nc (qD N ns nc q i) ws := h
def rmRig : Room := { frames := 7, cells := 24, slots := 213, locals := 3300 }
theorem metX3_init {l : Launch} {D : va_G} {T : Nat → ClassId} {r0 st N ns nc i : Nat} {b sa em : Nat → Nat} {q w : MW} {f : Nat → Int32} {wr : va_W} (hi : i < 3) (hK : SqK N ns nc q) (hQ : SqI T b sa ns q (.ref (b 3)) wr) (hC : CuI T b nc q wr) (hSt : ∃ i : Nat, wr[i]? = some (st, .inl (T 0, 6, .inl f))) (hf : gX3_init N ns (qD N ns nc q i) f (cgI i nc) = some w) (sz : Nat) :
    MetAY ((Nat → Nat) × (Nat → Nat)) l yX3_init (ws_ yX3_init cX3_init 4 none) rmRig D T (EnY em) ((r0, .inr (2, rgD)) :: wr) sz [.ref r0, .ref (b 0), .ref (em i), .ref st] (fun u => rcW i u.1 (T 0) (some (b 0)) w (cdL i u.1 u.2 T ns wr)) (fun u H => u.1 0 = r0 ∧ LamI i D u.1 u.2 (nlI i ns) (qD N ns nc q i) H ∧ LaF u.2 (nlI i ns) (rcW i u.1 (T 0) (some (b 0)) w (cdL i u.1 u.2 T ns wr))) 24 213 := by
  have h5 : ∀ k, k < ns → gX11_before ns (qD N ns nc q i) (nI k) = some ((qD N ns nc q i).2 5 k) := by
    intro k hk
    obtain ⟨x, hx⟩ := (hK.2 k hk).1
    rw [qD_before, hx]
    show some x = some ((gX11_before ns q (nI k)).getD 0)
    rw [hx]; rfl
  have h6 : ∀ k, k < ns → gX11_groupOf N ns (qD N ns nc q i) nc (nI k) = some ((qD N ns nc q i).2 6 k) := by
    intro k hk
    obtain ⟨g, hg, -⟩ := (hK.2 k hk).2
    rw [qD_groupOf, hg]
    show some g = some ((gX11_groupOf N ns q nc (nI k)).getD 0)
    rw [hg]; rfl
  have hfo : ∀ k, k < ns → gX11_firstOf ns (qD N ns nc q i) nc ((qD N ns nc q i).2 6 k) = some ((gX11_firstOf ns q nc ((gX11_groupOf N ns q nc (nI k)).getD 0)).getD 0) := by
    intro k hk
    obtain ⟨g, hg, f, hf⟩ := (hK.2 k hk).2
    rw [qD_firstOf]
    show gX11_firstOf ns q nc ((gX11_groupOf N ns q nc (nI k)).getD 0) = _
    rw [hg]
    show gX11_firstOf ns q nc g = some ((gX11_firstOf ns q nc g).getD 0)
    rw [hf]; rfl
  rcases (show i = 0 ∨ i = 1 ∨ i = 2 by omega) with rfl | rfl | rfl
  · exact metX3_init_0 hK.1 hQ.qD h5 (fun k _ => rfl) hSt hf sz
  · exact metX3_init_1 hK.1 hQ.qD hC.qD h5 h6 hfo (fun k _ => rfl) (fun k _ => rfl) hSt hf sz
  · exact metX3_init_2 hQ.qD hSt hf sz
/-! ticks, makesCycles -/
def gTicks (i N ns nc : Nat) (q : MW) (x : Int32) (w : MW) : Option (Int32 × MW) := match i with
  | 0 => gX3_ticks_0 N ns q x w
  | 1 => gX3_ticks_1 N ns q nc x w
  | _ => gX3_ticks_2 N ns q x w
def gMakes (i N ns nc : Nat) (q : MW) (w : MW) : Option (Int32 × MW) := match i with
  | 0 => gX3_makesCycles_0 N ns q w
  | 1 => gX3_makesCycles_1 N ns q nc w
  | _ => gX3_makesCycles_2 N ns q w
theorem SqI.cd {T : Nat → ClassId} {b sa : Nat → Nat} {n : Nat} {q : MW} {cv : Value} {ws : va_W} {i ns : Nat} {a la : Nat → Nat} (h : SqI T b sa n q cv ws) : SqI T b sa n q cv (cdL i a la T ns ws) := by
  unfold cdL
  split
  · exact h.cons _
  · exact h.cons _
  · exact h
theorem CuI.cd {T : Nat → ClassId} {b : Nat → Nat} {nc : Nat} {q : MW} {ws : va_W} {i ns : Nat} {a la : Nat → Nat} (h : CuI T b nc q ws) : CuI T b nc q (cdL i a la T ns ws) := by
  unfold cdL
  split
  · exact h.cons _
  · exact h.cons _
  · exact h
theorem metX3_ticksI {l : Launch} {D : va_G} {T : Nat → ClassId} {a b sa la : Nat → Nat} {wr : va_W} {rr : Int32} {w w' : MW} {N : Nat} {x1 : Int32} {ns nc i : Nat} {q : MW} (hi : i < 3) (hQ : SqI T b sa ns q (.ref (b 3)) wr) (hC : CuI T b nc q wr) (hLa : ∀ w, LaF la (nlI i ns) (rcW i a (T 0) (some (b 0)) w (cdL i a la T ns wr))) (hf : gTicks i N ns nc q x1 w = some (rr, w')) (sz : Nat) :
    MetIX l yX3_ticks (ws_ yX3_ticks cX3_ticks 4 (some .int)) rmX3_ticks_0 D T (rcW i a (T 0) (some (b 0)) w (cdL i a la T ns wr)) sz [.ref (a 0), .int x1] rr (rcW i a (T 0) (some (b 0)) w' (cdL i a la T ns wr)) (LamI i D a la (nlI i ns) q) := by
  rcases (show i = 0 ∨ i = 1 ∨ i = 2 by omega) with rfl | rfl | rfl
  · exact metX3_ticks_0 hQ.cd ⟨0, rfl⟩ hLa hf sz
  · exact metX3_ticks_1 hQ.cd hC.cd ⟨0, rfl⟩ hLa hf sz
  · exact metX3_ticks_2 hQ.cd hLa hf sz
theorem metX3_makesI {l : Launch} {D : va_G} {T : Nat → ClassId} {a b sa la : Nat → Nat} {wr : va_W} {rr : Int32} {w w' : MW} {N : Nat} {ns nc i : Nat} {q : MW} (hi : i < 3) (hQ : SqI T b sa ns q (.ref (b 3)) wr) (hC : CuI T b nc q wr) (hLa : ∀ w, LaF la (nlI i ns) (rcW i a (T 0) (some (b 0)) w (cdL i a la T ns wr))) (hf : gMakes i N ns nc q w = some (rr, w')) (sz : Nat) :
    MetIX l yX3_makesCycles (ws_ yX3_makesCycles cX3_makesCycles 1 (some .boolean)) rmX3_makesCycles_0 D T (rcW i a (T 0) (some (b 0)) w (cdL i a la T ns wr)) sz [.ref (a 0)] rr (rcW i a (T 0) (some (b 0)) w' (cdL i a la T ns wr)) (LamI i D a la (nlI i ns) q) := by
  rcases (show i = 0 ∨ i = 1 ∨ i = 2 by omega) with rfl | rfl | rfl
  · exact metX3_makesCycles_0 hQ.cd ⟨0, rfl⟩ hLa hf sz
  · exact metX3_makesCycles_1 hQ.cd hC.cd ⟨0, rfl⟩ hLa hf sz
  · exact metX3_makesCycles_2 hQ.cd hLa hf sz
