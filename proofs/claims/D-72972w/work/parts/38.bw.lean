/-! THE BENCH's WORLD: the bench's own cells (h the object, d 0 text, d 1 strokes, d 2 faults; me its method's constant) ahead of its rig's -/
set_option maxRecDepth 100000
/-- w.1: the bench's numbers (1 textLength 2 errorKind 6 isStarted; rows 0 text 1 strokes 2 faults); w.2: its rig's -/
abbrev BW : Type := MW × MW
def bF (w : BW) (k : Nat) (v : Int32) : BW := (setF w.1 k v, w.2)
def bA (w : BW) (j i : Nat) (v : Int32) : BW := (setA w.1 j i v, w.2)
def rF (w : BW) (k : Nat) (v : Int32) : BW := (w.1, setF w.2 k v)
def rA (w : BW) (j i : Nat) (v : Int32) : BW := (w.1, setA w.2 j i v)
def bnF (d : Nat → Nat) (so : Option Nat) (me ra : Nat) (F : Nat → Int32) : List Value := [.ref (d 0), .int (F 1), .int (F 2), va_rf so, .ref (d 1), .ref (d 2), .int (F 6), .ref me, .ref ra]
def bnC (h : Nat) (d : Nat → Nat) (T : Nat → ClassId) (so : Option Nat) (me ra : Nat) (u : MW) : va_W := [(h, .inr (1, bnF d so me ra u.1)), (d 0, .inl (T 1, 80, .inl (u.2 0))), (d 1, .inl (T 0, 6, .inl (u.2 1))), (d 2, .inl (T 0, 6, .inl (u.2 2)))]
def bwW (h : Nat) (d : Nat → Nat) (T : Nat → ClassId) (so co : Option Nat) (me : Nat) (a : Nat → Nat) (w : BW) (tl : va_W) : va_W := bnC h d T so me (a 0) w.1 ++ rgW a (T 0) so co w.2 tl
theorem SqI.bw {T : Nat → ClassId} {b sa : Nat → Nat} {n : Nat} {q : MW} {cv : Value} {tl : va_W} {h me : Nat} {d a : Nat → Nat} {so co : Option Nat} {w : BW} (hQ : SqI T b sa n q cv tl) : SqI T b sa n q cv (bwW h d T so co me a w tl) := (((hQ.rg.cons _).cons _).cons _).cons _
theorem CuI.bw {T : Nat → ClassId} {b : Nat → Nat} {nc : Nat} {q : MW} {tl : va_W} {h me : Nat} {d a : Nat → Nat} {so co : Option Nat} {w : BW} (hC : CuI T b nc q tl) : CuI T b nc q (bwW h d T so co me a w tl) := ((((((((((hC.cons _).cons _).cons _).cons _).cons _).cons _).cons _).cons _).cons _).cons _).cons _
theorem bz_or {β : Type} {v : Int32} {k : Option β} {r : β} (h : bz v k = some r) : (v = 0 ∨ v = 1) ∧ k = some r := by
  unfold bz at h
  by_cases hc : v = 0 ∨ v = 1
  · rw [if_pos hc] at h; exact ⟨hc, h⟩
  · rw [if_neg hc] at h; cases h
theorem bz_nf {v : Int32} (h : v = 0 ∨ v = 1) : narrow .boolean (.int v) = .int v ∧ fits .boolean (.int v) = true := by
  rcases h with e | e <;> subst e <;> exact ⟨rfl, rfl⟩
section BK
variable {p : Program} {l : Launch} {e : Env} {R : Room} {s : State} {m : MethodId} {args : Array Value} {below : List Frame} {meth : Method} {c : Code} {H : Heap} {locs : List Loc} {cells slots : Nat} {Q : State → Prop}
variable {cc : ByteArray} {nL : Nat} {ret : Option FieldType} {own : String} {D : va_G} {T : Nat → ClassId} {A : Nat → Prop} {pc : Nat} {ls : Array Slot} {rest : List Value} {H0 : Heap}
variable {h me : Nat} {d a : Nat → Nat} {so co : Option Nat} {w w1 : BW} {tl : va_W}
theorem bn_g (S : gS p s m args meth c cc nL ret own D T) (hM : gM D A H0 (bwW h d T so co me a w tl) H locs) (k : Nat) (hk : Nat.ble (k + 1) 9 = true) {index : Nat} (hl : gLk own index (TX1 k).1 (TX1 k).2.1 (TX1 k).2.2.1) {v : Value} (hv : (bnF d so me (a 0) w.1.1)[k]? = some v) (hdg : decode cc pc = .ok (.getfield index, 3))
    (kk : W p l e R s m args below meth c H locs cells slots Q (F0 m (pc + 3) ls (v :: rest))) : W p l e R s m args below meth c H locs cells slots Q (F0 m pc ls (.ref h :: rest)) :=
  g_getL S hM ⟨0, rfl⟩ (ci := 1) rfl in_X1 k hk hl hv hdg kk
theorem bn_p1 (S : gS p s m args meth c cc nL ret own D T) (hM : gM D A H0 (bwW h d T so co me a w tl) H locs) {v : Int32} (ew : w1 = bF w 1 v) {index : Nat} (hl : gLk own index (TX1 1).1 (TX1 1).2.1 (TX1 1).2.2.1) (hdg : decode cc pc = .ok (.putfield index, 3))
    (kk : ∀ (H1 : Heap) (locs1 : List Loc), gM D A H0 (bwW h d T so co me a w1 tl) H1 locs1 → W p l e R s m args below meth c H1 locs1 cells slots Q (F0 m (pc + 3) ls rest)) : W p l e R s m args below meth c H locs cells slots Q (F0 m pc ls (.int v :: .ref h :: rest)) := by
  subst ew
  exact g_putL S hM 0 rfl (ci := 1) rfl in_X1 tyX1_ok nmX1 1 rfl hl rfl rfl rfl rfl rfl hdg kk
theorem bn_p2 (S : gS p s m args meth c cc nL ret own D T) (hM : gM D A H0 (bwW h d T so co me a w tl) H locs) {v : Int32} (ew : w1 = bF w 2 v) {index : Nat} (hl : gLk own index (TX1 2).1 (TX1 2).2.1 (TX1 2).2.2.1) (hdg : decode cc pc = .ok (.putfield index, 3))
    (kk : ∀ (H1 : Heap) (locs1 : List Loc), gM D A H0 (bwW h d T so co me a w1 tl) H1 locs1 → W p l e R s m args below meth c H1 locs1 cells slots Q (F0 m (pc + 3) ls rest)) : W p l e R s m args below meth c H locs cells slots Q (F0 m pc ls (.int v :: .ref h :: rest)) := by
  subst ew
  exact g_putL S hM 0 rfl (ci := 1) rfl in_X1 tyX1_ok nmX1 2 rfl hl rfl rfl rfl rfl rfl hdg kk
theorem bn_p6 (S : gS p s m args meth c cc nL ret own D T) (hM : gM D A H0 (bwW h d T so co me a w tl) H locs) {v : Int32} (hz : v = 0 ∨ v = 1) (ew : w1 = bF w 6 v) {index : Nat} (hl : gLk own index (TX1 6).1 (TX1 6).2.1 (TX1 6).2.2.1) (hdg : decode cc pc = .ok (.putfield index, 3))
    (kk : ∀ (H1 : Heap) (locs1 : List Loc), gM D A H0 (bwW h d T so co me a w1 tl) H1 locs1 → W p l e R s m args below meth c H1 locs1 cells slots Q (F0 m (pc + 3) ls rest)) : W p l e R s m args below meth c H locs cells slots Q (F0 m pc ls (.int v :: .ref h :: rest)) := by
  subst ew
  exact g_putL S hM 0 rfl (ci := 1) rfl in_X1 tyX1_ok nmX1 6 rfl hl rfl (bz_nf hz).1 (bz_nf hz).2 rfl rfl hdg kk
theorem bn_ld1 (S : gS p s m args meth c cc nL ret own D T) (hM : gM D A H0 (bwW h d T so co me a w tl) H locs) {i : Int32} (hi : vp_in i 6) (hdg : decode cc pc = .ok (.iaload, 1))
    (kk : W p l e R s m args below meth c H locs cells slots Q (F0 m (pc + 1) ls (.int (w.1.2 1 i.toNatClampNeg) :: rest))) : W p l e R s m args below meth c H locs cells slots Q (F0 m pc ls (.int i :: .ref (d 1) :: rest)) :=
  g_iald S hM 2 rfl hi hdg kk
theorem bn_ld2 (S : gS p s m args meth c cc nL ret own D T) (hM : gM D A H0 (bwW h d T so co me a w tl) H locs) {i : Int32} (hi : vp_in i 6) (hdg : decode cc pc = .ok (.iaload, 1))
    (kk : W p l e R s m args below meth c H locs cells slots Q (F0 m (pc + 1) ls (.int (w.1.2 2 i.toNatClampNeg) :: rest))) : W p l e R s m args below meth c H locs cells slots Q (F0 m pc ls (.int i :: .ref (d 2) :: rest)) :=
  g_iald S hM 3 rfl hi hdg kk
theorem bn_st1 (S : gS p s m args meth c cc nL ret own D T) (hM : gM D A H0 (bwW h d T so co me a w tl) H locs) {i v : Int32} (hi : vp_in i 6) (ew : w1 = bA w 1 i.toNatClampNeg v) (hdg : decode cc pc = .ok (.iastore, 1))
    (kk : ∀ (H1 : Heap) (locs1 : List Loc), gM D A H0 (bwW h d T so co me a w1 tl) H1 locs1 → W p l e R s m args below meth c H1 locs1 cells slots Q (F0 m (pc + 1) ls rest)) : W p l e R s m args below meth c H locs cells slots Q (F0 m pc ls (.int v :: .int i :: .ref (d 1) :: rest)) := by
  subst ew
  exact g_iast S hM 2 rfl hi rfl hdg kk
theorem bn_st2 (S : gS p s m args meth c cc nL ret own D T) (hM : gM D A H0 (bwW h d T so co me a w tl) H locs) {i v : Int32} (hi : vp_in i 6) (ew : w1 = bA w 2 i.toNatClampNeg v) (hdg : decode cc pc = .ok (.iastore, 1))
    (kk : ∀ (H1 : Heap) (locs1 : List Loc), gM D A H0 (bwW h d T so co me a w1 tl) H1 locs1 → W p l e R s m args below meth c H1 locs1 cells slots Q (F0 m (pc + 1) ls rest)) : W p l e R s m args below meth c H locs cells slots Q (F0 m pc ls (.int v :: .int i :: .ref (d 2) :: rest)) := by
  subst ew
  exact g_iast S hM 3 rfl hi rfl hdg kk
theorem bn_st0 (S : gS p s m args meth c cc nL ret own D T) (hM : gM D A H0 (bwW h d T so co me a w tl) H locs) {i v : Int32} (hi : vp_in i 80) (ew : w1 = bA w 0 i.toNatClampNeg (vp_nar .char v)) (hdg : decode cc pc = .ok (.castore, 1))
    (kk : ∀ (H1 : Heap) (locs1 : List Loc), gM D A H0 (bwW h d T so co me a w1 tl) H1 locs1 → W p l e R s m args below meth c H1 locs1 cells slots Q (F0 m (pc + 1) ls rest)) : W p l e R s m args below meth c H locs cells slots Q (F0 m pc ls (.int v :: .int i :: .ref (d 0) :: rest)) := by
  subst ew
  refine va_cast S.x S.b S.k hM.1 hM.2.1 hM.2.2.1 1 1 rfl rfl hi hdg ?_
  intro H1 locs1 hP hD hS
  exact kk H1 locs1 ⟨hP, hD, hS, hM.2.2.2⟩
/-! its rig -/
theorem br_g (S : gS p s m args meth c cc nL ret own D T) (hM : gM D A H0 (bwW h d T so co me a w tl) H locs) (k : Nat) (hk : Nat.ble (k + 1) 25 = true) {index : Nat} (hl : gLk own index (TX3 k).1 (TX3 k).2.1 (TX3 k).2.2.1) {v : Value} (hv : (rgF a so co w.2.1)[k]? = some v) (hdg : decode cc pc = .ok (.getfield index, 3))
    (kk : W p l e R s m args below meth c H locs cells slots Q (F0 m (pc + 3) ls (v :: rest))) : W p l e R s m args below meth c H locs cells slots Q (F0 m pc ls (.ref (a 0) :: rest)) :=
  g_getL S hM ⟨4, rfl⟩ (ci := 2) rfl in_X3 k hk hl hv hdg kk
theorem br_p6 (S : gS p s m args meth c cc nL ret own D T) (hM : gM D A H0 (bwW h d T so co me a w tl) H locs) {v : Int32} (hz : v = 0 ∨ v = 1) (ew : w1 = rF w 6 v) {index : Nat} (hl : gLk own index (TX3 6).1 (TX3 6).2.1 (TX3 6).2.2.1) (hdg : decode cc pc = .ok (.putfield index, 3))
    (kk : ∀ (H1 : Heap) (locs1 : List Loc), gM D A H0 (bwW h d T so co me a w1 tl) H1 locs1 → W p l e R s m args below meth c H1 locs1 cells slots Q (F0 m (pc + 3) ls rest)) : W p l e R s m args below meth c H locs cells slots Q (F0 m pc ls (.int v :: .ref (a 0) :: rest)) := by
  subst ew
  exact g_putL S hM 4 rfl (ci := 2) rfl in_X3 tyX3_ok nmX3 6 rfl hl rfl (bz_nf hz).1 (bz_nf hz).2 rfl rfl hdg kk
theorem br_at {j : Nat} (hj : Nat.ble (j + 1) 6 = true) : (bwW h d T so co me a w tl)[j + 5]? = some (a (j + 1), .inl (T 0, rgLen j, .inl (w.2.2 j))) := rg_at (so := so) (co := co) hj
theorem br_ld (S : gS p s m args meth c cc nL ret own D T) (hM : gM D A H0 (bwW h d T so co me a w tl) H locs) (j : Nat) (hj : Nat.ble (j + 1) 6 = true) {i : Int32} (hi : vp_in i (rgLen j)) (hdg : decode cc pc = .ok (.iaload, 1))
    (kk : W p l e R s m args below meth c H locs cells slots Q (F0 m (pc + 1) ls (.int (w.2.2 j i.toNatClampNeg) :: rest))) : W p l e R s m args below meth c H locs cells slots Q (F0 m pc ls (.int i :: .ref (a (j + 1)) :: rest)) :=
  g_iald S hM (j + 5) (br_at hj) hi hdg kk
theorem br_st1 (S : gS p s m args meth c cc nL ret own D T) (hM : gM D A H0 (bwW h d T so co me a w tl) H locs) {i v : Int32} (hi : vp_in i 6) (ew : w1 = rA w 1 i.toNatClampNeg v) (hdg : decode cc pc = .ok (.iastore, 1))
    (kk : ∀ (H1 : Heap) (locs1 : List Loc), gM D A H0 (bwW h d T so co me a w1 tl) H1 locs1 → W p l e R s m args below meth c H1 locs1 cells slots Q (F0 m (pc + 1) ls rest)) : W p l e R s m args below meth c H locs cells slots Q (F0 m pc ls (.int v :: .int i :: .ref (a 2) :: rest)) := by
  subst ew
  exact g_iast S hM 6 rfl hi rfl hdg kk
section CALLS
variable {y : MethodName} {bts : ByteArray} {L n index : Nat} {rm : Room} {As st0 : List Value} {lv : List (Nat × Value)} {b : Nat} {wb ws ws1 : va_W}
/-- a call on the cells ws behind the cells wb -/
theorem gb_ci {rt : Option FieldType} {r : Int32} (S : gS p s m args meth c cc nL ret own D T) (hM : gM D A H0 (wb ++ ws) H locs) (hl : lv_has ls nL lv) (As : List Value) {Tt : u_T} {N : Nat} (ci : Nat) (hc : gCl[ci]? = some (y.cls, Tt, N)) (he : ∃ (q0 : Nat) (fs : List Value), ws[q0]? = some (b, .inr (ci, fs)))
    (hMet : ∀ sz, MetI l y (ws_ y bts L rt) rm D T ws sz (.ref b :: As) r ws1) (hd : gHd y n) (q1 : Cond.methodLink own index y ∈ lw_all) (q2 : Cond.instanceMethod y ∈ lw_all) (q3 : Cond.selects y.cls y y ∈ lw_all) (q4 : Cond.initialized y.cls ∈ lw_all) (q5 : Cond.code y bts L rt ∈ lw_all) (h0 : rm.cells = 0 ∧ rm.slots = 0)
    (hR : Nat.ble (rm.frames + 1) R.frames = true ∧ Nat.ble (8 + (L + 11) + rm.locals) R.locals = true) (hn : As.length = n) (hst : st0 = As.reverse ++ .ref b :: rest) (hrm : Nat.ble (rest.map fun v => v.category).sum 8 = true) (hfit : cells + 0 ≤ R.cells ∧ slots + 0 ≤ R.slots) (hdg : decode cc pc = .ok (.invokevirtual index, 3))
    (kk : ∀ (H1 : Heap) (locs1 : List Loc), gM D A H0 (wb ++ ws1) H1 locs1 → W p l e R s m args below meth c H1 locs1 cells slots Q (F0 m (pc + 3) ls (.int r :: rest))) : W p l e R s m args below meth c H locs cells slots Q (F0 m pc ls st0) := by
  obtain ⟨q0, fs, he⟩ := he
  exact g_calli (wc := ws) (wr := wb) (wc' := ws1) S (hM.perm List.perm_append_comm) hl.1 hc (q0 := q0) (by rw [List.getElem?_append_left (List.getElem?_eq_some_iff.mp he).1]; exact he) hMet hd ⟨q1, q2, q3, q4, q5⟩ h0 hR hn hst hrm hfit hdg (fun H1 locs1 h => kk H1 locs1 (h.perm List.perm_append_comm))
/-- a method of the bench's rig -/
theorem br_ci {rt : Option FieldType} {r : Int32} {x : MW} (S : gS p s m args meth c cc nL ret own D T) (hM : gM D A H0 (bwW h d T so co me a w tl) H locs) (hl : lv_has ls nL lv) (As : List Value)
    (hMet : ∀ sz, MetI l y (ws_ y bts L rt) rm D T (rgW a (T 0) so co w.2 tl) sz (.ref (a 0) :: As) r (rgW a (T 0) so co x tl)) (ew : w1 = (w.1, x)) (hy : y.cls = RX3) (hd : gHd y n) (q1 : Cond.methodLink own index y ∈ lw_all) (q2 : Cond.instanceMethod y ∈ lw_all) (q3 : Cond.selects y.cls y y ∈ lw_all) (q4 : Cond.initialized y.cls ∈ lw_all) (q5 : Cond.code y bts L rt ∈ lw_all) (h0 : rm.cells = 0 ∧ rm.slots = 0)
    (hR : Nat.ble (rm.frames + 1) R.frames = true ∧ Nat.ble (8 + (L + 11) + rm.locals) R.locals = true) (hn : As.length = n) (hst : st0 = As.reverse ++ .ref (a 0) :: rest) (hrm : Nat.ble (rest.map fun v => v.category).sum 8 = true) (hfit : cells + 0 ≤ R.cells ∧ slots + 0 ≤ R.slots) (hdg : decode cc pc = .ok (.invokevirtual index, 3))
    (kk : ∀ (H1 : Heap) (locs1 : List Loc), gM D A H0 (bwW h d T so co me a w1 tl) H1 locs1 → W p l e R s m args below meth c H1 locs1 cells slots Q (F0 m (pc + 3) ls (.int r :: rest))) : W p l e R s m args below meth c H locs cells slots Q (F0 m pc ls st0) := by
  subst ew
  exact gb_ci (wb := bnC h d T so me (a 0) w.1) S hM hl As 2 (by rw [hy]; rfl) ⟨0, _, rfl⟩ hMet hd q1 q2 q3 q4 q5 h0 hR hn hst hrm hfit hdg kk
/-- a static method that answers nothing -/
theorem gg_sv (S : gS p s m args meth c cc nL ret own D T) (hM : gM D A H0 ws H locs) (hl : lv_has ls nL lv) (As : List Value)
    (hMet : ∀ sz, MetV l y (ws_ y bts L none) rm D T [] sz As []) (hd : gHd y n) (q1 : Cond.methodLink own index y ∈ lw_all) (q2 : Cond.static y ∈ lw_all) (q3 : Cond.initialized y.cls ∈ lw_all) (q4 : Cond.code y bts L none ∈ lw_all) (h0 : rm.cells = 0 ∧ rm.slots = 0)
    (hR : Nat.ble (rm.frames + 1) R.frames = true ∧ Nat.ble (8 + (L + 11) + rm.locals) R.locals = true) (hn : As.length = n) (hst : st0 = As.reverse ++ rest) (hrm : Nat.ble (rest.map fun v => v.category).sum 8 = true) (hfit : cells + 0 ≤ R.cells ∧ slots + 0 ≤ R.slots) (hdg : decode cc pc = .ok (.invokestatic index, 3))
    (kk : ∀ (H1 : Heap) (locs1 : List Loc), gM D A H0 ws H1 locs1 → W p l e R s m args below meth c H1 locs1 cells slots Q (F0 m (pc + 3) ls rest)) : W p l e R s m args below meth c H locs cells slots Q (F0 m pc ls st0) :=
  g_scallv (wc := []) (wr := ws) (wc' := []) S hM hl.1 hMet hd ⟨q1, q2, q3, q4⟩ h0 hR hn hst hrm hfit hdg kk
/-- a method of this world that answers one of the listed cells -/
theorem gw_cr {rt : FieldType} {ra : Nat} (S : gS p s m args meth c cc nL ret own D T) (hM : gM D A H0 ws H locs) (hl : lv_has ls nL lv) (As : List Value) {Tt : u_T} {N : Nat} (ci : Nat) (hc : gCl[ci]? = some (y.cls, Tt, N)) (he : ∃ (q0 : Nat) (fs : List Value), ws[q0]? = some (b, .inr (ci, fs)))
    (hMet : ∀ sz, MetR Unit l y (ws_ y bts L (some rt)) rm D T ws sz (.ref b :: As) (fun _ => ra) (fun _ => ws1) (fun _ _ => True) 0 0) (hd : gHd y n) (q1 : Cond.methodLink own index y ∈ lw_all) (q2 : Cond.instanceMethod y ∈ lw_all) (q3 : Cond.selects y.cls y y ∈ lw_all) (q4 : Cond.initialized y.cls ∈ lw_all) (q5 : Cond.code y bts L (some rt) ∈ lw_all) (h0 : rm.cells = 0 ∧ rm.slots = 0)
    (hR : Nat.ble (rm.frames + 1) R.frames = true ∧ Nat.ble (8 + (L + 11) + rm.locals) R.locals = true) (hn : As.length = n) (hst : st0 = As.reverse ++ .ref b :: rest) (hrm : Nat.ble (rest.map fun v => v.category).sum 8 = true) (hfit : cells + 0 ≤ R.cells ∧ slots + 0 ≤ R.slots) (hdg : decode cc pc = .ok (.invokevirtual index, 3))
    (kk : ∀ (H1 : Heap) (locs1 : List Loc), gM D A H0 ws1 H1 locs1 → W p l e R s m args below meth c H1 locs1 cells slots Q (F0 m (pc + 3) ls (.ref ra :: rest))) : W p l e R s m args below meth c H locs cells slots Q (F0 m pc ls st0) := by
  obtain ⟨q0, fs, he⟩ := he
  refine ga_r (U := Unit) (wc := ws) (wr := []) (q0 := q0) (fs := fs) (ci := ci) S (by rw [List.append_nil]; exact hM) hl As hc (by rw [List.append_nil]; exact he) hMet hd q1 q2 q3 q4 q5 h0 hR hn hst hrm hfit hdg ?_
  intro u H1 locs1 h1 _ _ _
  rw [List.append_nil] at h1
  exact kk H1 locs1 h1
end CALLS
end BK
