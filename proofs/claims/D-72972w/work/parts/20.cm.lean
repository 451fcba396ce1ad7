/-! THE COMPONENT's WORLDS: a sequence (never written once it is made), a rig before any other cells -/
set_option maxRecDepth 100000
/-- a field's link: the class's own or a nest mate's -/
abbrev gLk (own : String) (index : Nat) (ref name desc : String) : Prop := Cond.fieldLink own index ref name desc ∈ lw_all ∨ ∃ host, Cond.fieldLinkNest own index ref name desc host ∈ lw_tbl
def stC (q : MW) (k : Nat) : va_E := .inr (8, [.int (q.2 0 k), .int (q.2 1 k), .int (q.2 2 k)])
/-- the cells ws hold the sequence at b 0 (b 1: its steps, b 2: its outs), of n steps sa k; q.2: 0 plus, 1 minus, 2 pause, 3 outs, 4 cuts; cv: its field 'cuts' -/
def SqI (T : Nat → ClassId) (b sa : Nat → Nat) (n : Nat) (q : MW) (cv : Value) (ws : va_W) : Prop :=
  (∃ i : Nat, ws[i]? = some (b 0, .inr (9, [.ref (b 1), .ref (b 2), cv]))) ∧ (∃ i : Nat, ws[i]? = some (b 1, .inl (T 3, n, .inr (.inr (.inr (.inr (fun k => some (sa k)))))))) ∧ (∃ i : Nat, ws[i]? = some (b 2, .inl (T 0, n, .inl (q.2 3)))) ∧ ∀ k : Nat, k < n → ∃ i : Nat, ws[i]? = some (sa k, stC q k)
def CuI (T : Nat → ClassId) (b : Nat → Nat) (nc : Nat) (q : MW) (ws : va_W) : Prop := ∃ i : Nat, ws[i]? = some (b 3, .inl (T 0, nc, .inl (q.2 4)))
theorem ex_cons {ws : va_W} {x y : Nat × va_E} (h : ∃ i : Nat, ws[i]? = some y) : ∃ i : Nat, (x :: ws)[i]? = some y := by
  obtain ⟨i, h⟩ := h
  exact ⟨i + 1, h⟩
theorem SqI.cons {T : Nat → ClassId} {b sa : Nat → Nat} {n : Nat} {q : MW} {cv : Value} {ws : va_W} (x : Nat × va_E) (h : SqI T b sa n q cv ws) : SqI T b sa n q cv (x :: ws) := ⟨ex_cons h.1, ex_cons h.2.1, ex_cons h.2.2.1, fun k hk => ex_cons (h.2.2.2 k hk)⟩
theorem CuI.cons {T : Nat → ClassId} {b : Nat → Nat} {nc : Nat} {q : MW} {ws : va_W} (x : Nat × va_E) (h : CuI T b nc q ws) : CuI T b nc q (x :: ws) := ex_cons h
theorem SqI.sq {T : Nat → ClassId} {b sa : Nat → Nat} {n : Nat} {q : MW} {cv : Value} {ws : va_W} (h : SqI T b sa n q cv ws) : ∃ (q0 : Nat) (fs : List Value), ws[q0]? = some (b 0, .inr (9, fs)) := ⟨h.1.choose, _, h.1.choose_spec⟩
theorem SqI.st {T : Nat → ClassId} {b sa : Nat → Nat} {n : Nat} {q : MW} {cv : Value} {ws : va_W} (h : SqI T b sa n q cv ws) {i : Int32} (hi : vp_in i n) : ∃ (q0 : Nat) (fs : List Value), ws[q0]? = some (sa i.toNatClampNeg, .inr (8, fs)) := ⟨(h.2.2.2 _ (Nat.not_le.mp fun q => hi (Or.inr q))).choose, _, (h.2.2.2 _ (Nat.not_le.mp fun q => hi (Or.inr q))).choose_spec⟩
theorem SqI.stx {T : Nat → ClassId} {b sa : Nat → Nat} {n : Nat} {q : MW} {cv : Value} {ws : va_W} (h : SqI T b sa n q cv ws) {i : Int32} (hi : vp_in i n) : ∃ q0 : Nat, ws[q0]? = some (sa i.toNatClampNeg, .inr (8, [.int (q.2 0 i.toNatClampNeg), .int (q.2 1 i.toNatClampNeg), .int (q.2 2 i.toNatClampNeg)])) := h.2.2.2 _ (Nat.not_le.mp fun q => hi (Or.inr q))
/-! a rig: a 0 the object, a 1 strokes, a 2 faults, a 3 positions, a 4 timers, a 5 eventTimes, a 6 eventMoves; rows 0 .. 5 in this order -/
def rgF (a : Nat → Nat) (so co : Option Nat) (F : Nat → Int32) : List Value := [va_rf so, .ref (a 1), .ref (a 2), .ref (a 3), .ref (a 4), va_rf co, .int (F 6), .int (F 7), .int (F 8), .int (F 9), .int (F 10), .int (F 11), .int (F 12), .int (F 13), .int (F 14), .ref (a 5), .ref (a 6), .int (F 17), .int (F 18), .int (F 19), .int (F 20), .int (F 21), .int (F 22), .int (F 23), .int (F 24)]
def rgW (a : Nat → Nat) (cI : ClassId) (so co : Option Nat) (w : MW) (tl : va_W) : va_W := (a 0, .inr (2, rgF a so co w.1)) :: (a 1, .inl (cI, 6, .inl (w.2 0))) :: (a 2, .inl (cI, 6, .inl (w.2 1))) :: (a 3, .inl (cI, 6, .inl (w.2 2))) :: (a 4, .inl (cI, 16, .inl (w.2 3))) :: (a 5, .inl (cI, 40, .inl (w.2 4))) :: (a 6, .inl (cI, 40, .inl (w.2 5))) :: tl
def rgLen (j : Nat) : Nat := match j with
  | 0 => 6
  | 1 => 6
  | 2 => 6
  | 3 => 16
  | _ => 40
def rgInt (k : Nat) : Bool := k == 7 || k == 8 || k == 9 || k == 10 || k == 11 || k == 12 || k == 13 || k == 14 || k == 17 || k == 18 || k == 19 || k == 20 || k == 21 || k == 22 || k == 23 || k == 24
theorem SqI.rg {T : Nat → ClassId} {b sa : Nat → Nat} {n : Nat} {q : MW} {cv : Value} {tl : va_W} {a : Nat → Nat} {cI : ClassId} {so co : Option Nat} {w : MW} (h : SqI T b sa n q cv tl) : SqI T b sa n q cv (rgW a cI so co w tl) := (((((((h.cons _).cons _).cons _).cons _).cons _).cons _).cons _)
theorem CuI.rg {T : Nat → ClassId} {b : Nat → Nat} {nc : Nat} {q : MW} {tl : va_W} {a : Nat → Nat} {cI : ClassId} {so co : Option Nat} {w : MW} (h : CuI T b nc q tl) : CuI T b nc q (rgW a cI so co w tl) := (((((((h.cons _).cons _).cons _).cons _).cons _).cons _).cons _)
section RG
variable {a : Nat → Nat} {cI : ClassId} {so co : Option Nat} {w : MW} {tl : va_W}
theorem rg_at {j : Nat} (hj : Nat.ble (j + 1) 6 = true) : (rgW a cI so co w tl)[j + 1]? = some (a (j + 1), .inl (cI, rgLen j, .inl (w.2 j))) := by
  have hj := Nat.le_of_ble_eq_true hj
  rcases (show j = 0 ∨ j = 1 ∨ j = 2 ∨ j = 3 ∨ j = 4 ∨ j = 5 by omega) with e | e | e | e | e | e <;> subst e <;> rfl
theorem rg_setA {j i : Nat} {v : Int32} (hj : Nat.ble (j + 1) 6 = true) : (rgW a cI so co w tl).set (j + 1) (a (j + 1), .inl (cI, rgLen j, .inl (upd (w.2 j) i v))) = rgW a cI so co (setA w j i v) tl := by
  have hj := Nat.le_of_ble_eq_true hj
  rcases (show j = 0 ∨ j = 1 ∨ j = 2 ∨ j = 3 ∨ j = 4 ∨ j = 5 by omega) with e | e | e | e | e | e <;> subst e <;> rfl
theorem rg_setF {k : Nat} {v : Int32} (hk : rgInt k = true) : (rgW a cI so co w tl).set 0 (a 0, .inr (2, (rgF a so co w.1).set k (.int v))) = rgW a cI so co (setF w k v) tl := by
  simp only [rgInt, Bool.or_eq_true, beq_iff_eq] at hk
  rcases hk with ((((((((((((((e | e) | e) | e) | e) | e) | e) | e) | e) | e) | e) | e) | e) | e) | e) | e <;> subst e <;> rfl
theorem rg_setZ {v : Int32} : (rgW a cI so co w tl).set 0 (a 0, .inr (2, (rgF a so co w.1).set 6 (.int v))) = rgW a cI so co (setF w 6 v) tl := rfl
theorem rg_ty {k : Nat} (hk : rgInt k = true) : tyX3 k = .int ∧ (TX3 k).2.2.2 = false ∧ Nat.ble (k + 1) 25 = true := by
  simp only [rgInt, Bool.or_eq_true, beq_iff_eq] at hk
  rcases hk with ((((((((((((((e | e) | e) | e) | e) | e) | e) | e) | e) | e) | e) | e) | e) | e) | e) | e <;> subst e <;> exact ⟨rfl, rfl, rfl⟩
end RG
section CK
variable {p : Program} {l : Launch} {e : Env} {R : Room} {s : State} {m : MethodId} {args : Array Value} {below : List Frame} {meth : Method} {c : Code} {H : Heap} {locs : List Loc} {cells slots : Nat} {Q : State → Prop}
variable {cc : ByteArray} {nL : Nat} {ret : Option FieldType} {own : String} {D : va_G} {T : Nat → ClassId} {A : Nat → Prop} {pc : Nat} {ls : Array Slot} {rest : List Value} {H0 : Heap} {ws ws1 : va_W}
theorem g_getL (S : gS p s m args meth c cc nL ret own D T) (hM : gM D A H0 ws H locs) {C : String} {Tt : u_T} {N ci : Nat} {a : Nat} {fs : List Value} (he : ∃ q0 : Nat, ws[q0]? = some (a, .inr (ci, fs))) (hc : gCl[ci]? = some (C, Tt, N)) (hin : ∀ w ∈ u_ws C Tt N, w ∈ lw_all) (k : Nat) (hk : Nat.ble (k + 1) N = true) {index : Nat}
    (hl : gLk own index (Tt k).1 (Tt k).2.1 (Tt k).2.2.1) {v : Value} (hv : fs[k]? = some v) (hdg : decode cc pc = .ok (.getfield index, 3))
    (kk : W p l e R s m args below meth c H locs cells slots Q (F0 m (pc + 3) ls (v :: rest))) : W p l e R s m args below meth c H locs cells slots Q (F0 m pc ls (.ref a :: rest)) := by
  obtain ⟨q0, he⟩ := he
  rcases hl with h | ⟨host, h⟩
  · exact g_get S hM q0 he hc hin k hk h hv hdg kk
  · exact va_getN S.x S.b S.w hin S.o S.k hM.1 q0 he hc k (Nat.le_of_ble_eq_true hk) (va_Nw.use rfl (S.g.1 _ h rfl)) (fun _ h => h) hv hdg kk
theorem g_putL (S : gS p s m args meth c cc nL ret own D T) (hM : gM D A H0 ws H locs) {C : String} {Tt : u_T} {N ci : Nat} (q0 : Nat) {a : Nat} {fs : List Value} (he : ws[q0]? = some (a, .inr (ci, fs))) (hc : gCl[ci]? = some (C, Tt, N)) (hin : ∀ w ∈ u_ws C Tt N, w ∈ lw_all) {ty0 : Nat → FieldType} (hty : ∀ k, k < N → parseFieldDescriptor (Tt k).2.2.1 = some (ty0 k)) (hnm : ∀ a, a < N → ∀ b, b < N → a ≠ b → (Tt a).2.1 ≠ (Tt b).2.1) (k : Nat) (hk : Nat.ble (k + 1) N = true) {index : Nat}
    (hl : gLk own index (Tt k).1 (Tt k).2.1 (Tt k).2.2.1) (hfin : (Tt k).2.2.2 = false) {v : Value} (hn : narrow (ty0 k) v = v) (hfit : fits (ty0 k) v = true) (hlen : Nat.ble (k + 1) fs.length = true) {ws' : va_W} (hws : ws.set q0 (a, .inr (ci, fs.set k v)) = ws') (hdg : decode cc pc = .ok (.putfield index, 3))
    (kk : ∀ (H1 : Heap) (locs1 : List Loc), gM D A H0 ws' H1 locs1 → W p l e R s m args below meth c H1 locs1 cells slots Q (F0 m (pc + 3) ls rest)) : W p l e R s m args below meth c H locs cells slots Q (F0 m pc ls (v :: .ref a :: rest)) := by
  rcases hl with h | ⟨host, h⟩
  · exact g_put S hM q0 he hc hin hty hnm k hk h hfin hn hfit hlen hws hdg kk
  · have hk' := Nat.le_of_ble_eq_true hk
    refine va_putN S.x S.b S.w hin ty0 hty hnm S.o S.k hM.1 hM.2.1 hM.2.2.1 q0 he hc k hk' (va_Nw.use rfl (S.g.1 _ h rfl)) (fun _ h => h) hfin (hty k hk') hn hfit (Nat.le_of_ble_eq_true hlen) hdg ?_
    intro H1 locs1 hP hD hS
    rw [hws] at hP hD
    exact kk H1 locs1 ⟨hP, hD, hS, hM.2.2.2⟩
/-! the sequence -/
section SQ
variable {b sa : Nat → Nat} {n nc : Nat} {q : MW} {cv : Value}
theorem sq_g (S : gS p s m args meth c cc nL ret own D T) (hM : gM D A H0 ws H locs) (hQ : SqI T b sa n q cv ws) (k : Nat) (hk : Nat.ble (k + 1) 3 = true) {index : Nat} (hl : gLk own index (TX11 k).1 (TX11 k).2.1 (TX11 k).2.2.1) {v : Value} (hv : ([.ref (b 1), .ref (b 2), cv] : List Value)[k]? = some v) (hdg : decode cc pc = .ok (.getfield index, 3))
    (kk : W p l e R s m args below meth c H locs cells slots Q (F0 m (pc + 3) ls (v :: rest))) : W p l e R s m args below meth c H locs cells slots Q (F0 m pc ls (.ref (b 0) :: rest)) :=
  g_getL S hM hQ.1 (ci := 9) rfl in_X11 k hk hl hv hdg kk
theorem sq_len (S : gS p s m args meth c cc nL ret own D T) (hM : gM D A H0 ws H locs) (hQ : SqI T b sa n q cv ws) (hdg : decode cc pc = .ok (.arraylength, 1))
    (kk : W p l e R s m args below meth c H locs cells slots Q (F0 m (pc + 1) ls (.int (Int32.ofNat n) :: rest))) : W p l e R s m args below meth c H locs cells slots Q (F0 m pc ls (.ref (b 1) :: rest)) := by
  obtain ⟨i, h⟩ := hQ.2.1
  exact va_alen S.x S.b S.k hM.1 i 3 h (ty := .object "SequenceBench$Step") rfl rfl hdg kk
theorem sq_ald (S : gS p s m args meth c cc nL ret own D T) (hM : gM D A H0 ws H locs) (hQ : SqI T b sa n q cv ws) {i : Int32} (hi : vp_in i n) (hdg : decode cc pc = .ok (.aaload, 1))
    (kk : W p l e R s m args below meth c H locs cells slots Q (F0 m (pc + 1) ls (.ref (sa i.toNatClampNeg) :: rest))) : W p l e R s m args below meth c H locs cells slots Q (F0 m pc ls (.int i :: .ref (b 1) :: rest)) := by
  obtain ⟨j, h⟩ := hQ.2.1
  exact va_aldq S.x S.b S.k hM.1 j 3 h (C := "SequenceBench$Step") rfl hi hdg kk
theorem sq_out (S : gS p s m args meth c cc nL ret own D T) (hM : gM D A H0 ws H locs) (hQ : SqI T b sa n q cv ws) {i : Int32} (hi : vp_in i n) (hdg : decode cc pc = .ok (.iaload, 1))
    (kk : W p l e R s m args below meth c H locs cells slots Q (F0 m (pc + 1) ls (.int (q.2 3 i.toNatClampNeg) :: rest))) : W p l e R s m args below meth c H locs cells slots Q (F0 m pc ls (.int i :: .ref (b 2) :: rest)) := by
  obtain ⟨j, h⟩ := hQ.2.2.1
  exact g_iald S hM j h hi hdg kk
theorem sq_cut (S : gS p s m args meth c cc nL ret own D T) (hM : gM D A H0 ws H locs) (hC : CuI T b nc q ws) {i : Int32} (hi : vp_in i nc) (hdg : decode cc pc = .ok (.iaload, 1))
    (kk : W p l e R s m args below meth c H locs cells slots Q (F0 m (pc + 1) ls (.int (q.2 4 i.toNatClampNeg) :: rest))) : W p l e R s m args below meth c H locs cells slots Q (F0 m pc ls (.int i :: .ref (b 3) :: rest)) := by
  obtain ⟨j, h⟩ := hC
  exact g_iald S hM j h hi hdg kk
theorem sq_clen (S : gS p s m args meth c cc nL ret own D T) (hM : gM D A H0 ws H locs) (hC : CuI T b nc q ws) (hdg : decode cc pc = .ok (.arraylength, 1))
    (kk : W p l e R s m args below meth c H locs cells slots Q (F0 m (pc + 1) ls (.int (Int32.ofNat nc) :: rest))) : W p l e R s m args below meth c H locs cells slots Q (F0 m pc ls (.ref (b 3) :: rest)) := by
  obtain ⟨j, h⟩ := hC
  exact g_alen S hM j h rfl hdg kk
theorem st_g (S : gS p s m args meth c cc nL ret own D T) (hM : gM D A H0 ws H locs) {sx : Nat} {pl mi pa : Int32} (hS : ∃ q0 : Nat, ws[q0]? = some (sx, .inr (8, [.int pl, .int mi, .int pa]))) (k : Nat) (hk : Nat.ble (k + 1) 3 = true) {index : Nat} (hl : gLk own index (TX10 k).1 (TX10 k).2.1 (TX10 k).2.2.1) {v : Value} (hv : ([.int pl, .int mi, .int pa] : List Value)[k]? = some v) (hdg : decode cc pc = .ok (.getfield index, 3))
    (kk : W p l e R s m args below meth c H locs cells slots Q (F0 m (pc + 3) ls (v :: rest))) : W p l e R s m args below meth c H locs cells slots Q (F0 m pc ls (.ref sx :: rest)) :=
  g_getL S hM hS (ci := 8) rfl in_X10 k hk hl hv hdg kk
end SQ
/-! the rig -/
section RGK
variable {a : Nat → Nat} {so co : Option Nat} {w w1 : MW} {tl : va_W}
theorem rg_g (S : gS p s m args meth c cc nL ret own D T) (hM : gM D A H0 (rgW a (T 0) so co w tl) H locs) (k : Nat) (hk : Nat.ble (k + 1) 25 = true) {index : Nat} (hl : gLk own index (TX3 k).1 (TX3 k).2.1 (TX3 k).2.2.1) {v : Value} (hv : (rgF a so co w.1)[k]? = some v) (hdg : decode cc pc = .ok (.getfield index, 3))
    (kk : W p l e R s m args below meth c H locs cells slots Q (F0 m (pc + 3) ls (v :: rest))) : W p l e R s m args below meth c H locs cells slots Q (F0 m pc ls (.ref (a 0) :: rest)) :=
  g_getL S hM ⟨0, rfl⟩ (ci := 2) rfl in_X3 k hk hl hv hdg kk
theorem rg_p (S : gS p s m args meth c cc nL ret own D T) (hM : gM D A H0 (rgW a (T 0) so co w tl) H locs) {v : Int32} (k : Nat) (hk : rgInt k = true) (ew : w1 = setF w k v) {index : Nat} (hl : gLk own index (TX3 k).1 (TX3 k).2.1 (TX3 k).2.2.1) (hdg : decode cc pc = .ok (.putfield index, 3))
    (kk : ∀ (H1 : Heap) (locs1 : List Loc), gM D A H0 (rgW a (T 0) so co w1 tl) H1 locs1 → W p l e R s m args below meth c H1 locs1 cells slots Q (F0 m (pc + 3) ls rest)) : W p l e R s m args below meth c H locs cells slots Q (F0 m pc ls (.int v :: .ref (a 0) :: rest)) := by
  subst ew
  obtain ⟨t1, t2, t3⟩ := rg_ty hk
  exact g_putL S hM 0 rfl (ci := 2) rfl in_X3 tyX3_ok nmX3 k t3 hl t2 (by rw [t1]; rfl) (by rw [t1]; rfl) t3 (rg_setF hk) hdg kk
theorem rg_ld (S : gS p s m args meth c cc nL ret own D T) (hM : gM D A H0 (rgW a (T 0) so co w tl) H locs) (j : Nat) (hj : Nat.ble (j + 1) 6 = true) {i : Int32} (hi : vp_in i (rgLen j)) (hdg : decode cc pc = .ok (.iaload, 1))
    (kk : W p l e R s m args below meth c H locs cells slots Q (F0 m (pc + 1) ls (.int (w.2 j i.toNatClampNeg) :: rest))) : W p l e R s m args below meth c H locs cells slots Q (F0 m pc ls (.int i :: .ref (a (j + 1)) :: rest)) :=
  g_iald S hM (j + 1) (rg_at hj) hi hdg kk
theorem rg_st (S : gS p s m args meth c cc nL ret own D T) (hM : gM D A H0 (rgW a (T 0) so co w tl) H locs) (j : Nat) (hj : Nat.ble (j + 1) 6 = true) {i v : Int32} (hi : vp_in i (rgLen j)) (ew : w1 = setA w j i.toNatClampNeg v) (hdg : decode cc pc = .ok (.iastore, 1))
    (kk : ∀ (H1 : Heap) (locs1 : List Loc), gM D A H0 (rgW a (T 0) so co w1 tl) H1 locs1 → W p l e R s m args below meth c H1 locs1 cells slots Q (F0 m (pc + 1) ls rest)) : W p l e R s m args below meth c H locs cells slots Q (F0 m pc ls (.int v :: .int i :: .ref (a (j + 1)) :: rest)) := by
  subst ew
  exact g_iast S hM (j + 1) (rg_at hj) hi (rg_setA hj) hdg kk
end RGK
/-! calls with the whole world -/
section CALLS
variable {y : MethodName} {bts : ByteArray} {L n index : Nat} {rm : Room} {As st0 : List Value} {lv : List (Nat × Value)} {b : Nat}
theorem gw_ci {rt : Option FieldType} {r : Int32} (S : gS p s m args meth c cc nL ret own D T) (hM : gM D A H0 ws H locs) (hl : lv_has ls nL lv) (As : List Value) {Tt : u_T} {N : Nat} (ci : Nat) (hc : gCl[ci]? = some (y.cls, Tt, N)) (he : ∃ (q0 : Nat) (fs : List Value), ws[q0]? = some (b, .inr (ci, fs)))
    (hMet : ∀ sz, MetI l y (ws_ y bts L rt) rm D T ws sz (.ref b :: As) r ws1) (hd : gHd y n) (q1 : Cond.methodLink own index y ∈ lw_all) (q2 : Cond.instanceMethod y ∈ lw_all) (q3 : Cond.selects y.cls y y ∈ lw_all) (q4 : Cond.initialized y.cls ∈ lw_all) (q5 : Cond.code y bts L rt ∈ lw_all) (h0 : rm.cells = 0 ∧ rm.slots = 0)
    (hR : Nat.ble (rm.frames + 1) R.frames = true ∧ Nat.ble (8 + (L + 11) + rm.locals) R.locals = true) (hn : As.length = n) (hst : st0 = As.reverse ++ .ref b :: rest) (hrm : Nat.ble (rest.map fun v => v.category).sum 8 = true) (hfit : cells + 0 ≤ R.cells ∧ slots + 0 ≤ R.slots) (hdg : decode cc pc = .ok (.invokevirtual index, 3))
    (kk : ∀ (H1 : Heap) (locs1 : List Loc), gM D A H0 ws1 H1 locs1 → W p l e R s m args below meth c H1 locs1 cells slots Q (F0 m (pc + 3) ls (.int r :: rest))) : W p l e R s m args below meth c H locs cells slots Q (F0 m pc ls st0) := by
  obtain ⟨q0, fs, he⟩ := he
  refine g_calli (wc := ws) (wr := []) (wc' := ws1) S (by rw [List.append_nil]; exact hM) hl.1 hc (q0 := q0) (by rw [List.append_nil]; exact he) hMet hd ⟨q1, q2, q3, q4, q5⟩ h0 hR hn hst hrm hfit hdg ?_
  rw [List.append_nil]
  exact kk
theorem gw_cv (S : gS p s m args meth c cc nL ret own D T) (hM : gM D A H0 ws H locs) (hl : lv_has ls nL lv) (As : List Value) {Tt : u_T} {N : Nat} (ci : Nat) (hc : gCl[ci]? = some (y.cls, Tt, N)) (he : ∃ (q0 : Nat) (fs : List Value), ws[q0]? = some (b, .inr (ci, fs)))
    (hMet : ∀ sz, MetV l y (ws_ y bts L none) rm D T ws sz (.ref b :: As) ws1) (hd : gHd y n) (q1 : Cond.methodLink own index y ∈ lw_all) (q2 : Cond.instanceMethod y ∈ lw_all) (q3 : Cond.selects y.cls y y ∈ lw_all) (q4 : Cond.initialized y.cls ∈ lw_all) (q5 : Cond.code y bts L none ∈ lw_all) (h0 : rm.cells = 0 ∧ rm.slots = 0)
    (hR : Nat.ble (rm.frames + 1) R.frames = true ∧ Nat.ble (8 + (L + 11) + rm.locals) R.locals = true) (hn : As.length = n) (hst : st0 = As.reverse ++ .ref b :: rest) (hrm : Nat.ble (rest.map fun v => v.category).sum 8 = true) (hfit : cells + 0 ≤ R.cells ∧ slots + 0 ≤ R.slots) (hdg : decode cc pc = .ok (.invokevirtual index, 3))
    (kk : ∀ (H1 : Heap) (locs1 : List Loc), gM D A H0 ws1 H1 locs1 → W p l e R s m args below meth c H1 locs1 cells slots Q (F0 m (pc + 3) ls rest)) : W p l e R s m args below meth c H locs cells slots Q (F0 m pc ls st0) := by
  obtain ⟨q0, fs, he⟩ := he
  refine g_callv (wc := ws) (wr := []) (wc' := ws1) S (by rw [List.append_nil]; exact hM) hl.1 hc (q0 := q0) (by rw [List.append_nil]; exact he) hMet hd ⟨q1, q2, q3, q4, q5⟩ h0 hR hn hst hrm hfit hdg ?_
  rw [List.append_nil]
  exact kk
/-- a static method of whole numbers alone, a nest mate's -/
theorem gn_si {rt : Option FieldType} {r : Int32} {host : String} (S : gS p s m args meth c cc nL ret own D T) (hM : gM D A H0 ws H locs) (hl : lv_has ls nL lv) (As : List Value)
    (hMet : ∀ sz, MetI l y (ws_ y bts L rt) rm D T [] sz As r []) (hd : gHd y n) (q1 : Cond.methodLinkNest own index y host ∈ lw_tbl) (q2 : Cond.static y ∈ lw_all) (q3 : Cond.initialized y.cls ∈ lw_all) (q4 : Cond.code y bts L rt ∈ lw_all) (h0 : rm.cells = 0 ∧ rm.slots = 0)
    (hR : Nat.ble (rm.frames + 1) R.frames = true ∧ Nat.ble (8 + (L + 11) + rm.locals) R.locals = true) (hn : As.length = n) (hst : st0 = As.reverse ++ rest) (hrm : Nat.ble (rest.map fun v => v.category).sum 8 = true) (hfit : cells + 0 ≤ R.cells ∧ slots + 0 ≤ R.slots) (hdg : decode cc pc = .ok (.invokestatic index, 3))
    (kk : ∀ (H1 : Heap) (locs1 : List Loc), gM D A H0 ws H1 locs1 → W p l e R s m args below meth c H1 locs1 cells slots Q (F0 m (pc + 3) ls (.int r :: rest))) : W p l e R s m args below meth c H locs cells slots Q (F0 m pc ls st0) := by
  subst hst
  have hM' : gM D A H0 ([] ++ ws) H locs := hM
  refine va_calli (va_runSN (As := As) (rest := rest) ⟨S.x, S.b, S.2.2.1, S.o, S.w⟩ (hMet H.size) ⟨va_cnB n S.w (lw_meth q4) rfl h0.1 h0.2 (S.g.1 _ q1 rfl) (S.w _ q3) hd ⟨Nat.le_of_ble_eq_true hR.1, Nat.le_of_ble_eq_true hR.2⟩, S.w _ q2, trivial⟩ ⟨gPre_blind, g_pre S hM'⟩ rfl hn hl.1 rfl (lv_room (Nat.le_of_ble_eq_true hrm)) hdg hfit) hM.2.2.1 (fun q _ h => g_free hM' q h) (g_free hM') ?_
  intro r' u t H1 locs1 ht hvm hp hB hz hk hS
  subst hp
  exact kk H1 locs1 (g_back hM' ht hB hk hS)
end CALLS
end CK
