/-! THE MODEL's WORLD: one object, eleven rows of ints. Rows: 0 rig, 1 trial, 2 strokes, 3 outs, 4 backs, 5 pauses, 6 cuts, 7 text, 8 readOuts, 9 readBacks, 10 readPauses -/
set_option maxRecDepth 100000
def mmLen (j : Nat) : Nat := match j with
  | 0 => 140
  | 1 => 140
  | 2 => 6
  | 3 => 16
  | 4 => 16
  | 5 => 16
  | 6 => 16
  | 7 => 80
  | _ => 17
def mmInt (k : Nat) : Bool := k == 3 || k == 4 || k == 8 || k == 11 || k == 12 || k == 13 || k == 14 || k == 18 || k == 19
def mmF (ad : Nat → Nat) (F : Nat → Int32) : List Value := [.ref (ad 0), .ref (ad 1), .ref (ad 2), .int (F 3), .int (F 4), .ref (ad 3), .ref (ad 4), .ref (ad 5), .int (F 8), .ref (ad 6), .ref (ad 7), .int (F 11), .int (F 12), .int (F 13), .int (F 14), .ref (ad 8), .ref (ad 9), .ref (ad 10), .int (F 18), .int (F 19)]
def mmW (h : Nat) (ad : Nat → Nat) (cI : ClassId) (w : MW) : va_W := [(h, .inr (0, mmF ad w.1)), (ad 0, .inl (cI, 140, .inl (w.2 0))), (ad 1, .inl (cI, 140, .inl (w.2 1))), (ad 2, .inl (cI, 6, .inl (w.2 2))), (ad 3, .inl (cI, 16, .inl (w.2 3))), (ad 4, .inl (cI, 16, .inl (w.2 4))), (ad 5, .inl (cI, 16, .inl (w.2 5))), (ad 6, .inl (cI, 16, .inl (w.2 6))), (ad 7, .inl (cI, 80, .inl (w.2 7))), (ad 8, .inl (cI, 17, .inl (w.2 8))), (ad 9, .inl (cI, 17, .inl (w.2 9))), (ad 10, .inl (cI, 17, .inl (w.2 10)))]
theorem mm_at {h : Nat} {ad : Nat → Nat} {cI : ClassId} {w : MW} {j : Nat} (hj : Nat.ble (j + 1) 11 = true) : (mmW h ad cI w)[j + 1]? = some (ad j, .inl (cI, mmLen j, .inl (w.2 j))) := by
  have hj := Nat.le_of_ble_eq_true hj
  rcases (show j = 0 ∨ j = 1 ∨ j = 2 ∨ j = 3 ∨ j = 4 ∨ j = 5 ∨ j = 6 ∨ j = 7 ∨ j = 8 ∨ j = 9 ∨ j = 10 by omega) with e | e | e | e | e | e | e | e | e | e | e <;> subst e <;> rfl
theorem mm_setA {h : Nat} {ad : Nat → Nat} {cI : ClassId} {w : MW} {j i : Nat} {v : Int32} (hj : Nat.ble (j + 1) 11 = true) : (mmW h ad cI w).set (j + 1) (ad j, .inl (cI, mmLen j, .inl (upd (w.2 j) i v))) = mmW h ad cI (setA w j i v) := by
  have hj := Nat.le_of_ble_eq_true hj
  rcases (show j = 0 ∨ j = 1 ∨ j = 2 ∨ j = 3 ∨ j = 4 ∨ j = 5 ∨ j = 6 ∨ j = 7 ∨ j = 8 ∨ j = 9 ∨ j = 10 by omega) with e | e | e | e | e | e | e | e | e | e | e <;> subst e <;> rfl
theorem mm_setF {h : Nat} {ad : Nat → Nat} {cI : ClassId} {w : MW} {k : Nat} {v : Int32} (hk : mmInt k = true) : (mmW h ad cI w).set 0 (h, .inr (0, (mmF ad w.1).set k (.int v))) = mmW h ad cI (setF w k v) := by
  simp only [mmInt, Bool.or_eq_true, beq_iff_eq] at hk
  rcases hk with (((((((e | e) | e) | e) | e) | e) | e) | e) | e <;> subst e <;> rfl
theorem mm_ty {k : Nat} (hk : mmInt k = true) : tyX7 k = .int ∧ (TX7 k).2.2.2 = false ∧ Nat.ble (k + 1) 20 = true := by
  simp only [mmInt, Bool.or_eq_true, beq_iff_eq] at hk
  rcases hk with (((((((e | e) | e) | e) | e) | e) | e) | e) | e <;> subst e <;> exact ⟨rfl, rfl, rfl⟩
theorem mm_len2 {j : Nat} (hj : Nat.ble (j + 1) 2 = true) : mmLen j = 140 ∧ Nat.ble (j + 1) 11 = true := by
  have hj := Nat.le_of_ble_eq_true hj
  rcases (show j = 0 ∨ j = 1 by omega) with e | e <;> subst e <;> exact ⟨rfl, rfl⟩
section MK
variable {p : Program} {l : Launch} {e : Env} {R : Room} {s : State} {m : MethodId} {args : Array Value} {below : List Frame} {meth : Method} {c : Code} {H : Heap} {locs : List Loc} {cells slots : Nat} {Q : State → Prop}
variable {cc : ByteArray} {nL : Nat} {ret : Option FieldType} {own : String} {D : va_G} {T : Nat → ClassId} {A : Nat → Prop} {pc : Nat} {ls : Array Slot} {rest : List Value} {H0 : Heap} {h : Nat} {ad : Nat → Nat} {w w1 : MW}
theorem mm_g (S : gS p s m args meth c cc nL ret RX7 D T) (hM : gM D A H0 (mmW h ad (T 0) w) H locs) (k : Nat) (hk : Nat.ble (k + 1) 20 = true) {index : Nat} (hl : Cond.fieldLink RX7 index (TX7 k).1 (TX7 k).2.1 (TX7 k).2.2.1 ∈ lw_all) {v : Value} (hv : (mmF ad w.1)[k]? = some v) (hdg : decode cc pc = .ok (.getfield index, 3))
    (kk : W p l e R s m args below meth c H locs cells slots Q (F0 m (pc + 3) ls (v :: rest))) : W p l e R s m args below meth c H locs cells slots Q (F0 m pc ls (.ref h :: rest)) :=
  g_get S hM 0 rfl rfl in_X7 k hk hl hv hdg kk
theorem mm_p (S : gS p s m args meth c cc nL ret RX7 D T) (hM : gM D A H0 (mmW h ad (T 0) w) H locs) {v : Int32} (k : Nat) (hk : mmInt k = true) (ew : w1 = setF w k v) {index : Nat} (hl : Cond.fieldLink RX7 index (TX7 k).1 (TX7 k).2.1 (TX7 k).2.2.1 ∈ lw_all) (hdg : decode cc pc = .ok (.putfield index, 3))
    (kk : ∀ (H1 : Heap) (locs1 : List Loc), gM D A H0 (mmW h ad (T 0) w1) H1 locs1 → W p l e R s m args below meth c H1 locs1 cells slots Q (F0 m (pc + 3) ls rest)) : W p l e R s m args below meth c H locs cells slots Q (F0 m pc ls (.int v :: .ref h :: rest)) := by
  subst ew
  obtain ⟨t1, t2, t3⟩ := mm_ty hk
  exact g_put S hM 0 rfl rfl in_X7 tyX7_ok nmX7 k t3 hl t2 (by rw [t1]; rfl) (by rw [t1]; rfl) t3 (mm_setF hk) hdg kk
theorem mm_ld (S : gS p s m args meth c cc nL ret own D T) (hM : gM D A H0 (mmW h ad (T 0) w) H locs) (j : Nat) (hj : Nat.ble (j + 1) 11 = true) {i : Int32} (hi : vp_in i (mmLen j)) (hdg : decode cc pc = .ok (.iaload, 1))
    (kk : W p l e R s m args below meth c H locs cells slots Q (F0 m (pc + 1) ls (.int (w.2 j i.toNatClampNeg) :: rest))) : W p l e R s m args below meth c H locs cells slots Q (F0 m pc ls (.int i :: .ref (ad j) :: rest)) :=
  g_iald S hM (j + 1) (mm_at hj) hi hdg kk
theorem mm_ldr (S : gS p s m args meth c cc nL ret own D T) (hM : gM D A H0 (mmW h ad (T 0) w) H locs) (j : Nat) (hj : Nat.ble (j + 1) 2 = true) {i : Int32} (hi : vp_in i 140) (hdg : decode cc pc = .ok (.iaload, 1))
    (kk : W p l e R s m args below meth c H locs cells slots Q (F0 m (pc + 1) ls (.int (w.2 j i.toNatClampNeg) :: rest))) : W p l e R s m args below meth c H locs cells slots Q (F0 m pc ls (.int i :: .ref (ad j) :: rest)) :=
  mm_ld S hM j (mm_len2 hj).2 (by rw [(mm_len2 hj).1]; exact hi) hdg kk
theorem mm_st (S : gS p s m args meth c cc nL ret own D T) (hM : gM D A H0 (mmW h ad (T 0) w) H locs) (j : Nat) (hj : Nat.ble (j + 1) 11 = true) {i v : Int32} (hi : vp_in i (mmLen j)) (ew : w1 = setA w j i.toNatClampNeg v) (hdg : decode cc pc = .ok (.iastore, 1))
    (kk : ∀ (H1 : Heap) (locs1 : List Loc), gM D A H0 (mmW h ad (T 0) w1) H1 locs1 → W p l e R s m args below meth c H1 locs1 cells slots Q (F0 m (pc + 1) ls rest)) : W p l e R s m args below meth c H locs cells slots Q (F0 m pc ls (.int v :: .int i :: .ref (ad j) :: rest)) := by
  subst ew
  exact g_iast S hM (j + 1) (mm_at hj) hi (mm_setA hj) hdg kk
theorem mm_str (S : gS p s m args meth c cc nL ret own D T) (hM : gM D A H0 (mmW h ad (T 0) w) H locs) (j : Nat) (hj : Nat.ble (j + 1) 2 = true) {i v : Int32} (hi : vp_in i 140) (ew : w1 = setA w j i.toNatClampNeg v) (hdg : decode cc pc = .ok (.iastore, 1))
    (kk : ∀ (H1 : Heap) (locs1 : List Loc), gM D A H0 (mmW h ad (T 0) w1) H1 locs1 → W p l e R s m args below meth c H1 locs1 cells slots Q (F0 m (pc + 1) ls rest)) : W p l e R s m args below meth c H locs cells slots Q (F0 m pc ls (.int v :: .int i :: .ref (ad j) :: rest)) :=
  mm_st S hM j (mm_len2 hj).2 (by rw [(mm_len2 hj).1]; exact hi) ew hdg kk
section CALLS
variable {y : MethodName} {bts : ByteArray} {L n index : Nat} {rm : Room} {As st0 : List Value} {lv : List (Nat × Value)}
theorem mm_ci {rt : Option FieldType} {r : Int32} (S : gS p s m args meth c cc nL ret own D T) (hM : gM D A H0 (mmW h ad (T 0) w) H locs) (hl : lv_has ls nL lv) (As : List Value) (hc : gCl[0]? = some (y.cls, TX7, 20)) 
    (hMet : ∀ sz, MetI l y (ws_ y bts L rt) rm D T (mmW h ad (T 0) w) sz (.ref h :: As) r (mmW h ad (T 0) w1)) (hd : gHd y n) (q1 : Cond.methodLink own index y ∈ lw_all) (q2 : Cond.instanceMethod y ∈ lw_all) (q3 : Cond.selects y.cls y y ∈ lw_all) (q4 : Cond.initialized y.cls ∈ lw_all) (q5 : Cond.code y bts L rt ∈ lw_all) (h0 : rm.cells = 0 ∧ rm.slots = 0)
    (hR : Nat.ble (rm.frames + 1) R.frames = true ∧ Nat.ble (8 + (L + 11) + rm.locals) R.locals = true) (hn : As.length = n) (hst : st0 = As.reverse ++ .ref h :: rest) (hrm : Nat.ble (rest.map fun v => v.category).sum 8 = true) (hfit : cells + 0 ≤ R.cells ∧ slots + 0 ≤ R.slots) (hdg : decode cc pc = .ok (.invokevirtual index, 3))
    (kk : ∀ (H1 : Heap) (locs1 : List Loc), gM D A H0 (mmW h ad (T 0) w1) H1 locs1 → W p l e R s m args below meth c H1 locs1 cells slots Q (F0 m (pc + 3) ls (.int r :: rest))) : W p l e R s m args below meth c H locs cells slots Q (F0 m pc ls st0) := by
  refine g_calli (wc := mmW h ad (T 0) w) (wr := []) (wc' := mmW h ad (T 0) w1) S (by rw [List.append_nil]; exact hM) hl.1 hc (q0 := 0) rfl hMet hd ⟨q1, q2, q3, q4, q5⟩ h0 hR hn hst hrm hfit hdg ?_
  rw [List.append_nil]
  exact kk
theorem mm_cv (S : gS p s m args meth c cc nL ret own D T) (hM : gM D A H0 (mmW h ad (T 0) w) H locs) (hl : lv_has ls nL lv) (As : List Value) (hc : gCl[0]? = some (y.cls, TX7, 20)) 
    (hMet : ∀ sz, MetV l y (ws_ y bts L none) rm D T (mmW h ad (T 0) w) sz (.ref h :: As) (mmW h ad (T 0) w1)) (hd : gHd y n) (q1 : Cond.methodLink own index y ∈ lw_all) (q2 : Cond.instanceMethod y ∈ lw_all) (q3 : Cond.selects y.cls y y ∈ lw_all) (q4 : Cond.initialized y.cls ∈ lw_all) (q5 : Cond.code y bts L none ∈ lw_all) (h0 : rm.cells = 0 ∧ rm.slots = 0)
    (hR : Nat.ble (rm.frames + 1) R.frames = true ∧ Nat.ble (8 + (L + 11) + rm.locals) R.locals = true) (hn : As.length = n) (hst : st0 = As.reverse ++ .ref h :: rest) (hrm : Nat.ble (rest.map fun v => v.category).sum 8 = true) (hfit : cells + 0 ≤ R.cells ∧ slots + 0 ≤ R.slots) (hdg : decode cc pc = .ok (.invokevirtual index, 3))
    (kk : ∀ (H1 : Heap) (locs1 : List Loc), gM D A H0 (mmW h ad (T 0) w1) H1 locs1 → W p l e R s m args below meth c H1 locs1 cells slots Q (F0 m (pc + 3) ls rest)) : W p l e R s m args below meth c H locs cells slots Q (F0 m pc ls st0) := by
  refine g_callv (wc := mmW h ad (T 0) w) (wr := []) (wc' := mmW h ad (T 0) w1) S (by rw [List.append_nil]; exact hM) hl.1 hc (q0 := 0) rfl hMet hd ⟨q1, q2, q3, q4, q5⟩ h0 hR hn hst hrm hfit hdg ?_
  rw [List.append_nil]
  exact kk
/-- a static method of whole numbers alone -/
theorem gg_si {rt : Option FieldType} {r : Int32} {ws : va_W} (S : gS p s m args meth c cc nL ret own D T) (hM : gM D A H0 ws H locs) (hl : lv_has ls nL lv) (As : List Value)
    (hMet : ∀ sz, MetI l y (ws_ y bts L rt) rm D T [] sz As r []) (hd : gHd y n) (q1 : Cond.methodLink own index y ∈ lw_all) (q2 : Cond.static y ∈ lw_all) (q3 : Cond.initialized y.cls ∈ lw_all) (q4 : Cond.code y bts L rt ∈ lw_all) (h0 : rm.cells = 0 ∧ rm.slots = 0)
    (hR : Nat.ble (rm.frames + 1) R.frames = true ∧ Nat.ble (8 + (L + 11) + rm.locals) R.locals = true) (hn : As.length = n) (hst : st0 = As.reverse ++ rest) (hrm : Nat.ble (rest.map fun v => v.category).sum 8 = true) (hfit : cells + 0 ≤ R.cells ∧ slots + 0 ≤ R.slots) (hdg : decode cc pc = .ok (.invokestatic index, 3))
    (kk : ∀ (H1 : Heap) (locs1 : List Loc), gM D A H0 ws H1 locs1 → W p l e R s m args below meth c H1 locs1 cells slots Q (F0 m (pc + 3) ls (.int r :: rest))) : W p l e R s m args below meth c H locs cells slots Q (F0 m pc ls st0) :=
  g_scalli (wc := []) (wr := ws) (wc' := []) S hM hl.1 hMet hd ⟨q1, q2, q3, q4⟩ h0 hR hn hst hrm hfit hdg kk
end CALLS
end MK
