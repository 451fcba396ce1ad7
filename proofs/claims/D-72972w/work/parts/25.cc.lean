/-! A RIG WITH ITS CIRCUIT: kd 0 Direct, 1 Cascade, 2 Stepper; the circuit's own number (group, step) is w.1 30; its lambdas lie beside the world's cells and are never written.
q.2: 5 the step before, 6 its group, 7 which lambda (1: the first), 8 whether it needs the start -/
set_option maxRecDepth 100000
def crE (kd : Nat) (a : Nat → Nat) (cg : Int32) : va_E := match kd with
  | 0 => .inr (3, [.ref (a 0), .ref (a 8)])
  | 1 => .inr (4, [.ref (a 0), .ref (a 8), .int cg])
  | _ => .inr (5, [.ref (a 0), .int cg])
def rcW (kd : Nat) (a : Nat → Nat) (cI : ClassId) (so : Option Nat) (w : MW) (tl : va_W) : va_W := rgW a cI so (some (a 7)) w ((a 7, crE kd a (w.1 30)) :: tl)
theorem rc_eq {kd : Nat} {a : Nat → Nat} {cI : ClassId} {so : Option Nat} {w1 : MW} {v : Int32} {tl : va_W} : rgW a cI so (some (a 7)) w1 ((a 7, crE kd a v) :: tl) = rcW kd a cI so (setF w1 30 v) tl := rfl
def CoI (T : Nat → ClassId) (a la : Nat → Nat) (ns : Nat) (ws : va_W) : Prop := ∃ i : Nat, ws[i]? = some (a 8, .inl (T 4, ns, .inr (.inr (.inr (.inr (fun k => some (la k)))))))
theorem CoI.cons {T : Nat → ClassId} {a la : Nat → Nat} {ns : Nat} {ws : va_W} (x : Nat × va_E) (h : CoI T a la ns ws) : CoI T a la ns (x :: ws) := ex_cons h
theorem SqI.rc {T : Nat → ClassId} {b sa : Nat → Nat} {n : Nat} {q : MW} {cv : Value} {tl : va_W} {a : Nat → Nat} {cI : ClassId} {so : Option Nat} {w : MW} {kd : Nat} (h : SqI T b sa n q cv tl) : SqI T b sa n q cv (rcW kd a cI so w tl) := (h.cons _).rg
theorem CuI.rc {T : Nat → ClassId} {b : Nat → Nat} {nc : Nat} {q : MW} {tl : va_W} {a : Nat → Nat} {cI : ClassId} {so : Option Nat} {w : MW} {kd : Nat} (h : CuI T b nc q tl) : CuI T b nc q (rcW kd a cI so w tl) := (h.cons _).rg
theorem CoI.rc {T : Nat → ClassId} {a la : Nat → Nat} {ns : Nat} {tl : va_W} {cI : ClassId} {so : Option Nat} {w : MW} {kd : Nat} (h : CoI T a la ns tl) : CoI T a la ns (rcW kd a cI so w tl) := ((((((((h.cons _).cons _).cons _).cons _).cons _).cons _).cons _).cons _)
/-- a lambda's cell -/
def lamC (kd : Nat) (D : va_G) (a : Nat → Nat) (q : MW) (k : Nat) : Cell := match kd with
  | 0 => if q.2 7 k = 1 then { cls := D.1 100, slots := #[.ref (a 0), .int (q.2 5 k)], vm := .none } else { cls := D.1 101, slots := #[.ref (a 0), .int (q.2 5 k)], vm := .none }
  | _ => if q.2 7 k = 1 then { cls := D.1 102, slots := #[.ref (a 7), .int (q.2 6 k)], vm := .none } else { cls := D.1 103, slots := #[.ref (a 7), .int (q.2 6 k), .ref (a 0), .int (q.2 5 k), .int (q.2 8 k)], vm := .none }
def LamI (kd : Nat) (D : va_G) (a la : Nat → Nat) (ns : Nat) (q : MW) (H : Heap) : Prop := ∀ k : Nat, k < ns → H[la k]? = some (lamC kd D a q k)
theorem LamI.kept {kd : Nat} {D : va_G} {a la : Nat → Nat} {ns : Nat} {q : MW} {A : Nat → Prop} {H0 H : Heap} {locs : List Loc} (h : LamI kd D a la ns q H0) (hA : ∀ k, k < ns → ¬ A (la k)) (hS : va_S A H0 H locs) : LamI kd D a la ns q H := by
  intro k hk
  have h1 := h k hk
  rw [hS.2.1 (la k) (Array.getElem?_eq_some_iff.mp h1).1 (hA k hk)]
  exact h1
/-- the lambdas lie apart from the cells ws -/
def LaF (la : Nat → Nat) (ns : Nat) (ws : va_W) : Prop := ∀ k : Nat, k < ns → ∀ (i : Nat) (e : va_E), ws[i]? ≠ some (la k, e)
theorem LaF.na {kd : Nat} {D : va_G} {a la : Nat → Nat} {ns : Nat} {q : MW} {ws : va_W} {H : Heap} (h : LaF la ns ws) (hX : LamI kd D a la ns q H) : ∀ k, k < ns → ¬ va_A ws H.size (la k) := by
  rintro k hk (⟨i, e, h1⟩ | h1)
  · exact h k hk i e h1
  · have := (Array.getElem?_eq_some_iff.mp (hX k hk)).1
    omega
theorem LaF.of {la : Nat → Nat} {ns : Nat} {ws ws' : va_W} (h : LaF la ns ws) (ha : ws'.map (·.1) = ws.map (·.1)) : LaF la ns ws' := by
  intro k hk i e h1
  have h2 : (ws'.map (·.1))[i]? = some (la k) := by rw [List.getElem?_map, h1]; rfl
  rw [ha, List.getElem?_map] at h2
  cases h3 : ws[i]? with
  | none => rw [h3] at h2; cases h2
  | some x =>
    rw [h3] at h2
    have h4 : x.1 = la k := Option.some.inj h2
    exact h k hk i x.2 (by rw [h3, ← h4])
theorem rc_addr {kd : Nat} {a : Nat → Nat} {cI : ClassId} {so : Option Nat} {w w' : MW} {tl : va_W} : (rcW kd a cI so w' tl).map (·.1) = (rcW kd a cI so w tl).map (·.1) := rfl
abbrev MetVX (l : Launch) (y : MethodName) (wds : List Cond) (rm : Room) (D : va_G) (T : Nat → ClassId) (ws : va_W) (sz : Nat) (As : List Value) (ws' : va_W) (X : Heap → Prop) : Prop :=
  Met l y wds rm (va_Pc As (fun U => gPre D T ws sz U ∧ X U.heap)) (gQv D T (va_A ws sz) ws') 0 0 (va_A ws sz)
abbrev MetIX (l : Launch) (y : MethodName) (wds : List Cond) (rm : Room) (D : va_G) (T : Nat → ClassId) (ws : va_W) (sz : Nat) (As : List Value) (r : Int32) (ws' : va_W) (X : Heap → Prop) : Prop :=
  Met l y wds rm (va_Pc As (fun U => gPre D T ws sz U ∧ X U.heap)) (gQi D T (va_A ws sz) r ws') 0 0 (va_A ws sz)
theorem gPreX_blind {D : va_G} {T : Nat → ClassId} {ws : va_W} {sz : Nat} {As : List Value} {X : Heap → Prop} : FrameBlind (va_Pc As (fun U => gPre D T ws sz U ∧ X U.heap)) := by
  intro a U g mk q
  obtain ⟨q0, q1, qX⟩ := q
  exact ⟨q0, (gPre_blind (As := As) a U g mk ⟨q0, q1⟩).2, qX⟩
section CX
variable {p : Program} {l : Launch} {e : Env} {R : Room} {s : State} {m : MethodId} {args : Array Value} {below : List Frame} {meth : Method} {c : Code} {H : Heap} {locs : List Loc} {cells slots : Nat} {Q : State → Prop}
variable {cc : ByteArray} {nL : Nat} {ret : Option FieldType} {own : String} {D : va_G} {T : Nat → ClassId} {A : Nat → Prop} {pc : Nat} {ls : Array Slot} {rest : List Value} {H0 : Heap} {ws ws1 : va_W}
theorem g_entryX {y : MethodName} {rm : Room} {sz : Nat} {As : List Value} {Qc : (Nat → Prop) → Array Value → State → Outcome → State → Prop} {mc ms : Nat} {X : Heap → Prop} (hy : plainName y.cls = true) (hn : Nat.ble (lg_sl As).length nL = true)
    (body : ∀ p e s m below meth c ls, gS p s m As.toArray meth c cc nL ret y.cls D T → gM D (va_A ws s.heap.size) s.heap ws s.heap [] → X s.heap → lv_has ls nL (lv_args 0 As) →
      W p l e rm s m As.toArray below meth c s.heap [] 0 0 (MQ below (Qc (va_A ws s.heap.size)) As.toArray s mc ms (va_A ws s.heap.size)) (F0 m 0 ls [])) :
    Met l y (ws_ y cc nL ret) rm (va_Pc As (fun U => gPre D T ws sz U ∧ X U.heap)) (Qc (va_A ws sz)) mc ms (va_A ws sz) := by
  refine Met.ofW (cc := cc) (maxL := nL) (ret := ret) hy rfl ?_
  intro p e s m args below meth c s₁ B hml hv
  obtain ⟨rfl, ⟨hsz, hP, hK, hD0, hG⟩, hX⟩ := hv
  subst hsz
  have hts := atoms_spec (ws := ws_ y cc nL ret) B.pre
  have hts : ∀ w ∈ lw_all, w.before _ s = true := fun w h => hts w (List.mem_cons_of_mem _ h)
  have hl := lv_entry As (n := nL) (Nat.le_of_ble_eq_true hn)
  rw [lg_entry_eq]
  exact body p e s m below meth c _ ⟨B.exec, B.bytes, hml, B.returns, B.notSynchronized, findClass_of_methodNamed B.named, hts, hK, hG⟩ ⟨hP, hD0.self, va_S.rf, fun q h => Or.inr h⟩ hX hl
/-! the circuit's fields, its conditions -/
section CR
variable {a la b sa : Nat → Nat} {so : Option Nat} {w w1 w2 : MW} {tl : va_W} {kd ns : Nat} {q : MW}
theorem cr_g (S : gS p s m args meth c cc nL ret own D T) (hM : gM D A H0 (rcW kd a (T 0) so w tl) H locs) {C : String} {Tt : u_T} {N ci : Nat} {fs : List Value} (hcr : crE kd a (w.1 30) = .inr (ci, fs)) (hc : gCl[ci]? = some (C, Tt, N)) (hin : ∀ w ∈ u_ws C Tt N, w ∈ lw_all) (k : Nat) (hk : Nat.ble (k + 1) N = true) {index : Nat} (hl : gLk own index (Tt k).1 (Tt k).2.1 (Tt k).2.2.1) {v : Value} (hv : fs[k]? = some v) (hdg : decode cc pc = .ok (.getfield index, 3))
    (kk : W p l e R s m args below meth c H locs cells slots Q (F0 m (pc + 3) ls (v :: rest))) : W p l e R s m args below meth c H locs cells slots Q (F0 m pc ls (.ref (a 7) :: rest)) :=
  g_getL S hM ⟨7, by rw [← hcr]; rfl⟩ (ci := ci) hc hin k hk hl hv hdg kk
theorem cr_p1 (S : gS p s m args meth c cc nL ret own D T) (hM : gM D A H0 (rcW 1 a (T 0) so w tl) H locs) {v : Int32} (ew : w1 = setF w 30 v) {index : Nat} (hl : gLk own index (TX5 2).1 (TX5 2).2.1 (TX5 2).2.2.1) (hdg : decode cc pc = .ok (.putfield index, 3))
    (kk : ∀ (H1 : Heap) (locs1 : List Loc), gM D A H0 (rcW 1 a (T 0) so w1 tl) H1 locs1 → W p l e R s m args below meth c H1 locs1 cells slots Q (F0 m (pc + 3) ls rest)) : W p l e R s m args below meth c H locs cells slots Q (F0 m pc ls (.int v :: .ref (a 7) :: rest)) := by
  subst ew
  exact g_putL S hM 7 rfl (ci := 4) rfl in_X5 tyX5_ok nmX5 2 rfl hl rfl rfl rfl rfl (by rfl) hdg kk
theorem cr_p2 (S : gS p s m args meth c cc nL ret own D T) (hM : gM D A H0 (rcW 2 a (T 0) so w tl) H locs) {v : Int32} (ew : w1 = setF w 30 v) {index : Nat} (hl : gLk own index (TX6 1).1 (TX6 1).2.1 (TX6 1).2.2.1) (hdg : decode cc pc = .ok (.putfield index, 3))
    (kk : ∀ (H1 : Heap) (locs1 : List Loc), gM D A H0 (rcW 2 a (T 0) so w1 tl) H1 locs1 → W p l e R s m args below meth c H1 locs1 cells slots Q (F0 m (pc + 3) ls rest)) : W p l e R s m args below meth c H locs cells slots Q (F0 m pc ls (.int v :: .ref (a 7) :: rest)) := by
  subst ew
  exact g_putL S hM 7 rfl (ci := 5) rfl in_X6 tyX6_ok nmX6 1 rfl hl rfl rfl rfl rfl (by rfl) hdg kk
theorem rcp (S : gS p s m args meth c cc nL ret own D T) (hM : gM D A H0 (rcW kd a (T 0) so w tl) H locs) {v : Int32} (k : Nat) (hk : rgInt k = true) (hk2 : Nat.beq 30 k = false) (ew : w1 = setF w k v) {index : Nat} (hl : gLk own index (TX3 k).1 (TX3 k).2.1 (TX3 k).2.2.1) (hdg : decode cc pc = .ok (.putfield index, 3))
    (kk : ∀ (H1 : Heap) (locs1 : List Loc), gM D A H0 (rcW kd a (T 0) so w1 tl) H1 locs1 → W p l e R s m args below meth c H1 locs1 cells slots Q (F0 m (pc + 3) ls rest)) : W p l e R s m args below meth c H locs cells slots Q (F0 m pc ls (.int v :: .ref (a 0) :: rest)) := by
  subst ew
  refine rg_p S hM k hk rfl hl hdg ?_
  have h30 : (setF w k v).1 30 = w.1 30 := by
    show (if 30 = k then v else w.1 30) = w.1 30
    rw [if_neg (Nat.ne_of_beq_eq_false hk2)]
  unfold rcW at kk
  rw [h30] at kk
  exact kk
theorem rcst (S : gS p s m args meth c cc nL ret own D T) (hM : gM D A H0 (rcW kd a (T 0) so w tl) H locs) (j : Nat) (hj : Nat.ble (j + 1) 6 = true) {i v : Int32} (hi : vp_in i (rgLen j)) (ew : w1 = setA w j i.toNatClampNeg v) (hdg : decode cc pc = .ok (.iastore, 1))
    (kk : ∀ (H1 : Heap) (locs1 : List Loc), gM D A H0 (rcW kd a (T 0) so w1 tl) H1 locs1 → W p l e R s m args below meth c H1 locs1 cells slots Q (F0 m (pc + 1) ls rest)) : W p l e R s m args below meth c H locs cells slots Q (F0 m pc ls (.int v :: .int i :: .ref (a (j + 1)) :: rest)) := by
  subst ew
  exact rg_st S hM j hj hi rfl hdg kk
theorem co_len (S : gS p s m args meth c cc nL ret own D T) (hM : gM D A H0 ws H locs) (hC : CoI T a la ns ws) (hdg : decode cc pc = .ok (.arraylength, 1))
    (kk : W p l e R s m args below meth c H locs cells slots Q (F0 m (pc + 1) ls (.int (Int32.ofNat ns) :: rest))) : W p l e R s m args below meth c H locs cells slots Q (F0 m pc ls (.ref (a 8) :: rest)) := by
  obtain ⟨i, h⟩ := hC
  exact va_alen S.x S.b S.k hM.1 i 4 h (ty := .object "SequenceBench$Condition") rfl rfl hdg kk
theorem co_ald (S : gS p s m args meth c cc nL ret own D T) (hM : gM D A H0 ws H locs) (hC : CoI T a la ns ws) {i : Int32} (hi : vp_in i ns) (hdg : decode cc pc = .ok (.aaload, 1))
    (kk : W p l e R s m args below meth c H locs cells slots Q (F0 m (pc + 1) ls (.ref (la i.toNatClampNeg) :: rest))) : W p l e R s m args below meth c H locs cells slots Q (F0 m pc ls (.int i :: .ref (a 8) :: rest)) := by
  obtain ⟨j, h⟩ := hC
  exact va_aldq S.x S.b S.k hM.1 j 4 h (C := "SequenceBench$Condition") rfl hi hdg kk
end CR
section CALLS
variable {a la : Nat → Nat} {so : Option Nat} {w w1 w2 : MW} {tl : va_W} {kd : Nat}
variable {y : MethodName} {bts : ByteArray} {L n index count : Nat} {rm : Room} {As st0 : List Value} {lv : List (Nat × Value)} {b : Nat} {X : Heap → Prop}
/-- a method of the rig's, called in the world with the circuit -/
theorem rc_ci {rt : Option FieldType} {r : Int32} (S : gS p s m args meth c cc nL ret own D T) (hM : gM D A H0 (rcW kd a (T 0) so w tl) H locs) (hl : lv_has ls nL lv) (As : List Value) {Tt : u_T} {N : Nat} (ci : Nat) (hc : gCl[ci]? = some (y.cls, Tt, N)) (he : ∃ (q0 : Nat) (fs : List Value), (rcW kd a (T 0) so w tl)[q0]? = some (b, .inr (ci, fs)))
    (hMet : ∀ sz, MetI l y (ws_ y bts L rt) rm D T (rgW a (T 0) so (some (a 7)) w ((a 7, crE kd a (w.1 30)) :: tl)) sz (.ref b :: As) r (rgW a (T 0) so (some (a 7)) w1 ((a 7, crE kd a (w.1 30)) :: tl))) (ew : w2 = setF w1 30 (w.1 30)) (hd : gHd y n) (q1 : Cond.methodLink own index y ∈ lw_all) (q2 : Cond.instanceMethod y ∈ lw_all) (q3 : Cond.selects y.cls y y ∈ lw_all) (q4 : Cond.initialized y.cls ∈ lw_all) (q5 : Cond.code y bts L rt ∈ lw_all) (h0 : rm.cells = 0 ∧ rm.slots = 0)
    (hR : Nat.ble (rm.frames + 1) R.frames = true ∧ Nat.ble (8 + (L + 11) + rm.locals) R.locals = true) (hn : As.length = n) (hst : st0 = As.reverse ++ .ref b :: rest) (hrm : Nat.ble (rest.map fun v => v.category).sum 8 = true) (hdg : decode cc pc = .ok (.invokevirtual index, 3))
    (kk : ∀ (H1 : Heap) (locs1 : List Loc), gM D A H0 (rcW kd a (T 0) so w2 tl) H1 locs1 → W p l e R s m args below meth c H1 locs1 0 0 Q (F0 m (pc + 3) ls (.int r :: rest))) : W p l e R s m args below meth c H locs 0 0 Q (F0 m pc ls st0) := by
  subst ew
  exact gw_ci S hM hl As ci hc he hMet hd q1 q2 q3 q4 q5 h0 hR hn hst hrm ⟨Nat.zero_le _, Nat.zero_le _⟩ hdg kk
theorem rc_cv (S : gS p s m args meth c cc nL ret own D T) (hM : gM D A H0 (rcW kd a (T 0) so w tl) H locs) (hl : lv_has ls nL lv) (As : List Value) {Tt : u_T} {N : Nat} (ci : Nat) (hc : gCl[ci]? = some (y.cls, Tt, N)) (he : ∃ (q0 : Nat) (fs : List Value), (rcW kd a (T 0) so w tl)[q0]? = some (b, .inr (ci, fs)))
    (hMet : ∀ sz, MetV l y (ws_ y bts L none) rm D T (rgW a (T 0) so (some (a 7)) w ((a 7, crE kd a (w.1 30)) :: tl)) sz (.ref b :: As) (rgW a (T 0) so (some (a 7)) w1 ((a 7, crE kd a (w.1 30)) :: tl))) (ew : w2 = setF w1 30 (w.1 30)) (hd : gHd y n) (q1 : Cond.methodLink own index y ∈ lw_all) (q2 : Cond.instanceMethod y ∈ lw_all) (q3 : Cond.selects y.cls y y ∈ lw_all) (q4 : Cond.initialized y.cls ∈ lw_all) (q5 : Cond.code y bts L none ∈ lw_all) (h0 : rm.cells = 0 ∧ rm.slots = 0)
    (hR : Nat.ble (rm.frames + 1) R.frames = true ∧ Nat.ble (8 + (L + 11) + rm.locals) R.locals = true) (hn : As.length = n) (hst : st0 = As.reverse ++ .ref b :: rest) (hrm : Nat.ble (rest.map fun v => v.category).sum 8 = true) (hdg : decode cc pc = .ok (.invokevirtual index, 3))
    (kk : ∀ (H1 : Heap) (locs1 : List Loc), gM D A H0 (rcW kd a (T 0) so w2 tl) H1 locs1 → W p l e R s m args below meth c H1 locs1 0 0 Q (F0 m (pc + 3) ls rest)) : W p l e R s m args below meth c H locs 0 0 Q (F0 m pc ls st0) := by
  subst ew
  exact gw_cv S hM hl As ci hc he hMet hd q1 q2 q3 q4 q5 h0 hR hn hst hrm ⟨Nat.zero_le _, Nat.zero_le _⟩ hdg kk
theorem gx_pre {As : List Value} (S : gS p s m args meth c cc nL ret own D T) (hM : gM D A H0 ws H locs) (hX : X H) : ∀ U : State, U.heap = H → s.WarmedH U.vm → va_Pc As (fun U => gPre D T ws H.size U ∧ X U.heap) As.toArray U := by
  intro U hU hW
  have hM' : gM D A H0 (ws ++ []) H locs := by rw [List.append_nil]; exact hM
  have h := g_pre (As := As) (wr := []) S hM' U hU hW
  exact ⟨h.1, h.2, by rw [hU]; exact hX⟩
/-- calls that need what lies beside -/
theorem gx_cv (S : gS p s m args meth c cc nL ret own D T) (hM : gM D A H0 ws H locs) (hX : X H) (hl : lv_has ls nL lv) (As : List Value) {Tt : u_T} {N : Nat} (ci : Nat) (hc : gCl[ci]? = some (y.cls, Tt, N)) (he : ∃ (q0 : Nat) (fs : List Value), ws[q0]? = some (b, .inr (ci, fs)))
    (hMet : ∀ sz, MetVX l y (ws_ y bts L none) rm D T ws sz (.ref b :: As) ws1 X) (hd : gHd y n) (q1 : Cond.methodLink own index y ∈ lw_all) (q2 : Cond.instanceMethod y ∈ lw_all) (q3 : Cond.selects y.cls y y ∈ lw_all) (q4 : Cond.initialized y.cls ∈ lw_all) (q5 : Cond.code y bts L none ∈ lw_all) (h0 : rm.cells = 0 ∧ rm.slots = 0)
    (hR : Nat.ble (rm.frames + 1) R.frames = true ∧ Nat.ble (8 + (L + 11) + rm.locals) R.locals = true) (hn : As.length = n) (hst : st0 = As.reverse ++ .ref b :: rest) (hrm : Nat.ble (rest.map fun v => v.category).sum 8 = true) (hdg : decode cc pc = .ok (.invokevirtual index, 3))
    (kk : ∀ (H1 : Heap) (locs1 : List Loc), gM D A H0 ws1 H1 locs1 → W p l e R s m args below meth c H1 locs1 0 0 Q (F0 m (pc + 3) ls rest)) : W p l e R s m args below meth c H locs 0 0 Q (F0 m pc ls st0) := by
  obtain ⟨q0, fs, he⟩ := he
  subst hst
  have hM' : gM D A H0 (ws ++ []) H locs := by rw [List.append_nil]; exact hM
  refine va_callv (va_runV (As := As) (rest := rest) ⟨S.x, S.b, S.2.2.1, S.o, S.w⟩ (hMet H.size) (g_cw S hd ⟨q1, q2, q3, q4, q5⟩ h0.1 h0.2 hR) ⟨gPreX_blind, va_recv S.k hM.1 hc he, gx_pre S hM hX⟩ rfl hn hl.1 rfl (lv_room (Nat.le_of_ble_eq_true hrm)) hdg ⟨Nat.zero_le _, Nat.zero_le _⟩) hM.2.2.1 (fun q _ h => g_free hM' q h) (g_free hM') ?_
  intro u t H1 locs1 ht hvm hp hB hz hk hS
  have h2 := g_back hM' ht hB hk hS
  rw [List.append_nil] at h2
  exact kk H1 locs1 h2
/-- the circuit through its interface -/
theorem gx_F {x : MethodName} (S : gS p s m args meth c cc nL ret own D T) (hM : gM D A H0 ws H locs) (hX : X H) (hl : lv_has ls nL lv) {Tt : u_T} {N : Nat} (ci : Nat) (hc : gCl[ci]? = some (y.cls, Tt, N)) (he : ∃ (q0 : Nat) (fs : List Value), ws[q0]? = some (b, .inr (ci, fs)))
    (hMet : ∀ sz, MetVX l y (ws_ y bts L none) rm D T ws sz [.ref b] ws1 X) (hF : va_Fw y.cls x y s) (hd : gHd x 0) (q1 : Cond.methodLink own index x ∈ lw_all) (q2 : Cond.selects y.cls x y ∈ lw_all) (q3 : Cond.instanceMethod y ∈ lw_all) (q4 : Cond.initialized y.cls ∈ lw_all) (q5 : Cond.code y bts L none ∈ lw_all) (h0 : rm.cells = 0 ∧ rm.slots = 0)
    (hR : Nat.ble (rm.frames + 1) R.frames = true ∧ Nat.ble (8 + (L + 11) + rm.locals) R.locals = true) (hrm : Nat.ble (rest.map fun v => v.category).sum 8 = true) (hdg : decode cc pc = .ok (.invokeinterface index count, 5))
    (kk : ∀ (H1 : Heap) (locs1 : List Loc), gM D A H0 ws1 H1 locs1 → W p l e R s m args below meth c H1 locs1 0 0 Q (F0 m (pc + 5) ls rest)) : W p l e R s m args below meth c H locs 0 0 Q (F0 m pc ls (.ref b :: rest)) := by
  obtain ⟨q0, fs, he⟩ := he
  have hM' : gM D A H0 (ws ++ []) H locs := by rw [List.append_nil]; exact hM
  refine va_callFv (va_runF (hat := (S.k.1 ci _ hc).2) (As := []) (rest := rest) ⟨S.x, S.b, S.2.2.1, S.o, S.w⟩ (hMet H.size) (va_cwF 0 S.w (lw_app (by intro w hw; simp only [List.mem_cons, List.not_mem_nil, or_false] at hw; rcases hw with e | e | e | e <;> rw [e] <;> assumption) (lw_meth q5)) rfl h0.1 h0.2 hF hd ⟨Nat.le_of_ble_eq_true hR.1, Nat.le_of_ble_eq_true hR.2⟩) ⟨gPreX_blind, va_recv S.k hM.1 hc he, gx_pre S hM hX⟩ rfl rfl hl.1 rfl (lv_room (Nat.le_of_ble_eq_true hrm)) hdg ⟨Nat.zero_le _, Nat.zero_le _⟩) hM.2.2.1 (fun q _ h => g_free hM' q h) (g_free hM') ?_
  intro u t H1 locs1 ht hvm hp hB hz hk hS
  have h2 := g_back hM' ht hB hk hS
  rw [List.append_nil] at h2
  exact kk H1 locs1 h2
theorem gi_F {x : MethodName} {rt : Option FieldType} {r : Int32} (S : gS p s m args meth c cc nL ret own D T) (hM : gM D A H0 ws H locs) (hl : lv_has ls nL lv) {Tt : u_T} {N : Nat} (ci : Nat) (hc : gCl[ci]? = some (y.cls, Tt, N)) (he : ∃ (q0 : Nat) (fs : List Value), ws[q0]? = some (b, .inr (ci, fs)))
    (hMet : ∀ sz, MetI l y (ws_ y bts L rt) rm D T ws sz [.ref b] r ws1) (hF : va_Fw y.cls x y s) (hd : gHd x 0) (q1 : Cond.methodLink own index x ∈ lw_all) (q2 : Cond.selects y.cls x y ∈ lw_all) (q3 : Cond.instanceMethod y ∈ lw_all) (q4 : Cond.initialized y.cls ∈ lw_all) (q5 : Cond.code y bts L rt ∈ lw_all) (h0 : rm.cells = 0 ∧ rm.slots = 0)
    (hR : Nat.ble (rm.frames + 1) R.frames = true ∧ Nat.ble (8 + (L + 11) + rm.locals) R.locals = true) (hrm : Nat.ble (rest.map fun v => v.category).sum 8 = true) (hdg : decode cc pc = .ok (.invokeinterface index count, 5))
    (kk : ∀ (H1 : Heap) (locs1 : List Loc), gM D A H0 ws1 H1 locs1 → W p l e R s m args below meth c H1 locs1 0 0 Q (F0 m (pc + 5) ls (.int r :: rest))) : W p l e R s m args below meth c H locs 0 0 Q (F0 m pc ls (.ref b :: rest)) := by
  obtain ⟨q0, fs, he⟩ := he
  have hM' : gM D A H0 (ws ++ []) H locs := by rw [List.append_nil]; exact hM
  refine va_callFi (va_runF (hat := (S.k.1 ci _ hc).2) (As := []) (rest := rest) ⟨S.x, S.b, S.2.2.1, S.o, S.w⟩ (hMet H.size) (va_cwF 0 S.w (lw_app (by intro w hw; simp only [List.mem_cons, List.not_mem_nil, or_false] at hw; rcases hw with e | e | e | e <;> rw [e] <;> assumption) (lw_meth q5)) rfl h0.1 h0.2 hF hd ⟨Nat.le_of_ble_eq_true hR.1, Nat.le_of_ble_eq_true hR.2⟩) ⟨gPre_blind, va_recv S.k hM.1 hc he, g_pre S hM'⟩ rfl rfl hl.1 rfl (lv_room (Nat.le_of_ble_eq_true hrm)) hdg ⟨Nat.zero_le _, Nat.zero_le _⟩) hM.2.2.1 (fun q _ h => g_free hM' q h) (g_free hM') ?_
  intro r' u t H1 locs1 ht hvm hp hB hz hk hS
  subst hp
  have h2 := g_back hM' ht hB hk hS
  rw [List.append_nil] at h2
  exact kk H1 locs1 h2
end CALLS
end CX
