/-! MY KIT: worlds as lists of cells, contracts 'list in, list out', rows for fields, arrays, calls, returns -/
set_option maxRecDepth 100000
/-- the classes of the system, by number -/
abbrev gCl : List vw_C := [(RX7, TX7, 20), (RX1, TX1, 9), (RX3, TX3, 25), (RX4, TX4, 2), (RX5, TX5, 3), (RX6, TX6, 2), (RX8, TX8, 7), (RX9, TX9, 8), (RX10, TX10, 3), (RX11, TX11, 3), (RJ7, TJ7, 3)]
/-- the array classes: T 0: int[], T 1: char[], T 2: long[], T 3: Step[], T 4: Condition[], T 5: Object[] -/
abbrev gTys (T : Nat → ClassId) : List (ClassId × FieldType) := [(T 0, .int), (T 1, .char), (T 2, .long), (T 3, .object "SequenceBench$Step"), (T 4, .object "SequenceBench$Condition"), (T 5, .object "java/lang/Object")]
/-! words of plain computing: a decompiled method is an Option function -/
def lt {α β : Type} (a : α) (k : α → β) : β := k a
def ck {β : Type} (i : Int32) (n : Nat) (k : Option β) : Option β := if i < 0 ∨ n ≤ i.toNatClampNeg then none else k
def nz {β : Type} (y : Int32) (k : Option β) : Option β := if y = 0 then none else k
def bz {β : Type} (v : Int32) (k : Option β) : Option β := if v = 0 ∨ v = 1 then k else none
def bd {α β : Type} (o : Option α) (k : α → Option β) : Option β := match o with
  | none => none
  | some a => k a
def bd2 {α γ β : Type} (o : Option (α × γ)) (k : α → γ → Option β) : Option β := match o with
  | none => none
  | some a => k a.1 a.2
theorem lt_some {α β : Type} {a : α} {k : α → Option β} {r : β} (h : lt a k = some r) : ∃ x, x = a ∧ k x = some r := ⟨a, rfl, h⟩
theorem ck_some {β : Type} {i : Int32} {n : Nat} {k : Option β} {r : β} (h : ck i n k = some r) : vp_in i n ∧ k = some r := by
  unfold ck at h
  by_cases hc : i < 0 ∨ n ≤ i.toNatClampNeg
  · rw [if_pos hc] at h; cases h
  · rw [if_neg hc] at h; exact ⟨hc, h⟩
theorem nz_some {β : Type} {y : Int32} {k : Option β} {r : β} (h : nz y k = some r) : ¬ y = 0 ∧ k = some r := by
  unfold nz at h
  by_cases hc : y = 0
  · rw [if_pos hc] at h; cases h
  · rw [if_neg hc] at h; exact ⟨hc, h⟩
theorem bz_some {β : Type} {v : Int32} {k : Option β} {r : β} (h : bz v k = some r) : narrow .boolean (.int v) = .int v ∧ k = some r := by
  unfold bz at h
  by_cases hc : v = 0 ∨ v = 1
  · rw [if_pos hc] at h
    refine ⟨?_, h⟩
    rcases hc with e | e <;> subst e <;> rfl
  · rw [if_neg hc] at h; cases h
theorem bd_some {α β : Type} {o : Option α} {k : α → Option β} {r : β} (h : bd o k = some r) : ∃ a, o = some a ∧ k a = some r := by
  cases o with
  | none => cases h
  | some a => exact ⟨a, rfl, h⟩
theorem bd2_some {α γ β : Type} {o : Option (α × γ)} {k : α → γ → Option β} {r : β} (h : bd2 o k = some r) : ∃ a b, o = some (a, b) ∧ k a b = some r := by
  cases o with
  | none => cases h
  | some a => exact ⟨a.1, a.2, rfl, h⟩
theorem if_t {β : Type} {c : Prop} {i : Decidable c} {a b : Option β} {r : β} (hc : c) (h : @ite _ c i a b = some r) : a = some r := by rwa [if_pos hc] at h
theorem if_f {β : Type} {c : Prop} {i : Decidable c} {a b : Option β} {r : β} (hc : ¬ c) (h : @ite _ c i a b = some r) : b = some r := by rwa [if_neg hc] at h
/-- a world: whole numbers by place, rows of whole numbers by place -/
abbrev MW : Type := (Nat → Int32) × (Nat → Nat → Int32)
def setF (w : MW) (k : Nat) (v : Int32) : MW := (upd w.1 k v, w.2)
def setA (w : MW) (j i : Nat) (v : Int32) : MW := (w.1, va_up w.2 j (upd (w.2 j) i v))

/-! facts of the tables that a method carries along: nest mates' links, casts, interfaces, arrays of references, the lambdas' sites -/
def nestW (w : Cond) : Bool := match w with
  | .fieldLinkNest _ _ _ _ _ _ => true
  | .methodLinkNest _ _ _ _ => true
  | .declares _ => true
  | .castable _ _ => true
  | _ => false
theorem nestW_tab {w : Cond} (h : nestW w = true) : w.onTables = true := by
  cases w <;> first | rfl | cases h
theorem nestW_warm {w : Cond} (h : nestW w = true) {s U : State} (hW : s.WarmedH U.vm) (hZ : va_Nw w s) : va_Nw w U := by
  cases w <;> first | cases h; done | exact va_Nw.warmF hW hZ | exact va_Nw.warmM hW hZ | exact va_Nw.warmD hW hZ | exact va_Nw.warmC hW hZ
theorem lam_warm {s U : State} (hW : s.WarmedH U.vm) {x : MethodName} {pc index : Nat} {σ : Lambda.Shape} {c : ClassId} (h : s.lambdaAt? x pc index σ = some (c, none)) : U.lambdaAt? x pc index σ = some (c, none) := by
  obtain ⟨m, kc, cf, i0, p0, l, hm, hk, hcf, hsh, hin, hfind, hmade, hcall, hl⟩ := State.lambdaAt?_spec h
  have hcall' : U.lambdaCallable σ c = true := by
    have hA := hW.alike
    simp only [State.lambdaCallable, hA.findClass, hA.assignable, hA.superclasses, hA.declaredIn] at hcall ⊢
    exact hcall
  obtain ⟨kc', hk', he⟩ := hW.alike.2.2 _ _ hk
  have hm' : U.methodNamed? x = some m := by
    have := State.methodNamed?_setVm (s := s) hW.alike x
    rw [hm] at this
    exact this
  have hcf' : kc'.cf = some cf := by rw [he]; exact hcf
  have hin' : (m.idx, pc, index, σ) ∈ Lambda.sitesOf kc' := by rw [he]; exact hin
  have hfind' : (kc'.callSites.find? fun y => y.1 == m.idx && y.2.1 == pc) = some (i0, p0, l) := by rw [he]; exact hfind
  have hmade' := Lambda.isMade_warmer hW hmade
  obtain ⟨m2, k2, hm2, hk2, hjdk, howes⟩ := State.lambdaAt?_road h
  cases hm.symm.trans hm2
  cases hk.symm.trans hk2
  have hjdk' : jdkName kc'.name = false := by rw [he]; exact hjdk
  have howes' : (U.vm.findClass σ.iface).bind (Lambda.owesInit U.vm) = none := by
    rw [hW.alike.findClass]
    cases hfi : s.vm.findClass σ.iface with
    | none => rfl
    | some i => rw [hfi] at howes; simpa [Lambda.owesInit_alike hW.alike] using howes
  have hany : ((Lambda.sitesOf kc').any fun y => decide (y = (m.idx, pc, index, σ))) = true := by simpa using hin'
  rcases hl with ⟨a, cell, rfl, h2, -⟩ | ⟨rfl, -, hcap⟩
  · cases h2
  · simp [State.lambdaAt?, guard, hjdk', howes', hm', hk', hcf', hsh, hany, hfind', hcap, hmade', hcall']
def gLam (D : va_G) (U : State) : Prop := U.lambdaAt? yX4_init 56 35 lamS0 = some (D.1 100, none) ∧ U.lambdaAt? yX4_init 67 39 lamS1 = some (D.1 101, none) ∧ U.lambdaAt? yX5_init 103 49 lamS2 = some (D.1 102, none) ∧ U.lambdaAt? yX5_init 119 53 lamS3 = some (D.1 103, none)
def cDecide : MethodName := ⟨"SequenceBench$Circuit", "decide", "()V"⟩
def cActive : MethodName := ⟨"SequenceBench$Circuit", "active", "()I"⟩
def gFw (U : State) : Prop := (va_Fw RX4 cDecide yX4_decide U ∧ va_Fw RX5 cDecide yX5_decide U ∧ va_Fw RX6 cDecide yX6_decide U) ∧ va_Fw RX4 cActive yX4_active U ∧ va_Fw RX5 cActive yX5_active U ∧ va_Fw RX6 cActive yX6_active U
def gAO (U : State) : Prop := va_AO "SequenceBench$Step" U ∧ va_AO "SequenceBench$Condition" U ∧ va_AO "java/lang/Object" U
def cHolds : MethodName := ⟨"SequenceBench$Condition", "holds", "()Z"⟩
abbrev wHolds : Cond := .interfaceMethod cHolds.cls cHolds.cls cHolds.name cHolds.desc
theorem ifm_move {u U : State} (hvm : u.vm.Alike U.vm) (hd : va_Nw (.declares cHolds) u) (h : va_Nw wHolds u) : va_Nw wHolds U := by
  obtain ⟨r, meth, hn, -⟩ := Cond.declares_spec hd
  have tr : ∀ {c : Cond}, c.onTables = true → c.before #[] (u.setVm U.vm) = true → c.before #[] U = true := by
    intro c hc h
    have e := Cond.onTables_vm (A := #[]) (A' := #[]) (U := u) (U' := U) U.vm c hc
    have hU : U.setVm U.vm = U := rfl
    rw [hU] at e
    rw [← e]
    exact h
  exact tr rfl ((Cond.interfaceMethod_setVm hvm (r := r) hn (by decide)).trans h)
def gG (D : va_G) (U : State) : Prop := (∀ w ∈ lw_tbl, nestW w = true → va_Nw w U) ∧ gFw U ∧ gAO U ∧ gLam D U ∧ va_Nw wHolds U
theorem gG.warm {D : va_G} {s U : State} (hW : s.WarmedH U.vm) (h : gG D s) : gG D U := by
  obtain ⟨h1, ⟨⟨a1, a2, a3⟩, a4, a5, a6⟩, ⟨b1, b2, b3⟩, ⟨c1, c2, c3, c4⟩, e1⟩ := h
  have hd : cDecide.cls ≠ "java/lang/invoke/MethodHandle" ∧ cDecide.cls ≠ "java/lang/invoke/VarHandle" := by decide
  have ha : cActive.cls ≠ "java/lang/invoke/MethodHandle" ∧ cActive.cls ≠ "java/lang/invoke/VarHandle" := by decide
  exact ⟨fun w hw hn => nestW_warm hn hW (h1 w hw hn), ⟨⟨a1.moved hd hW.alike, a2.moved hd hW.alike, a3.moved hd hW.alike⟩, a4.moved ha hW.alike, a5.moved ha hW.alike, a6.moved ha hW.alike⟩, ⟨b1.moved hW.alike, b2.moved hW.alike, b3.moved hW.alike⟩, ⟨lam_warm hW c1, lam_warm hW c2, lam_warm hW c3, lam_warm hW c4⟩, ifm_move hW.alike (h1 _ q1282 rfl) e1⟩
theorem lam_same {s U : State} (e : s.vm = U.vm) {x : MethodName} {pc index : Nat} {σ : Lambda.Shape} {c : ClassId} (h : s.lambdaAt? x pc index σ = some (c, none)) : U.lambdaAt? x pc index σ = some (c, none) := by
  obtain ⟨m, kc, cf, i0, p0, l, hm, hk, hcf, hsh, hin, hfind, hmade, hcall, hl⟩ := State.lambdaAt?_spec h
  obtain ⟨m2, k2, hm2, hk2, hjdk, howes⟩ := State.lambdaAt?_road h
  cases hm.symm.trans hm2
  cases hk.symm.trans hk2
  have hany : ((Lambda.sitesOf kc).any fun y => decide (y = (m.idx, pc, index, σ))) = true := by simpa using hin
  have hm' : U.methodNamed? x = some m := by unfold State.methodNamed? at hm ⊢; rw [← e]; exact hm
  have hcall' : U.lambdaCallable σ c = true := by unfold State.lambdaCallable at hcall ⊢; rw [← e]; exact hcall
  rw [e] at hk hmade howes
  rcases hl with ⟨a, cell, rfl, h2, -⟩ | ⟨rfl, -, hcap⟩
  · cases h2
  · simp [State.lambdaAt?, guard, hjdk, howes, hm', hk, hcf, hsh, hany, hfind, hcap, hmade, hcall']
theorem gG.same {D : va_G} {s U : State} (e : s.vm = U.vm) (h : gG D s) : gG D U := by
  obtain ⟨h1, ⟨⟨a1, a2, a3⟩, a4, a5, a6⟩, ⟨b1, b2, b3⟩, ⟨c1, c2, c3, c4⟩, e1⟩ := h
  have hA : s.vm.Alike U.vm := by rw [e]; exact Vm.Alike.refl _
  have hd : cDecide.cls ≠ "java/lang/invoke/MethodHandle" ∧ cDecide.cls ≠ "java/lang/invoke/VarHandle" := by decide
  have ha : cActive.cls ≠ "java/lang/invoke/MethodHandle" ∧ cActive.cls ≠ "java/lang/invoke/VarHandle" := by decide
  exact ⟨fun w hw hn => va_Nw.same (nestW_tab hn) e (h1 w hw hn), ⟨⟨a1.moved hd hA, a2.moved hd hA, a3.moved hd hA⟩, a4.moved ha hA, a5.moved ha hA, a6.moved ha hA⟩, ⟨b1.moved hA, b2.moved hA, b3.moved hA⟩, ⟨lam_same e c1, lam_same e c2, lam_same e c3, lam_same e c4⟩, ifm_move hA (h1 _ q1282 rfl) e1⟩

def gPre (D : va_G) (T : Nat → ClassId) (ws : va_W) (sz : Nat) (U : State) : Prop := U.heap.size = sz ∧ va_P D gCl ws U.heap ∧ va_K D gCl (gTys T) U ∧ va_D (fun _ => True) ws ∧ gG D U
def gPost (D : va_G) (T : Nat → ClassId) (A : Nat → Prop) (ws : va_W) (t : State) : Prop := va_P D gCl ws t.heap ∧ va_K D gCl (gTys T) t ∧ va_D A ws
def gQi (D : va_G) (T : Nat → ClassId) (A : Nat → Prop) (r : Int32) (ws : va_W) : Array Value → State → Outcome → State → Prop := va_Qi (fun r' (_ : Unit) => r' = r) (fun _ t => gPost D T A ws t) A
def gQl (D : va_G) (T : Nat → ClassId) (A : Nat → Prop) (r : Int64) (ws : va_W) : Array Value → State → Outcome → State → Prop := va_Ql (fun r' (_ : Unit) => r' = r) (fun _ t => gPost D T A ws t) A
def gQv (D : va_G) (T : Nat → ClassId) (A : Nat → Prop) (ws : va_W) : Array Value → State → Outcome → State → Prop := va_Qv (fun (_ : Unit) => True) (fun _ t => gPost D T A ws t) A
/-- a contract: the cells ws in, the cells ws' and the answer out; nothing new -/
abbrev MetI (l : Launch) (y : MethodName) (wds : List Cond) (rm : Room) (D : va_G) (T : Nat → ClassId) (ws : va_W) (sz : Nat) (As : List Value) (r : Int32) (ws' : va_W) : Prop :=
  Met l y wds rm (va_Pc As (gPre D T ws sz)) (gQi D T (va_A ws sz) r ws') 0 0 (va_A ws sz)
abbrev MetL (l : Launch) (y : MethodName) (wds : List Cond) (rm : Room) (D : va_G) (T : Nat → ClassId) (ws : va_W) (sz : Nat) (As : List Value) (r : Int64) (ws' : va_W) : Prop :=
  Met l y wds rm (va_Pc As (gPre D T ws sz)) (gQl D T (va_A ws sz) r ws') 0 0 (va_A ws sz)
abbrev MetV (l : Launch) (y : MethodName) (wds : List Cond) (rm : Room) (D : va_G) (T : Nat → ClassId) (ws : va_W) (sz : Nat) (As : List Value) (ws' : va_W) : Prop :=
  Met l y wds rm (va_Pc As (gPre D T ws sz)) (gQv D T (va_A ws sz) ws') 0 0 (va_A ws sz)
theorem gPre_blind {D : va_G} {T : Nat → ClassId} {ws : va_W} {sz : Nat} {As : List Value} : FrameBlind (va_Pc As (gPre D T ws sz)) := by
  intro a U g mk q
  obtain ⟨q0, q1, qP, qK, qD, qG⟩ := q
  exact ⟨q0, q1, qP, va_K.moved (u := U) (U := U.calling g mk a) (Vm.Alike.refl U.vm) qK, qD, gG.same (s := U) (U := U.calling g mk a) rfl qG⟩
/-- what stays fixed all through a method's walk -/
def gS (p : Program) (s : State) (m : MethodId) (args : Array Value) (meth : Method) (c : Code) (cc : ByteArray) (nL : Nat) (ret : Option FieldType) (own : String) (D : va_G) (T : Nat → ClassId) : Prop :=
  p.tables.exec = Jvm.exec ∧ c.code = cc ∧ c.maxLocals = nL ∧ meth.sig.returnType = ret ∧ meth.locks = false ∧ s.vm.findClass own = some m.cls ∧ (∀ w ∈ lw_all, w.before args s = true) ∧ va_K D gCl (gTys T) s ∧ gG D s
/-- the world now -/
def gM (D : va_G) (A : Nat → Prop) (H0 : Heap) (ws : va_W) (H : Heap) (locs : List Loc) : Prop :=
  va_P D gCl ws H ∧ va_D A ws ∧ va_S A H0 H locs ∧ ∀ q : Nat, H0.size ≤ q → A q
section GK
variable {p : Program} {l : Launch} {e : Env} {R : Room} {s : State} {m : MethodId} {args : Array Value} {below : List Frame} {meth : Method} {c : Code} {H : Heap} {locs : List Loc} {cells slots : Nat} {Q : State → Prop}
variable {cc : ByteArray} {nL : Nat} {ret : Option FieldType} {own : String} {D : va_G} {T : Nat → ClassId} {A : Nat → Prop} {ws : va_W} {pc : Nat} {ls : Array Slot} {rest : List Value}
theorem gS.x (S : gS p s m args meth c cc nL ret own D T) : p.tables.exec = Jvm.exec := S.1
theorem gS.b (S : gS p s m args meth c cc nL ret own D T) : c.code = cc := S.2.1
theorem gS.w (S : gS p s m args meth c cc nL ret own D T) : ∀ w ∈ lw_all, w.before args s = true := S.2.2.2.2.2.2.1
theorem gS.o (S : gS p s m args meth c cc nL ret own D T) : s.vm.findClass own = some m.cls := S.2.2.2.2.2.1
theorem gS.k (S : gS p s m args meth c cc nL ret own D T) : va_K D gCl (gTys T) s := S.2.2.2.2.2.2.2.1
theorem gS.g (S : gS p s m args meth c cc nL ret own D T) : gG D s := S.2.2.2.2.2.2.2.2
/-- the start of a walk -/
theorem g_entry {y : MethodName} {rm : Room} {sz : Nat} {As : List Value} {Qc : (Nat → Prop) → Array Value → State → Outcome → State → Prop} {mc ms : Nat} (hy : plainName y.cls = true) (hn : Nat.ble (lg_sl As).length nL = true)
    (body : ∀ p e s m below meth c ls, gS p s m As.toArray meth c cc nL ret y.cls D T → gM D (va_A ws s.heap.size) s.heap ws s.heap [] → lv_has ls nL (lv_args 0 As) →
      W p l e rm s m As.toArray below meth c s.heap [] 0 0 (MQ below (Qc (va_A ws s.heap.size)) As.toArray s mc ms (va_A ws s.heap.size)) (F0 m 0 ls [])) :
    Met l y (ws_ y cc nL ret) rm (va_Pc As (gPre D T ws sz)) (Qc (va_A ws sz)) mc ms (va_A ws sz) := by
  refine Met.ofW (cc := cc) (maxL := nL) (ret := ret) hy rfl ?_
  intro p e s m args below meth c s₁ B hml hv
  obtain ⟨rfl, hsz, hP, hK, hD0, hG⟩ := hv
  subst hsz
  have hts := atoms_spec (ws := ws_ y cc nL ret) B.pre
  have hts : ∀ w ∈ lw_all, w.before _ s = true := fun w h => hts w (List.mem_cons_of_mem _ h)
  have hl := lv_entry As (n := nL) (Nat.le_of_ble_eq_true hn)
  rw [lg_entry_eq]
  exact body p e s m below meth c _ ⟨B.exec, B.bytes, hml, B.returns, B.notSynchronized, findClass_of_methodNamed B.named, hts, hK, hG⟩ ⟨hP, hD0.self, va_S.rf, fun q h => Or.inr h⟩ hl
theorem g_get (S : gS p s m args meth c cc nL ret own D T) {H0 : Heap} (hM : gM D A H0 ws H locs) {C : String} {Tt : u_T} {N ci : Nat} (q0 : Nat) {a : Nat} {fs : List Value} (he : ws[q0]? = some (a, .inr (ci, fs))) (hc : gCl[ci]? = some (C, Tt, N)) (hin : ∀ w ∈ u_ws C Tt N, w ∈ lw_all) (k : Nat) (hk : Nat.ble (k + 1) N = true) {index : Nat}
    (hl : Cond.fieldLink own index (Tt k).1 (Tt k).2.1 (Tt k).2.2.1 ∈ lw_all) {v : Value} (hv : fs[k]? = some v) (hdg : decode cc pc = .ok (.getfield index, 3))
    (kk : W p l e R s m args below meth c H locs cells slots Q (F0 m (pc + 3) ls (v :: rest))) : W p l e R s m args below meth c H locs cells slots Q (F0 m pc ls (.ref a :: rest)) :=
  va_get S.x S.b S.w hin S.o S.k hM.1 q0 he hc k (Nat.le_of_ble_eq_true hk) (S.w _ hl) (fun _ h => h) hv hdg kk
theorem g_put (S : gS p s m args meth c cc nL ret own D T) {H0 : Heap} (hM : gM D A H0 ws H locs) {C : String} {Tt : u_T} {N ci : Nat} (q0 : Nat) {a : Nat} {fs : List Value} (he : ws[q0]? = some (a, .inr (ci, fs))) (hc : gCl[ci]? = some (C, Tt, N)) (hin : ∀ w ∈ u_ws C Tt N, w ∈ lw_all) {ty0 : Nat → FieldType} (hty : ∀ k, k < N → parseFieldDescriptor (Tt k).2.2.1 = some (ty0 k)) (hnm : ∀ a, a < N → ∀ b, b < N → a ≠ b → (Tt a).2.1 ≠ (Tt b).2.1) (k : Nat) (hk : Nat.ble (k + 1) N = true) {index : Nat}
    (hl : Cond.fieldLink own index (Tt k).1 (Tt k).2.1 (Tt k).2.2.1 ∈ lw_all) (hfin : (Tt k).2.2.2 = false) {v : Value} (hn : narrow (ty0 k) v = v) (hfit : fits (ty0 k) v = true) (hlen : Nat.ble (k + 1) fs.length = true) {ws' : va_W} (hws : ws.set q0 (a, .inr (ci, fs.set k v)) = ws') (hdg : decode cc pc = .ok (.putfield index, 3))
    (kk : ∀ (H1 : Heap) (locs1 : List Loc), gM D A H0 ws' H1 locs1 → W p l e R s m args below meth c H1 locs1 cells slots Q (F0 m (pc + 3) ls rest)) : W p l e R s m args below meth c H locs cells slots Q (F0 m pc ls (v :: .ref a :: rest)) := by
  have hk' := Nat.le_of_ble_eq_true hk
  refine va_put S.x S.b S.w hin ty0 hty hnm S.o S.k hM.1 hM.2.1 hM.2.2.1 q0 he hc k hk' (S.w _ hl) (fun _ h => h) hfin (hty k hk') hn hfit (Nat.le_of_ble_eq_true hlen) hdg ?_
  intro H1 locs1 hP hD hS
  rw [hws] at hP hD
  exact kk H1 locs1 ⟨hP, hD, hS, hM.2.2.2⟩
theorem g_iald (S : gS p s m args meth c cc nL ret own D T) {H0 : Heap} (hM : gM D A H0 ws H locs) (q0 : Nat) {a n : Nat} {f : Nat → Int32} (ha : ws[q0]? = some (a, .inl (T 0, n, .inl f))) {i : Int32} (hi : vp_in i n) (hdg : decode cc pc = .ok (.iaload, 1))
    (kk : W p l e R s m args below meth c H locs cells slots Q (F0 m (pc + 1) ls (.int (f i.toNatClampNeg) :: rest))) : W p l e R s m args below meth c H locs cells slots Q (F0 m pc ls (.int i :: .ref a :: rest)) :=
  va_iald S.x S.b S.k hM.1 q0 0 ha rfl hi hdg kk
theorem g_iast (S : gS p s m args meth c cc nL ret own D T) {H0 : Heap} (hM : gM D A H0 ws H locs) (q0 : Nat) {a n : Nat} {f : Nat → Int32} (ha : ws[q0]? = some (a, .inl (T 0, n, .inl f))) {i x : Int32} (hi : vp_in i n) {ws' : va_W} (hws : ws.set q0 (a, .inl (T 0, n, .inl (upd f i.toNatClampNeg x))) = ws') (hdg : decode cc pc = .ok (.iastore, 1))
    (kk : ∀ (H1 : Heap) (locs1 : List Loc), gM D A H0 ws' H1 locs1 → W p l e R s m args below meth c H1 locs1 cells slots Q (F0 m (pc + 1) ls rest)) : W p l e R s m args below meth c H locs cells slots Q (F0 m pc ls (.int x :: .int i :: .ref a :: rest)) := by
  refine va_iast S.x S.b S.k hM.1 hM.2.1 hM.2.2.1 q0 0 ha rfl hi hdg ?_
  intro H1 locs1 hP hD hS
  rw [hws] at hP hD
  exact kk H1 locs1 ⟨hP, hD, hS, hM.2.2.2⟩
theorem g_alen (S : gS p s m args meth c cc nL ret own D T) {H0 : Heap} (hM : gM D A H0 ws H locs) (q0 : Nat) {a n : Nat} {f : Nat → Int32} (ha : ws[q0]? = some (a, .inl (T 0, n, .inl f))) {v : Int32} (hv : Int32.ofNat n = v) (hdg : decode cc pc = .ok (.arraylength, 1))
    (kk : W p l e R s m args below meth c H locs cells slots Q (F0 m (pc + 1) ls (.int v :: rest))) : W p l e R s m args below meth c H locs cells slots Q (F0 m pc ls (.ref a :: rest)) :=
  va_alen S.x S.b S.k hM.1 q0 0 ha (ty := .int) rfl hv hdg kk
/-- a number gets stored under its name -/
theorem g_ist (S : gS p s m args meth c cc nL ret own D T) {i : Nat} {x x' : Int32} (ex : x' = x) {lv lv' : List (Nat × Value)} (hl : lv_has ls nL lv) (hdg : decode cc pc = .ok (.istore i, 2)) (hn : Nat.ble (i + 1) nL = true) (hv : (i, Value.int x') :: lv.filter (fun q => !(q.1 == i) && !(q.1 + 1 == i && q.2.category == 2)) = lv')
    (kk : ∀ ls : Array Slot, lv_has ls nL lv' → W p l e R s m args below meth c H locs cells slots Q (F0 m (pc + 2) ls rest)) : W p l e R s m args below meth c H locs cells slots Q (F0 m pc ls (.int x :: rest)) := by
  subst ex
  exact lv_istore S.x S.b hdg hl (Nat.le_of_ble_eq_true hn) hv kk
theorem g_istn (S : gS p s m args meth c cc nL ret own D T) {k : Fin 4} {i : Nat} {x x' : Int32} (ex : x' = x) {lv lv' : List (Nat × Value)} (hl : lv_has ls nL lv) (hdg : decode cc pc = .ok (.istore_n k, 1)) (hi : (k : Nat) = i) (hn : Nat.ble (i + 1) nL = true) (hv : (i, Value.int x') :: lv.filter (fun q => !(q.1 == i) && !(q.1 + 1 == i && q.2.category == 2)) = lv')
    (kk : ∀ ls : Array Slot, lv_has ls nL lv' → W p l e R s m args below meth c H locs cells slots Q (F0 m (pc + 1) ls rest)) : W p l e R s m args below meth c H locs cells slots Q (F0 m pc ls (.int x :: rest)) := by
  subst ex
  exact lv_istore_n S.x S.b hdg hi hl (Nat.le_of_ble_eq_true hn) hv kk
theorem g_inc (S : gS p s m args meth c cc nL ret own D T) {i k : Nat} {n : Int} {x x' d : Int32} {lv lv' : List (Nat × Value)} (hl : lv_has ls nL lv) (hk : lv[k]? = some (i, .int x)) (hd : Int32.ofInt n = d) (ex : x' = x + d) (hdg : decode cc pc = .ok (.iinc i n, 3)) (hn : Nat.ble (i + 1) nL = true) (hv : (i, Value.int x') :: lv.filter (fun q => !(q.1 == i) && !(q.1 + 1 == i && q.2.category == 2)) = lv')
    (kk : ∀ ls : Array Slot, lv_has ls nL lv' → W p l e R s m args below meth c H locs cells slots Q (F0 m (pc + 3) ls rest)) : W p l e R s m args below meth c H locs cells slots Q (F0 m pc ls rest) := by
  subst hd
  exact lv_iinc S.x S.b hdg hl hk ex.symm (Nat.le_of_ble_eq_true hn) hv kk
/-- ends -/
theorem g_iret (S : gS p s m args meth c cc nL (some .int) own D T) (hM : gM D A s.heap ws H locs) {r r' : Int32} (er : r' = r) (hdg : decode cc pc = .ok (.ireturn, 1)) :
    W p l e R s m args below meth c H locs 0 0 (MQ below (gQi D T A r ws) args s 0 0 A) (F0 m pc ls [.int r']) := by
  subst er
  have hlocks : meth.locks = false := S.2.2.2.2.1
  exact W.iret S.x S.b S.2.2.2.1 (fun t ht hW => ⟨⟨_, (), rfl, rfl, by rw [ht]; exact hM.1, va_K.moved hW.alike S.k, hM.2.1⟩, hM.2.2.1.F ht⟩) hM.2.2.1.2.2 hdg
theorem g_zret (S : gS p s m args meth c cc nL (some .boolean) own D T) (hM : gM D A s.heap ws H locs) {r r' : Int32} (er : r' = r) (hb : narrow .boolean (.int r') = .int r') (hdg : decode cc pc = .ok (.ireturn, 1)) :
    W p l e R s m args below meth c H locs 0 0 (MQ below (gQi D T A r ws) args s 0 0 A) (F0 m pc ls [.int r']) := by
  subst er
  have hlocks : meth.locks = false := S.2.2.2.2.1
  exact W.zret S.x S.b S.2.2.2.1 hb (fun t ht hW => ⟨⟨_, (), rfl, rfl, by rw [ht]; exact hM.1, va_K.moved hW.alike S.k, hM.2.1⟩, hM.2.2.1.F ht⟩) hM.2.2.1.2.2 hdg
theorem g_lret (S : gS p s m args meth c cc nL (some .long) own D T) (hM : gM D A s.heap ws H locs) {r r' : Int64} (er : r' = r) (hdg : decode cc pc = .ok (.lreturn, 1)) :
    W p l e R s m args below meth c H locs 0 0 (MQ below (gQl D T A r ws) args s 0 0 A) (F0 m pc ls [.long r']) := by
  subst er
  have hlocks : meth.locks = false := S.2.2.2.2.1
  exact W.lret S.x S.b S.2.2.2.1 (fun t ht hW => ⟨⟨_, (), rfl, rfl, by rw [ht]; exact hM.1, va_K.moved hW.alike S.k, hM.2.1⟩, hM.2.2.1.F ht⟩) hM.2.2.1.2.2 hdg
theorem g_vret (S : gS p s m args meth c cc nL none own D T) (hM : gM D A s.heap ws H locs) (hdg : decode cc pc = .ok (.return_, 1)) :
    W p l e R s m args below meth c H locs 0 0 (MQ below (gQv D T A ws) args s 0 0 A) (F0 m pc ls []) := by
  have hlocks : meth.locks = false := S.2.2.2.2.1
  exact W.vret S.x S.b S.2.2.2.1 (fun t ht hW => ⟨⟨(), rfl, trivial, by rw [ht]; exact hM.1, va_K.moved hW.alike S.k, hM.2.1⟩, hM.2.2.1.F ht⟩) hM.2.2.1.2.2 hdg
/-- the world behind a call that was given the cells wc of wc ++ wr -/
theorem g_back {H0 H1 : Heap} {locs1 : List Loc} {wc wr wc' : va_W} {t : State} (hM : gM D A H0 (wc ++ wr) H locs) (ht : t.heap = H1) (hB : gPost D T (va_A wc H.size) wc' t) (hk : ∀ q : Nat, q < H.size → ¬ va_A wc H.size q → H1[q]? = H[q]?) (hS : va_S A H0 H1 locs1) : gM D A H0 (wc' ++ wr) H1 locs1 := by
  obtain ⟨hP, hD, hS0, hA⟩ := hM
  obtain ⟨hP1, -, hD1⟩ := hB
  rw [ht] at hP1
  have hF : ∀ q, va_A wc H.size q → A q := by
    intro q h
    rcases h with ⟨k, e, h⟩ | h
    · exact hD.2 k (q, e) (by rw [List.getElem?_append_left (List.getElem?_eq_some_iff.mp h).1]; exact h)
    · exact hA q (Nat.le_trans hS0.1 h)
  have hr : ∀ (k : Nat) (q : Nat × va_E), wr[k]? = some q → (wc ++ wr)[wc.length + k]? = some q := by
    intro k q h
    rw [List.getElem?_append_right (Nat.le_add_right _ _), Nat.add_sub_cancel_left]
    exact h
  have apart : ∀ (k : Nat) (q : Nat × va_E), wr[k]? = some q → q.1 < H.size ∧ ¬ va_A wc H.size q.1 := by
    intro k q h
    have hlt : q.1 < H.size := (hP _ q (hr k q h)).lt
    refine ⟨hlt, ?_⟩
    rintro (⟨k', e, h'⟩ | h')
    · have hk' := (List.getElem?_eq_some_iff.mp h').1
      have := hD.1 k' (wc.length + k) (q.1, e) q (by rw [List.getElem?_append_left hk']; exact h') (hr k q h) rfl
      omega
    · omega
  refine ⟨?_, ⟨?_, ?_⟩, hS, hA⟩
  · intro k q h
    by_cases hlt : k < wc'.length
    · rw [List.getElem?_append_left hlt] at h
      exact hP1 k q h
    · rw [List.getElem?_append_right (Nat.le_of_not_lt hlt)] at h
      obtain ⟨g1, g2⟩ := apart _ q h
      exact (hP _ q (hr _ q h)).kept (hk q.1 g1 g2)
  · intro i j x y hx hy hxy
    by_cases hi : i < wc'.length
    · rw [List.getElem?_append_left hi] at hx
      by_cases hj : j < wc'.length
      · rw [List.getElem?_append_left hj] at hy
        exact hD1.1 i j x y hx hy hxy
      · rw [List.getElem?_append_right (Nat.le_of_not_lt hj)] at hy
        exact absurd (by rw [← hxy]; exact hD1.2 i x hx) (apart _ y hy).2
    · rw [List.getElem?_append_right (Nat.le_of_not_lt hi)] at hx
      by_cases hj : j < wc'.length
      · rw [List.getElem?_append_left hj] at hy
        exact absurd (by rw [hxy]; exact hD1.2 j y hy) (apart _ x hx).2
      · rw [List.getElem?_append_right (Nat.le_of_not_lt hj)] at hy
        have := hD.1 _ _ x y (hr _ x hx) (hr _ y hy) hxy
        omega
  · intro k q h
    by_cases hlt : k < wc'.length
    · rw [List.getElem?_append_left hlt] at h
      exact hF _ (hD1.2 k q h)
    · rw [List.getElem?_append_right (Nat.le_of_not_lt hlt)] at h
      exact hD.2 _ q (hr _ q h)
theorem g_pre {H0 : Heap} {wc wr : va_W} {As : List Value} (S : gS p s m args meth c cc nL ret own D T) (hM : gM D A H0 (wc ++ wr) H locs) : ∀ U : State, U.heap = H → s.WarmedH U.vm → va_Pc As (gPre D T wc H.size) As.toArray U := by
  intro U hU hW
  obtain ⟨hP, hD, -, -⟩ := hM
  refine ⟨rfl, by rw [hU], ?_, va_K.moved hW.alike S.k, ⟨?_, fun _ _ _ => trivial⟩, S.g.warm hW⟩
  · rw [hU]
    intro k q h
    exact hP k q (by rw [List.getElem?_append_left (List.getElem?_eq_some_iff.mp h).1]; exact h)
  · intro i j x y hx hy hxy
    exact hD.1 i j x y (by rw [List.getElem?_append_left (List.getElem?_eq_some_iff.mp hx).1]; exact hx) (by rw [List.getElem?_append_left (List.getElem?_eq_some_iff.mp hy).1]; exact hy) hxy
theorem g_free {H0 : Heap} {wc wr : va_W} (hM : gM D A H0 (wc ++ wr) H locs) : ∀ q, va_A wc H.size q → A q := by
  obtain ⟨hP, hD, hS0, hA⟩ := hM
  intro q h
  rcases h with ⟨k, e, h⟩ | h
  · exact hD.2 k (q, e) (by rw [List.getElem?_append_left (List.getElem?_eq_some_iff.mp h).1]; exact h)
  · exact hA q (Nat.le_trans hS0.1 h)
section CALLS
variable {H0 : Heap} {wc wr wc' : va_W} {y : MethodName} {bts : ByteArray} {L n index : Nat} {rm : Room} {As st0 : List Value} {b : Nat}
abbrev gHd (y : MethodName) (n : Nat) : Prop := y.cls ≠ "java/lang/invoke/MethodHandle" ∧ y.cls ≠ "java/lang/invoke/VarHandle" ∧ (parseMethodDescriptor y.desc).map (fun d => d.parameters.length) = some n
theorem g_cw {rt : Option FieldType} (S : gS p s m args meth c cc nL ret own D T) (hd : gHd y n) (hq : Cond.methodLink own index y ∈ lw_all ∧ Cond.instanceMethod y ∈ lw_all ∧ Cond.selects y.cls y y ∈ lw_all ∧ Cond.initialized y.cls ∈ lw_all ∧ Cond.code y bts L rt ∈ lw_all) (h0 : rm.cells = 0) (h1 : rm.slots = 0) (hR : Nat.ble (rm.frames + 1) R.frames = true ∧ Nat.ble (8 + (L + 11) + rm.locals) R.locals = true) :
    CallW R s args own y.cls index y bts L rt (ws_ y bts L rt) rm 0 0 n := cwV n S.w (lw_V hq.1 hq.2.1 hq.2.2.1 hq.2.2.2.1 hq.2.2.2.2) rfl h0 h1 ⟨rfl, hd⟩ ⟨Nat.le_of_ble_eq_true hR.1, Nat.le_of_ble_eq_true hR.2⟩
theorem g_cwS {rt : Option FieldType} (S : gS p s m args meth c cc nL ret own D T) (hd : gHd y n) (hq : Cond.methodLink own index y ∈ lw_all ∧ Cond.static y ∈ lw_all ∧ Cond.initialized y.cls ∈ lw_all ∧ Cond.code y bts L rt ∈ lw_all) (h0 : rm.cells = 0) (h1 : rm.slots = 0) (hR : Nat.ble (rm.frames + 1) R.frames = true ∧ Nat.ble (8 + (L + 11) + rm.locals) R.locals = true) :
    CallB R s args own index y bts L rt (ws_ y bts L rt) rm 0 0 n ∧ (Cond.static y).before args s = true := va_cwS n S.w (lw_S hq.1 hq.2.1 hq.2.2.1 hq.2.2.2) rfl h0 h1 hd ⟨Nat.le_of_ble_eq_true hR.1, Nat.le_of_ble_eq_true hR.2⟩
/-- a call through an object of a known class -/
theorem g_calli {rt : Option FieldType} {r : Int32} (S : gS p s m args meth c cc nL ret own D T) (hM : gM D A H0 (wc ++ wr) H locs) (hl : ls.size = nL) {Tt : u_T} {N ci q0 : Nat} {fs : List Value} (hc : gCl[ci]? = some (y.cls, Tt, N)) (he : (wc ++ wr)[q0]? = some (b, .inr (ci, fs)))
    (hMet : ∀ sz, MetI l y (ws_ y bts L rt) rm D T wc sz (.ref b :: As) r wc') (hd : gHd y n) (hq : Cond.methodLink own index y ∈ lw_all ∧ Cond.instanceMethod y ∈ lw_all ∧ Cond.selects y.cls y y ∈ lw_all ∧ Cond.initialized y.cls ∈ lw_all ∧ Cond.code y bts L rt ∈ lw_all) (h0 : rm.cells = 0 ∧ rm.slots = 0)
    (hR : Nat.ble (rm.frames + 1) R.frames = true ∧ Nat.ble (8 + (L + 11) + rm.locals) R.locals = true) (hn : As.length = n) (hst : st0 = As.reverse ++ .ref b :: rest) (hrm : Nat.ble (rest.map fun v => v.category).sum 8 = true) (hfit : cells + 0 ≤ R.cells ∧ slots + 0 ≤ R.slots) (hdg : decode cc pc = .ok (.invokevirtual index, 3))
    (kk : ∀ (H1 : Heap) (locs1 : List Loc), gM D A H0 (wc' ++ wr) H1 locs1 → W p l e R s m args below meth c H1 locs1 cells slots Q (F0 m (pc + 3) ls (.int r :: rest))) : W p l e R s m args below meth c H locs cells slots Q (F0 m pc ls st0) := by
  subst hst
  refine va_calli (va_runV (As := As) (rest := rest) ⟨S.x, S.b, S.2.2.1, S.o, S.w⟩ (hMet H.size) (g_cw S hd hq h0.1 h0.2 hR) ⟨gPre_blind, va_recv S.k hM.1 hc he, g_pre S hM⟩ rfl hn hl rfl (lv_room (Nat.le_of_ble_eq_true hrm)) hdg hfit) hM.2.2.1 (fun q _ h => g_free hM q h) (g_free hM) ?_
  intro r' u t H1 locs1 ht hvm hp hB hz hk hS
  subst hp
  exact kk H1 locs1 (g_back hM ht hB hk hS)
theorem g_callv (S : gS p s m args meth c cc nL ret own D T) (hM : gM D A H0 (wc ++ wr) H locs) (hl : ls.size = nL) {Tt : u_T} {N ci q0 : Nat} {fs : List Value} (hc : gCl[ci]? = some (y.cls, Tt, N)) (he : (wc ++ wr)[q0]? = some (b, .inr (ci, fs)))
    (hMet : ∀ sz, MetV l y (ws_ y bts L none) rm D T wc sz (.ref b :: As) wc') (hd : gHd y n) (hq : Cond.methodLink own index y ∈ lw_all ∧ Cond.instanceMethod y ∈ lw_all ∧ Cond.selects y.cls y y ∈ lw_all ∧ Cond.initialized y.cls ∈ lw_all ∧ Cond.code y bts L none ∈ lw_all) (h0 : rm.cells = 0 ∧ rm.slots = 0)
    (hR : Nat.ble (rm.frames + 1) R.frames = true ∧ Nat.ble (8 + (L + 11) + rm.locals) R.locals = true) (hn : As.length = n) (hst : st0 = As.reverse ++ .ref b :: rest) (hrm : Nat.ble (rest.map fun v => v.category).sum 8 = true) (hfit : cells + 0 ≤ R.cells ∧ slots + 0 ≤ R.slots) (hdg : decode cc pc = .ok (.invokevirtual index, 3))
    (kk : ∀ (H1 : Heap) (locs1 : List Loc), gM D A H0 (wc' ++ wr) H1 locs1 → W p l e R s m args below meth c H1 locs1 cells slots Q (F0 m (pc + 3) ls rest)) : W p l e R s m args below meth c H locs cells slots Q (F0 m pc ls st0) := by
  subst hst
  refine va_callv (va_runV (As := As) (rest := rest) ⟨S.x, S.b, S.2.2.1, S.o, S.w⟩ (hMet H.size) (g_cw S hd hq h0.1 h0.2 hR) ⟨gPre_blind, va_recv S.k hM.1 hc he, g_pre S hM⟩ rfl hn hl rfl (lv_room (Nat.le_of_ble_eq_true hrm)) hdg hfit) hM.2.2.1 (fun q _ h => g_free hM q h) (g_free hM) ?_
  intro u t H1 locs1 ht hvm hp hB hz hk hS
  exact kk H1 locs1 (g_back hM ht hB hk hS)
theorem g_calll {r : Int64} (S : gS p s m args meth c cc nL ret own D T) (hM : gM D A H0 (wc ++ wr) H locs) (hl : ls.size = nL) {Tt : u_T} {N ci q0 : Nat} {fs : List Value} (hc : gCl[ci]? = some (y.cls, Tt, N)) (he : (wc ++ wr)[q0]? = some (b, .inr (ci, fs)))
    (hMet : ∀ sz, MetL l y (ws_ y bts L (some .long)) rm D T wc sz (.ref b :: As) r wc') (hd : gHd y n) (hq : Cond.methodLink own index y ∈ lw_all ∧ Cond.instanceMethod y ∈ lw_all ∧ Cond.selects y.cls y y ∈ lw_all ∧ Cond.initialized y.cls ∈ lw_all ∧ Cond.code y bts L (some .long) ∈ lw_all) (h0 : rm.cells = 0 ∧ rm.slots = 0)
    (hR : Nat.ble (rm.frames + 1) R.frames = true ∧ Nat.ble (8 + (L + 11) + rm.locals) R.locals = true) (hn : As.length = n) (hst : st0 = As.reverse ++ .ref b :: rest) (hrm : Nat.ble (rest.map fun v => v.category).sum 8 = true) (hfit : cells + 0 ≤ R.cells ∧ slots + 0 ≤ R.slots) (hdg : decode cc pc = .ok (.invokevirtual index, 3))
    (kk : ∀ (H1 : Heap) (locs1 : List Loc), gM D A H0 (wc' ++ wr) H1 locs1 → W p l e R s m args below meth c H1 locs1 cells slots Q (F0 m (pc + 3) ls (.long r :: rest))) : W p l e R s m args below meth c H locs cells slots Q (F0 m pc ls st0) := by
  subst hst
  refine va_calll (va_runV (As := As) (rest := rest) ⟨S.x, S.b, S.2.2.1, S.o, S.w⟩ (hMet H.size) (g_cw S hd hq h0.1 h0.2 hR) ⟨gPre_blind, va_recv S.k hM.1 hc he, g_pre S hM⟩ rfl hn hl rfl (lv_room (Nat.le_of_ble_eq_true hrm)) hdg hfit) hM.2.2.1 (fun q _ h => g_free hM q h) (g_free hM) ?_
  intro r' u t H1 locs1 ht hvm hp hB hz hk hS
  subst hp
  exact kk H1 locs1 (g_back hM ht hB hk hS)
/-- a static call -/
theorem g_scalli {rt : Option FieldType} {r : Int32} (S : gS p s m args meth c cc nL ret own D T) (hM : gM D A H0 (wc ++ wr) H locs) (hl : ls.size = nL)
    (hMet : ∀ sz, MetI l y (ws_ y bts L rt) rm D T wc sz As r wc') (hd : gHd y n) (hq : Cond.methodLink own index y ∈ lw_all ∧ Cond.static y ∈ lw_all ∧ Cond.initialized y.cls ∈ lw_all ∧ Cond.code y bts L rt ∈ lw_all) (h0 : rm.cells = 0 ∧ rm.slots = 0)
    (hR : Nat.ble (rm.frames + 1) R.frames = true ∧ Nat.ble (8 + (L + 11) + rm.locals) R.locals = true) (hn : As.length = n) (hst : st0 = As.reverse ++ rest) (hrm : Nat.ble (rest.map fun v => v.category).sum 8 = true) (hfit : cells + 0 ≤ R.cells ∧ slots + 0 ≤ R.slots) (hdg : decode cc pc = .ok (.invokestatic index, 3))
    (kk : ∀ (H1 : Heap) (locs1 : List Loc), gM D A H0 (wc' ++ wr) H1 locs1 → W p l e R s m args below meth c H1 locs1 cells slots Q (F0 m (pc + 3) ls (.int r :: rest))) : W p l e R s m args below meth c H locs cells slots Q (F0 m pc ls st0) := by
  subst hst
  refine va_calli (va_runS (As := As) (rest := rest) ⟨S.x, S.b, S.2.2.1, S.o, S.w⟩ (hMet H.size) (g_cwS S hd hq h0.1 h0.2 hR) ⟨gPre_blind, g_pre S hM⟩ rfl hn hl rfl (lv_room (Nat.le_of_ble_eq_true hrm)) hdg hfit) hM.2.2.1 (fun q _ h => g_free hM q h) (g_free hM) ?_
  intro r' u t H1 locs1 ht hvm hp hB hz hk hS
  subst hp
  exact kk H1 locs1 (g_back hM ht hB hk hS)
theorem g_scallv (S : gS p s m args meth c cc nL ret own D T) (hM : gM D A H0 (wc ++ wr) H locs) (hl : ls.size = nL)
    (hMet : ∀ sz, MetV l y (ws_ y bts L none) rm D T wc sz As wc') (hd : gHd y n) (hq : Cond.methodLink own index y ∈ lw_all ∧ Cond.static y ∈ lw_all ∧ Cond.initialized y.cls ∈ lw_all ∧ Cond.code y bts L none ∈ lw_all) (h0 : rm.cells = 0 ∧ rm.slots = 0)
    (hR : Nat.ble (rm.frames + 1) R.frames = true ∧ Nat.ble (8 + (L + 11) + rm.locals) R.locals = true) (hn : As.length = n) (hst : st0 = As.reverse ++ rest) (hrm : Nat.ble (rest.map fun v => v.category).sum 8 = true) (hfit : cells + 0 ≤ R.cells ∧ slots + 0 ≤ R.slots) (hdg : decode cc pc = .ok (.invokestatic index, 3))
    (kk : ∀ (H1 : Heap) (locs1 : List Loc), gM D A H0 (wc' ++ wr) H1 locs1 → W p l e R s m args below meth c H1 locs1 cells slots Q (F0 m (pc + 3) ls rest)) : W p l e R s m args below meth c H locs cells slots Q (F0 m pc ls st0) := by
  subst hst
  refine va_callv (va_runS (As := As) (rest := rest) ⟨S.x, S.b, S.2.2.1, S.o, S.w⟩ (hMet H.size) (g_cwS S hd hq h0.1 h0.2 hR) ⟨gPre_blind, g_pre S hM⟩ rfl hn hl rfl (lv_room (Nat.le_of_ble_eq_true hrm)) hdg hfit) hM.2.2.1 (fun q _ h => g_free hM q h) (g_free hM) ?_
  intro u t H1 locs1 ht hvm hp hB hz hk hS
  exact kk H1 locs1 (g_back hM ht hB hk hS)
end CALLS
end GK
