/-! A LAMBDA's CALL: invokeinterface of Condition.holds on an object of a lambda's own class -/
set_option maxRecDepth 100000
section LR
variable {p : Program} {l : Launch} {e : Env} {R : Room} {s : State} {m : MethodId} {args : Array Value} {below : List Frame} {meth : Method} {c : Code} {H : Heap} {locs : List Loc} {cells slots : Nat} {Q : State → Prop}
variable {cc : ByteArray} {pc : Nat} {ls : Array Slot} {rest : List Value}
theorem lr_get (hexec : p.tables.exec = Jvm.exec) (hb : c.code = cc) {fi sl cF : Nat} (hF : ∀ U : State, s.WarmedH U.vm → ∃ g : Field, U.vm.fieldReady m.cls fi cF g ∧ g.isStatic = false ∧ g.slot = sl) {a : Nat} {cell : Cell} {v : Value} (hcell : H[a]? = some cell) (hkn : cell.vm ≠ .unknown) (hv : cell.slots[sl]? = some v) (hdg : decode cc pc = .ok (.getfield fi, 3))
    (kk : W p l e R s m args below meth c H locs cells slots Q (F0 m (pc + 3) ls (v :: rest))) : W p l e R s m args below meth c H locs cells slots Q (F0 m pc ls (.ref a :: rest)) := by
  intro T hT X
  obtain ⟨g, h1, h2, h3⟩ := hF T X.warmed
  obtain ⟨t, a1, b1⟩ := kk T hT X
  refine ⟨t, ?_, b1⟩
  jvm_step X.here [hexec, hb, hdg, Op.getfield.wp_ready (e := e) (s := T) (c := cF) (field := g) (a := a) (rest := rest) (cell := cell) (v := v) (f := F0 m pc ls (.ref a :: rest)) X.here.top h1 h2 rfl (by rw [hT]; exact hcell) hkn (by rw [h3]; exact hv)]
  exact a1
/-- an entry of a made class's pool that is a static method -/
def lrSt (e : Env) (U : State) (cK mi : Nat) (y : MethodName) (n : Nat) : Prop :=
  ∃ (t : MethodId) (kt : Class) (metht : Method), Op.plainRef U e cK mi ∧ U.vm.methodReady cK mi t ∧ U.vm.classes[t.cls]? = some kt ∧ U.vm.method? t = some metht ∧ signaturePolymorphic kt metht = false ∧ metht.isStatic = true ∧ kt.init = .initialized ∧ metht.sig.parameters.length = n ∧ U.methodNamed? y = some t
theorem lr_runS {y : MethodName} {mc ms n mi nL : Nat} {Pc : Array Value → State → Prop} {Qc : Array Value → State → Outcome → State → Prop} {free : Addr → Prop} {As : List Value} {st0 : List Value} (hexec : p.tables.exec = Jvm.exec) (hb : c.code = cc) (hS : ∀ U : State, s.WarmedH U.vm → lrSt e U m.cls mi y n) (hsz : ls.size = c.maxLocals)
    (hK : Back l R p e below s args y 3 8 (PreOf R mc ms Pc) (PostOf Qc mc ms free)) (hP : ∀ U : State, U.heap = H → s.WarmedH U.vm → Pc As.toArray U) (hn : As.length = n) (hst : st0 = As.reverse ++ rest) (hW : Nat.ble (rest.map fun v => v.category).sum 8 = true) (hdg : decode cc pc = .ok (.invokestatic mi, 3)) (hf : cells + mc ≤ R.cells ∧ slots + ms ≤ R.slots) :
    va_Run p l e R s m args below meth c H locs cells slots mc ms (F0 m pc ls st0) rest (Qc As.toArray) free := by
  subst hst
  intro T hT X
  obtain ⟨t, kt, metht, r1, r2, r3, r4, r5, r6, r7, r8, r9⟩ := hS T X.warmed
  obtain ⟨v, ⟨U', l2, c2, s2⟩, X', ⟨g', mk, t', L, e1, e2, hq, h1, hL, h2, h3⟩, hsteps⟩ := hK m meth c ⟨T, locs, cells, slots⟩ (F0 m pc ls rest) (.invokestatic mi) t As.toArray X rfl hsz (by rw [hb]; exact hdg) (lv_room (Nat.le_of_ble_eq_true hW)) r9 ⟨hf.1, hf.2, hP T hT X.warmed⟩
  dsimp only [Pt.U, Pt.locs, Pt.cells, Pt.slots] at X' e1 e2 h1 h2 h3 hsteps
  subst h1; subst h2; subst h3
  refine ⟨v, T.calling g' mk As.toArray, t', U', L, hT, X', hL, e1, e2, hq, ?_⟩
  intro target h
  jvm_step X.here [hexec, hb, hdg, Op.invokestatic.wp_ready (e := e) (s := T) (m := t) (k := kt) (meth := metht) (args := As) (rest := rest) (f := F0 m pc ls (As.reverse ++ rest)) X.here.top r1 r2 r3 r4 r5 r6 r7 (hn.trans r8.symm) rfl]
  intro acts
  rw [doInvoke_state]
  exact hsteps.trans h
/-- an entry of a made class's pool that is a method of the receiver's own class -/
def lrVt (e : Env) (U : State) (cK mi : Nat) (y : MethodName) (cB : ClassId) (n : Nat) : Prop :=
  ∃ (r t : MethodId) (kr kt : Class) (methr metht : Method), Op.namesAClass U cK mi ∧ U.vm.methodReady cK mi r ∧ U.vm.classes[r.cls]? = some kr ∧ U.vm.method? r = some methr ∧ signaturePolymorphic kr methr = false ∧ methr.isStatic = false ∧ methr.sig.parameters.length = n ∧ selectMethod e.platform U.vm cB r = .method t ∧ U.vm.method? t = some metht ∧ metht.isAbstract = false ∧ U.vm.classes[t.cls]? = some kt ∧ kt.isInterface = false ∧ U.methodNamed? y = some t
theorem lr_runV {y : MethodName} {mc ms n mi : Nat} {Pc : Array Value → State → Prop} {Qc : Array Value → State → Outcome → State → Prop} {free : Addr → Prop} {As : List Value} {st0 : List Value} {b : Nat} {cell : Cell} (hexec : p.tables.exec = Jvm.exec) (hb : c.code = cc) (hS : l.admits e → ∀ U : State, s.WarmedH U.vm → lrVt e U m.cls mi y cell.cls n) (hsz : ls.size = c.maxLocals) (hcell : H[b]? = some cell) (hobj : ∀ q, cell.vm ≠ .statics q)
    (hK : Back l R p e below s args y 3 8 (PreOf R mc ms Pc) (PostOf Qc mc ms free)) (hP : ∀ U : State, U.heap = H → s.WarmedH U.vm → Pc (.ref b :: As).toArray U) (hn : As.length = n) (hst : st0 = As.reverse ++ .ref b :: rest) (hW : Nat.ble (rest.map fun v => v.category).sum 8 = true) (hdg : decode cc pc = .ok (.invokevirtual mi, 3)) (hf : cells + mc ≤ R.cells ∧ slots + ms ≤ R.slots) :
    va_Run p l e R s m args below meth c H locs cells slots mc ms (F0 m pc ls st0) rest (Qc (.ref b :: As).toArray) free := by
  subst hst
  intro T hT X
  obtain ⟨r, t, kr, kt, methr, metht, r1, r2, r3, r4, r5, r6, r7, r8, r9, r10, r11, r12, r13⟩ := hS X.admits T X.warmed
  obtain ⟨v, ⟨U', l2, c2, s2⟩, X', ⟨g', mk, t', L, e1, e2, hq, h1, hL, h2, h3⟩, hsteps⟩ := hK m meth c ⟨T, locs, cells, slots⟩ (F0 m pc ls rest) (.invokevirtual mi) t (.ref b :: As).toArray X rfl hsz (by rw [hb]; exact hdg) (lv_room (Nat.le_of_ble_eq_true hW)) r13 ⟨hf.1, hf.2, hP T hT X.warmed⟩
  dsimp only [Pt.U, Pt.locs, Pt.cells, Pt.slots] at X' e1 e2 h1 h2 h3 hsteps
  subst h1; subst h2; subst h3
  refine ⟨v, T.calling g' mk (.ref b :: As).toArray, t', U', L, hT, X', hL, e1, e2, hq, ?_⟩
  intro target h
  jvm_step X.here [hexec, hb, hdg, Op.invokevirtual.wp_ready (e := e) (s := T) (r := r) (m := t) (k := kr) (mk := kt) (rmeth := methr) (meth := metht) (a := b) (args := As) (rest := rest) (cell := cell) (f := F0 m pc ls (As.reverse ++ .ref b :: rest)) X.here.top r1 r2 r3 r4 r5 r6 (hn.trans r7.symm) rfl (by rw [hT]; exact hcell) hobj r8 r9 r10 r11 r12]
  intro acts
  rw [doInvoke_state]
  exact hsteps.trans h
/-- into the selected method's own walk and out again -/
theorem lr_enter {own : String} {index count : Nat} {x : MethodName} {r0 mk : MethodId} {r methk : Method} {ki kcell : Class} {ck : Code} {cell : Cell} {la : Nat} {R' : Room} {Qc : Array Value → State → Outcome → State → Prop} {free : Addr → Prop} (hexec : p.tables.exec = Jvm.exec) (hb : c.code = cc) (hsz : ls.size = c.maxLocals) (hown : s.vm.findClass own = some m.cls) (hlink : (Cond.methodLink own index x).before args s = true)
    (hn : s.methodNamed? x = some r0) (hrm : s.vm.method? r0 = some r) (hstatic : r.isStatic = false) (hki : s.vm.classes[r0.cls]? = some ki) (hii : ki.isInterface = true) (hx : x.cls ≠ "java/lang/invoke/MethodHandle" ∧ x.cls ≠ "java/lang/invoke/VarHandle") (hcell : H[la]? = some cell) (hobj : ∀ z, cell.vm ≠ .statics z) (hkcell : s.vm.classes[cell.cls]? = some kcell) (hkn : plainName kcell.name = true) (hmk : mk.cls = cell.cls)
    (hinst : s.vm.assignable cell.cls r0.cls = true) (hsel : selectMethod {} s.vm cell.cls r0 = .method mk) (hm' : s.vm.method? mk = some methk) (hck : methk.code = some ck) (hlk : methk.locks = false) (hway : ((cell.cls :: s.vm.superclasses cell.cls).any fun k => (declaredIn s.vm r.name r.desc k).any fun (_, y) => y.isPrivate || y.isStatic) = false) (hpub : hasFlag methk.accessFlags Acc.public_ = true) (habs : methk.isAbstract = false) (hlen : 0 = r.sig.parameters.length)
    (hW : Nat.ble (rest.map fun v => v.category).sum 8 = true) (hdg : decode cc pc = .ok (.invokeinterface index count, 5)) (hR1 : R'.frames + 1 ≤ R.frames) (hR2 : 8 + (ck.maxLocals + 11) + R'.locals ≤ R.locals) (hR3 : R'.cells = 0) (hR4 : R'.slots = 0) (hfit : cells ≤ R.cells ∧ slots ≤ R.slots)
    (inner : ∀ T : State, T.heap = H → s.WarmedH T.vm → W p l e R' (T.calling (F0 m pc ls rest) mk #[.ref la]) mk #[.ref la] (.java (F0 m pc ls rest) :: below) methk ck H [] 0 0 (MQ (.java (F0 m pc ls rest) :: below) Qc #[.ref la] (T.calling (F0 m pc ls rest) mk #[.ref la]) 0 0 free) (entryFrame mk #[.ref la] ck.maxLocals)) :
    va_Run5 p l e R s m args below meth c H locs cells slots 0 0 (F0 m pc ls (.ref la :: rest)) rest (Qc #[.ref la]) free := by
  intro T hT X
  obtain ⟨vm', X1, step1⟩ := X.invokeinterface hexec hown hlink hn hrm hstatic hki hii hx (a := la) (cell := cell) (kcell := kcell) (by rw [hT]; exact hcell) hobj hkcell hinst (by rw [Launch.admits_selectMethod X.admits]; exact hsel) hm' hway hpub habs (g := F0 m pc ls (.ref la :: rest)) rfl (argsL := []) (rest := rest) hlen rfl (by rw [hb]; exact hdg)
  have hA := X1.warmed.alike
  have hpl : (T.setVm vm').plainMethod mk := State.plainMethod.of_name (fun k hk => by
    rw [hmk] at hk
    obtain ⟨k', hk', he⟩ := hA.2.2 _ _ hkcell
    cases hk.symm.trans hk'
    rw [he]
    exact hkn)
  have hlv := lv_room (m := m) (pc := pc) (ls := ls) (rest := rest) (Nat.le_of_ble_eq_true hW)
  have hmT : (T.setVm vm').vm.method? mk = some methk := by rw [hA.method?]; exact hm'
  obtain ⟨Y, hin⟩ := X1.into (g := F0 m pc ls rest) rfl hsz (by rw [hb]; exact hdg) #[.ref la] (R' := R') hmT hck hlk hpl hR1 (by show 2 * (F0 m pc ls rest).monitorRoom + (rest.map fun v => v.category).sum + (ck.maxLocals + 11) + R'.locals ≤ R.locals; omega) (by rw [hR3]; exact hfit.1) (by rw [hR4]; exact hfit.2)
  obtain ⟨t, st2, o, hrun, hend, hq, L, ⟨⟨v, rfl⟩, hWe, hsame⟩, hfree⟩ := inner (T.setVm vm') hT X1.warmed _ (by exact hT) Y
  obtain ⟨T', X', hW', -, ht⟩ := X1.outOf (g := F0 m pc ls rest) rfl (by rw [hb]; exact hdg) hend hWe hsame
  refine ⟨v, (T.setVm vm').calling (F0 m pc ls rest) mk #[.ref la], t, T', L, hT, X', hfree, ?_, ?_, hq, ?_⟩
  · exact (congrArg State.heap ht).symm
  · exact (congrArg State.vm ht).symm
  · intro target h
    refine step1 target (fun acts => ?_)
    have h3 : (doInvoke e ((T.setVm vm').setTop (F0 m pc ls rest)) acts mk #[.ref la]).1 = _ := hin acts
    show Steps p.tables e below (doInvoke e ((T.setVm vm').setTop (F0 m pc ls rest)) acts mk #[.ref la]).1 target
    rw [h3]
    refine Steps.trans (Steps.weaken (mid := [.java (F0 m pc ls rest)]) st2) ?_
    rw [ht]
    exact h
end LR
