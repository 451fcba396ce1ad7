/-! CALLS OF METHODS WHOSE CLASS IS NOT KNOWN TO BE INITIALIZED (the bodies of the enum's constants): no contract 'Met' (it asks 'initialized'), but the callee's walk itself -/
set_option maxRecDepth 100000
/-- a walk's contract: as 'Met', and the class may be in any state -/
def WMet (l : Launch) (y : MethodName) (cc : ByteArray) (nL : Nat) (ret : Option FieldType) (rm : Room) (Pc : Array Value → State → Prop) (Qc : Array Value → State → Outcome → State → Prop) (mc ms : Nat) (free : Addr → Prop) : Prop :=
  ∀ (p : Program) (e : Env) (s : State) (m : MethodId) (args : Array Value) (below : List Frame) (meth : Method) (c : Code), p.tables.exec = Jvm.exec → s.methodNamed? y = some m → s.vm.method? m = some meth → meth.sig.returnType = ret → meth.locks = false → c.code = cc → c.maxLocals = nL → (∀ w ∈ lw_all, w.before args s = true) → Pc args s →
    W p l e rm s m args below meth c s.heap [] 0 0 (MQ below Qc args s mc ms free) (entryFrame m args nL)
section WB
variable {l : Launch} {R : Room} {p : Program} {e : Env} {below : List Frame} {s : State} {sargs : Array Value} {y : MethodName} {len Wt : Nat} {cc : ByteArray} {nL : Nat} {ret : Option FieldType} {rm : Room} {Pc : Array Value → State → Prop} {Qc : Array Value → State → Outcome → State → Prop} {mc ms : Nat} {free : Addr → Prop}
theorem back_W (hexec : p.tables.exec = Jvm.exec) (hy : plainName y.cls = true) (hM : WMet l y cc nL ret rm Pc Qc mc ms free) (hblind : FrameBlind Pc) (hrc : rm.cells = mc) (hrs : rm.slots = ms) (hframes : rm.frames + 1 ≤ R.frames) (hlocals : Wt + (nL + 11) + rm.locals ≤ R.locals)
    (hws : ∀ w ∈ lw_all, ∀ a' U, s.WarmedH U.vm → w.before a' U = true) (hcode : Cond.code y cc nL ret ∈ lw_all) : Back l R p e below s sargs y len Wt (PreOf R mc ms Pc) (PostOf Qc mc ms free) := by
  intro m meth c A g ig mk a X hg hsize hdg hW hn hp
  obtain ⟨U, Ls, c0, s0⟩ := A
  dsimp only [Pt.U, Pt.locs, Pt.cells, Pt.slots] at X hn ⊢
  obtain ⟨hp1, hp2, hp3⟩ := hp
  dsimp only [Pt.U, Pt.locs, Pt.cells, Pt.slots] at hp1 hp2 hp3
  obtain ⟨methY, cY, hmY, hcY, hby, hlY, hrY, hkY, -⟩ := Cond.code_spec hn (hws _ hcode a U X.warmed)
  have hpl : U.plainMethod mk := State.plainMethod.of_name (fun k hk => by
    obtain ⟨k', hk', hnm⟩ := className_of_methodNamed hn
    cases hk.symm.trans hk'
    rw [hnm]
    exact hy)
  obtain ⟨Y, hin⟩ := X.into (g := g) hg hsize hdg a (R' := rm) hmY hcY hkY hpl hframes (by rw [hlY]; omega) (by rw [hrc]; exact hp1) (by rw [hrs]; exact hp2)
  have hnc : (U.calling g mk a).methodNamed? y = some mk := hn
  obtain ⟨t, st2, o, hrun, hend, hq, L, ⟨⟨v, rfl⟩, hWe, hsame⟩, hfree⟩ := hM p e (U.calling g mk a) mk a (.java g :: below) methY cY hexec hnc hmY hrY hkY hby hlY (fun w hw => hws w hw a _ X.warmed) (hblind _ _ _ _ hp3) ((U.setTop g).pushFrame (.java (entryFrame mk a cY.maxLocals))) (by rfl) Y
  obtain ⟨T', X', hW', -, ht⟩ := X.outOf (g := g) hg hdg hend hWe hsame
  refine ⟨v, ⟨T', Ls ++ L, c0 + mc, s0 + ms⟩, X', ⟨g, mk, t, L, ?_, ?_, hq, rfl, hfree, rfl, rfl⟩, ?_⟩
  · exact (congrArg State.heap ht).symm
  · exact (congrArg State.vm ht).symm
  · rw [hlY] at st2
    rw [hin [], hlY]
    refine Steps.trans (Steps.weaken (mid := [.java g]) st2) ?_
    rw [ht]
    exact Steps.refl _
end WB
section WR
variable {p : Program} {l : Launch} {e : Env} {R : Room} {s : State} {m : MethodId} {args : Array Value} {below : List Frame} {meth : Method} {c : Code} {H : Heap} {locs : List Loc} {cells slots : Nat} {Q : State → Prop}
variable {cc : ByteArray} {nL : Nat} {ret : Option FieldType} {own : String} {D : va_G} {T : Nat → ClassId} {A : Nat → Prop} {pc : Nat} {ls : Array Slot} {rest : List Value} {H0 : Heap}
variable {x y : MethodName} {bts : ByteArray} {L n index mc ms : Nat} {rt : Option FieldType} {rm : Room} {As st0 : List Value} {lv : List (Nat × Value)} {b : Nat} {U : Type} {wc wr : va_W} {wc' : U → va_W} {X : U → Heap → Prop} {ad : U → Nat} {C owner : String}
/-- the call itself, by the callee's walk -/
theorem va_runW {Pc : Array Value → State → Prop} {Qc : Array Value → State → Outcome → State → Prop} {free : Addr → Prop} (S : gS p s m args meth c cc nL ret own D T) (hl : ls.size = nL) (hy : plainName y.cls = true) (hM : WMet l y bts L rt rm Pc Qc mc ms free) (hp : PreV s H C b Pc As)
    (q1 : Cond.methodLink own index x ∈ lw_all) (q2 : Cond.sameMethod x.cls owner x.name x.desc ∈ lw_all) (q3 : Cond.declares ⟨owner, x.name, x.desc⟩ ∈ lw_tbl) (ho : owner ≠ "java/lang/invoke/MethodHandle" ∧ owner ≠ "java/lang/invoke/VarHandle" ∧ (parseMethodDescriptor x.desc).map (fun d => d.parameters.length) = some n) (q4 : Cond.selects C x y ∈ lw_all) (q5 : Cond.instanceMethod y ∈ lw_all) (q6 : Cond.code y bts L rt ∈ lw_all)
    (h0 : rm.cells = mc ∧ rm.slots = ms) (hR : Nat.ble (rm.frames + 1) R.frames = true ∧ Nat.ble (8 + (L + 11) + rm.locals) R.locals = true) (hn : As.length = n) (hW : Nat.ble (rest.map fun v => v.category).sum 8 = true) (hdg : decode cc pc = .ok (.invokevirtual index, 3)) (hf : cells + mc ≤ R.cells ∧ slots + ms ≤ R.slots) :
    va_Run p l e R s m args below meth c H locs cells slots mc ms (F0 m pc ls (As.reverse ++ .ref b :: rest)) rest (Qc (Value.ref b :: As).toArray) free := by
  have hK : Back l R p e below s args y 3 8 (PreOf R mc ms Pc) (PostOf Qc mc ms free) := back_W S.x hy hM hp.1 h0.1 h0.2 (Nat.le_of_ble_eq_true hR.1) (Nat.le_of_ble_eq_true hR.2) (fun w hw => pay_in S.w (lw_meth q6) w (List.mem_cons_of_mem _ hw)) q6
  obtain ⟨-, ⟨cellB, hcB, hoB, hclB⟩, hPc⟩ := hp
  intro T' hT X'
  obtain ⟨v, vm₁, ⟨U', l2, c2, s2⟩, hW₁, X'', ⟨g', mk, t, L', e1, e2, hq, h1, hL, h2, h3⟩, st⟩ := va_callVU X' S.x (C := C) (owner := owner) (bytes := bts) (maxL := L) (ret := rt) S.o (S.w _ q1) (S.w _ q2) (va_Decl.abs (S.g.1 _ q3 rfl)) ⟨ho.1, ho.2.1⟩ (S.w _ q4) (S.w _ q5) (S.w _ q6) hK (by rw [hT]; exact hcB) hoB hclB (g := F0 m pc ls (As.reverse ++ .ref b :: rest)) rfl (hl.trans S.2.2.1.symm) (argsL := As) (rest := rest) (fun sig h => by
      have h2 := ho.2.2
      rw [h] at h2
      exact hn.trans (Option.some.inj h2).symm) rfl (lv_room (Nat.le_of_ble_eq_true hW)) (by rw [S.b]; exact hdg)
    (fun vm₁ hW₁ => ⟨hf.1, hf.2, hPc (T'.setVm vm₁) hT hW₁⟩)
  dsimp only [Pt.U, Pt.locs, Pt.cells, Pt.slots] at X'' e1 e2 h1 h2 h3 st
  subst h1; subst h2; subst h3
  exact ⟨v, (T'.setVm vm₁).calling g' mk (Value.ref b :: As).toArray, t, U', L', hT, X'', hL, e1, e2, hq, st⟩
end WR
abbrev WMetR (U : Type) (l : Launch) (y : MethodName) (cc : ByteArray) (nL : Nat) (rt : FieldType) (rm : Room) (D : va_G) (T : Nat → ClassId) (ws : va_W) (sz : Nat) (As : List Value) (ad : U → Nat) (ws' : U → va_W) (X : U → Heap → Prop) (mc ms : Nat) : Prop :=
  WMet l y cc nL (some rt) rm (va_Pc As (gPre D T ws sz)) (va_Qr (fun (_ : U) => True) (fun u a t => a = ad u ∧ gPost D T (va_A ws sz) (ws' u) t ∧ X u t.heap) (va_A ws sz)) mc ms (va_A ws sz)
abbrev WMetI (l : Launch) (y : MethodName) (cc : ByteArray) (nL : Nat) (rm : Room) (D : va_G) (T : Nat → ClassId) (ws : va_W) (sz : Nat) (As : List Value) (r : Int32) (ws' : va_W) : Prop :=
  WMet l y cc nL (some .int) rm (va_Pc As (gPre D T ws sz)) (gQi D T (va_A ws sz) r ws') 0 0 (va_A ws sz)
section WC
variable {p : Program} {l : Launch} {e : Env} {R : Room} {s : State} {m : MethodId} {args : Array Value} {below : List Frame} {meth : Method} {c : Code} {H : Heap} {locs : List Loc} {cells slots : Nat} {Q : State → Prop}
variable {cc : ByteArray} {nL : Nat} {ret : Option FieldType} {own : String} {D : va_G} {T : Nat → ClassId} {A : Nat → Prop} {pc : Nat} {ls : Array Slot} {rest : List Value} {H0 : Heap}
variable {x y : MethodName} {bts : ByteArray} {L n index mc ms : Nat} {rm : Room} {As st0 : List Value} {lv : List (Nat × Value)} {b : Nat} {U : Type} {ws : va_W} {ws' : U → va_W} {X : U → Heap → Prop} {ad : U → Nat} {C owner : String}
/-- a constant's own method that answers a cell -/
theorem gc_r {rt : FieldType} (S : gS p s m args meth c cc nL ret own D T) (hM : gM D A H0 ws H locs) (hl : lv_has ls nL lv) (As : List Value) (hO : ∃ cell : Cell, H[b]? = some cell ∧ cell.vm.isStatics = false ∧ s.vm.findClass C = some cell.cls) (hy : plainName y.cls = true) (hMet : ∀ sz, WMetR U l y bts L rt rm D T ws sz (.ref b :: As) ad ws' X mc ms)
    (q1 : Cond.methodLink own index x ∈ lw_all) (q2 : Cond.sameMethod x.cls owner x.name x.desc ∈ lw_all) (q3 : Cond.declares ⟨owner, x.name, x.desc⟩ ∈ lw_tbl) (ho : owner ≠ "java/lang/invoke/MethodHandle" ∧ owner ≠ "java/lang/invoke/VarHandle" ∧ (parseMethodDescriptor x.desc).map (fun d => d.parameters.length) = some n) (q4 : Cond.selects C x y ∈ lw_all) (q5 : Cond.instanceMethod y ∈ lw_all) (q6 : Cond.code y bts L (some rt) ∈ lw_all)
    (h0 : rm.cells = mc ∧ rm.slots = ms) (hR : Nat.ble (rm.frames + 1) R.frames = true ∧ Nat.ble (8 + (L + 11) + rm.locals) R.locals = true) (hn : As.length = n) (hst : st0 = As.reverse ++ .ref b :: rest) (hrm : Nat.ble (rest.map fun v => v.category).sum 8 = true) (hfit : cells + mc ≤ R.cells ∧ slots + ms ≤ R.slots) (hdg : decode cc pc = .ok (.invokevirtual index, 3))
    (kk : ∀ (u : U) (H1 : Heap) (locs1 : List Loc), gM D A H0 (ws' u) H1 locs1 → X u H1 → H.size ≤ H1.size → (∀ q : Nat, q < H.size → ¬ va_A ws H.size q → H1[q]? = H[q]?) → W p l e R s m args below meth c H1 locs1 (cells + mc) (slots + ms) Q (F0 m (pc + 3) ls (.ref (ad u) :: rest))) : W p l e R s m args below meth c H locs cells slots Q (F0 m pc ls st0) := by
  subst hst
  have hM' : gM D A H0 (ws ++ []) H locs := by rw [List.append_nil]; exact hM
  refine va_callr (va_runW (As := As) (rest := rest) S hl.1 hy (hMet H.size) ⟨gPre_blind, hO, g_pre S hM'⟩ q1 q2 q3 ho q4 q5 q6 h0 hR hn hrm hdg hfit) hM.2.2.1 (fun q _ h => g_free hM' q h) (g_free hM') ?_
  intro u a t H1 locs1 ht hvm hp hB hz hk hS
  obtain ⟨rfl, hB, hX⟩ := hB
  have h1 := g_back hM' ht hB hk hS
  rw [List.append_nil] at h1
  exact kk u H1 locs1 h1 (by rw [← ht]; exact hX) hz hk
/-- a constant's own method that answers a number -/
theorem gc_i {r : Int32} {ws1 : va_W} (S : gS p s m args meth c cc nL ret own D T) (hM : gM D A H0 ws H locs) (hl : lv_has ls nL lv) (As : List Value) (hO : ∃ cell : Cell, H[b]? = some cell ∧ cell.vm.isStatics = false ∧ s.vm.findClass C = some cell.cls) (hy : plainName y.cls = true) (hMet : ∀ sz, WMetI l y bts L rm D T ws sz (.ref b :: As) r ws1)
    (q1 : Cond.methodLink own index x ∈ lw_all) (q2 : Cond.sameMethod x.cls owner x.name x.desc ∈ lw_all) (q3 : Cond.declares ⟨owner, x.name, x.desc⟩ ∈ lw_tbl) (ho : owner ≠ "java/lang/invoke/MethodHandle" ∧ owner ≠ "java/lang/invoke/VarHandle" ∧ (parseMethodDescriptor x.desc).map (fun d => d.parameters.length) = some n) (q4 : Cond.selects C x y ∈ lw_all) (q5 : Cond.instanceMethod y ∈ lw_all) (q6 : Cond.code y bts L (some .int) ∈ lw_all)
    (h0 : rm.cells = 0 ∧ rm.slots = 0) (hR : Nat.ble (rm.frames + 1) R.frames = true ∧ Nat.ble (8 + (L + 11) + rm.locals) R.locals = true) (hn : As.length = n) (hst : st0 = As.reverse ++ .ref b :: rest) (hrm : Nat.ble (rest.map fun v => v.category).sum 8 = true) (hfit : cells + 0 ≤ R.cells ∧ slots + 0 ≤ R.slots) (hdg : decode cc pc = .ok (.invokevirtual index, 3))
    (kk : ∀ (H1 : Heap) (locs1 : List Loc), gM D A H0 ws1 H1 locs1 → W p l e R s m args below meth c H1 locs1 cells slots Q (F0 m (pc + 3) ls (.int r :: rest))) : W p l e R s m args below meth c H locs cells slots Q (F0 m pc ls st0) := by
  subst hst
  have hM' : gM D A H0 (ws ++ []) H locs := by rw [List.append_nil]; exact hM
  refine va_calli (va_runW (As := As) (rest := rest) S hl.1 hy (hMet H.size) ⟨gPre_blind, hO, g_pre S hM'⟩ q1 q2 q3 ho q4 q5 q6 h0 hR hn hrm hdg hfit) hM.2.2.1 (fun q _ h => g_free hM' q h) (g_free hM') ?_
  intro r' u t H1 locs1 ht hvm hp hB hz hk hS
  subst hp
  have h1 := g_back hM' ht hB hk hS
  rw [List.append_nil] at h1
  exact kk H1 locs1 h1
/-- the start of such a walk -/
theorem g_entryW {y : MethodName} {sz : Nat} {Qc : (Nat → Prop) → Array Value → State → Outcome → State → Prop} (hn : Nat.ble (lg_sl As).length nL = true)
    (body : ∀ p e s m below meth c ls, gS p s m As.toArray meth c cc nL ret y.cls D T → meth.name = y.name → s.methodNamed? y = some m → gM D (va_A ws s.heap.size) s.heap ws s.heap [] → lv_has ls nL (lv_args 0 As) →
      W p l e rm s m As.toArray below meth c s.heap [] 0 0 (MQ below (Qc (va_A ws s.heap.size)) As.toArray s mc ms (va_A ws s.heap.size)) (F0 m 0 ls [])) :
    WMet l y cc nL ret rm (va_Pc As (gPre D T ws sz)) (Qc (va_A ws sz)) mc ms (va_A ws sz) := by
  intro p e s m args below meth c hexec hnamed hmeth hret hlk hb hml hts hv
  obtain ⟨rfl, hsz, hP, hK, hD0, hG⟩ := hv
  subst hsz
  have hl := lv_entry As (n := nL) (Nat.le_of_ble_eq_true hn)
  rw [lg_entry_eq]
  exact body p e s m below meth c _ ⟨hexec, hb, hml, hret, hlk, findClass_of_methodNamed hnamed, hts, hK, hG⟩ (name_of_methodNamed hnamed hmeth).1 hnamed ⟨hP, hD0.self, va_S.rf, fun q h => Or.inr h⟩ hl
end WC
