/-! a lambda's site gives its class, its method, its links -/
set_option maxRecDepth 100000
/-- at a state where the site is linked: the class cK of its objects -/
theorem lm_at {U : State} {args : Array Value} {x : MethodName} {pcx idx : Nat} {σ : Lambda.Shape} {cK : ClassId} {bts : ByteArray} {fis : List (Nat × Nat)} {mi ci nt cu : Nat} {desc : String} {tys : Array FieldType} (h : U.lambdaAt? x pcx idx σ = some (cK, none)) (ok : lmOk σ x.cls bts fis mi ci nt cu desc tys) (hO : (Cond.instantiable "java/lang/Object" 0).before args U = true) :
    ∃ (d : ClassId) (k tk : Class) (file : ClassFile) (methk : Method) (ck : Code) (toy : ClassId) (t : MethodId), Lambda.isMade { classPath := fun _ => none } U.vm d σ cK = true ∧ U.lambdaCallable σ cK = true ∧
      U.vm.classes[cK]? = some k ∧ k.name = x.cls ++ "$$Lambda" ∧ k.cf = some file ∧ file.constantPool = (lmD σ x.cls).constantPool ∧
      U.vm.method? ⟨cK, 1⟩ = some methk ∧ methk.code = some ck ∧ ck.code = bts ∧ ck.maxLocals = 1 ∧ methk.locks = false ∧ methk.accessFlags = 0x0001 ∧ methk.sig.returnType = some .boolean ∧
      U.vm.findClass σ.implClass = some toy ∧ U.vm.classes[toy]? = some tk ∧ tk.isInterface = false ∧ ((methodIn toy σ.implName desc tk.isInterface none).ask { classPath := fun _ => none } U.vm).1 = .ok t ∧
      U.vm.methodReady cK mi t ∧ U.vm.classReady cK ci toy ∧ k.instanceTypes = tys ∧ k.kind = .ordinary ∧ k.init = .initialized ∧
      ∀ q ∈ fis.zipIdx, ∃ g : Field, U.vm.fieldReady cK q.1.1 cK g ∧ g.isStatic = false ∧ g.slot = q.2 := by
  obtain ⟨m, kS, cfS, i0, p0, lk, hm, hkS, -, -, -, -, hmade, hcan, -⟩ := State.lambdaAt?_spec h
  obtain ⟨kx, hkx, hnx⟩ := className_of_methodNamed hm
  cases hkS.symm.trans hkx
  have hO' : ∀ o ok, U.vm.findClass "java/lang/Object" = some o → U.vm.classes[o]? = some ok → ok.instanceTypes.size = 0 := by
    intro o ok ho hok
    obtain ⟨cO, kO, hfO, hkO, -, -, -, hsz⟩ := Cond.instantiable_spec hO
    cases hfO.symm.trans ho
    cases hkO.symm.trans hok
    exact hsz
  obtain ⟨k, tk, file, methk, ck, toy, t, r⟩ := lm_facts ok hkS hnx hmade hO'
  exact ⟨m.cls, k, tk, file, methk, ck, toy, t, hmade, hcan, r⟩
/-- its body, a static method y -/
theorem lm_stat {e : Env} {U : State} {args : Array Value} {x y : MethodName} {pcx idx n maxL : Nat} {σ : Lambda.Shape} {cK : ClassId} {bts bytes : ByteArray} {fis : List (Nat × Nat)} {mi ci nt cu : Nat} {desc : String} {tys : Array FieldType} {ret : Option FieldType} {sig : MethodDescriptor} (h : U.lambdaAt? x pcx idx σ = some (cK, none)) (ok : lmOk σ x.cls bts fis mi ci nt cu desc tys) (hO : (Cond.instantiable "java/lang/Object" 0).before args U = true)
    (hy : y = ⟨σ.implClass, σ.implName, desc⟩) (hyn : y.cls ≠ "java/lang/invoke/MethodHandle" ∧ y.cls ≠ "java/lang/invoke/VarHandle") (hcode : (Cond.code y bytes maxL ret).before args U = true) (hst : (Cond.static y).before args U = true) (hini : (Cond.initialized y.cls).before args U = true) (hsig : parseMethodDescriptor y.desc = some sig) (hn : sig.parameters.length = n) : lrSt e U cK mi y n := by
  obtain ⟨d, k, tk, file, methk, ck, toy, t, -, -, hk, -, hfile, hpool, -, -, -, -, -, -, -, htoy, htk, -, hlook, hready, hclsR, -⟩ := lm_at h ok hO
  obtain ⟨-, -, -, -, -, o6, o7, o8, -⟩ := ok
  subst hy
  cases hnB : U.methodNamed? ⟨σ.implClass, σ.implName, desc⟩ with
  | none => simp [Cond.before, Cond.holds, Cond.value, hnB] at hcode
  | some mB =>
  obtain ⟨methB, cB, hmB, -, -, -, -, -, -, hsigB⟩ := Cond.code_spec hnB hcode
  have hstaticB : methB.isStatic = true := Cond.static_spec hnB hmB hst
  have hfT : U.vm.findClass σ.implClass = some mB.cls := findClass_of_methodNamed hnB
  cases htoy.symm.trans hfT
  have hinitK : tk.init = .initialized := Cond.initialized_spec hfT htk hini
  obtain ⟨kT', hkT', hnameT⟩ := className_of_methodNamed hnB
  cases htk.symm.trans hkT'
  have htB : t = mB := by
    have h1 : U.methodFound? σ.implClass σ.implName desc = some mB := State.methodFound?_of_named hnB hyn
    simp only [State.methodFound?, hfT, htk, Option.bind_eq_bind, Option.bind_some] at h1
    rw [hlook] at h1
    exact Option.some.inj h1
  subst htB
  have hsp : ∀ z : Method, signaturePolymorphic tk z = false := fun z => by simp [signaturePolymorphic, hnameT, hyn.1, hyn.2]
  obtain ⟨b, hmem⟩ := memberRef_ask' (e := e) (vm := U.vm) (d := cK) (index := mi) hk hfile (Or.inl (by rw [hpool]; exact o6)) (by rw [hpool]; exact o8)
  exact ⟨t, tk, methB, ⟨ci, _, _, b, t.cls, tk, hmem, hclsR, htk, by simp [hsp]⟩, hready, htk, hmB, hsp _, hstaticB, hinitK, by rw [← Option.some.inj (hsig.symm.trans hsigB)]; exact hn, hnB⟩
/-- its body, a method y of the receiver's class -/
theorem lm_virt {l : Launch} {e : Env} (hadm : l.admits e) {U : State} {args : Array Value} {x y : MethodName} {pcx idx n maxL : Nat} {σ : Lambda.Shape} {cK cB : ClassId} {bts bytes : ByteArray} {fis : List (Nat × Nat)} {mi ci nt cu : Nat} {desc : String} {tys : Array FieldType} {ret : Option FieldType} {sig : MethodDescriptor} (h : U.lambdaAt? x pcx idx σ = some (cK, none)) (ok : lmOk σ x.cls bts fis mi ci nt cu desc tys) (hO : (Cond.instantiable "java/lang/Object" 0).before args U = true)
    (hy : y = ⟨σ.implClass, σ.implName, desc⟩) (hyn : y.cls ≠ "java/lang/invoke/MethodHandle" ∧ y.cls ≠ "java/lang/invoke/VarHandle") (hcode : (Cond.code y bytes maxL ret).before args U = true) (hinst : (Cond.instanceMethod y).before args U = true) (hsel : (Cond.selects y.cls y y).before args U = true) (hcB : U.vm.findClass y.cls = some cB) (hsig : parseMethodDescriptor y.desc = some sig) (hn : sig.parameters.length = n) : lrVt e U cK mi y cB n := by
  obtain ⟨d, k, tk, file, methk, ck, toy, t, -, -, hk, -, hfile, hpool, -, -, -, -, -, -, -, htoy, htk, hitf, hlook, hready, hclsR, -⟩ := lm_at h ok hO
  obtain ⟨-, -, -, -, -, o6, o7, o8, -⟩ := ok
  subst hy
  cases hcB.symm.trans htoy
  obtain ⟨mk, methM, hnamed, hmethM, hstM, hab⟩ := Cond.instanceMethod_spec hinst
  obtain ⟨methB, cB', hmB, -, -, -, -, -, -, hsigB⟩ := Cond.code_spec hnamed hcode
  cases hmB.symm.trans hmethM
  have htB : t = mk := by
    have h1 : U.methodFound? σ.implClass σ.implName desc = some mk := State.methodFound?_of_named hnamed hyn
    simp only [State.methodFound?, htoy, htk, Option.bind_eq_bind, Option.bind_some] at h1
    rw [hlook] at h1
    exact Option.some.inj h1
  subst htB
  obtain ⟨c2, r2, m2, q1, q2, q3, q4, kP, hkP, hkPi⟩ := Cond.selects_spec hsel
  cases hcB.symm.trans q1
  cases (State.methodFound?_of_named hnamed hyn).symm.trans q2
  cases hnamed.symm.trans q3
  obtain ⟨kT', hkT', hnameT⟩ := className_of_methodNamed hnamed
  have hsp : signaturePolymorphic kT' methM = false := by simp [signaturePolymorphic, hnameT, hyn.1, hyn.2]
  exact ⟨t, t, kT', kP, methM, methM, ⟨k, file, ci, nt, cB, tk, hk, hfile, by rw [hpool]; exact o6, hclsR, htk, hitf⟩, hready, hkT', hmB, hsp, hstM, by rw [← Option.some.inj (hsig.symm.trans hsigB)]; exact hn,
    by rw [Launch.admits_selectMethod hadm]; exact q4, hmB, hab, hkP, hkPi, hnamed⟩
