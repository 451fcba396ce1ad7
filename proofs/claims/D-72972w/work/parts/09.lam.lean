/-! THE LAMBDAS' OWN CLASSES: their one method loads what was captured and calls the body (after the worked proofs of lambdas in the library) -/
set_option maxRecDepth 100000
def lamS0 : Lambda.Shape := { iface := "SequenceBench$Condition", name := "holds", sam := ({ parameters := [], returnType := (Option.some Jvm.ClassFile.FieldType.boolean) } : Jvm.ClassFile.MethodDescriptor), captured := [(Jvm.ClassFile.FieldType.object "SequenceBench$Rig"), Jvm.ClassFile.FieldType.int], kind := 6, implClass := "SequenceBench$Direct", implName := "lambda$new$0", implDesc := ({ parameters := [(Jvm.ClassFile.FieldType.object "SequenceBench$Rig"), Jvm.ClassFile.FieldType.int], returnType := (Option.some Jvm.ClassFile.FieldType.boolean) } : Jvm.ClassFile.MethodDescriptor), implItf := false, inst := ({ parameters := [], returnType := (Option.some Jvm.ClassFile.FieldType.boolean) } : Jvm.ClassFile.MethodDescriptor) }
def lamS1 : Lambda.Shape := { iface := "SequenceBench$Condition", name := "holds", sam := ({ parameters := [], returnType := (Option.some Jvm.ClassFile.FieldType.boolean) } : Jvm.ClassFile.MethodDescriptor), captured := [(Jvm.ClassFile.FieldType.object "SequenceBench$Rig"), Jvm.ClassFile.FieldType.int], kind := 6, implClass := "SequenceBench$Direct", implName := "lambda$new$1", implDesc := ({ parameters := [(Jvm.ClassFile.FieldType.object "SequenceBench$Rig"), Jvm.ClassFile.FieldType.int], returnType := (Option.some Jvm.ClassFile.FieldType.boolean) } : Jvm.ClassFile.MethodDescriptor), implItf := false, inst := ({ parameters := [], returnType := (Option.some Jvm.ClassFile.FieldType.boolean) } : Jvm.ClassFile.MethodDescriptor) }
def lamS2 : Lambda.Shape := { iface := "SequenceBench$Condition", name := "holds", sam := ({ parameters := [], returnType := (Option.some Jvm.ClassFile.FieldType.boolean) } : Jvm.ClassFile.MethodDescriptor), captured := [(Jvm.ClassFile.FieldType.object "SequenceBench$Cascade"), Jvm.ClassFile.FieldType.int], kind := 5, implClass := "SequenceBench$Cascade", implName := "lambda$new$0", implDesc := ({ parameters := [Jvm.ClassFile.FieldType.int], returnType := (Option.some Jvm.ClassFile.FieldType.boolean) } : Jvm.ClassFile.MethodDescriptor), implItf := false, inst := ({ parameters := [], returnType := (Option.some Jvm.ClassFile.FieldType.boolean) } : Jvm.ClassFile.MethodDescriptor) }
def lamS3 : Lambda.Shape := { iface := "SequenceBench$Condition", name := "holds", sam := ({ parameters := [], returnType := (Option.some Jvm.ClassFile.FieldType.boolean) } : Jvm.ClassFile.MethodDescriptor), captured := [(Jvm.ClassFile.FieldType.object "SequenceBench$Cascade"), Jvm.ClassFile.FieldType.int, (Jvm.ClassFile.FieldType.object "SequenceBench$Rig"), Jvm.ClassFile.FieldType.int, Jvm.ClassFile.FieldType.boolean], kind := 5, implClass := "SequenceBench$Cascade", implName := "lambda$new$1", implDesc := ({ parameters := [Jvm.ClassFile.FieldType.int, (Jvm.ClassFile.FieldType.object "SequenceBench$Rig"), Jvm.ClassFile.FieldType.int, Jvm.ClassFile.FieldType.boolean], returnType := (Option.some Jvm.ClassFile.FieldType.boolean) } : Jvm.ClassFile.MethodDescriptor), implItf := false, inst := ({ parameters := [], returnType := (Option.some Jvm.ClassFile.FieldType.boolean) } : Jvm.ClassFile.MethodDescriptor) }
/-- a lambda's class file and what it lays -/
def lmD (σ : Lambda.Shape) (caller : String) : ClassFile := (σ.file caller).getD { minorVersion := 0, majorVersion := 0, constantPool := #[], accessFlags := 0, thisClass := 0, superClass := 0, interfaces := #[], fields := #[], methods := #[], attributes := #[] }
def lmF (σ : Lambda.Shape) (caller : String) : Method := ((layoutMethods (lmD σ caller)).bind (·[1]?)).getD default
def lmL (σ : Lambda.Shape) (caller : String) : Array Field × Array FieldType × Array FieldType := (layoutFields (lmD σ caller) 0).getD (#[], #[], #[])
theorem lm_file {σ : Lambda.Shape} {caller : String} (h : (σ.file caller).isSome = true) : σ.file caller = some (lmD σ caller) := by
  obtain ⟨x, hx⟩ := Option.isSome_iff_exists.mp h
  simp [lmD, hx]
theorem lm_laid {σ : Lambda.Shape} {caller : String} (h : (layoutFields (lmD σ caller) 0).isSome = true) : layoutFields (lmD σ caller) 0 = some (lmL σ caller) := by
  obtain ⟨x, hx⟩ := Option.isSome_iff_exists.mp h
  simp [lmL, hx]
theorem lm_second {σ : Lambda.Shape} {caller : String} (h : ((layoutMethods (lmD σ caller)).bind (·[1]?)).isSome = true) : ∀ ms, layoutMethods (lmD σ caller) = some ms → ms[1]? = some (lmF σ caller) := by
  intro ms hms
  obtain ⟨x, hx⟩ := Option.isSome_iff_exists.mp h
  have hf : lmF σ caller = x := by simp [lmF, hx]
  rw [hms] at hx
  rw [hf]
  exact hx
/-- what is computed of a lambda's class file: its code, the pool's entries of the fields (fi) and of the body (mi, ci) -/
def lmOk (σ : Lambda.Shape) (caller : String) (bts : ByteArray) (fis : List (Nat × Nat)) (mi ci nt cu : Nat) (desc : String) (tys : Array FieldType) : Prop :=
  (σ.file caller).isSome = true ∧ (layoutFields (lmD σ caller) 0).isSome = true ∧ ((layoutMethods (lmD σ caller)).bind (·[1]?)).isSome = true ∧
  ((lmF σ caller).code.map fun c => (c.code.data, c.maxLocals)) = some (bts.data, 1) ∧ ((lmF σ caller).accessFlags, (lmF σ caller).name, (lmF σ caller).sig.returnType) = (0x0001, "holds", some FieldType.boolean) ∧
  (lmD σ caller).constantPool[mi]? = some (.methodref ci nt) ∧ (lmD σ caller).constantPool.className? ci = some σ.implClass ∧ (lmD σ caller).constantPool.nameAndType? nt = some (σ.implName, desc) ∧
  ((lmD σ caller).constantPool[ci]? = some (.class_ cu) ∧ (lmD σ caller).constantPool.string? cu = some σ.implClass ∧ ci ≠ (lmD σ caller).thisClass) ∧ σ.implDesc.toString = desc ∧ (lmL σ caller).2.1 = tys ∧ σ.implItf = false ∧
  ∀ q ∈ fis.zipIdx, (lmD σ caller).constantPool[q.1.1]? = some (.fieldref 2 q.1.2) ∧ ∃ ds, (lmD σ caller).constantPool.nameAndType? q.1.2 = some (Lambda.fieldName q.2, ds) ∧ (lmL σ caller).1.findIdx? (·.name == Lambda.fieldName q.2) = some q.2 ∧ ((lmL σ caller).1[q.2]?).map (fun f => (f.isStatic, f.slot)) = some (false, q.2)
theorem lm_facts {e : Setting} {vm : Vm} {d c : ClassId} {dk : Class} {σ : Lambda.Shape} {caller : String} {bts : ByteArray} {fis : List (Nat × Nat)} {mi ci nt cu : Nat} {desc : String} {tys : Array FieldType} (ok : lmOk σ caller bts fis mi ci nt cu desc tys) (hd : vm.classes[d]? = some dk) (hname : dk.name = caller) (h : Lambda.isMade e vm d σ c = true)
    (hO : ∀ o ok, vm.findClass "java/lang/Object" = some o → vm.classes[o]? = some ok → ok.instanceTypes.size = 0) :
    ∃ (k tk : Class) (file : ClassFile) (methk : Method) (ck : Code) (toy : ClassId) (t : MethodId),
      vm.classes[c]? = some k ∧ k.name = caller ++ "$$Lambda" ∧ k.cf = some file ∧ file.constantPool = (lmD σ caller).constantPool ∧
      vm.method? ⟨c, 1⟩ = some methk ∧ methk.code = some ck ∧ ck.code = bts ∧ ck.maxLocals = 1 ∧ methk.locks = false ∧ methk.accessFlags = 0x0001 ∧ methk.sig.returnType = some .boolean ∧
      vm.findClass σ.implClass = some toy ∧ vm.classes[toy]? = some tk ∧ tk.isInterface = false ∧ ((methodIn toy σ.implName desc tk.isInterface none).ask e vm).1 = .ok t ∧
      vm.methodReady c mi t ∧ vm.classReady c ci toy ∧ k.instanceTypes = tys ∧ k.kind = .ordinary ∧ k.init = .initialized ∧
      ∀ q ∈ fis.zipIdx, ∃ g : Field, vm.fieldReady c q.1.1 c g ∧ g.isStatic = false ∧ g.slot = q.2 := by
  obtain ⟨o1, o2, o3, o4, o5, o6, o7, o8, ⟨o9, o10, o11⟩, o12, o13, o14, o15⟩ := ok
  obtain ⟨dk', k, ok, tk, file, cf, object, iface, toy, lay, methods, target, found, hd', hk, hfile, hcf, hobj, -, hok, hlay, hms, ht, htk, hg, -, hrec, -, -, -, hitf, hpool, hmeth, hfields, hty, hres, -⟩ := Lambda.isMade_spec h
  cases hd.symm.trans hd'
  rw [hname, lm_file o1] at hcf
  cases hcf
  have hok0 : ok.instanceTypes = #[] := Array.eq_empty_of_size_eq_zero (hO object ok hobj hok)
  rw [hO object ok hobj hok, lm_laid o2] at hlay
  cases hlay
  obtain ⟨b, hb, hsame⟩ := hmeth 1 _ (lm_second o3 methods hms)
  simp only [Lambda.sameMethod, Bool.and_eq_true, decide_eq_true_eq] at hsame
  obtain ⟨⟨hn, -, hsig, hfl⟩, hcode⟩ := hsame
  simp only [Prod.mk.injEq] at o5
  rw [o12] at hg
  cases hfc : (lmF σ caller).code with
  | none => rw [hfc] at o4; cases o4
  | some x =>
    cases hbc : b.code with
    | none => simp [hfc, hbc] at hcode
    | some y =>
      simp only [hfc, hbc, Bool.and_eq_true, decide_eq_true_eq] at hcode
      simp only [hfc, Option.map_some, Option.some.injEq, Prod.mk.injEq] at o4
      refine ⟨k, tk, file, b, y, toy, target, hk, by rw [hrec.1, hname], hfile, hpool.2.1, by simp [Vm.method?, hk, hb], hbc, ?_, by rw [← hcode.1.1.1.1.2.1]; exact o4.2, ?_, by rw [← hfl]; exact o5.1, by rw [← hsig]; exact o5.2.2, ht, htk, by rw [hitf]; exact o14, hg,
        ⟨k, hk, hres mi _ (Lambda.resolvedOf_method o6 o7 ht htk o8 hg)⟩, ⟨k, hk, hres ci _ (Lambda.resolvedOf_class o9 o11 o10 ht)⟩, by rw [hty.1, hok0, o13]; simp, hrec.2.1, hrec.2.2.2.2.2, ?_⟩
      · rw [← hcode.1.1.1.1.2.2]
        exact ByteArray.ext o4.1
      · simp [Method.locks, Method.isSynchronized, ← hfl, o5.1, hasFlag, Acc.synchronized]
      · intro q hq
        obtain ⟨p1, ds, p2, p3, p4⟩ := o15 q hq
        obtain ⟨g, hg0, hp⟩ := Option.map_eq_some_iff.mp p4
        simp only [Prod.mk.injEq] at hp
        exact ⟨g, ⟨k, q.2, k, hk, hres q.1.1 _ (Lambda.resolvedOf_field p1 p2 p3), hk, hfields _ _ hg0⟩, hp.1, hp.2⟩

def lmB0 : ByteArray := ⟨#[42, 180, 0, 17, 42, 180, 0, 19, 184, 0, 27, 172]⟩
theorem lmd0_0 : decode lmB0 0 = .ok (.aload_n 0, 1) := by decide +kernel
theorem lmd0_1 : decode lmB0 1 = .ok (.getfield 17, 3) := by decide +kernel
theorem lmd0_4 : decode lmB0 4 = .ok (.aload_n 0, 1) := by decide +kernel
theorem lmd0_5 : decode lmB0 5 = .ok (.getfield 19, 3) := by decide +kernel
theorem lmd0_8 : decode lmB0 8 = .ok (.invokestatic 27, 3) := by decide +kernel
theorem lmd0_11 : decode lmB0 11 = .ok (.ireturn, 1) := by decide +kernel
theorem lm_ok0 : lmOk lamS0 "SequenceBench$Direct" lmB0 [(17, 16), (19, 18)] 27 23 26 22 "(LSequenceBench$Rig;I)Z" #[.object "SequenceBench$Rig", .int] := by
  refine ⟨by decide +kernel, by decide +kernel, by decide +kernel, by decide +kernel, by decide +kernel, by decide +kernel, by decide +kernel, by decide +kernel, ⟨by decide +kernel, by decide +kernel, by decide +kernel⟩, by decide +kernel, by decide +kernel, by decide +kernel, ?_⟩
  intro q hq
  simp only [List.zipIdx_cons, List.zipIdx_nil, List.mem_cons, List.not_mem_nil, or_false] at hq
  rcases hq with rfl | rfl
  · exact ⟨by decide +kernel, "LSequenceBench$Rig;", by decide +kernel, by decide +kernel, by decide +kernel⟩
  · exact ⟨by decide +kernel, "I", by decide +kernel, by decide +kernel, by decide +kernel⟩
def lmB1 : ByteArray := ⟨#[42, 180, 0, 17, 42, 180, 0, 19, 184, 0, 27, 172]⟩
theorem lmd1_0 : decode lmB1 0 = .ok (.aload_n 0, 1) := by decide +kernel
theorem lmd1_1 : decode lmB1 1 = .ok (.getfield 17, 3) := by decide +kernel
theorem lmd1_4 : decode lmB1 4 = .ok (.aload_n 0, 1) := by decide +kernel
theorem lmd1_5 : decode lmB1 5 = .ok (.getfield 19, 3) := by decide +kernel
theorem lmd1_8 : decode lmB1 8 = .ok (.invokestatic 27, 3) := by decide +kernel
theorem lmd1_11 : decode lmB1 11 = .ok (.ireturn, 1) := by decide +kernel
theorem lm_ok1 : lmOk lamS1 "SequenceBench$Direct" lmB1 [(17, 16), (19, 18)] 27 23 26 22 "(LSequenceBench$Rig;I)Z" #[.object "SequenceBench$Rig", .int] := by
  refine ⟨by decide +kernel, by decide +kernel, by decide +kernel, by decide +kernel, by decide +kernel, by decide +kernel, by decide +kernel, by decide +kernel, ⟨by decide +kernel, by decide +kernel, by decide +kernel⟩, by decide +kernel, by decide +kernel, by decide +kernel, ?_⟩
  intro q hq
  simp only [List.zipIdx_cons, List.zipIdx_nil, List.mem_cons, List.not_mem_nil, or_false] at hq
  rcases hq with rfl | rfl
  · exact ⟨by decide +kernel, "LSequenceBench$Rig;", by decide +kernel, by decide +kernel, by decide +kernel⟩
  · exact ⟨by decide +kernel, "I", by decide +kernel, by decide +kernel, by decide +kernel⟩
def lmB2 : ByteArray := ⟨#[42, 180, 0, 17, 42, 180, 0, 19, 182, 0, 27, 172]⟩
theorem lmd2_0 : decode lmB2 0 = .ok (.aload_n 0, 1) := by decide +kernel
theorem lmd2_1 : decode lmB2 1 = .ok (.getfield 17, 3) := by decide +kernel
theorem lmd2_4 : decode lmB2 4 = .ok (.aload_n 0, 1) := by decide +kernel
theorem lmd2_5 : decode lmB2 5 = .ok (.getfield 19, 3) := by decide +kernel
theorem lmd2_8 : decode lmB2 8 = .ok (.invokevirtual 27, 3) := by decide +kernel
theorem lmd2_11 : decode lmB2 11 = .ok (.ireturn, 1) := by decide +kernel
theorem lm_ok2 : lmOk lamS2 "SequenceBench$Cascade" lmB2 [(17, 16), (19, 18)] 27 23 26 22 "(I)Z" #[.object "SequenceBench$Cascade", .int] := by
  refine ⟨by decide +kernel, by decide +kernel, by decide +kernel, by decide +kernel, by decide +kernel, by decide +kernel, by decide +kernel, by decide +kernel, ⟨by decide +kernel, by decide +kernel, by decide +kernel⟩, by decide +kernel, by decide +kernel, by decide +kernel, ?_⟩
  intro q hq
  simp only [List.zipIdx_cons, List.zipIdx_nil, List.mem_cons, List.not_mem_nil, or_false] at hq
  rcases hq with rfl | rfl
  · exact ⟨by decide +kernel, "LSequenceBench$Cascade;", by decide +kernel, by decide +kernel, by decide +kernel⟩
  · exact ⟨by decide +kernel, "I", by decide +kernel, by decide +kernel, by decide +kernel⟩
def lmB3 : ByteArray := ⟨#[42, 180, 0, 22, 42, 180, 0, 24, 42, 180, 0, 26, 42, 180, 0, 28, 42, 180, 0, 30, 182, 0, 38, 172]⟩
theorem lmd3_0 : decode lmB3 0 = .ok (.aload_n 0, 1) := by decide +kernel
theorem lmd3_1 : decode lmB3 1 = .ok (.getfield 22, 3) := by decide +kernel
theorem lmd3_4 : decode lmB3 4 = .ok (.aload_n 0, 1) := by decide +kernel
theorem lmd3_5 : decode lmB3 5 = .ok (.getfield 24, 3) := by decide +kernel
theorem lmd3_8 : decode lmB3 8 = .ok (.aload_n 0, 1) := by decide +kernel
theorem lmd3_9 : decode lmB3 9 = .ok (.getfield 26, 3) := by decide +kernel
theorem lmd3_12 : decode lmB3 12 = .ok (.aload_n 0, 1) := by decide +kernel
theorem lmd3_13 : decode lmB3 13 = .ok (.getfield 28, 3) := by decide +kernel
theorem lmd3_16 : decode lmB3 16 = .ok (.aload_n 0, 1) := by decide +kernel
theorem lmd3_17 : decode lmB3 17 = .ok (.getfield 30, 3) := by decide +kernel
theorem lmd3_20 : decode lmB3 20 = .ok (.invokevirtual 38, 3) := by decide +kernel
theorem lmd3_23 : decode lmB3 23 = .ok (.ireturn, 1) := by decide +kernel
theorem lm_ok3 : lmOk lamS3 "SequenceBench$Cascade" lmB3 [(22, 21), (24, 23), (26, 25), (28, 27), (30, 29)] 38 34 37 33 "(ILSequenceBench$Rig;IZ)Z" #[.object "SequenceBench$Cascade", .int, .object "SequenceBench$Rig", .int, .boolean] := by
  refine ⟨by decide +kernel, by decide +kernel, by decide +kernel, by decide +kernel, by decide +kernel, by decide +kernel, by decide +kernel, by decide +kernel, ⟨by decide +kernel, by decide +kernel, by decide +kernel⟩, by decide +kernel, by decide +kernel, by decide +kernel, ?_⟩
  intro q hq
  simp only [List.zipIdx_cons, List.zipIdx_nil, List.mem_cons, List.not_mem_nil, or_false] at hq
  rcases hq with rfl | rfl | rfl | rfl | rfl
  · exact ⟨by decide +kernel, "LSequenceBench$Cascade;", by decide +kernel, by decide +kernel, by decide +kernel⟩
  · exact ⟨by decide +kernel, "I", by decide +kernel, by decide +kernel, by decide +kernel⟩
  · exact ⟨by decide +kernel, "LSequenceBench$Rig;", by decide +kernel, by decide +kernel, by decide +kernel⟩
  · exact ⟨by decide +kernel, "I", by decide +kernel, by decide +kernel, by decide +kernel⟩
  · exact ⟨by decide +kernel, "Z", by decide +kernel, by decide +kernel, by decide +kernel⟩
