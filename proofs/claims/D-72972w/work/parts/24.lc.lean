/-! A LAMBDA's CALL as a row: S: its body is static, V: of the receiver's class; so many values captured (printed by a program) -/
set_option maxRecDepth 100000
section LC
variable {p : Program} {l : Launch} {e : Env} {R : Room} {s : State} {m : MethodId} {args : Array Value} {below : List Frame} {meth : Method} {c : Code} {H : Heap} {locs : List Loc} {Q : State → Prop}
variable {cc : ByteArray} {nL : Nat} {ret : Option FieldType} {own : String} {D : va_G} {T : Nat → ClassId} {A : Nat → Prop} {pc : Nat} {ls : Array Slot} {rest : List Value} {H0 : Heap} {ws ws1 : va_W} {lv : List (Nat × Value)}
set_option maxHeartbeats 4000000 in
theorem lc_S2 {σ : Lambda.Shape} {x y : MethodName} {pcx idx L mi ci nt cu index count la f0 n0 f1 n1 : Nat} {cK : ClassId} {bts bytes : ByteArray} {desc : String} {tys : Array FieldType} {sig : MethodDescriptor} {rm : Room} {r : Int32} {v0 v1 : Value} (S : gS p s m args meth c cc nL ret own D T) (hM : gM D A H0 ws H locs) (hl : lv_has ls nL lv)
    (hlam : s.lambdaAt? x pcx idx σ = some (cK, none)) (ok : lmOk σ x.cls bts [(f0, n0), (f1, n1)] mi ci nt cu desc tys) (hσ : σ.iface = cHolds.cls ∧ σ.name = cHolds.name ∧ σ.sam.toString = cHolds.desc) (hpn : plainName (x.cls ++ "$$Lambda") = true) (d0 : decode bts 0 = .ok (.aload_n 0, 1)) (d1 : decode bts 1 = .ok (.getfield f0, 3)) (d4 : decode bts 4 = .ok (.aload_n 0, 1)) (d5 : decode bts 5 = .ok (.getfield f1, 3)) (d8 : decode bts 8 = .ok (.invokestatic mi, 3)) (d11 : decode bts 11 = .ok (.ireturn, 1))
    (hcell : H[la]? = some { cls := cK, slots := #[v0, v1], vm := .none }) (hMet : ∀ sz, MetI l y (ws_ y bytes L (some .boolean)) rm D T ws sz [v0, v1] r ws1) (hy : y = ⟨σ.implClass, σ.implName, desc⟩) (hyn : y.cls ≠ "java/lang/invoke/MethodHandle" ∧ y.cls ≠ "java/lang/invoke/VarHandle") (hsig : parseMethodDescriptor y.desc = some sig) (hnp : sig.parameters.length = 2)
    (q2 : Cond.static y ∈ lw_all) (q3 : Cond.initialized y.cls ∈ lw_all) (q4 : Cond.code y bytes L (some .boolean) ∈ lw_all) (h0 : rm.cells = 0 ∧ rm.slots = 0) (hz : narrow .boolean (.int r) = .int r) (hlink : Cond.methodLink own index cHolds ∈ lw_all)
    (hR : Nat.ble (rm.frames + 2) R.frames = true ∧ Nat.ble (8 + (1 + 11) + (8 + (L + 11) + rm.locals)) R.locals = true) (hrm : Nat.ble (rest.map fun v => v.category).sum 8 = true) (hdg : decode cc pc = .ok (.invokeinterface index count, 5))
    (kk : ∀ (H1 : Heap) (locs1 : List Loc), gM D A H0 ws1 H1 locs1 → W p l e R s m args below meth c H1 locs1 0 0 Q (F0 m (pc + 5) ls (.int r :: rest))) : W p l e R s m args below meth c H locs 0 0 Q (F0 m pc ls (.ref la :: rest)) := by
  have hO := S.w _ q1837
  obtain ⟨d, k, tk, file, methk, ck, toy, t, hmade, hcan, hk, hkn, hfile, hpool, hmk, hck, hbts, hml, hlk, hfl, hret, -⟩ := lm_at hlam ok hO
  obtain ⟨r0, rr, hn, hrm0, hstR, hsigR⟩ := Cond.declares_spec (S.g.1 _ q1282 rfl)
  obtain ⟨cL, kL, r1, hcL, hkL, hiL, hfoundL, hn1⟩ := Cond.interfaceMethod_spec S.g.2.2.2.2
  cases hn.symm.trans hn1
  have hr0cls : r0.cls = cL := Option.some.inj ((findClass_of_methodNamed hn).symm.trans hcL)
  obtain ⟨hnameR, hdescR⟩ := name_of_methodNamed hn hrm0
  obtain ⟨dk', k', ok', tk', file', cfK, object, iface', t', lay, methods, tgt, found, -, -, -, -, -, hi', -, -, -, -, -, -, hfound', -, -, -, -, -, -, -, -, -, -, hsel⟩ := Lambda.isMade_spec hmade
  have e1 : iface' = cL := by
    rw [hσ.1] at hi'
    exact Option.some.inj (hi'.symm.trans hcL)
  have e2 : found = r0 := by
    have h1 := hfoundL
    simp only [State.methodFound?, hcL, hkL, Option.bind_eq_bind, Option.bind_some, hiL] at h1
    rw [e1, hσ.2.1, hσ.2.2] at hfound'
    rw [hfound'] at h1
    exact Option.some.inj h1
  obtain ⟨i2, hi2, hasg, hway⟩ := State.lambdaCallable_spec hcan
  have e3 : i2 = r0.cls := by
    rw [hσ.1] at hi2
    rw [hr0cls]
    exact Option.some.inj (hi2.symm.trans hcL)
  have hway2 : ((cK :: s.vm.superclasses cK).any fun k => (declaredIn s.vm rr.name rr.desc k).any fun (_, y) => y.isPrivate || y.isStatic) = false := by
    have h := hway
    rw [hσ.2.1, hσ.2.2] at h
    rw [hnameR, hdescR]
    exact h
  have hpay := pay_in S.w lw_self
  have hM' : gM D A H0 (ws ++ []) H locs := by rw [List.append_nil]; exact hM
  have hlen : 0 = rr.sig.parameters.length := by
    have h1 : parseMethodDescriptor cHolds.desc = some ⟨[], some .boolean⟩ := by decide +kernel
    rw [← Option.some.inj (h1.symm.trans hsigR)]
    rfl
  refine va_callFi (lr_enter (R' := { frames := rm.frames + 1, cells := 0, slots := 0, locals := 8 + (L + 11) + rm.locals }) (Qc := gQi D T (va_A ws H.size) r ws1) (free := va_A ws H.size) S.x S.b (by rw [S.2.2.1]; exact hl.1) S.o (S.w _ hlink) hn hrm0 hstR (by rw [hr0cls]; exact hkL) hiL (by decide) hcell (fun z h => by cases h) hk (by rw [hkn]; exact hpn) (mk := ⟨cK, 1⟩) rfl (by rw [← e3]; exact hasg) (by rw [← e2]; exact hsel) hmk hck hlk
    hway2 (by rw [hfl]; decide) (by simp [Method.isAbstract, hfl, hasFlag, Acc.abstract]) hlen hrm hdg (Nat.le_of_ble_eq_true hR.1) (by rw [hml]; exact Nat.le_of_ble_eq_true hR.2) rfl rfl ⟨Nat.zero_le _, Nat.zero_le _⟩ ?_) hM.2.2.1 (fun q _ h => g_free hM' q h) (g_free hM') ?_
  · intro T1 hT1 hW1
    rw [hml]
    show W _ _ _ _ _ _ _ _ _ _ _ _ _ _ _ (entryFrame ⟨cK, 1⟩ ([.ref la] : List Value).toArray 1)
    have hl0 := lv_entry [.ref la] (n := 1) (Nat.le_refl 1)
    rw [lg_entry_eq]
    generalize (lg_sl ([.ref la]) ++ List.replicate (1 - (lg_sl ([.ref la])).length) Slot.unset).toArray = ls0 at hl0 ⊢
    have hl0 : lv_has ls0 1 [(0, .ref la)] := hl0
    have hfld : ∀ q ∈ ([(f0, n0), (f1, n1)] : List (Nat × Nat)).zipIdx, ∀ U : State, (T1.calling (F0 m pc ls rest) ⟨cK, 1⟩ #[.ref la]).WarmedH U.vm → ∃ g : Field, U.vm.fieldReady cK q.1.1 cK g ∧ g.isStatic = false ∧ g.slot = q.2 := by
      intro q hq U hU
      have hWU : s.WarmedH U.vm := State.WarmedH.trans hW1 hU
      obtain ⟨d', k', tk', file', methk', ck', toy', t', -, -, -, -, -, -, -, -, -, -, -, -, -, -, -, -, -, -, -, -, -, -, hf⟩ := lm_at (lam_warm hWU hlam) ok (hpay _ q1837 #[] U hWU)
      exact hf q hq
    refine lv_aload_n S.x hbts d0 rfl (lv_at hl0 0 rfl) ?_
    refine lr_get S.x hbts (hfld ((f0, n0), 0) (by simp [List.zipIdx_cons])) hcell (fun h => by cases h) (v := v0) rfl d1 ?_
    refine lv_aload_n S.x hbts d4 rfl (lv_at hl0 0 rfl) ?_
    refine lr_get S.x hbts (hfld ((f1, n1), 1) (by simp [List.zipIdx_cons])) hcell (fun h => by cases h) (v := v1) rfl d5 ?_
    have hK : Back l { frames := rm.frames + 1, cells := 0, slots := 0, locals := 8 + (L + 11) + rm.locals } p e (.java (F0 m pc ls rest) :: below) (T1.calling (F0 m pc ls rest) ⟨cK, 1⟩ #[.ref la]) #[.ref la] y 3 8 (PreOf { frames := rm.frames + 1, cells := 0, slots := 0, locals := 8 + (L + 11) + rm.locals } 0 0 (va_Pc [v0, v1] (gPre D T ws H.size))) (PostOf (gQi D T (va_A ws H.size) r ws1) 0 0 (va_A ws H.size)) :=
      back_of (bytes := bytes) (maxL := L) (ret := some .boolean) (hMet H.size) gPre_blind h0.1 h0.2 (Nat.le_refl _) (Nat.le_refl _) (fun w hw a' U hU => by
        rcases List.mem_cons.mp hw with e | e
        · rw [e]; exact hpay _ q4 a' U (State.WarmedH.trans hW1 hU)
        · exact hpay _ e a' U (State.WarmedH.trans hW1 hU)) List.mem_cons_self (fun a' U hU => hpay _ q3 a' U (State.WarmedH.trans hW1 hU))
    have hPre : ∀ U : State, U.heap = H → (T1.calling (F0 m pc ls rest) ⟨cK, 1⟩ #[.ref la]).WarmedH U.vm → va_Pc [v0, v1] (gPre D T ws H.size) ([v0, v1] : List Value).toArray U := fun U hU hWU => g_pre (wr := []) S hM' U hU (State.WarmedH.trans hW1 hWU)
    refine va_calli (lr_runS (nL := 0) (As := [v0, v1]) (rest := []) (n := 2) S.x hbts (fun U hU => lm_stat (lam_warm (State.WarmedH.trans hW1 hU) hlam) ok (hpay _ q1837 #[] U (State.WarmedH.trans hW1 hU)) hy hyn (hpay _ q4 #[] U (State.WarmedH.trans hW1 hU)) (hpay _ q2 #[] U (State.WarmedH.trans hW1 hU)) (hpay _ q3 #[] U (State.WarmedH.trans hW1 hU)) hsig hnp) (by rw [hml]; exact hl0.1) hK hPre rfl rfl rfl d8 ⟨Nat.le_refl _, Nat.le_refl _⟩) (va_S.rf (A := va_A ws H.size) (H0 := H)) (fun q _ h => h) (fun q h => h) ?_
    intro r' u t1 H1 locs1 ht hvm hp hB hz1 hk1 hS1
    subst hp
    exact W.zret S.x hbts hret hz (fun t ht2 hWt => ⟨⟨_, (), rfl, rfl, by rw [ht2, ← ht]; exact hB.1, va_K.moved (State.WarmedH.trans hW1 hWt).alike S.k, hB.2.2⟩, va_S.F (s := T1.calling (F0 m pc ls rest) ⟨cK, 1⟩ #[.ref la]) (by show va_S _ T1.heap _ _; rw [hT1]; exact hS1) ht2⟩) hS1.2.2 d11 hlk
  · intro r' u t1 H1 locs1 ht hvm hp hB hz1 hk1 hS1
    subst hp
    have h2 := g_back hM' ht hB hk1 hS1
    rw [List.append_nil] at h2
    exact kk H1 locs1 h2
set_option maxHeartbeats 4000000 in
theorem lc_V2 {σ : Lambda.Shape} {x y : MethodName} {pcx idx L mi ci nt cu index count la f0 n0 f1 n1 : Nat} {cK : ClassId} {bts bytes : ByteArray} {desc : String} {tys : Array FieldType} {sig : MethodDescriptor} {rm : Room} {r : Int32} {b : Nat} {v1 : Value} (S : gS p s m args meth c cc nL ret own D T) (hM : gM D A H0 ws H locs) (hl : lv_has ls nL lv)
    (hlam : s.lambdaAt? x pcx idx σ = some (cK, none)) (ok : lmOk σ x.cls bts [(f0, n0), (f1, n1)] mi ci nt cu desc tys) (hσ : σ.iface = cHolds.cls ∧ σ.name = cHolds.name ∧ σ.sam.toString = cHolds.desc) (hpn : plainName (x.cls ++ "$$Lambda") = true) (d0 : decode bts 0 = .ok (.aload_n 0, 1)) (d1 : decode bts 1 = .ok (.getfield f0, 3)) (d4 : decode bts 4 = .ok (.aload_n 0, 1)) (d5 : decode bts 5 = .ok (.getfield f1, 3)) (d8 : decode bts 8 = .ok (.invokevirtual mi, 3)) (d11 : decode bts 11 = .ok (.ireturn, 1))
    (hcell : H[la]? = some { cls := cK, slots := #[.ref b, v1], vm := .none }) (hMet : ∀ sz, MetI l y (ws_ y bytes L (some .boolean)) rm D T ws sz (.ref b :: [v1]) r ws1) (hy : y = ⟨σ.implClass, σ.implName, desc⟩) (hyn : y.cls ≠ "java/lang/invoke/MethodHandle" ∧ y.cls ≠ "java/lang/invoke/VarHandle") (hsig : parseMethodDescriptor y.desc = some sig) (hnp : sig.parameters.length = 1)
    (q2 : Cond.instanceMethod y ∈ lw_all) (q2s : Cond.selects y.cls y y ∈ lw_all) {Tt : u_T} {Nf cib : Nat} (hcb : gCl[cib]? = some (y.cls, Tt, Nf)) (heb : ∃ (q0 : Nat) (fs : List Value), ws[q0]? = some (b, .inr (cib, fs))) (q3 : Cond.initialized y.cls ∈ lw_all) (q4 : Cond.code y bytes L (some .boolean) ∈ lw_all) (h0 : rm.cells = 0 ∧ rm.slots = 0) (hz : narrow .boolean (.int r) = .int r) (hlink : Cond.methodLink own index cHolds ∈ lw_all)
    (hR : Nat.ble (rm.frames + 2) R.frames = true ∧ Nat.ble (8 + (1 + 11) + (8 + (L + 11) + rm.locals)) R.locals = true) (hrm : Nat.ble (rest.map fun v => v.category).sum 8 = true) (hdg : decode cc pc = .ok (.invokeinterface index count, 5))
    (kk : ∀ (H1 : Heap) (locs1 : List Loc), gM D A H0 ws1 H1 locs1 → W p l e R s m args below meth c H1 locs1 0 0 Q (F0 m (pc + 5) ls (.int r :: rest))) : W p l e R s m args below meth c H locs 0 0 Q (F0 m pc ls (.ref la :: rest)) := by
  have hO := S.w _ q1837
  obtain ⟨d, k, tk, file, methk, ck, toy, t, hmade, hcan, hk, hkn, hfile, hpool, hmk, hck, hbts, hml, hlk, hfl, hret, -⟩ := lm_at hlam ok hO
  obtain ⟨r0, rr, hn, hrm0, hstR, hsigR⟩ := Cond.declares_spec (S.g.1 _ q1282 rfl)
  obtain ⟨cL, kL, r1, hcL, hkL, hiL, hfoundL, hn1⟩ := Cond.interfaceMethod_spec S.g.2.2.2.2
  cases hn.symm.trans hn1
  have hr0cls : r0.cls = cL := Option.some.inj ((findClass_of_methodNamed hn).symm.trans hcL)
  obtain ⟨hnameR, hdescR⟩ := name_of_methodNamed hn hrm0
  obtain ⟨dk', k', ok', tk', file', cfK, object, iface', t', lay, methods, tgt, found, -, -, -, -, -, hi', -, -, -, -, -, -, hfound', -, -, -, -, -, -, -, -, -, -, hsel⟩ := Lambda.isMade_spec hmade
  have e1 : iface' = cL := by
    rw [hσ.1] at hi'
    exact Option.some.inj (hi'.symm.trans hcL)
  have e2 : found = r0 := by
    have h1 := hfoundL
    simp only [State.methodFound?, hcL, hkL, Option.bind_eq_bind, Option.bind_some, hiL] at h1
    rw [e1, hσ.2.1, hσ.2.2] at hfound'
    rw [hfound'] at h1
    exact Option.some.inj h1
  obtain ⟨i2, hi2, hasg, hway⟩ := State.lambdaCallable_spec hcan
  have e3 : i2 = r0.cls := by
    rw [hσ.1] at hi2
    rw [hr0cls]
    exact Option.some.inj (hi2.symm.trans hcL)
  have hway2 : ((cK :: s.vm.superclasses cK).any fun k => (declaredIn s.vm rr.name rr.desc k).any fun (_, y) => y.isPrivate || y.isStatic) = false := by
    have h := hway
    rw [hσ.2.1, hσ.2.2] at h
    rw [hnameR, hdescR]
    exact h
  have hpay := pay_in S.w lw_self
  have hM' : gM D A H0 (ws ++ []) H locs := by rw [List.append_nil]; exact hM
  have hlen : 0 = rr.sig.parameters.length := by
    have h1 : parseMethodDescriptor cHolds.desc = some ⟨[], some .boolean⟩ := by decide +kernel
    rw [← Option.some.inj (h1.symm.trans hsigR)]
    rfl
  refine va_callFi (lr_enter (R' := { frames := rm.frames + 1, cells := 0, slots := 0, locals := 8 + (L + 11) + rm.locals }) (Qc := gQi D T (va_A ws H.size) r ws1) (free := va_A ws H.size) S.x S.b (by rw [S.2.2.1]; exact hl.1) S.o (S.w _ hlink) hn hrm0 hstR (by rw [hr0cls]; exact hkL) hiL (by decide) hcell (fun z h => by cases h) hk (by rw [hkn]; exact hpn) (mk := ⟨cK, 1⟩) rfl (by rw [← e3]; exact hasg) (by rw [← e2]; exact hsel) hmk hck hlk
    hway2 (by rw [hfl]; decide) (by simp [Method.isAbstract, hfl, hasFlag, Acc.abstract]) hlen hrm hdg (Nat.le_of_ble_eq_true hR.1) (by rw [hml]; exact Nat.le_of_ble_eq_true hR.2) rfl rfl ⟨Nat.zero_le _, Nat.zero_le _⟩ ?_) hM.2.2.1 (fun q _ h => g_free hM' q h) (g_free hM') ?_
  · intro T1 hT1 hW1
    rw [hml]
    show W _ _ _ _ _ _ _ _ _ _ _ _ _ _ _ (entryFrame ⟨cK, 1⟩ ([.ref la] : List Value).toArray 1)
    have hl0 := lv_entry [.ref la] (n := 1) (Nat.le_refl 1)
    rw [lg_entry_eq]
    generalize (lg_sl ([.ref la]) ++ List.replicate (1 - (lg_sl ([.ref la])).length) Slot.unset).toArray = ls0 at hl0 ⊢
    have hl0 : lv_has ls0 1 [(0, .ref la)] := hl0
    have hfld : ∀ q ∈ ([(f0, n0), (f1, n1)] : List (Nat × Nat)).zipIdx, ∀ U : State, (T1.calling (F0 m pc ls rest) ⟨cK, 1⟩ #[.ref la]).WarmedH U.vm → ∃ g : Field, U.vm.fieldReady cK q.1.1 cK g ∧ g.isStatic = false ∧ g.slot = q.2 := by
      intro q hq U hU
      have hWU : s.WarmedH U.vm := State.WarmedH.trans hW1 hU
      obtain ⟨d', k', tk', file', methk', ck', toy', t', -, -, -, -, -, -, -, -, -, -, -, -, -, -, -, -, -, -, -, -, -, -, hf⟩ := lm_at (lam_warm hWU hlam) ok (hpay _ q1837 #[] U hWU)
      exact hf q hq
    refine lv_aload_n S.x hbts d0 rfl (lv_at hl0 0 rfl) ?_
    refine lr_get S.x hbts (hfld ((f0, n0), 0) (by simp [List.zipIdx_cons])) hcell (fun h => by cases h) (v := .ref b) rfl d1 ?_
    refine lv_aload_n S.x hbts d4 rfl (lv_at hl0 0 rfl) ?_
    refine lr_get S.x hbts (hfld ((f1, n1), 1) (by simp [List.zipIdx_cons])) hcell (fun h => by cases h) (v := v1) rfl d5 ?_
    have hK : Back l { frames := rm.frames + 1, cells := 0, slots := 0, locals := 8 + (L + 11) + rm.locals } p e (.java (F0 m pc ls rest) :: below) (T1.calling (F0 m pc ls rest) ⟨cK, 1⟩ #[.ref la]) #[.ref la] y 3 8 (PreOf { frames := rm.frames + 1, cells := 0, slots := 0, locals := 8 + (L + 11) + rm.locals } 0 0 (va_Pc (.ref b :: [v1]) (gPre D T ws H.size))) (PostOf (gQi D T (va_A ws H.size) r ws1) 0 0 (va_A ws H.size)) :=
      back_of (bytes := bytes) (maxL := L) (ret := some .boolean) (hMet H.size) gPre_blind h0.1 h0.2 (Nat.le_refl _) (Nat.le_refl _) (fun w hw a' U hU => by
        rcases List.mem_cons.mp hw with e | e
        · rw [e]; exact hpay _ q4 a' U (State.WarmedH.trans hW1 hU)
        · exact hpay _ e a' U (State.WarmedH.trans hW1 hU)) List.mem_cons_self (fun a' U hU => hpay _ q3 a' U (State.WarmedH.trans hW1 hU))
    have hPre : ∀ U : State, U.heap = H → (T1.calling (F0 m pc ls rest) ⟨cK, 1⟩ #[.ref la]).WarmedH U.vm → va_Pc (.ref b :: [v1]) (gPre D T ws H.size) ((.ref b :: [v1]) : List Value).toArray U := fun U hU hWU => g_pre (wr := []) S hM' U hU (State.WarmedH.trans hW1 hWU)
    obtain ⟨q0, fs, heb⟩ := heb
    obtain ⟨cellB, hcB, hoB, hclB⟩ := va_recv S.k hM.1 hcb heb
    refine va_calli (lr_runV (As := [v1]) (rest := []) (n := 1) (cell := cellB) S.x hbts (fun hadm U hU => lm_virt hadm (lam_warm (State.WarmedH.trans hW1 hU) hlam) ok (hpay _ q1837 #[] U (State.WarmedH.trans hW1 hU)) hy hyn (hpay _ q4 #[] U (State.WarmedH.trans hW1 hU)) (hpay _ q2 #[] U (State.WarmedH.trans hW1 hU)) (hpay _ q2s #[] U (State.WarmedH.trans hW1 hU)) (by rw [(State.WarmedH.trans hW1 hU).alike.findClass]; exact hclB) hsig hnp) (by rw [hml]; exact hl0.1) hcB (fun z h => by rw [h] at hoB; cases hoB) hK hPre rfl rfl rfl d8 ⟨Nat.le_refl _, Nat.le_refl _⟩) (va_S.rf (A := va_A ws H.size) (H0 := H)) (fun q _ h => h) (fun q h => h) ?_
    intro r' u t1 H1 locs1 ht hvm hp hB hz1 hk1 hS1
    subst hp
    exact W.zret S.x hbts hret hz (fun t ht2 hWt => ⟨⟨_, (), rfl, rfl, by rw [ht2, ← ht]; exact hB.1, va_K.moved (State.WarmedH.trans hW1 hWt).alike S.k, hB.2.2⟩, va_S.F (s := T1.calling (F0 m pc ls rest) ⟨cK, 1⟩ #[.ref la]) (by show va_S _ T1.heap _ _; rw [hT1]; exact hS1) ht2⟩) hS1.2.2 d11 hlk
  · intro r' u t1 H1 locs1 ht hvm hp hB hz1 hk1 hS1
    subst hp
    have h2 := g_back hM' ht hB hk1 hS1
    rw [List.append_nil] at h2
    exact kk H1 locs1 h2
set_option maxHeartbeats 4000000 in
theorem lc_V5 {σ : Lambda.Shape} {x y : MethodName} {pcx idx L mi ci nt cu index count la f0 n0 f1 n1 f2 n2 f3 n3 f4 n4 : Nat} {cK : ClassId} {bts bytes : ByteArray} {desc : String} {tys : Array FieldType} {sig : MethodDescriptor} {rm : Room} {r : Int32} {b : Nat} {v1 v2 v3 v4 : Value} (S : gS p s m args meth c cc nL ret own D T) (hM : gM D A H0 ws H locs) (hl : lv_has ls nL lv)
    (hlam : s.lambdaAt? x pcx idx σ = some (cK, none)) (ok : lmOk σ x.cls bts [(f0, n0), (f1, n1), (f2, n2), (f3, n3), (f4, n4)] mi ci nt cu desc tys) (hσ : σ.iface = cHolds.cls ∧ σ.name = cHolds.name ∧ σ.sam.toString = cHolds.desc) (hpn : plainName (x.cls ++ "$$Lambda") = true) (d0 : decode bts 0 = .ok (.aload_n 0, 1)) (d1 : decode bts 1 = .ok (.getfield f0, 3)) (d4 : decode bts 4 = .ok (.aload_n 0, 1)) (d5 : decode bts 5 = .ok (.getfield f1, 3)) (d8 : decode bts 8 = .ok (.aload_n 0, 1)) (d9 : decode bts 9 = .ok (.getfield f2, 3)) (d12 : decode bts 12 = .ok (.aload_n 0, 1)) (d13 : decode bts 13 = .ok (.getfield f3, 3)) (d16 : decode bts 16 = .ok (.aload_n 0, 1)) (d17 : decode bts 17 = .ok (.getfield f4, 3)) (d20 : decode bts 20 = .ok (.invokevirtual mi, 3)) (d23 : decode bts 23 = .ok (.ireturn, 1))
    (hcell : H[la]? = some { cls := cK, slots := #[.ref b, v1, v2, v3, v4], vm := .none }) (hMet : ∀ sz, MetI l y (ws_ y bytes L (some .boolean)) rm D T ws sz (.ref b :: [v1, v2, v3, v4]) r ws1) (hy : y = ⟨σ.implClass, σ.implName, desc⟩) (hyn : y.cls ≠ "java/lang/invoke/MethodHandle" ∧ y.cls ≠ "java/lang/invoke/VarHandle") (hsig : parseMethodDescriptor y.desc = some sig) (hnp : sig.parameters.length = 4)
    (q2 : Cond.instanceMethod y ∈ lw_all) (q2s : Cond.selects y.cls y y ∈ lw_all) {Tt : u_T} {Nf cib : Nat} (hcb : gCl[cib]? = some (y.cls, Tt, Nf)) (heb : ∃ (q0 : Nat) (fs : List Value), ws[q0]? = some (b, .inr (cib, fs))) (q3 : Cond.initialized y.cls ∈ lw_all) (q4 : Cond.code y bytes L (some .boolean) ∈ lw_all) (h0 : rm.cells = 0 ∧ rm.slots = 0) (hz : narrow .boolean (.int r) = .int r) (hlink : Cond.methodLink own index cHolds ∈ lw_all)
    (hR : Nat.ble (rm.frames + 2) R.frames = true ∧ Nat.ble (8 + (1 + 11) + (8 + (L + 11) + rm.locals)) R.locals = true) (hrm : Nat.ble (rest.map fun v => v.category).sum 8 = true) (hdg : decode cc pc = .ok (.invokeinterface index count, 5))
    (kk : ∀ (H1 : Heap) (locs1 : List Loc), gM D A H0 ws1 H1 locs1 → W p l e R s m args below meth c H1 locs1 0 0 Q (F0 m (pc + 5) ls (.int r :: rest))) : W p l e R s m args below meth c H locs 0 0 Q (F0 m pc ls (.ref la :: rest)) := by
  have hO := S.w _ q1837
  obtain ⟨d, k, tk, file, methk, ck, toy, t, hmade, hcan, hk, hkn, hfile, hpool, hmk, hck, hbts, hml, hlk, hfl, hret, -⟩ := lm_at hlam ok hO
  obtain ⟨r0, rr, hn, hrm0, hstR, hsigR⟩ := Cond.declares_spec (S.g.1 _ q1282 rfl)
  obtain ⟨cL, kL, r1, hcL, hkL, hiL, hfoundL, hn1⟩ := Cond.interfaceMethod_spec S.g.2.2.2.2
  cases hn.symm.trans hn1
  have hr0cls : r0.cls = cL := Option.some.inj ((findClass_of_methodNamed hn).symm.trans hcL)
  obtain ⟨hnameR, hdescR⟩ := name_of_methodNamed hn hrm0
  obtain ⟨dk', k', ok', tk', file', cfK, object, iface', t', lay, methods, tgt, found, -, -, -, -, -, hi', -, -, -, -, -, -, hfound', -, -, -, -, -, -, -, -, -, -, hsel⟩ := Lambda.isMade_spec hmade
  have e1 : iface' = cL := by
    rw [hσ.1] at hi'
    exact Option.some.inj (hi'.symm.trans hcL)
  have e2 : found = r0 := by
    have h1 := hfoundL
    simp only [State.methodFound?, hcL, hkL, Option.bind_eq_bind, Option.bind_some, hiL] at h1
    rw [e1, hσ.2.1, hσ.2.2] at hfound'
    rw [hfound'] at h1
    exact Option.some.inj h1
  obtain ⟨i2, hi2, hasg, hway⟩ := State.lambdaCallable_spec hcan
  have e3 : i2 = r0.cls := by
    rw [hσ.1] at hi2
    rw [hr0cls]
    exact Option.some.inj (hi2.symm.trans hcL)
  have hway2 : ((cK :: s.vm.superclasses cK).any fun k => (declaredIn s.vm rr.name rr.desc k).any fun (_, y) => y.isPrivate || y.isStatic) = false := by
    have h := hway
    rw [hσ.2.1, hσ.2.2] at h
    rw [hnameR, hdescR]
    exact h
  have hpay := pay_in S.w lw_self
  have hM' : gM D A H0 (ws ++ []) H locs := by rw [List.append_nil]; exact hM
  have hlen : 0 = rr.sig.parameters.length := by
    have h1 : parseMethodDescriptor cHolds.desc = some ⟨[], some .boolean⟩ := by decide +kernel
    rw [← Option.some.inj (h1.symm.trans hsigR)]
    rfl
  refine va_callFi (lr_enter (R' := { frames := rm.frames + 1, cells := 0, slots := 0, locals := 8 + (L + 11) + rm.locals }) (Qc := gQi D T (va_A ws H.size) r ws1) (free := va_A ws H.size) S.x S.b (by rw [S.2.2.1]; exact hl.1) S.o (S.w _ hlink) hn hrm0 hstR (by rw [hr0cls]; exact hkL) hiL (by decide) hcell (fun z h => by cases h) hk (by rw [hkn]; exact hpn) (mk := ⟨cK, 1⟩) rfl (by rw [← e3]; exact hasg) (by rw [← e2]; exact hsel) hmk hck hlk
    hway2 (by rw [hfl]; decide) (by simp [Method.isAbstract, hfl, hasFlag, Acc.abstract]) hlen hrm hdg (Nat.le_of_ble_eq_true hR.1) (by rw [hml]; exact Nat.le_of_ble_eq_true hR.2) rfl rfl ⟨Nat.zero_le _, Nat.zero_le _⟩ ?_) hM.2.2.1 (fun q _ h => g_free hM' q h) (g_free hM') ?_
  · intro T1 hT1 hW1
    rw [hml]
    show W _ _ _ _ _ _ _ _ _ _ _ _ _ _ _ (entryFrame ⟨cK, 1⟩ ([.ref la] : List Value).toArray 1)
    have hl0 := lv_entry [.ref la] (n := 1) (Nat.le_refl 1)
    rw [lg_entry_eq]
    generalize (lg_sl ([.ref la]) ++ List.replicate (1 - (lg_sl ([.ref la])).length) Slot.unset).toArray = ls0 at hl0 ⊢
    have hl0 : lv_has ls0 1 [(0, .ref la)] := hl0
    have hfld : ∀ q ∈ ([(f0, n0), (f1, n1), (f2, n2), (f3, n3), (f4, n4)] : List (Nat × Nat)).zipIdx, ∀ U : State, (T1.calling (F0 m pc ls rest) ⟨cK, 1⟩ #[.ref la]).WarmedH U.vm → ∃ g : Field, U.vm.fieldReady cK q.1.1 cK g ∧ g.isStatic = false ∧ g.slot = q.2 := by
      intro q hq U hU
      have hWU : s.WarmedH U.vm := State.WarmedH.trans hW1 hU
      obtain ⟨d', k', tk', file', methk', ck', toy', t', -, -, -, -, -, -, -, -, -, -, -, -, -, -, -, -, -, -, -, -, -, -, hf⟩ := lm_at (lam_warm hWU hlam) ok (hpay _ q1837 #[] U hWU)
      exact hf q hq
    refine lv_aload_n S.x hbts d0 rfl (lv_at hl0 0 rfl) ?_
    refine lr_get S.x hbts (hfld ((f0, n0), 0) (by simp [List.zipIdx_cons])) hcell (fun h => by cases h) (v := .ref b) rfl d1 ?_
    refine lv_aload_n S.x hbts d4 rfl (lv_at hl0 0 rfl) ?_
    refine lr_get S.x hbts (hfld ((f1, n1), 1) (by simp [List.zipIdx_cons])) hcell (fun h => by cases h) (v := v1) rfl d5 ?_
    refine lv_aload_n S.x hbts d8 rfl (lv_at hl0 0 rfl) ?_
    refine lr_get S.x hbts (hfld ((f2, n2), 2) (by simp [List.zipIdx_cons])) hcell (fun h => by cases h) (v := v2) rfl d9 ?_
    refine lv_aload_n S.x hbts d12 rfl (lv_at hl0 0 rfl) ?_
    refine lr_get S.x hbts (hfld ((f3, n3), 3) (by simp [List.zipIdx_cons])) hcell (fun h => by cases h) (v := v3) rfl d13 ?_
    refine lv_aload_n S.x hbts d16 rfl (lv_at hl0 0 rfl) ?_
    refine lr_get S.x hbts (hfld ((f4, n4), 4) (by simp [List.zipIdx_cons])) hcell (fun h => by cases h) (v := v4) rfl d17 ?_
    have hK : Back l { frames := rm.frames + 1, cells := 0, slots := 0, locals := 8 + (L + 11) + rm.locals } p e (.java (F0 m pc ls rest) :: below) (T1.calling (F0 m pc ls rest) ⟨cK, 1⟩ #[.ref la]) #[.ref la] y 3 8 (PreOf { frames := rm.frames + 1, cells := 0, slots := 0, locals := 8 + (L + 11) + rm.locals } 0 0 (va_Pc (.ref b :: [v1, v2, v3, v4]) (gPre D T ws H.size))) (PostOf (gQi D T (va_A ws H.size) r ws1) 0 0 (va_A ws H.size)) :=
      back_of (bytes := bytes) (maxL := L) (ret := some .boolean) (hMet H.size) gPre_blind h0.1 h0.2 (Nat.le_refl _) (Nat.le_refl _) (fun w hw a' U hU => by
        rcases List.mem_cons.mp hw with e | e
        · rw [e]; exact hpay _ q4 a' U (State.WarmedH.trans hW1 hU)
        · exact hpay _ e a' U (State.WarmedH.trans hW1 hU)) List.mem_cons_self (fun a' U hU => hpay _ q3 a' U (State.WarmedH.trans hW1 hU))
    have hPre : ∀ U : State, U.heap = H → (T1.calling (F0 m pc ls rest) ⟨cK, 1⟩ #[.ref la]).WarmedH U.vm → va_Pc (.ref b :: [v1, v2, v3, v4]) (gPre D T ws H.size) ((.ref b :: [v1, v2, v3, v4]) : List Value).toArray U := fun U hU hWU => g_pre (wr := []) S hM' U hU (State.WarmedH.trans hW1 hWU)
    obtain ⟨q0, fs, heb⟩ := heb
    obtain ⟨cellB, hcB, hoB, hclB⟩ := va_recv S.k hM.1 hcb heb
    refine va_calli (lr_runV (As := [v1, v2, v3, v4]) (rest := []) (n := 4) (cell := cellB) S.x hbts (fun hadm U hU => lm_virt hadm (lam_warm (State.WarmedH.trans hW1 hU) hlam) ok (hpay _ q1837 #[] U (State.WarmedH.trans hW1 hU)) hy hyn (hpay _ q4 #[] U (State.WarmedH.trans hW1 hU)) (hpay _ q2 #[] U (State.WarmedH.trans hW1 hU)) (hpay _ q2s #[] U (State.WarmedH.trans hW1 hU)) (by rw [(State.WarmedH.trans hW1 hU).alike.findClass]; exact hclB) hsig hnp) (by rw [hml]; exact hl0.1) hcB (fun z h => by rw [h] at hoB; cases hoB) hK hPre rfl rfl rfl d20 ⟨Nat.le_refl _, Nat.le_refl _⟩) (va_S.rf (A := va_A ws H.size) (H0 := H)) (fun q _ h => h) (fun q h => h) ?_
    intro r' u t1 H1 locs1 ht hvm hp hB hz1 hk1 hS1
    subst hp
    exact W.zret S.x hbts hret hz (fun t ht2 hWt => ⟨⟨_, (), rfl, rfl, by rw [ht2, ← ht]; exact hB.1, va_K.moved (State.WarmedH.trans hW1 hWt).alike S.k, hB.2.2⟩, va_S.F (s := T1.calling (F0 m pc ls rest) ⟨cK, 1⟩ #[.ref la]) (by show va_S _ T1.heap _ _; rw [hT1]; exact hS1) ht2⟩) hS1.2.2 d23 hlk
  · intro r' u t1 H1 locs1 ht hvm hp hB hz1 hk1 hS1
    subst hp
    have h2 := g_back hM' ht hB hk1 hS1
    rw [List.append_nil] at h2
    exact kk H1 locs1 h2
end LC
