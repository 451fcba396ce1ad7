/-! calls with Y in the whole world, nothing made -/
set_option maxRecDepth 100000
section EY
variable {p : Program} {l : Launch} {e : Env} {R : Room} {s : State} {m : MethodId} {args : Array Value} {below : List Frame} {meth : Method} {c : Code} {H : Heap} {locs : List Loc} {cells slots : Nat} {Q : State → Prop}
variable {cc : ByteArray} {nL : Nat} {ret : Option FieldType} {own : String} {D : va_G} {T : Nat → ClassId} {A : Nat → Prop} {pc : Nat} {ls : Array Slot} {rest : List Value}
variable {y : MethodName} {bts : ByteArray} {L n index mc ms : Nat} {rm : Room} {As st0 : List Value} {lv : List (Nat × Value)} {b : Nat} {ws ws1 : va_W} {Y : YT}
theorem gyw_ci {r : Int32} {rt : Option FieldType} (S : gS p s m args meth c cc nL ret own D T) (hM : gM D A s.heap ws H locs) (hl : lv_has ls nL lv) (As : List Value) {Tt : u_T} {N : Nat} (ci : Nat) (hc : gCl[ci]? = some (y.cls, Tt, N)) (he : ∃ (q0 : Nat) (fs : List Value), ws[q0]? = some (b, .inr (ci, fs))) (hC : YC Y) (hY : Y A s s.heap) (hMet : ∀ sz, MetIY Unit l y (ws_ y bts L rt) rm D T Y ws sz (.ref b :: As) r (fun _ => ws1) (fun _ _ => True) 0 0) (hd : gHd y n) (q1 : Cond.methodLink own index y ∈ lw_all) (q2 : Cond.instanceMethod y ∈ lw_all) (q3 : Cond.selects y.cls y y ∈ lw_all) (q4 : Cond.initialized y.cls ∈ lw_all) (q5 : Cond.code y bts L rt ∈ lw_all) (h0 : rm.cells = 0 ∧ rm.slots = 0)
    (hR : Nat.ble (rm.frames + 1) R.frames = true ∧ Nat.ble (8 + (L + 11) + rm.locals) R.locals = true) (hn : As.length = n) (hst : st0 = As.reverse ++ .ref b :: rest) (hrm : Nat.ble (rest.map fun v => v.category).sum 8 = true) (hfit : cells + 0 ≤ R.cells ∧ slots + 0 ≤ R.slots) (hdg : decode cc pc = .ok (.invokevirtual index, 3))
    (kk : ∀ (H1 : Heap) (locs1 : List Loc), gM D A s.heap ws1 H1 locs1 → W p l e R s m args below meth c H1 locs1 cells slots Q (F0 m (pc + 3) ls (.int r :: rest))) : W p l e R s m args below meth c H locs cells slots Q (F0 m pc ls st0) := by
  obtain ⟨q0, fs, he⟩ := he
  have hM' : gM D A s.heap (ws ++ []) H locs := by rw [List.append_nil]; exact hM
  refine gy_i (U := Unit) (wc := ws) (wr := []) (q0 := q0) (fs := fs) (ci := ci) S hM' hl As hc (by rw [List.append_nil]; exact he) hC (hC.sub hY hM') hMet hd q1 q2 q3 q4 q5 h0 hR hn hst hrm hfit hdg ?_
  intro u H1 locs1 h1 _ _ _
  rw [List.append_nil] at h1
  exact kk H1 locs1 h1
/-- a static method that answers one of the enum's constants -/
theorem gy_sr {rt : FieldType} {ra : Nat} (S : gS p s m args meth c cc nL ret own D T) (hM : gM D A s.heap ws H locs) (hl : lv_has ls nL lv) (As : List Value) (hC : YC Y) (hY : Y A s s.heap) (hMet : ∀ sz, MetRY Unit l y (ws_ y bts L (some rt)) rm D T Y ws sz As (fun _ => ra) (fun _ => ws) (fun _ _ => True) 0 0) (hd : gHd y n) (q1 : Cond.methodLink own index y ∈ lw_all) (q2 : Cond.static y ∈ lw_all) (q3 : Cond.initialized y.cls ∈ lw_all) (q4 : Cond.code y bts L (some rt) ∈ lw_all) (h0 : rm.cells = 0 ∧ rm.slots = 0)
    (hR : Nat.ble (rm.frames + 1) R.frames = true ∧ Nat.ble (8 + (L + 11) + rm.locals) R.locals = true) (hn : As.length = n) (hst : st0 = As.reverse ++ rest) (hrm : Nat.ble (rest.map fun v => v.category).sum 8 = true) (hfit : cells + 0 ≤ R.cells ∧ slots + 0 ≤ R.slots) (hdg : decode cc pc = .ok (.invokestatic index, 3))
    (kk : ∀ (H1 : Heap) (locs1 : List Loc), gM D A s.heap ws H1 locs1 → W p l e R s m args below meth c H1 locs1 cells slots Q (F0 m (pc + 3) ls (.ref ra :: rest))) : W p l e R s m args below meth c H locs cells slots Q (F0 m pc ls st0) := by
  subst hst
  have hM' : gM D A s.heap (ws ++ []) H locs := by rw [List.append_nil]; exact hM
  refine va_callr (va_runS (As := As) (rest := rest) ⟨S.x, S.b, S.2.2.1, S.o, S.w⟩ (hMet H.size) (g_cwS S hd ⟨q1, q2, q3, q4⟩ h0.1 h0.2 hR) ⟨gPreY_blind hC, g_preY S hM' hC (hC.sub hY hM')⟩ rfl hn hl.1 rfl (lv_room (Nat.le_of_ble_eq_true hrm)) hdg hfit) hM.2.2.1 (fun q _ h => g_free hM' q h) (g_free hM') ?_
  intro u a t H1 locs1 ht hvm hp hB hz hk hS
  obtain ⟨rfl, hB, hX⟩ := hB
  have h1 := g_back hM' ht hB hk hS
  rw [List.append_nil] at h1
  exact kk H1 locs1 h1
end EY
