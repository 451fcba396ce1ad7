/-! THE BENCH WITH A SEQUENCE: its rig has a circuit of kind kd -/
set_option maxRecDepth 100000
abbrev bcW (kd : Nat) (h : Nat) (d : Nat → Nat) (T : Nat → ClassId) (me : Nat) (a b : Nat → Nat) (w : BW) (tl : va_W) : va_W := bwW h d T (some (b 0)) (some (a 7)) me a w ((a 7, crE kd a (w.2.1 30)) :: tl)
theorem ex_app {ws x : va_W} {y : Nat × va_E} (h : ∃ i : Nat, ws[i]? = some y) : ∃ i : Nat, (ws ++ x)[i]? = some y := by
  obtain ⟨i, h⟩ := h
  exact ⟨i, by rw [List.getElem?_append_left (List.getElem?_eq_some_iff.mp h).1]; exact h⟩
theorem SqI.app {T : Nat → ClassId} {b sa : Nat → Nat} {n : Nat} {q : MW} {cv : Value} {ws : va_W} (x : va_W) (h : SqI T b sa n q cv ws) : SqI T b sa n q cv (ws ++ x) := ⟨ex_app h.1, ex_app h.2.1, ex_app h.2.2.1, fun k hk => ex_app (h.2.2.2 k hk)⟩
theorem CuI.app {T : Nat → ClassId} {b : Nat → Nat} {nc : Nat} {q : MW} {ws : va_W} (x : va_W) (h : CuI T b nc q ws) : CuI T b nc q (ws ++ x) := ex_app h
theorem CoI.app {T : Nat → ClassId} {a la : Nat → Nat} {ns : Nat} {ws : va_W} (x : va_W) (h : CoI T a la ns ws) : CoI T a la ns (ws ++ x) := ex_app h
theorem LaF.perm {la : Nat → Nat} {ns : Nat} {ws ws' : va_W} (h : LaF la ns ws) (hp : ws'.Perm ws) : LaF la ns ws' := by
  intro k hk i e h1
  obtain ⟨j, hj⟩ := List.getElem?_of_mem (hp.mem_iff.mp (List.mem_of_getElem? h1))
  exact h k hk j e hj
theorem bc_la {kd h : Nat} {d : Nat → Nat} {T : Nat → ClassId} {me : Nat} {a b la : Nat → Nat} {ns : Nat} {tl : va_W} (hLa : ∀ w, LaF la ns (bcW kd h d T me a b w tl)) (u : MW) : ∀ w, LaF la ns (rcW kd a (T 0) (some (b 0)) w (tl ++ bnC h d T (some (b 0)) me (a 0) u)) := fun w => (hLa (u, w)).perm (List.perm_append_comm (l₁ := rcW kd a (T 0) (some (b 0)) w tl) (l₂ := bnC h d T (some (b 0)) me (a 0) u))
section BCK
variable {p : Program} {l : Launch} {e : Env} {R : Room} {s : State} {m : MethodId} {args : Array Value} {below : List Frame} {meth : Method} {c : Code} {H : Heap} {locs : List Loc} {cells slots : Nat} {Q : State → Prop}
variable {cc : ByteArray} {nL : Nat} {ret : Option FieldType} {own : String} {D : va_G} {T : Nat → ClassId} {A : Nat → Prop} {pc : Nat} {ls : Array Slot} {rest : List Value} {H0 : Heap}
variable {kd h me : Nat} {d a b : Nat → Nat} {w w1 : BW} {tl : va_W} {X : Heap → Prop}
theorem bc_fix {x : BW} {v : Int32} (hM : gM D A H0 (bwW h d T (some (b 0)) (some (a 7)) me a x ((a 7, crE kd a v) :: tl)) H locs) (ew : w1 = rF x 30 v) : gM D A H0 (bcW kd h d T me a b w1 tl) H locs := by
  subst ew
  exact hM
theorem bc_to (hM : gM D A H0 (bcW kd h d T me a b w tl) H locs) : gM D A H0 (rcW kd a (T 0) (some (b 0)) w.2 (tl ++ bnC h d T (some (b 0)) me (a 0) w.1)) H locs := hM.perm (List.perm_append_comm (l₁ := bnC h d T (some (b 0)) me (a 0) w.1) (l₂ := rcW kd a (T 0) (some (b 0)) w.2 tl))
theorem bc_of {u x : MW} (hM : gM D A H0 (rcW kd a (T 0) (some (b 0)) x (tl ++ bnC h d T (some (b 0)) me (a 0) u)) H locs) : gM D A H0 (bcW kd h d T me a b (u, x) tl) H locs := hM.perm (List.perm_append_comm (l₁ := rcW kd a (T 0) (some (b 0)) x tl) (l₂ := bnC h d T (some (b 0)) me (a 0) u))
variable {y : MethodName} {bts : ByteArray} {L n index count : Nat} {rm : Room} {As st0 : List Value} {lv : List (Nat × Value)} {x : MW}
/-- the circuit's active() -/
theorem bc_iF {z : MethodName} {rt : Option FieldType} {r : Int32} (S : gS p s m args meth c cc nL ret own D T) (hM : gM D A H0 (bcW kd h d T me a b w tl) H locs) (hl : lv_has ls nL lv) {Tt : u_T} {N : Nat} (ci : Nat) (hc : gCl[ci]? = some (y.cls, Tt, N)) (he : ∃ (q0 : Nat) (fs : List Value), (rcW kd a (T 0) (some (b 0)) w.2 (tl ++ bnC h d T (some (b 0)) me (a 0) w.1))[q0]? = some (a 7, .inr (ci, fs)))
    (hMet : ∀ sz, MetI l y (ws_ y bts L rt) rm D T (rcW kd a (T 0) (some (b 0)) w.2 (tl ++ bnC h d T (some (b 0)) me (a 0) w.1)) sz [.ref (a 7)] r (rcW kd a (T 0) (some (b 0)) x (tl ++ bnC h d T (some (b 0)) me (a 0) w.1))) (ew : w1 = (w.1, x)) (hF : va_Fw y.cls z y s) (hd : gHd z 0) (q1 : Cond.methodLink own index z ∈ lw_all) (q2 : Cond.selects y.cls z y ∈ lw_all) (q3 : Cond.instanceMethod y ∈ lw_all) (q4 : Cond.initialized y.cls ∈ lw_all) (q5 : Cond.code y bts L rt ∈ lw_all) (h0 : rm.cells = 0 ∧ rm.slots = 0)
    (hR : Nat.ble (rm.frames + 1) R.frames = true ∧ Nat.ble (8 + (L + 11) + rm.locals) R.locals = true) (hrm : Nat.ble (rest.map fun v => v.category).sum 8 = true) (hdg : decode cc pc = .ok (.invokeinterface index count, 5))
    (kk : ∀ (H1 : Heap) (locs1 : List Loc), gM D A H0 (bcW kd h d T me a b w1 tl) H1 locs1 → W p l e R s m args below meth c H1 locs1 0 0 Q (F0 m (pc + 5) ls (.int r :: rest))) : W p l e R s m args below meth c H locs 0 0 Q (F0 m pc ls (.ref (a 7) :: rest)) := by
  subst ew
  exact gi_F S (bc_to hM) hl ci hc he hMet hF hd q1 q2 q3 q4 q5 h0 hR hrm hdg (fun H1 locs1 h1 => kk H1 locs1 (bc_of h1))
/-- a call with X, an int answer -/
theorem gx_ci {rt : Option FieldType} {r : Int32} {ws ws1 : va_W} {bb : Nat} (S : gS p s m args meth c cc nL ret own D T) (hM : gM D A H0 ws H locs) (hX : X H) (hl : lv_has ls nL lv) (As : List Value) {Tt : u_T} {N : Nat} (ci : Nat) (hc : gCl[ci]? = some (y.cls, Tt, N)) (he : ∃ (q0 : Nat) (fs : List Value), ws[q0]? = some (bb, .inr (ci, fs)))
    (hMet : ∀ sz, MetIX l y (ws_ y bts L rt) rm D T ws sz (.ref bb :: As) r ws1 X) (hd : gHd y n) (q1 : Cond.methodLink own index y ∈ lw_all) (q2 : Cond.instanceMethod y ∈ lw_all) (q3 : Cond.selects y.cls y y ∈ lw_all) (q4 : Cond.initialized y.cls ∈ lw_all) (q5 : Cond.code y bts L rt ∈ lw_all) (h0 : rm.cells = 0 ∧ rm.slots = 0)
    (hR : Nat.ble (rm.frames + 1) R.frames = true ∧ Nat.ble (8 + (L + 11) + rm.locals) R.locals = true) (hn : As.length = n) (hst : st0 = As.reverse ++ .ref bb :: rest) (hrm : Nat.ble (rest.map fun v => v.category).sum 8 = true) (hfit : cells + 0 ≤ R.cells ∧ slots + 0 ≤ R.slots) (hdg : decode cc pc = .ok (.invokevirtual index, 3))
    (kk : ∀ (H1 : Heap) (locs1 : List Loc), gM D A H0 ws1 H1 locs1 → W p l e R s m args below meth c H1 locs1 cells slots Q (F0 m (pc + 3) ls (.int r :: rest))) : W p l e R s m args below meth c H locs cells slots Q (F0 m pc ls st0) := by
  obtain ⟨q0, fs, he⟩ := he
  subst hst
  have hM' : gM D A H0 (ws ++ []) H locs := by rw [List.append_nil]; exact hM
  refine va_calli (va_runV (As := As) (rest := rest) ⟨S.x, S.b, S.2.2.1, S.o, S.w⟩ (hMet H.size) (g_cw S hd ⟨q1, q2, q3, q4, q5⟩ h0.1 h0.2 hR) ⟨gPreX_blind, va_recv S.k hM.1 hc he, gx_pre S hM hX⟩ rfl hn hl.1 rfl (lv_room (Nat.le_of_ble_eq_true hrm)) hdg hfit) hM.2.2.1 (fun q _ h => g_free hM' q h) (g_free hM') ?_
  intro r' u t H1 locs1 ht hvm hp hB hz hk hS
  subst hp
  have h2 := g_back hM' ht hB hk hS
  rw [List.append_nil] at h2
  exact kk H1 locs1 h2
/-- the rig's ticks -/
theorem bc_iX {rt : Option FieldType} {r : Int32} (S : gS p s m args meth c cc nL ret own D T) (hM : gM D A H0 (bcW kd h d T me a b w tl) H locs) (hX : X H) (hl : lv_has ls nL lv) (As : List Value)
    (hMet : ∀ sz, MetIX l y (ws_ y bts L rt) rm D T (rcW kd a (T 0) (some (b 0)) w.2 (tl ++ bnC h d T (some (b 0)) me (a 0) w.1)) sz (.ref (a 0) :: As) r (rcW kd a (T 0) (some (b 0)) x (tl ++ bnC h d T (some (b 0)) me (a 0) w.1)) X) (ew : w1 = (w.1, x)) (hy : y.cls = RX3) (hd : gHd y n) (q1 : Cond.methodLink own index y ∈ lw_all) (q2 : Cond.instanceMethod y ∈ lw_all) (q3 : Cond.selects y.cls y y ∈ lw_all) (q4 : Cond.initialized y.cls ∈ lw_all) (q5 : Cond.code y bts L rt ∈ lw_all) (h0 : rm.cells = 0 ∧ rm.slots = 0)
    (hR : Nat.ble (rm.frames + 1) R.frames = true ∧ Nat.ble (8 + (L + 11) + rm.locals) R.locals = true) (hn : As.length = n) (hst : st0 = As.reverse ++ .ref (a 0) :: rest) (hrm : Nat.ble (rest.map fun v => v.category).sum 8 = true) (hfit : cells + 0 ≤ R.cells ∧ slots + 0 ≤ R.slots) (hdg : decode cc pc = .ok (.invokevirtual index, 3))
    (kk : ∀ (H1 : Heap) (locs1 : List Loc), gM D A H0 (bcW kd h d T me a b w1 tl) H1 locs1 → W p l e R s m args below meth c H1 locs1 cells slots Q (F0 m (pc + 3) ls (.int r :: rest))) : W p l e R s m args below meth c H locs cells slots Q (F0 m pc ls st0) := by
  subst ew
  exact gx_ci S (bc_to hM) hX hl As 2 (by rw [hy]; rfl) ⟨0, _, rfl⟩ hMet hd q1 q2 q3 q4 q5 h0 hR hn hst hrm hfit hdg (fun H1 locs1 h1 => kk H1 locs1 (bc_of h1))
end BCK
