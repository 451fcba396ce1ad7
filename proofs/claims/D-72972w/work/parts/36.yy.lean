/-! WHAT IS READ AND NEVER WRITTEN, beside the list of cells: Y -/
set_option maxRecDepth 100000
abbrev YT : Type := (Nat → Prop) → State → Heap → Prop
def YC (Y : YT) : Prop := (∀ A (u U : State) H, u.vm.Alike U.vm → Y A u H → Y A U H) ∧ (∀ A U (H H1 : Heap), Y A U H → (∀ a : Nat, a < H.size → ¬ A a → H1[a]? = H[a]?) → Y A U H1) ∧ ∀ (A B : Nat → Prop) U H, Y A U H → (∀ q, B q → A q) → Y B U H
theorem YC.now {Y : YT} (hC : YC Y) {D : va_G} {A : Nat → Prop} {s : State} {H0 H : Heap} {ws : va_W} {locs : List Loc} (hY : Y A s H0) (hM : gM D A H0 ws H locs) : Y A s H := hC.2.1 A s H0 H hY hM.2.2.1.2.1
theorem YC.sub {Y : YT} (hC : YC Y) {D : va_G} {A : Nat → Prop} {s : State} {H0 H : Heap} {wc wr : va_W} {locs : List Loc} (hY : Y A s H0) (hM : gM D A H0 (wc ++ wr) H locs) : Y (va_A wc H.size) s H := hC.2.2 A _ s H (hC.now hY hM) (g_free hM)
/-- the enum's constants -/
def enN (i : Nat) : String := match i with
  | 0 => "DIRECT"
  | 1 => "CASCADE"
  | _ => "STEPPER"
def enC (i : Nat) : String := match i with
  | 0 => "SequenceBench$Method$1"
  | 1 => "SequenceBench$Method$2"
  | _ => "SequenceBench$Method$3"
def EnY (em : Nat → Nat) : YT := fun A U H => (∀ i : Nat, i < 3 → va_Z "SequenceBench$Method" (enN i) "LSequenceBench$Method;" (.ref (em i)) A U H ∧ va_O (enC i) (em i) A U H) ∧ ∀ i j : Nat, i < 3 → j < 3 → em i = em j → i = j
theorem EnY.c {em : Nat → Nat} : YC (EnY em) :=
  ⟨fun A u U H hv h => ⟨fun i hi => ⟨(h.1 i hi).1.moved hv, (h.1 i hi).2.moved hv⟩, h.2⟩, fun A U H H1 h hq => ⟨fun i hi => ⟨(h.1 i hi).1.kept hq, (h.1 i hi).2.kept hq⟩, h.2⟩, fun A B U H h hq => ⟨fun i hi => ⟨(h.1 i hi).1.narrow hq, (h.1 i hi).2.narrow hq⟩, h.2⟩⟩
/-- a rig's lambdas -/
def LamY (kd : Nat) (D : va_G) (a la : Nat → Nat) (ns : Nat) (q : MW) : YT := fun A _ H => LamI kd D a la ns q H ∧ ∀ k, k < ns → ¬ A (la k)
theorem LamY.c {kd : Nat} {D : va_G} {a la : Nat → Nat} {ns : Nat} {q : MW} : YC (LamY kd D a la ns q) :=
  ⟨fun A u U H hv h => h, fun A U H H1 h hq => ⟨fun k hk => by rw [hq (la k) (Array.getElem?_eq_some_iff.mp (h.1 k hk)).1 (h.2 k hk)]; exact h.1 k hk, h.2⟩, fun A B U H h hq => ⟨h.1, fun k hk hB => h.2 k hk (hq _ hB)⟩⟩
def AndY (Y Z : YT) : YT := fun A U H => Y A U H ∧ Z A U H
theorem AndY.c {Y Z : YT} (hY : YC Y) (hZ : YC Z) : YC (AndY Y Z) :=
  ⟨fun A u U H hv h => ⟨hY.1 A u U H hv h.1, hZ.1 A u U H hv h.2⟩, fun A U H H1 h hq => ⟨hY.2.1 A U H H1 h.1 hq, hZ.2.1 A U H H1 h.2 hq⟩, fun A B U H h hq => ⟨hY.2.2 A B U H h.1 hq, hZ.2.2 A B U H h.2 hq⟩⟩
def gPreY (D : va_G) (T : Nat → ClassId) (Y : YT) (ws : va_W) (sz : Nat) (U : State) : Prop := gPre D T ws sz U ∧ Y (va_A ws sz) U U.heap
theorem gPreY_blind {D : va_G} {T : Nat → ClassId} {ws : va_W} {sz : Nat} {As : List Value} {Y : YT} (hC : YC Y) : FrameBlind (va_Pc As (gPreY D T Y ws sz)) := by
  intro a U g mk q
  obtain ⟨q0, q1, qY⟩ := q
  exact ⟨q0, (gPre_blind (As := As) a U g mk ⟨q0, q1⟩).2, hC.1 _ U (U.calling g mk a) _ (Vm.Alike.refl U.vm) qY⟩
/-- contracts with new cells and Y -/
abbrev MetAY (U : Type) (l : Launch) (y : MethodName) (wds : List Cond) (rm : Room) (D : va_G) (T : Nat → ClassId) (Y : YT) (ws : va_W) (sz : Nat) (As : List Value) (ws' : U → va_W) (X : U → Heap → Prop) (mc ms : Nat) : Prop :=
  Met l y wds rm (va_Pc As (gPreY D T Y ws sz)) (va_Qv (fun (_ : U) => True) (fun u t => gPost D T (va_A ws sz) (ws' u) t ∧ X u t.heap) (va_A ws sz)) mc ms (va_A ws sz)
abbrev MetIY (U : Type) (l : Launch) (y : MethodName) (wds : List Cond) (rm : Room) (D : va_G) (T : Nat → ClassId) (Y : YT) (ws : va_W) (sz : Nat) (As : List Value) (r : Int32) (ws' : U → va_W) (X : U → Heap → Prop) (mc ms : Nat) : Prop :=
  Met l y wds rm (va_Pc As (gPreY D T Y ws sz)) (va_Qi (fun r' (_ : U) => r' = r) (fun u t => gPost D T (va_A ws sz) (ws' u) t ∧ X u t.heap) (va_A ws sz)) mc ms (va_A ws sz)
abbrev MetRY (U : Type) (l : Launch) (y : MethodName) (wds : List Cond) (rm : Room) (D : va_G) (T : Nat → ClassId) (Y : YT) (ws : va_W) (sz : Nat) (As : List Value) (ad : U → Nat) (ws' : U → va_W) (X : U → Heap → Prop) (mc ms : Nat) : Prop :=
  Met l y wds rm (va_Pc As (gPreY D T Y ws sz)) (va_Qr (fun (_ : U) => True) (fun u a t => a = ad u ∧ gPost D T (va_A ws sz) (ws' u) t ∧ X u t.heap) (va_A ws sz)) mc ms (va_A ws sz)
section YK
variable {p : Program} {l : Launch} {e : Env} {R : Room} {s : State} {m : MethodId} {args : Array Value} {below : List Frame} {meth : Method} {c : Code} {H : Heap} {locs : List Loc} {cells slots : Nat} {Q : State → Prop}
variable {cc : ByteArray} {nL : Nat} {ret : Option FieldType} {own : String} {D : va_G} {T : Nat → ClassId} {A : Nat → Prop} {pc : Nat} {ls : Array Slot} {rest : List Value} {H0 : Heap}
variable {y : MethodName} {bts : ByteArray} {L n index mc ms : Nat} {rm : Room} {As st0 : List Value} {lv : List (Nat × Value)} {b : Nat} {U : Type} {wc wr : va_W} {wc' : U → va_W} {X : U → Heap → Prop} {ad : U → Nat} {Y : YT} {ws : va_W}
theorem g_preY (S : gS p s m args meth c cc nL ret own D T) (hM : gM D A H0 (wc ++ wr) H locs) (hC : YC Y) (hY : Y (va_A wc H.size) s H) : ∀ U : State, U.heap = H → s.WarmedH U.vm → va_Pc As (gPreY D T Y wc H.size) As.toArray U := by
  intro U hU hW
  exact ⟨rfl, (g_pre (As := As) S hM U hU hW).2, hC.1 _ s U _ hW.alike (by rw [hU]; exact hY)⟩
/-- a constructor -/
theorem gy_I (S : gS p s m args meth c cc nL ret own D T) (hM : gM D A H0 (wc ++ wr) H locs) (hl : lv_has ls nL lv) (As : List Value) (hC : YC Y) (hY : Y (va_A wc H.size) s H) (hMet : ∀ sz, MetAY U l y (ws_ y bts L none) rm D T Y wc sz (.ref b :: As) wc' X mc ms) (hd : gHd y n) (hyi : y.name = "<init>") (q1 : Cond.methodLink own index y ∈ lw_all) (q2 : Cond.instanceMethod y ∈ lw_all) (q4 : Cond.initialized y.cls ∈ lw_all) (q5 : Cond.code y bts L none ∈ lw_all) (h0 : rm.cells = mc ∧ rm.slots = ms)
    (hR : Nat.ble (rm.frames + 1) R.frames = true ∧ Nat.ble (8 + (L + 11) + rm.locals) R.locals = true) (hn : As.length = n) (hst : st0 = As.reverse ++ .ref b :: rest) (hrm : Nat.ble (rest.map fun v => v.category).sum 8 = true) (hfit : cells + mc ≤ R.cells ∧ slots + ms ≤ R.slots) (hdg : decode cc pc = .ok (.invokespecial index, 3))
    (kk : ∀ (u : U) (H1 : Heap) (locs1 : List Loc), gM D A H0 (wc' u ++ wr) H1 locs1 → X u H1 → H.size ≤ H1.size → (∀ q : Nat, q < H.size → ¬ va_A wc H.size q → H1[q]? = H[q]?) → W p l e R s m args below meth c H1 locs1 (cells + mc) (slots + ms) Q (F0 m (pc + 3) ls rest)) : W p l e R s m args below meth c H locs cells slots Q (F0 m pc ls st0) := by
  subst hst
  refine va_callv (va_runI (As := As) (rest := rest) ⟨S.x, S.b, S.2.2.1, S.o, S.w⟩ (hMet H.size) ⟨ga_cwB S hd q1 q4 q5 h0 hR, hyi, S.w _ q2⟩ ⟨gPreY_blind hC, g_preY S hM hC hY⟩ rfl hn hl.1 rfl (lv_room (Nat.le_of_ble_eq_true hrm)) hdg hfit) hM.2.2.1 (fun q _ h => g_free hM q h) (g_free hM) ?_
  intro u t H1 locs1 ht hvm hp hB hz hk hS
  exact kk u H1 locs1 (g_back hM ht hB.1 hk hS) (by rw [← ht]; exact hB.2) hz hk
/-- instance methods -/
theorem gy_i {r : Int32} {rt : Option FieldType} (S : gS p s m args meth c cc nL ret own D T) (hM : gM D A H0 (wc ++ wr) H locs) (hl : lv_has ls nL lv) (As : List Value) {Tt : u_T} {N ci q0 : Nat} {fs : List Value} (hc : gCl[ci]? = some (y.cls, Tt, N)) (he : (wc ++ wr)[q0]? = some (b, .inr (ci, fs))) (hC : YC Y) (hY : Y (va_A wc H.size) s H) (hMet : ∀ sz, MetIY U l y (ws_ y bts L rt) rm D T Y wc sz (.ref b :: As) r wc' X mc ms) (hd : gHd y n) (q1 : Cond.methodLink own index y ∈ lw_all) (q2 : Cond.instanceMethod y ∈ lw_all) (q3 : Cond.selects y.cls y y ∈ lw_all) (q4 : Cond.initialized y.cls ∈ lw_all) (q5 : Cond.code y bts L rt ∈ lw_all) (h0 : rm.cells = mc ∧ rm.slots = ms)
    (hR : Nat.ble (rm.frames + 1) R.frames = true ∧ Nat.ble (8 + (L + 11) + rm.locals) R.locals = true) (hn : As.length = n) (hst : st0 = As.reverse ++ .ref b :: rest) (hrm : Nat.ble (rest.map fun v => v.category).sum 8 = true) (hfit : cells + mc ≤ R.cells ∧ slots + ms ≤ R.slots) (hdg : decode cc pc = .ok (.invokevirtual index, 3))
    (kk : ∀ (u : U) (H1 : Heap) (locs1 : List Loc), gM D A H0 (wc' u ++ wr) H1 locs1 → X u H1 → H.size ≤ H1.size → (∀ q : Nat, q < H.size → ¬ va_A wc H.size q → H1[q]? = H[q]?) → W p l e R s m args below meth c H1 locs1 (cells + mc) (slots + ms) Q (F0 m (pc + 3) ls (.int r :: rest))) : W p l e R s m args below meth c H locs cells slots Q (F0 m pc ls st0) := by
  subst hst
  refine va_calli (va_runV (As := As) (rest := rest) ⟨S.x, S.b, S.2.2.1, S.o, S.w⟩ (hMet H.size) ⟨ga_cwB S hd q1 q4 q5 h0 hR, S.w _ q2, S.w _ q3⟩ ⟨gPreY_blind hC, va_recv S.k hM.1 hc he, g_preY S hM hC hY⟩ rfl hn hl.1 rfl (lv_room (Nat.le_of_ble_eq_true hrm)) hdg hfit) hM.2.2.1 (fun q _ h => g_free hM q h) (g_free hM) ?_
  intro r' u t H1 locs1 ht hvm hp hB hz hk hS
  subst hp
  exact kk u H1 locs1 (g_back hM ht hB.1 hk hS) (by rw [← ht]; exact hB.2) hz hk
theorem gy_v (S : gS p s m args meth c cc nL ret own D T) (hM : gM D A H0 (wc ++ wr) H locs) (hl : lv_has ls nL lv) (As : List Value) {Tt : u_T} {N ci q0 : Nat} {fs : List Value} (hc : gCl[ci]? = some (y.cls, Tt, N)) (he : (wc ++ wr)[q0]? = some (b, .inr (ci, fs))) (hC : YC Y) (hY : Y (va_A wc H.size) s H) (hMet : ∀ sz, MetAY U l y (ws_ y bts L none) rm D T Y wc sz (.ref b :: As) wc' X mc ms) (hd : gHd y n) (q1 : Cond.methodLink own index y ∈ lw_all) (q2 : Cond.instanceMethod y ∈ lw_all) (q3 : Cond.selects y.cls y y ∈ lw_all) (q4 : Cond.initialized y.cls ∈ lw_all) (q5 : Cond.code y bts L none ∈ lw_all) (h0 : rm.cells = mc ∧ rm.slots = ms)
    (hR : Nat.ble (rm.frames + 1) R.frames = true ∧ Nat.ble (8 + (L + 11) + rm.locals) R.locals = true) (hn : As.length = n) (hst : st0 = As.reverse ++ .ref b :: rest) (hrm : Nat.ble (rest.map fun v => v.category).sum 8 = true) (hfit : cells + mc ≤ R.cells ∧ slots + ms ≤ R.slots) (hdg : decode cc pc = .ok (.invokevirtual index, 3))
    (kk : ∀ (u : U) (H1 : Heap) (locs1 : List Loc), gM D A H0 (wc' u ++ wr) H1 locs1 → X u H1 → H.size ≤ H1.size → (∀ q : Nat, q < H.size → ¬ va_A wc H.size q → H1[q]? = H[q]?) → W p l e R s m args below meth c H1 locs1 (cells + mc) (slots + ms) Q (F0 m (pc + 3) ls rest)) : W p l e R s m args below meth c H locs cells slots Q (F0 m pc ls st0) := by
  subst hst
  refine va_callv (va_runV (As := As) (rest := rest) ⟨S.x, S.b, S.2.2.1, S.o, S.w⟩ (hMet H.size) ⟨ga_cwB S hd q1 q4 q5 h0 hR, S.w _ q2, S.w _ q3⟩ ⟨gPreY_blind hC, va_recv S.k hM.1 hc he, g_preY S hM hC hY⟩ rfl hn hl.1 rfl (lv_room (Nat.le_of_ble_eq_true hrm)) hdg hfit) hM.2.2.1 (fun q _ h => g_free hM q h) (g_free hM) ?_
  intro u t H1 locs1 ht hvm hp hB hz hk hS
  exact kk u H1 locs1 (g_back hM ht hB.1 hk hS) (by rw [← ht]; exact hB.2) hz hk
theorem gy_r {rt : FieldType} (S : gS p s m args meth c cc nL ret own D T) (hM : gM D A H0 (wc ++ wr) H locs) (hl : lv_has ls nL lv) (As : List Value) {Tt : u_T} {N ci q0 : Nat} {fs : List Value} (hc : gCl[ci]? = some (y.cls, Tt, N)) (he : (wc ++ wr)[q0]? = some (b, .inr (ci, fs))) (hC : YC Y) (hY : Y (va_A wc H.size) s H) (hMet : ∀ sz, MetRY U l y (ws_ y bts L (some rt)) rm D T Y wc sz (.ref b :: As) ad wc' X mc ms) (hd : gHd y n) (q1 : Cond.methodLink own index y ∈ lw_all) (q2 : Cond.instanceMethod y ∈ lw_all) (q3 : Cond.selects y.cls y y ∈ lw_all) (q4 : Cond.initialized y.cls ∈ lw_all) (q5 : Cond.code y bts L (some rt) ∈ lw_all) (h0 : rm.cells = mc ∧ rm.slots = ms)
    (hR : Nat.ble (rm.frames + 1) R.frames = true ∧ Nat.ble (8 + (L + 11) + rm.locals) R.locals = true) (hn : As.length = n) (hst : st0 = As.reverse ++ .ref b :: rest) (hrm : Nat.ble (rest.map fun v => v.category).sum 8 = true) (hfit : cells + mc ≤ R.cells ∧ slots + ms ≤ R.slots) (hdg : decode cc pc = .ok (.invokevirtual index, 3))
    (kk : ∀ (u : U) (H1 : Heap) (locs1 : List Loc), gM D A H0 (wc' u ++ wr) H1 locs1 → X u H1 → H.size ≤ H1.size → (∀ q : Nat, q < H.size → ¬ va_A wc H.size q → H1[q]? = H[q]?) → W p l e R s m args below meth c H1 locs1 (cells + mc) (slots + ms) Q (F0 m (pc + 3) ls (.ref (ad u) :: rest))) : W p l e R s m args below meth c H locs cells slots Q (F0 m pc ls st0) := by
  subst hst
  refine va_callr (va_runV (As := As) (rest := rest) ⟨S.x, S.b, S.2.2.1, S.o, S.w⟩ (hMet H.size) ⟨ga_cwB S hd q1 q4 q5 h0 hR, S.w _ q2, S.w _ q3⟩ ⟨gPreY_blind hC, va_recv S.k hM.1 hc he, g_preY S hM hC hY⟩ rfl hn hl.1 rfl (lv_room (Nat.le_of_ble_eq_true hrm)) hdg hfit) hM.2.2.1 (fun q _ h => g_free hM q h) (g_free hM) ?_
  intro u a t H1 locs1 ht hvm hp hB hz hk hS
  obtain ⟨rfl, hB, hX⟩ := hB
  exact kk u H1 locs1 (g_back hM ht hB hk hS) (by rw [← ht]; exact hX) hz hk
/-- ends -/
theorem ga_iret {r r' : Int32} {ws' : U → va_W} (S : gS p s m args meth c cc nL (some .int) own D T) (u : U) (hM : gM D A s.heap (ws' u) H locs) (hX : X u H) (er : r' = r) (hdg : decode cc pc = .ok (.ireturn, 1)) :
    W p l e R s m args below meth c H locs cells slots (MQ below (va_Qi (fun r' (_ : U) => r' = r) (fun u t => gPost D T A (ws' u) t ∧ X u t.heap) A) args s cells slots A) (F0 m pc ls [.int r']) := by
  subst er
  have hlocks : meth.locks = false := S.2.2.2.2.1
  exact W.iret S.x S.b S.2.2.2.1 (fun t ht hW => ⟨⟨_, u, rfl, rfl, ⟨by rw [ht]; exact hM.1, va_K.moved hW.alike S.k, hM.2.1⟩, by rw [ht]; exact hX⟩, hM.2.2.1.F ht⟩) hM.2.2.1.2.2 hdg
theorem ga_zret {r r' : Int32} {ws' : U → va_W} (S : gS p s m args meth c cc nL (some .boolean) own D T) (u : U) (hM : gM D A s.heap (ws' u) H locs) (hX : X u H) (er : r' = r) (hb : narrow .boolean (.int r') = .int r') (hdg : decode cc pc = .ok (.ireturn, 1)) :
    W p l e R s m args below meth c H locs cells slots (MQ below (va_Qi (fun r' (_ : U) => r' = r) (fun u t => gPost D T A (ws' u) t ∧ X u t.heap) A) args s cells slots A) (F0 m pc ls [.int r']) := by
  subst er
  have hlocks : meth.locks = false := S.2.2.2.2.1
  exact W.zret S.x S.b S.2.2.2.1 hb (fun t ht hW => ⟨⟨_, u, rfl, rfl, ⟨by rw [ht]; exact hM.1, va_K.moved hW.alike S.k, hM.2.1⟩, by rw [ht]; exact hX⟩, hM.2.2.1.F ht⟩) hM.2.2.1.2.2 hdg
/-- the start -/
theorem g_entryY {sz : Nat} {Qc : (Nat → Prop) → Array Value → State → Outcome → State → Prop} (hy : plainName y.cls = true) (hn : Nat.ble (lg_sl As).length nL = true)
    (body : ∀ p e s m below meth c ls, gS p s m As.toArray meth c cc nL ret y.cls D T → meth.name = y.name → gM D (va_A ws s.heap.size) s.heap ws s.heap [] → Y (va_A ws s.heap.size) s s.heap → lv_has ls nL (lv_args 0 As) →
      W p l e rm s m As.toArray below meth c s.heap [] 0 0 (MQ below (Qc (va_A ws s.heap.size)) As.toArray s mc ms (va_A ws s.heap.size)) (F0 m 0 ls [])) :
    Met l y (ws_ y cc nL ret) rm (va_Pc As (gPreY D T Y ws sz)) (Qc (va_A ws sz)) mc ms (va_A ws sz) := by
  refine Met.ofW (cc := cc) (maxL := nL) (ret := ret) hy rfl ?_
  intro p e s m args below meth c s₁ B hml hv
  obtain ⟨rfl, ⟨hsz, hP, hK, hD0, hG⟩, hY⟩ := hv
  subst hsz
  have hts := atoms_spec (ws := ws_ y cc nL ret) B.pre
  have hts : ∀ w ∈ lw_all, w.before _ s = true := fun w h => hts w (List.mem_cons_of_mem _ h)
  have hl := lv_entry As (n := nL) (Nat.le_of_ble_eq_true hn)
  rw [lg_entry_eq]
  exact body p e s m below meth c _ ⟨B.exec, B.bytes, hml, B.returns, B.notSynchronized, findClass_of_methodNamed B.named, hts, hK, hG⟩ (name_of_methodNamed B.named B.method).1 ⟨hP, hD0.self, va_S.rf, fun q h => Or.inr h⟩ hY hl
theorem vaA_mem {ws : va_W} {sz q : Nat} : va_A ws sz q ↔ q ∈ ws.map (·.1) ∨ sz ≤ q := by
  constructor
  · rintro (⟨k, e, h⟩ | h)
    · exact Or.inl (List.mem_map.mpr ⟨(q, e), List.mem_of_getElem? h, rfl⟩)
    · exact Or.inr h
  · rintro (h | h)
    · obtain ⟨x, hx, rfl⟩ := List.mem_map.mp h
      obtain ⟨i, hi⟩ := List.getElem?_of_mem hx
      exact Or.inl ⟨i, x.2, hi⟩
    · exact Or.inr h
/-- the lambdas just made are never written from here on -/
theorem g_reb {kd : Nat} {a la : Nat → Nat} {ns : Nat} {q : MW} {g : JFrame} (hM : gM D A H0 ws H locs) (hLam : LamI kd D a la ns q H) (hLF : LaF la ns ws) (hA : ∀ q, A q → q ∈ ws.map (·.1) ∨ s.heap.size ≤ q)
    (kk : ∀ (locs' : List Loc) (A' : Nat → Prop), (∀ q, A' q → A q) → (∀ k, k < ns → ¬ A' (la k)) → gM D A' H ws H locs' → W p l e R s m args below meth c H locs' cells slots Q g) : W p l e R s m args below meth c H locs cells slots Q g := by
  have hno : ∀ k, k < ns → la k ∉ ws.map (·.1) := by
    intro k hk h
    obtain ⟨x, hx, e⟩ := List.mem_map.mp h
    obtain ⟨i, hi⟩ := List.getElem?_of_mem hx
    exact hLF k hk i x.2 (by rw [hi, ← e])
  refine g_rebase (lam := fun q => ∃ k, k < ns ∧ q = la k ∧ s.heap.size ≤ q) hM ?_ ?_ (fun locs' hM' => kk locs' _ (fun q h => h.1) ?_ hM')
  · rintro q ⟨k, hk, rfl, h⟩
    exact ⟨(Array.getElem?_eq_some_iff.mp (hLam k hk)).1, h⟩
  · rintro x hx ⟨k, hk, e, h⟩
    exact hno k hk (List.mem_map.mpr ⟨x, hx, e⟩)
  · rintro k hk ⟨h1, h2⟩
    rcases hA _ h1 with h | h
    · exact hno k hk h
    · exact h2 ⟨k, hk, rfl, h⟩
end YK
