/-! ALLOCATION: new cells come to the front of the list; frames that leave some cells out ('rebase') -/
set_option maxRecDepth 100000
theorem vaD_iff {A : Nat → Prop} {ws : va_W} : va_D A ws ↔ (ws.map (·.1)).Nodup ∧ ∀ x ∈ ws, A x.1 := by
  constructor
  · rintro ⟨h1, h2⟩
    refine ⟨?_, fun x hx => ?_⟩
    · unfold List.Nodup
      rw [List.pairwise_iff_getElem]
      intro i j hi hj hij e
      rw [List.length_map] at hi hj
      rw [List.getElem_map, List.getElem_map] at e
      have := h1 i j _ _ (List.getElem?_eq_getElem hi) (List.getElem?_eq_getElem hj) e
      omega
    · obtain ⟨i, hi⟩ := List.getElem?_of_mem hx
      exact h2 i x hi
  · rintro ⟨h1, h2⟩
    refine ⟨?_, fun k x hx => h2 x (List.mem_of_getElem? hx)⟩
    intro i j x y hx hy e
    unfold List.Nodup at h1
    rw [List.pairwise_iff_getElem] at h1
    obtain ⟨hi, ex⟩ := List.getElem?_eq_some_iff.mp hx
    obtain ⟨hj, ey⟩ := List.getElem?_eq_some_iff.mp hy
    rcases Nat.lt_trichotomy i j with h | h | h
    · exact absurd (by rw [List.getElem_map, List.getElem_map, ex, ey]; exact e) (h1 i j (by rw [List.length_map]; exact hi) (by rw [List.length_map]; exact hj) h)
    · exact h
    · exact absurd (by rw [List.getElem_map, List.getElem_map, ex, ey]; exact e.symm) (h1 j i (by rw [List.length_map]; exact hj) (by rw [List.length_map]; exact hi) h)
theorem vaP_iff {D : va_G} {ws : va_W} {H : Heap} : va_P D gCl ws H ↔ ∀ x ∈ ws, va_at D gCl x H := by
  constructor
  · intro h x hx
    obtain ⟨i, hi⟩ := List.getElem?_of_mem hx
    exact h i x hi
  · intro h k x hx
    exact h x (List.mem_of_getElem? hx)
theorem gM.perm {D : va_G} {A : Nat → Prop} {H0 H : Heap} {ws ws' : va_W} {locs : List Loc} (hM : gM D A H0 ws H locs) (h : ws.Perm ws') : gM D A H0 ws' H locs := by
  obtain ⟨h1, h2, h3, h4⟩ := hM
  refine ⟨vaP_iff.mpr fun x hx => vaP_iff.mp h1 x (h.mem_iff.mpr hx), ?_, h3, h4⟩
  rw [vaD_iff] at h2 ⊢
  exact ⟨((h.map (·.1)).nodup_iff).mp h2.1, fun x hx => h2.2 x (h.mem_iff.mpr hx)⟩
theorem gM.rot {D : va_G} {A : Nat → Prop} {H0 H : Heap} {ws : va_W} {x : Nat × va_E} {locs : List Loc} (hM : gM D A H0 (ws ++ [x]) H locs) : gM D A H0 (x :: ws) H locs := hM.perm (List.perm_append_singleton x ws)
/-- from here on: what has been made so far counts as old, but for the cells listed; 'lam': made and never to be written -/
theorem gM.rebase {D : va_G} {A : Nat → Prop} {H0 H : Heap} {ws : va_W} {locs : List Loc} {lam : Nat → Prop} (hM : gM D A H0 ws H locs) (h1 : ∀ q, lam q → q < H.size) (h2 : ∀ x ∈ ws, ¬ lam x.1) (h3 : ∀ l ∈ locs, ¬ lam l.base) : gM D (fun q => A q ∧ ¬ lam q) H ws H locs := by
  obtain ⟨hP, hD, hS, hA⟩ := hM
  rw [vaD_iff] at hD
  refine ⟨hP, vaD_iff.mpr ⟨hD.1, fun x hx => ⟨hD.2 x hx, h2 x hx⟩⟩, ⟨Nat.le_refl _, fun _ _ _ => rfl, fun l hl => ⟨hS.2.2 l hl, h3 l hl⟩⟩, fun q hq => ⟨hA q (Nat.le_trans hS.1 hq), fun hl => ?_⟩⟩
  have := h1 q hl
  omega
theorem gM.unbase {D : va_G} {A A' : Nat → Prop} {H0 Hb H : Heap} {ws : va_W} {locs lb : List Loc} (hM : gM D A' Hb ws H locs) (hb : va_S A H0 Hb lb) (hA' : ∀ q, A' q → A q) (hA : ∀ q, H0.size ≤ q → A q) : gM D A H0 ws H locs := by
  obtain ⟨hP, hD, hS, -⟩ := hM
  rw [vaD_iff] at hD
  refine ⟨hP, vaD_iff.mpr ⟨hD.1, fun x hx => hA' _ (hD.2 x hx)⟩, ⟨Nat.le_trans hb.1 hS.1, fun q h1 h2 => ?_, fun l hl => hA' _ (hS.2.2 l hl)⟩, hA⟩
  rw [hS.2.1 q (Nat.lt_of_lt_of_le h1 hb.1) (fun h => h2 (hA' q h))]
  exact hb.2.1 q h1 h2
section AL
variable {p : Program} {l : Launch} {e : Env} {R : Room} {s : State} {m : MethodId} {args : Array Value} {below : List Frame} {meth : Method} {c : Code} {H : Heap} {locs : List Loc} {cells slots : Nat} {Q : State → Prop}
variable {cc : ByteArray} {nL : Nat} {ret : Option FieldType} {own : String} {D : va_G} {T : Nat → ClassId} {A : Nat → Prop} {pc : Nat} {ls : Array Slot} {rest : List Value} {H0 : Heap} {ws : va_W}
theorem g_new (S : gS p s m args meth c cc nL ret own D T) (hM : gM D A H0 ws H locs) {C : String} {Tt : u_T} {N index : Nat} (ci : Nat) (hc : gCl[ci]? = some (C, Tt, N)) (hin : ∀ w ∈ u_ws C Tt N, w ∈ lw_all) {ty : Nat → FieldType} (hty : ∀ k, k < N → parseFieldDescriptor (Tt k).2.2.1 = some (ty k)) (q1 : Cond.classLink own index C ∈ lw_all) (q2 : Cond.instantiable C N ∈ lw_all) (q3 : Cond.initialized C ∈ lw_all) {fs : List Value} (hfs : ∀ j, j < N → defaultValue (ty j) = vp_V fs j) (hcells : cells + 1 ≤ R.cells) (hslots : slots + N ≤ R.slots) (hdg : decode cc pc = .ok (.new index, 3))
    (kk : ∀ (q : Nat) (H1 : Heap), gM D A H0 ((q, .inr (ci, fs)) :: ws) H1 locs → W p l e R s m args below meth c H1 locs (cells + 1) (slots + N) Q (F0 m (pc + 3) ls (.ref q :: rest))) : W p l e R s m args below meth c H locs cells slots Q (F0 m pc ls rest) :=
  va_new S.x S.b S.w hin ty hty S.o (S.w _ q1) (S.w _ q2) (S.w _ q3) S.k hM.1 hM.2.1 hM.2.2.1 hM.2.2.2 hc hfs hcells hslots hdg (fun q H1 hP hD hS => kk q H1 (gM.rot ⟨hP, hD, hS, hM.2.2.2⟩))
theorem g_tyI {cA : ClassId} (hK : va_K D gCl (gTys T) s) (h : va_RA s cA .int) : cA = T 0 := Option.some.inj (Eq.trans (Eq.symm h) (hK.2 0 _ rfl).2)
theorem g_newa (S : gS p s m args meth c cc nL ret own D T) (hM : gM D A H0 ws H locs) {n : Int32} {N : Nat} (hn : ¬ n < 0) (hN : n.toNatClampNeg = N) (hb : N * 4 ≤ 536870912) (hcells : cells + 1 ≤ R.cells) (hslots : slots + N ≤ R.slots) (hdg : decode cc pc = .ok (.newarray .int, 2))
    (kk : ∀ (q : Nat) (H1 : Heap), gM D A H0 ((q, .inl (T 0, N, .inl (fun _ => 0))) :: ws) H1 locs → W p l e R s m args below meth c H1 locs (cells + 1) (slots + N) Q (F0 m (pc + 2) ls (.ref q :: rest))) : W p l e R s m args below meth c H locs cells slots Q (F0 m pc ls (.int n :: rest)) := by
  refine va_newa (atype := .int) S.x S.b (S.w _ q154) (ty := .int) rfl S.k hM.1 hM.2.1 hM.2.2.1 hM.2.2.2 (a0 := (N, .inl (fun _ => 0))) (fun _ => rfl) hn hN hb hcells hslots hdg ?_
  intro q cA H1 hK hP hD hS
  have e1 : cA = T 0 := g_tyI S.k (hK.2 6 _ rfl).2
  subst e1
  exact kk q H1 (gM.rot ⟨hP, hD, hS, hM.2.2.2⟩)
theorem g_newc (S : gS p s m args meth c cc nL ret own D T) (hM : gM D A H0 ws H locs) {n : Int32} {N : Nat} (hn : ¬ n < 0) (hN : n.toNatClampNeg = N) (hb : N * 2 ≤ 536870912) (hcells : cells + 1 ≤ R.cells) (hslots : slots + N ≤ R.slots) (hdg : decode cc pc = .ok (.newarray .char, 2))
    (kk : ∀ (q : Nat) (H1 : Heap), gM D A H0 ((q, .inl (T 1, N, .inl (fun _ => 0))) :: ws) H1 locs → W p l e R s m args below meth c H1 locs (cells + 1) (slots + N) Q (F0 m (pc + 2) ls (.ref q :: rest))) : W p l e R s m args below meth c H locs cells slots Q (F0 m pc ls (.int n :: rest)) := by
  refine va_newa (atype := .char) S.x S.b (S.w _ q153) (ty := .char) rfl S.k hM.1 hM.2.1 hM.2.2.1 hM.2.2.2 (a0 := (N, .inl (fun _ => 0))) (fun _ => rfl) hn hN hb hcells hslots hdg ?_
  intro q cA H1 hK hP hD hS
  have e1 : cA = T 1 := Option.some.inj (Eq.trans (Eq.symm (hK.2 6 _ rfl).2) (S.k.2 1 _ rfl).2)
  subst e1
  exact kk q H1 (gM.rot ⟨hP, hD, hS, hM.2.2.2⟩)
theorem g_newq (S : gS p s m args meth c cc nL ret own D T) (hM : gM D A H0 ws H locs) {C : String} {index : Nat} (t0 : Nat) (ht : (gTys T)[t0]? = some (T t0, .object C)) (q1 : Cond.classLink own index C ∈ lw_all) (hover : va_AO C s) {n : Int32} {N : Nat} (hn : ¬ n < 0) (hN : n.toNatClampNeg = N) (hb : N * 4 ≤ 536870912) (hcells : cells + 1 ≤ R.cells) (hslots : slots + N ≤ R.slots) (hdg : decode cc pc = .ok (.anewarray index, 3))
    (kk : ∀ (q : Nat) (H1 : Heap), gM D A H0 ((q, .inl (T t0, N, .inr (.inr (.inr (.inr (fun _ => none)))))) :: ws) H1 locs → W p l e R s m args below meth c H1 locs (cells + 1) (slots + N) Q (F0 m (pc + 3) ls (.ref q :: rest))) : W p l e R s m args below meth c H locs cells slots Q (F0 m pc ls (.int n :: rest)) := by
  refine va_newq S.x S.b S.o (S.w _ q1) hover S.k hM.1 hM.2.1 hM.2.2.1 hM.2.2.2 hn hN hb hcells hslots hdg ?_
  intro q cA H1 hK hP hD hS
  have e1 : cA = T t0 := by
    obtain ⟨_, _, _, _, _, h1⟩ := (hK.2 6 _ rfl).2
    obtain ⟨_, _, _, _, _, h2⟩ := (S.k.2 t0 _ ht).2
    exact Option.some.inj (h1.symm.trans h2)
  subst e1
  exact kk q H1 (gM.rot ⟨hP, hD, hS, hM.2.2.2⟩)
theorem g_putF (S : gS p s m args meth c cc nL ret own D T) (hM : gM D A H0 ws H locs) {C : String} {Tt : u_T} {N ci : Nat} (q0 : Nat) {a : Nat} {fs : List Value} (he : ws[q0]? = some (a, .inr (ci, fs))) (hc : gCl[ci]? = some (C, Tt, N)) (hin : ∀ w ∈ u_ws C Tt N, w ∈ lw_all) {ty0 : Nat → FieldType} (hty : ∀ k, k < N → parseFieldDescriptor (Tt k).2.2.1 = some (ty0 k)) (hnm : ∀ a, a < N → ∀ b, b < N → a ≠ b → (Tt a).2.1 ≠ (Tt b).2.1) (k : Nat) (hk : Nat.ble (k + 1) N = true) {index : Nat}
    (hl : Cond.fieldLink own index (Tt k).1 (Tt k).2.1 (Tt k).2.2.1 ∈ lw_all) (hfin : (Tt k).2.2.2 = true) (hini : meth.name = "<init>") (hdecl : (Tt k).1 = own) {v : Value} (hn : narrow (ty0 k) v = v) (hfit : fits (ty0 k) v = true) (hlen : Nat.ble (k + 1) fs.length = true) {ws' : va_W} (hws : ws.set q0 (a, .inr (ci, fs.set k v)) = ws') (hdg : decode cc pc = .ok (.putfield index, 3))
    (kk : ∀ (H1 : Heap) (locs1 : List Loc), gM D A H0 ws' H1 locs1 → W p l e R s m args below meth c H1 locs1 cells slots Q (F0 m (pc + 3) ls rest)) : W p l e R s m args below meth c H locs cells slots Q (F0 m pc ls (v :: .ref a :: rest)) := by
  have hk' := Nat.le_of_ble_eq_true hk
  refine va_putF S.x S.b S.w hin ty0 hty hnm S.o S.k hM.1 hM.2.1 hM.2.2.1 q0 he hc k hk' (S.w _ hl) (fun _ h => h) hfin hini hdecl (hty k hk') hn hfit (Nat.le_of_ble_eq_true hlen) hdg ?_
  intro H1 locs1 hP hD hS
  rw [hws] at hP hD
  exact kk H1 locs1 ⟨hP, hD, hS, hM.2.2.2⟩
theorem g_objInit (S : gS p s m args meth c cc nL ret own D T) {lv : List (Nat × Value)} (hl : lv_has ls nL lv) {index a : Nat} (q1 : Cond.methodLink own index Lib.objectInit ∈ lw_all) (q2 : Cond.instanceMethod Lib.objectInit ∈ lw_all) (q3 : Cond.code Lib.objectInit ⟨#[0xb1]⟩ 1 none ∈ lw_all) (hR : Nat.ble 1 R.frames = true ∧ Nat.ble ((rest.map fun v => v.category).sum + 12) R.locals = true) (hdg : decode cc pc = .ok (.invokespecial index, 3))
    (kk : W p l e R s m args below meth c H locs cells slots Q (F0 m (pc + 3) ls rest)) : W p l e R s m args below meth c H locs cells slots Q (F0 m pc ls (.ref a :: rest)) :=
  W.objInit S.x S.b S.o (S.w _ q1) (S.w _ q2) (S.w _ q3) (g := F0 m pc ls (.ref a :: rest)) rfl (by rw [S.2.2.1]; exact hl.1) rfl hdg (Nat.le_of_ble_eq_true hR.1) (by show 2 * 0 + _ + 12 ≤ _; have := Nat.le_of_ble_eq_true hR.2; omega) kk
theorem g_clone (S : gS p s m args meth c cc nL ret own D T) (hM : gM D A H0 ws H locs) {lv : List (Nat × Value)} (hl : lv_has ls nL lv) {index a n : Nat} {f : Nat → Int32} (q0 : Nat) (ha : ws[q0]? = some (a, .inl (T 0, n, .inl f))) (q1 : Cond.methodLink own index ⟨"[I", "clone", "()Ljava/lang/Object;"⟩ ∈ lw_all) (q2 : Cond.sameMethod "[I" "java/lang/Object" "clone" "()Ljava/lang/Object;" ∈ lw_all) (q3 : Cond.native ⟨"java/lang/Object", "clone", "()Ljava/lang/Object;"⟩ ∈ lw_all) (q4 : Cond.instanceMethod ⟨"java/lang/Object", "clone", "()Ljava/lang/Object;"⟩ ∈ lw_all) (q5 : Cond.selects "[I" ⟨"[I", "clone", "()Ljava/lang/Object;"⟩ ⟨"java/lang/Object", "clone", "()Ljava/lang/Object;"⟩ ∈ lw_all) (q6 : Cond.castable "[I" "java/lang/Cloneable" ∈ lw_tbl)
    (hR : Nat.ble 1 R.frames = true ∧ Nat.ble ((rest.map fun v => v.category).sum + 14) R.locals = true) (hcells : cells + 1 ≤ R.cells) (hslots : slots + n ≤ R.slots) (hdg : decode cc pc = .ok (.invokevirtual index, 3))
    (kk : ∀ (q : Nat) (H1 : Heap), gM D A H0 ((q, .inl (T 0, n, .inl f)) :: ws) H1 locs → W p l e R s m args below meth c H1 locs (cells + 1) (slots + n) Q (F0 m (pc + 3) ls (.ref q :: rest))) : W p l e R s m args below meth c H locs cells slots Q (F0 m pc ls (.ref a :: rest)) := by
  have hnm : s.vm.findClass "[I" = some (T 0) := (S.k.2 0 _ rfl).2
  refine va_clone S.x S.b (S.2.2.1.trans hl.1.symm) S.o (S.w _ q1) (S.w _ q2) (S.w _ q3) (S.w _ q4) (S.w _ q5) (S.g.1 _ q6 rfl) S.k hM.1 hM.2.1 hM.2.2.1 hM.2.2.2 q0 0 ha (ty := .int) rfl hnm ?_ (Nat.le_of_ble_eq_true hR.1) (Nat.le_of_ble_eq_true hR.2) hcells hslots hdg (fun q H1 hK hP hD hS => kk q H1 (gM.rot ⟨hP, hD, hS, hM.2.2.2⟩))
  intro i v hv
  have hlt : i < n := by
    have := (Array.getElem?_eq_some_iff.mp hv).1
    rw [show (vp_cell (T 0) (n, Sum.inl f)).slots.size = n from arrV_size _ _ _] at this
    exact this
  rw [show (vp_cell (T 0) (n, Sum.inl f)).slots[i]? = some (.int (f i)) from arrV_read _ _ hlt] at hv
  cases hv
  rfl
theorem g_castA (S : gS p s m args meth c cc nL ret own D T) (hM : gM D A H0 ws H locs) {index a n : Nat} {f : Nat → Int32} (q0 : Nat) (ha : ws[q0]? = some (a, .inl (T 0, n, .inl f))) (q1 : Cond.classLink own index "[I" ∈ lw_all) (hdg : decode cc pc = .ok (.checkcast index, 3))
    (kk : W p l e R s m args below meth c H locs cells slots Q (F0 m (pc + 3) ls (.ref a :: rest))) : W p l e R s m args below meth c H locs cells slots Q (F0 m pc ls (.ref a :: rest)) :=
  va_castA S.x S.b S.o (S.w _ q1) hM.1 q0 ha (S.k.2 0 _ rfl).2 hdg kk
end AL
/-! contracts that make cells: U: what is told of them (addresses) -/
abbrev MetA (U : Type) (l : Launch) (y : MethodName) (wds : List Cond) (rm : Room) (D : va_G) (T : Nat → ClassId) (ws : va_W) (sz : Nat) (As : List Value) (ws' : U → va_W) (X : U → Heap → Prop) (mc ms : Nat) : Prop :=
  Met l y wds rm (va_Pc As (gPre D T ws sz)) (va_Qv (fun (_ : U) => True) (fun u t => gPost D T (va_A ws sz) (ws' u) t ∧ X u t.heap) (va_A ws sz)) mc ms (va_A ws sz)
abbrev MetR (U : Type) (l : Launch) (y : MethodName) (wds : List Cond) (rm : Room) (D : va_G) (T : Nat → ClassId) (ws : va_W) (sz : Nat) (As : List Value) (ad : U → Nat) (ws' : U → va_W) (X : U → Heap → Prop) (mc ms : Nat) : Prop :=
  Met l y wds rm (va_Pc As (gPre D T ws sz)) (va_Qr (fun (_ : U) => True) (fun u a t => a = ad u ∧ gPost D T (va_A ws sz) (ws' u) t ∧ X u t.heap) (va_A ws sz)) mc ms (va_A ws sz)
section ALC
variable {p : Program} {l : Launch} {e : Env} {R : Room} {s : State} {m : MethodId} {args : Array Value} {below : List Frame} {meth : Method} {c : Code} {H : Heap} {locs : List Loc} {cells slots : Nat} {Q : State → Prop}
variable {cc : ByteArray} {nL : Nat} {ret : Option FieldType} {own : String} {D : va_G} {T : Nat → ClassId} {A : Nat → Prop} {pc : Nat} {ls : Array Slot} {rest : List Value} {H0 : Heap}
variable {y : MethodName} {bts : ByteArray} {L n index mc ms : Nat} {rm : Room} {As st0 : List Value} {lv : List (Nat × Value)} {b : Nat} {U : Type} {wc wr : va_W} {wc' : U → va_W} {X : U → Heap → Prop} {ad : U → Nat}
theorem ga_cwB {rt : Option FieldType} (S : gS p s m args meth c cc nL ret own D T) (hd : gHd y n) (q1 : Cond.methodLink own index y ∈ lw_all) (q4 : Cond.initialized y.cls ∈ lw_all) (q5 : Cond.code y bts L rt ∈ lw_all) (h0 : rm.cells = mc ∧ rm.slots = ms) (hR : Nat.ble (rm.frames + 1) R.frames = true ∧ Nat.ble (8 + (L + 11) + rm.locals) R.locals = true) :
    CallB R s args own index y bts L rt (ws_ y bts L rt) rm mc ms n := callB_of n S.w (lw_meth q5) rfl h0.1 h0.2 (S.w _ q4) (S.w _ q1) hd ⟨Nat.le_of_ble_eq_true hR.1, Nat.le_of_ble_eq_true hR.2⟩
/-- a constructor -/
theorem ga_I (S : gS p s m args meth c cc nL ret own D T) (hM : gM D A H0 (wc ++ wr) H locs) (hl : lv_has ls nL lv) (As : List Value) (hMet : ∀ sz, MetA U l y (ws_ y bts L none) rm D T wc sz (.ref b :: As) wc' X mc ms) (hd : gHd y n) (hyi : y.name = "<init>") (q1 : Cond.methodLink own index y ∈ lw_all) (q2 : Cond.instanceMethod y ∈ lw_all) (q4 : Cond.initialized y.cls ∈ lw_all) (q5 : Cond.code y bts L none ∈ lw_all) (h0 : rm.cells = mc ∧ rm.slots = ms)
    (hR : Nat.ble (rm.frames + 1) R.frames = true ∧ Nat.ble (8 + (L + 11) + rm.locals) R.locals = true) (hn : As.length = n) (hst : st0 = As.reverse ++ .ref b :: rest) (hrm : Nat.ble (rest.map fun v => v.category).sum 8 = true) (hfit : cells + mc ≤ R.cells ∧ slots + ms ≤ R.slots) (hdg : decode cc pc = .ok (.invokespecial index, 3))
    (kk : ∀ (u : U) (H1 : Heap) (locs1 : List Loc), gM D A H0 (wc' u ++ wr) H1 locs1 → X u H1 → H.size ≤ H1.size → (∀ q : Nat, q < H.size → ¬ va_A wc H.size q → H1[q]? = H[q]?) → W p l e R s m args below meth c H1 locs1 (cells + mc) (slots + ms) Q (F0 m (pc + 3) ls rest)) : W p l e R s m args below meth c H locs cells slots Q (F0 m pc ls st0) := by
  subst hst
  refine va_callv (va_runI (As := As) (rest := rest) ⟨S.x, S.b, S.2.2.1, S.o, S.w⟩ (hMet H.size) ⟨ga_cwB S hd q1 q4 q5 h0 hR, hyi, S.w _ q2⟩ ⟨gPre_blind, g_pre S hM⟩ rfl hn hl.1 rfl (lv_room (Nat.le_of_ble_eq_true hrm)) hdg hfit) hM.2.2.1 (fun q _ h => g_free hM q h) (g_free hM) ?_
  intro u t H1 locs1 ht hvm hp hB hz hk hS
  exact kk u H1 locs1 (g_back hM ht hB.1 hk hS) (by rw [← ht]; exact hB.2) hz hk
/-- a method that answers a cell -/
theorem ga_r {rt : FieldType} (S : gS p s m args meth c cc nL ret own D T) (hM : gM D A H0 (wc ++ wr) H locs) (hl : lv_has ls nL lv) (As : List Value) {Tt : u_T} {N ci q0 : Nat} {fs : List Value} (hc : gCl[ci]? = some (y.cls, Tt, N)) (he : (wc ++ wr)[q0]? = some (b, .inr (ci, fs))) (hMet : ∀ sz, MetR U l y (ws_ y bts L (some rt)) rm D T wc sz (.ref b :: As) ad wc' X mc ms) (hd : gHd y n) (q1 : Cond.methodLink own index y ∈ lw_all) (q2 : Cond.instanceMethod y ∈ lw_all) (q3 : Cond.selects y.cls y y ∈ lw_all) (q4 : Cond.initialized y.cls ∈ lw_all) (q5 : Cond.code y bts L (some rt) ∈ lw_all) (h0 : rm.cells = mc ∧ rm.slots = ms)
    (hR : Nat.ble (rm.frames + 1) R.frames = true ∧ Nat.ble (8 + (L + 11) + rm.locals) R.locals = true) (hn : As.length = n) (hst : st0 = As.reverse ++ .ref b :: rest) (hrm : Nat.ble (rest.map fun v => v.category).sum 8 = true) (hfit : cells + mc ≤ R.cells ∧ slots + ms ≤ R.slots) (hdg : decode cc pc = .ok (.invokevirtual index, 3))
    (kk : ∀ (u : U) (H1 : Heap) (locs1 : List Loc), gM D A H0 (wc' u ++ wr) H1 locs1 → X u H1 → H.size ≤ H1.size → (∀ q : Nat, q < H.size → ¬ va_A wc H.size q → H1[q]? = H[q]?) → W p l e R s m args below meth c H1 locs1 (cells + mc) (slots + ms) Q (F0 m (pc + 3) ls (.ref (ad u) :: rest))) : W p l e R s m args below meth c H locs cells slots Q (F0 m pc ls st0) := by
  subst hst
  refine va_callr (va_runV (As := As) (rest := rest) ⟨S.x, S.b, S.2.2.1, S.o, S.w⟩ (hMet H.size) ⟨ga_cwB S hd q1 q4 q5 h0 hR, S.w _ q2, S.w _ q3⟩ ⟨gPre_blind, va_recv S.k hM.1 hc he, g_pre S hM⟩ rfl hn hl.1 rfl (lv_room (Nat.le_of_ble_eq_true hrm)) hdg hfit) hM.2.2.1 (fun q _ h => g_free hM q h) (g_free hM) ?_
  intro u a t H1 locs1 ht hvm hp hB hz hk hS
  obtain ⟨rfl, hB, hX⟩ := hB
  exact kk u H1 locs1 (g_back hM ht hB hk hS) (by rw [← ht]; exact hX) hz hk
/-- ends -/
theorem ga_vret {ws' : U → va_W} (S : gS p s m args meth c cc nL none own D T) (u : U) (hM : gM D A s.heap (ws' u) H locs) (hX : X u H) (hdg : decode cc pc = .ok (.return_, 1)) :
    W p l e R s m args below meth c H locs cells slots (MQ below (va_Qv (fun (_ : U) => True) (fun u t => gPost D T A (ws' u) t ∧ X u t.heap) A) args s cells slots A) (F0 m pc ls []) := by
  have hlocks : meth.locks = false := S.2.2.2.2.1
  exact W.vret S.x S.b S.2.2.2.1 (fun t ht hW => ⟨⟨u, rfl, trivial, ⟨by rw [ht]; exact hM.1, va_K.moved hW.alike S.k, hM.2.1⟩, by rw [ht]; exact hX⟩, hM.2.2.1.F ht⟩) hM.2.2.1.2.2 hdg
end ALC
/-- the start of a walk that makes cells; the method's name is told -/
theorem g_entryA {l : Launch} {D : va_G} {T : Nat → ClassId} {ws : va_W} {cc : ByteArray} {nL : Nat} {ret : Option FieldType} {y : MethodName} {rm : Room} {sz : Nat} {As : List Value} {Qc : (Nat → Prop) → Array Value → State → Outcome → State → Prop} {mc ms : Nat} (hy : plainName y.cls = true) (hn : Nat.ble (lg_sl As).length nL = true)
    (body : ∀ p e s m below meth c ls, gS p s m As.toArray meth c cc nL ret y.cls D T → meth.name = y.name → gM D (va_A ws s.heap.size) s.heap ws s.heap [] → lv_has ls nL (lv_args 0 As) →
      W p l e rm s m As.toArray below meth c s.heap [] 0 0 (MQ below (Qc (va_A ws s.heap.size)) As.toArray s mc ms (va_A ws s.heap.size)) (F0 m 0 ls [])) :
    Met l y (ws_ y cc nL ret) rm (va_Pc As (gPre D T ws sz)) (Qc (va_A ws sz)) mc ms (va_A ws sz) := by
  refine Met.ofW (cc := cc) (maxL := nL) (ret := ret) hy rfl ?_
  intro p e s m args below meth c s₁ B hml hv
  obtain ⟨rfl, hsz, hP, hK, hD0, hG⟩ := hv
  subst hsz
  have hts := atoms_spec (ws := ws_ y cc nL ret) B.pre
  have hts : ∀ w ∈ lw_all, w.before _ s = true := fun w h => hts w (List.mem_cons_of_mem _ h)
  have hl := lv_entry As (n := nL) (Nat.le_of_ble_eq_true hn)
  rw [lg_entry_eq]
  exact body p e s m below meth c _ ⟨B.exec, B.bytes, hml, B.returns, B.notSynchronized, findClass_of_methodNamed B.named, hts, hK, hG⟩ (name_of_methodNamed B.named B.method).1 ⟨hP, hD0.self, va_S.rf, fun q h => Or.inr h⟩ hl
