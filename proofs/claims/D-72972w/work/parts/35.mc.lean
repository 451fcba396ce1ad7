/-! Method$1..3.circuit(rig): a circuit is made -/
set_option maxRecDepth 100000
/-- a circuit's cells behind its making: kd 0 Direct, 1 Cascade, 2 Stepper; a 7 the circuit, a 8 its conditions -/
def ccL (kd : Nat) (a : Nat → Nat) (T : Nat → ClassId) (ns : Nat) (la : Nat → Nat) (cg : Int32) (wr : va_W) : va_W := match kd with
  | 0 => (a 8, .inl (T 4, ns, .inr (.inr (.inr (.inr (fun k => some (la k))))))) :: (a 7, .inr (3, [.ref (a 0), .ref (a 8)])) :: wr
  | 1 => (a 8, .inl (T 4, ns, .inr (.inr (.inr (.inr (fun k => some (la k))))))) :: (a 7, .inr (4, [.ref (a 0), .ref (a 8), .int cg])) :: wr
  | _ => (a 7, .inr (5, [.ref (a 0), .int cg])) :: wr
section MC
variable {p : Program} {l : Launch} {e : Env} {R : Room} {s : State} {m : MethodId} {args : Array Value} {below : List Frame} {meth : Method} {c : Code} {H : Heap} {locs : List Loc} {cells slots : Nat} {Q : State → Prop}
variable {cc : ByteArray} {nL : Nat} {ret : Option FieldType} {own : String} {D : va_G} {T : Nat → ClassId} {A : Nat → Prop} {pc : Nat} {ls : Array Slot} {rest : List Value} {H0 : Heap}
variable {y : MethodName} {bts : ByteArray} {L n index mc ms : Nat} {rm : Room} {As st0 : List Value} {lv : List (Nat × Value)} {b : Nat} {U : Type} {ws : va_W} {ws' : U → va_W} {X : U → Heap → Prop} {ad : U → Nat}
theorem ga_I0 (S : gS p s m args meth c cc nL ret own D T) (hM : gM D A H0 ws H locs) (hl : lv_has ls nL lv) (As : List Value) (hMet : ∀ sz, MetA U l y (ws_ y bts L none) rm D T ws sz (.ref b :: As) ws' X mc ms) (hd : gHd y n) (hyi : y.name = "<init>") (q1 : Cond.methodLink own index y ∈ lw_all) (q2 : Cond.instanceMethod y ∈ lw_all) (q4 : Cond.initialized y.cls ∈ lw_all) (q5 : Cond.code y bts L none ∈ lw_all) (h0 : rm.cells = mc ∧ rm.slots = ms)
    (hR : Nat.ble (rm.frames + 1) R.frames = true ∧ Nat.ble (8 + (L + 11) + rm.locals) R.locals = true) (hn : As.length = n) (hst : st0 = As.reverse ++ .ref b :: rest) (hrm : Nat.ble (rest.map fun v => v.category).sum 8 = true) (hfit : cells + mc ≤ R.cells ∧ slots + ms ≤ R.slots) (hdg : decode cc pc = .ok (.invokespecial index, 3))
    (kk : ∀ (u : U) (H1 : Heap) (locs1 : List Loc), gM D A H0 (ws' u) H1 locs1 → X u H1 → W p l e R s m args below meth c H1 locs1 (cells + mc) (slots + ms) Q (F0 m (pc + 3) ls rest)) : W p l e R s m args below meth c H locs cells slots Q (F0 m pc ls st0) := by
  refine ga_I (wc := ws) (wr := []) S (by rw [List.append_nil]; exact hM) hl As hMet hd hyi q1 q2 q4 q5 h0 hR hn hst hrm hfit hdg ?_
  intro u H1 locs1 h1 h2 h3 h4
  rw [List.append_nil] at h1
  exact kk u H1 locs1 h1 h2
theorem ga_aret {rt : FieldType} (S : gS p s m args meth c cc nL (some rt) own D T) (hrt : (∃ n, rt = .object n) ∨ ∃ t, rt = .array t) (u : U) (hM : gM D A s.heap (ws' u) H locs) (hX : X u H) {a : Nat} (ha : a = ad u) (hdg : decode cc pc = .ok (.areturn, 1)) :
    W p l e R s m args below meth c H locs cells slots (MQ below (va_Qr (fun (_ : U) => True) (fun u a t => a = ad u ∧ gPost D T A (ws' u) t ∧ X u t.heap) A) args s cells slots A) (F0 m pc ls [.ref a]) := by
  have hlocks : meth.locks = false := S.2.2.2.2.1
  exact W.aret S.x S.b S.2.2.2.1 hrt (Or.inr ⟨_, rfl⟩) (fun t ht hW => ⟨⟨u, a, rfl, trivial, ha, ⟨by rw [ht]; exact hM.1, va_K.moved hW.alike S.k, hM.2.1⟩, by rw [ht]; exact hX⟩, hM.2.2.1.F ht⟩) hM.2.2.1.2.2 hdg
end MC
/-- addresses with the circuit's put in -/
def adC (a : Nat → Nat) (z cd : Nat) : Nat → Nat := fun j => match j with
  | 7 => z
  | 8 => cd
  | j => a j
theorem lamC_ad {kd : Nat} {D : va_G} {a a' : Nat → Nat} {q : MW} {k : Nat} (h0 : a 0 = a' 0) (h7 : a 7 = a' 7) : lamC kd D a q k = lamC kd D a' q k := by
  unfold lamC
  rw [h0, h7]

abbrev rmX12_circuit : Room := { frames := 5, cells := 18, slots := 50, locals := 3200 }
theorem hdX12_circuit : gHd yX12_circuit 1 := by decide +kernel
theorem hdX4_init : gHd yX4_init 1 := by decide +kernel
set_option maxHeartbeats 4000000 in
theorem metX12_circuit {l : Launch} {D : va_G} {T : Nat → ClassId} {a b sa : Nat → Nat} {cv : Value} {wr : va_W} {ns em : Nat} {q : MW} {fs : List Value} (hns : ns ≤ 16) (hQ : SqI T b sa ns q cv wr) (hR : ∃ i : Nat, wr[i]? = some (a 0, .inr (2, fs))) (hfs : fs[0]? = some (.ref (b 0))) (h5 : ∀ k, k < ns → gX11_before ns q (nI k) = some (q.2 5 k)) (h7 : ∀ k, k < ns → q.2 7 k = if k = 0 then 1 else 0) (sz : Nat) : WMetR (Nat × Nat × (Nat → Nat)) l yX12_circuit cX12_circuit 2 (.object "SequenceBench$Circuit") rmX12_circuit D T wr sz [.ref em, .ref (a 0)] (fun u => u.1) (fun u => ccL 0 (adC a u.1 u.2.1) T ns u.2.2 0 wr) (fun u H => LamI 0 D (adC a u.1 u.2.1) u.2.2 ns q H ∧ LaF u.2.2 ns (ccL 0 (adC a u.1 u.2.1) T ns u.2.2 0 wr)) 18 50 := by
  refine g_entryW (y := yX12_circuit) (Qc := fun A => va_Qr (fun (_ : (Nat × Nat × (Nat → Nat))) => True) (fun u aa t => aa = u.1 ∧ gPost D T A (ccL 0 (adC a u.1 u.2.1) T ns u.2.2 0 wr) t ∧ (LamI 0 D (adC a u.1 u.2.1) u.2.2 ns q t.heap ∧ LaF u.2.2 ns (ccL 0 (adC a u.1 u.2.1) T ns u.2.2 0 wr))) A) rfl ?_
  intro p e s m below meth c ls S hini hnamed hM hl
  have hl : lv_has ls 2 [(0, .ref em), (1, .ref (a 0))] := hl
  refine g_new S hM 3 rfl in_X4 tyX4_ok q126 q127 q66 (fs := [.null, .null]) (fun j hj => by rcases (show j = 0 ∨ j = 1 by omega) with rfl | rfl <;> rfl) (Nat.le_of_ble_eq_true rfl) (Nat.le_of_ble_eq_true rfl) dX12_circuit_0 (fun z H hM => ?_)
  refine lv_dup S.x S.b dX12_circuit_3 rfl ?_
  refine lv_aload_n S.x S.b dX12_circuit_4 rfl (lv_at hl 1 rfl) ?_
  refine ga_I0 (b := z) S hM hl [.ref (a 0)] (metX4_init (a := adC a z 0) hns hQ hR hfs h5 h7) hdX4_init rfl q128 q129 q66 q130 ⟨rfl, rfl⟩ ⟨rfl, rfl⟩ rfl rfl rfl ⟨Nat.le_of_ble_eq_true rfl, Nat.le_of_ble_eq_true rfl⟩ dX12_circuit_5 (fun u H locs hM hX => ?_)
  exact ga_aret (U := (Nat × Nat × (Nat → Nat))) (ad := (fun u => u.1)) (ws' := (fun u => ccL 0 (adC a u.1 u.2.1) T ns u.2.2 0 wr)) (X := (fun u H => LamI 0 D (adC a u.1 u.2.1) u.2.2 ns q H ∧ LaF u.2.2 ns (ccL 0 (adC a u.1 u.2.1) T ns u.2.2 0 wr))) S (Or.inl ⟨_, rfl⟩) (z, u.1, u.2) hM ⟨fun k hk => (hX.1 k hk).trans (congrArg some (lamC_ad rfl rfl)), hX.2⟩ rfl dX12_circuit_8
abbrev rmX13_circuit : Room := { frames := 5, cells := 18, slots := 99, locals := 3200 }
theorem hdX13_circuit : gHd yX13_circuit 1 := by decide +kernel
theorem hdX5_init : gHd yX5_init 1 := by decide +kernel
set_option maxHeartbeats 4000000 in
theorem metX13_circuit {l : Launch} {D : va_G} {T : Nat → ClassId} {a b sa : Nat → Nat} {wr : va_W} {ns nc N em : Nat} {q : MW} {fs : List Value} {fo : Nat → Int32} (hns : ns ≤ 16) (hQ : SqI T b sa ns q (.ref (b 3)) wr) (hC : CuI T b nc q wr) (hR : ∃ i : Nat, wr[i]? = some (a 0, .inr (2, fs))) (hfs : fs[0]? = some (.ref (b 0))) (h5 : ∀ k, k < ns → gX11_before ns q (nI k) = some (q.2 5 k)) (h6 : ∀ k, k < ns → gX11_groupOf N ns q nc (nI k) = some (q.2 6 k)) (hfo : ∀ k, k < ns → gX11_firstOf ns q nc (q.2 6 k) = some (fo k)) (h7 : ∀ k, k < ns → q.2 7 k = if fo k = nI k then 1 else 0) (h8 : ∀ k, k < ns → q.2 8 k = if k = 0 then 1 else 0) (sz : Nat) : WMetR (Nat × Nat × (Nat → Nat)) l yX13_circuit cX13_circuit 2 (.object "SequenceBench$Circuit") rmX13_circuit D T wr sz [.ref em, .ref (a 0)] (fun u => u.1) (fun u => ccL 1 (adC a u.1 u.2.1) T ns u.2.2 (Int32.ofNat nc - 1) wr) (fun u H => LamI 1 D (adC a u.1 u.2.1) u.2.2 ns q H ∧ LaF u.2.2 ns (ccL 1 (adC a u.1 u.2.1) T ns u.2.2 (Int32.ofNat nc - 1) wr)) 18 99 := by
  refine g_entryW (y := yX13_circuit) (Qc := fun A => va_Qr (fun (_ : (Nat × Nat × (Nat → Nat))) => True) (fun u aa t => aa = u.1 ∧ gPost D T A (ccL 1 (adC a u.1 u.2.1) T ns u.2.2 (Int32.ofNat nc - 1) wr) t ∧ (LamI 1 D (adC a u.1 u.2.1) u.2.2 ns q t.heap ∧ LaF u.2.2 ns (ccL 1 (adC a u.1 u.2.1) T ns u.2.2 (Int32.ofNat nc - 1) wr))) A) rfl ?_
  intro p e s m below meth c ls S hini hnamed hM hl
  have hl : lv_has ls 2 [(0, .ref em), (1, .ref (a 0))] := hl
  refine g_new S hM 4 rfl in_X5 tyX5_ok q158 q159 q67 (fs := [.null, .null, .int 0]) (fun j hj => by rcases (show j = 0 ∨ j = 1 ∨ j = 2 by omega) with rfl | rfl | rfl <;> rfl) (Nat.le_of_ble_eq_true rfl) (Nat.le_of_ble_eq_true rfl) dX13_circuit_0 (fun z H hM => ?_)
  refine lv_dup S.x S.b dX13_circuit_3 rfl ?_
  refine lv_aload_n S.x S.b dX13_circuit_4 rfl (lv_at hl 1 rfl) ?_
  refine ga_I0 (b := z) S hM hl [.ref (a 0)] (metX5_init (a := adC a z 0) hns hQ hC hR hfs h5 h6 hfo h7 h8) hdX5_init rfl q160 q161 q67 q162 ⟨rfl, rfl⟩ ⟨rfl, rfl⟩ rfl rfl rfl ⟨Nat.le_of_ble_eq_true rfl, Nat.le_of_ble_eq_true rfl⟩ dX13_circuit_5 (fun u H locs hM hX => ?_)
  exact ga_aret (U := (Nat × Nat × (Nat → Nat))) (ad := (fun u => u.1)) (ws' := (fun u => ccL 1 (adC a u.1 u.2.1) T ns u.2.2 (Int32.ofNat nc - 1) wr)) (X := (fun u H => LamI 1 D (adC a u.1 u.2.1) u.2.2 ns q H ∧ LaF u.2.2 ns (ccL 1 (adC a u.1 u.2.1) T ns u.2.2 (Int32.ofNat nc - 1) wr))) S (Or.inl ⟨_, rfl⟩) (z, u.1, u.2) hM ⟨fun k hk => (hX.1 k hk).trans (congrArg some (lamC_ad rfl rfl)), hX.2⟩ rfl dX13_circuit_8
abbrev rmX14_circuit : Room := { frames := 5, cells := 1, slots := 2, locals := 3200 }
theorem hdX14_circuit : gHd yX14_circuit 1 := by decide +kernel
theorem hdX6_init : gHd yX6_init 1 := by decide +kernel
set_option maxHeartbeats 4000000 in
theorem metX14_circuit {l : Launch} {D : va_G} {T : Nat → ClassId} {a : Nat → Nat} {wr : va_W} {em : Nat}  (sz : Nat) : WMetR Nat l yX14_circuit cX14_circuit 2 (.object "SequenceBench$Circuit") rmX14_circuit D T wr sz [.ref em, .ref (a 0)] (fun u => u) (fun u => ccL 2 (adC a u 0) T 0 (fun _ => 0) (-1) wr) (fun _ _ => True) 1 2 := by
  refine g_entryW (y := yX14_circuit) (Qc := fun A => va_Qr (fun (_ : Nat) => True) (fun u aa t => aa = u ∧ gPost D T A (ccL 2 (adC a u 0) T 0 (fun _ => 0) (-1) wr) t ∧ True) A) rfl ?_
  intro p e s m below meth c ls S hini hnamed hM hl
  have hl : lv_has ls 2 [(0, .ref em), (1, .ref (a 0))] := hl
  refine g_new S hM 5 rfl in_X6 tyX6_ok q194 q195 q68 (fs := [.null, .int 0]) (fun j hj => by rcases (show j = 0 ∨ j = 1 by omega) with rfl | rfl <;> rfl) (Nat.le_of_ble_eq_true rfl) (Nat.le_of_ble_eq_true rfl) dX14_circuit_0 (fun z H hM => ?_)
  refine lv_dup S.x S.b dX14_circuit_3 rfl ?_
  refine lv_aload_n S.x S.b dX14_circuit_4 rfl (lv_at hl 1 rfl) ?_
  refine ga_I0 (b := z) S hM hl [.ref (a 0)] (metX6_init (a := adC a z 0) ) hdX6_init rfl q196 q197 q68 q198 ⟨rfl, rfl⟩ ⟨rfl, rfl⟩ rfl rfl rfl ⟨Nat.le_of_ble_eq_true rfl, Nat.le_of_ble_eq_true rfl⟩ dX14_circuit_5 (fun u H locs hM hX => ?_)
  exact ga_aret (U := Nat) (ad := (fun u => u)) (ws' := (fun u => ccL 2 (adC a u 0) T 0 (fun _ => 0) (-1) wr)) (X := (fun _ _ => True)) S (Or.inl ⟨_, rfl⟩) z hM trivial rfl dX14_circuit_8
