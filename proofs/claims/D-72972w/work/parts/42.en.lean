/-! THE ENUM: Method.of, number, extraValves -/
set_option maxRecDepth 100000
def moI (x : Int32) : Nat := if x = 0 then 0 else if x = 1 then 1 else 2
theorem moI_lt {x : Int32} : moI x < 3 := by
  unfold moI
  split
  · decide
  · split <;> decide
abbrev rmX2_of : Room := { frames := 1, cells := 0, slots := 0, locals := 12 }
theorem hdX2_of : gHd yX2_of 1 := by decide +kernel
theorem ie0 : Int32.ofInt 0 = (0 : Int32) := by decide
theorem ie1 : Int32.ofInt 1 = (1 : Int32) := by decide
theorem ie2 : Int32.ofInt 2 = (2 : Int32) := by decide
set_option maxHeartbeats 4000000 in
theorem metX2_of {l : Launch} {D : va_G} {T : Nat → ClassId} {em : Nat → Nat} {ws : va_W} {x : Int32} (sz : Nat) : MetRY Unit l yX2_of (ws_ yX2_of cX2_of 1 (some (.object "SequenceBench$Method"))) rmX2_of D T (EnY em) ws sz [.int x] (fun _ => em (moI x)) (fun _ => ws) (fun _ _ => True) 0 0 := by
  refine g_entryY (y := yX2_of) (Y := EnY em) (Qc := fun A => va_Qr (fun (_ : Unit) => True) (fun u aa t => aa = em (moI x) ∧ gPost D T A ws t ∧ True) A) (by decide) rfl ?_
  intro p e s m below meth c ls S hini hM hY hl
  have hl : lv_has ls 1 [(0, .int x)] := hl
  refine lv_iload_n S.x S.b dX2_of_0 rfl (lv_at hl 0 rfl) ?_
  refine lv_if_ne (tgt := 10) S.x S.b dX2_of_1 rfl (fun cn => ?_) (fun cn => ?_)
  · refine lv_iload_n S.x S.b dX2_of_10 rfl (lv_at hl 0 rfl) ?_
    refine lv_iconst (v := (1 : Int32)) S.x S.b dX2_of_11 ie1 ?_
    refine lv_icmp_ne (tgt := 21) S.x S.b dX2_of_12 rfl (fun cm => ?_) (fun cm => ?_)
    · refine va_gets S.x S.b (hY.1 2 (by decide)).1 hM.2.2.1 S.o (S.w _ q1183) (fun _ h => h) dX2_of_21 ?_
      exact ga_aret (U := Unit) (ad := fun _ => em (moI x)) (ws' := fun _ => ws) (X := fun _ _ => True) S (Or.inl ⟨_, rfl⟩) () hM trivial (by unfold moI; rw [if_neg cn, if_neg cm]) dX2_of_24
    · refine va_gets S.x S.b (hY.1 1 (by decide)).1 hM.2.2.1 S.o (S.w _ q1182) (fun _ h => h) dX2_of_15 ?_
      refine lv_goto (tgt := 24) S.x S.b dX2_of_18 rfl ?_
      exact ga_aret (U := Unit) (ad := fun _ => em (moI x)) (ws' := fun _ => ws) (X := fun _ _ => True) S (Or.inl ⟨_, rfl⟩) () hM trivial (by unfold moI; rw [if_neg cn, if_pos cm]) dX2_of_24
  · refine va_gets S.x S.b (hY.1 0 (by decide)).1 hM.2.2.1 S.o (S.w _ q1180) (fun _ h => h) dX2_of_4 ?_
    refine lv_goto (tgt := 24) S.x S.b dX2_of_7 rfl ?_
    exact ga_aret (U := Unit) (ad := fun _ => em (moI x)) (ws' := fun _ => ws) (X := fun _ _ => True) S (Or.inl ⟨_, rfl⟩) () hM trivial (by unfold moI; rw [if_pos cn]) dX2_of_24
abbrev rmX2_number : Room := { frames := 1, cells := 0, slots := 0, locals := 12 }
theorem hdX2_number : gHd yX2_number 0 := by decide +kernel
def numI (i : Nat) : Int32 := match i with
  | 0 => 0
  | 1 => 1
  | _ => 2
set_option maxHeartbeats 4000000 in
theorem metX2_number {l : Launch} {D : va_G} {T : Nat → ClassId} {em : Nat → Nat} {ws : va_W} {i : Nat} (hi : i < 3) (sz : Nat) : MetIY Unit l yX2_number (ws_ yX2_number cX2_number 1 (some .int)) rmX2_number D T (EnY em) ws sz [.ref (em i)] (numI i) (fun _ => ws) (fun _ _ => True) 0 0 := by
  refine g_entryY (y := yX2_number) (Y := EnY em) (Qc := fun A => va_Qi (fun r' (_ : Unit) => r' = numI i) (fun _ t => gPost D T A ws t ∧ True) A) (by decide) rfl ?_
  intro p e s m below meth c ls S hini hM hY hl
  have hl : lv_has ls 1 [(0, .ref (em i))] := hl
  refine lv_aload_n S.x S.b dX2_number_0 rfl (lv_at hl 0 rfl) ?_
  refine va_gets S.x S.b (hY.1 0 (by decide)).1 hM.2.2.1 S.o (S.w _ q1180) (fun _ h => h) dX2_number_1 ?_
  refine lv_acmp_ne (rx := some (em i)) (ry := some (em 0)) (tgt := 11) S.x S.b dX2_number_4 rfl (fun cn => ?_) (fun cn => ?_)
  · refine lv_aload_n S.x S.b dX2_number_11 rfl (lv_at hl 0 rfl) ?_
    refine va_gets S.x S.b (hY.1 1 (by decide)).1 hM.2.2.1 S.o (S.w _ q1182) (fun _ h => h) dX2_number_12 ?_
    refine lv_acmp_ne (rx := some (em i)) (ry := some (em 1)) (tgt := 22) S.x S.b dX2_number_15 rfl (fun cm => ?_) (fun cm => ?_)
    · have e2 : i = 2 := by
        rcases (show i = 0 ∨ i = 1 ∨ i = 2 by omega) with e | e | e
        · exact absurd (by rw [e]) cn
        · exact absurd (by rw [e]) cm
        · exact e
      subst e2
      refine lv_iconst (v := (2 : Int32)) S.x S.b dX2_number_22 ie2 ?_
      exact ga_iret (U := Unit) (r := numI 2) (ws' := fun _ => ws) (X := fun _ _ => True) S () hM trivial rfl dX2_number_23
    · have e1 : i = 1 := hY.2 i 1 hi (by decide) (Option.some.inj cm)
      subst e1
      refine lv_iconst (v := (1 : Int32)) S.x S.b dX2_number_18 ie1 ?_
      refine lv_goto (tgt := 23) S.x S.b dX2_number_19 rfl ?_
      exact ga_iret (U := Unit) (r := numI 1) (ws' := fun _ => ws) (X := fun _ _ => True) S () hM trivial rfl dX2_number_23
  · have e0 : i = 0 := hY.2 i 0 hi (by decide) (Option.some.inj cn)
    subst e0
    refine lv_iconst (v := (0 : Int32)) S.x S.b dX2_number_7 ie0 ?_
    refine lv_goto (tgt := 23) S.x S.b dX2_number_8 rfl ?_
    exact ga_iret (U := Unit) (r := numI 0) (ws' := fun _ => ws) (X := fun _ _ => True) S () hM trivial rfl dX2_number_23
/-- the extra valves of method i -/
def exV (i ns nc : Nat) : Int32 := match i with
  | 0 => 0
  | 1 => Int32.ofNat nc - 1
  | _ => Int32.ofNat ns
abbrev rmEv : Room := { frames := 1, cells := 0, slots := 0, locals := 12 }
section EV
variable {l : Launch} {D : va_G} {T : Nat → ClassId} {em b sa : Nat → Nat} {ws : va_W} {ns nc r0 : Nat} {q : MW}
theorem metX12_extraValves (sz : Nat) : WMetI l yX12_extraValves cX12_extraValves 2 rmEv D T ws sz [.ref r0, .ref (b 0)] 0 ws := by
  refine g_entryW (y := yX12_extraValves) (Qc := fun A => gQi D T A 0 ws) rfl ?_
  intro p e s m below meth c ls S hini hnamed hM hl
  refine lv_iconst (v := (0 : Int32)) S.x S.b dX12_extraValves_0 ie0 ?_
  exact g_iret S hM rfl dX12_extraValves_1
theorem metX13_extraValves (hQ : SqI T b sa ns q (.ref (b 3)) ws) (hC : CuI T b nc q ws) (sz : Nat) : WMetI l yX13_extraValves cX13_extraValves 2 rmEv D T ws sz [.ref r0, .ref (b 0)] (Int32.ofNat nc - 1) ws := by
  refine g_entryW (y := yX13_extraValves) (Qc := fun A => gQi D T A (Int32.ofNat nc - 1) ws) rfl ?_
  intro p e s m below meth c ls S hini hnamed hM hl
  have hl : lv_has ls 2 [(0, .ref r0), (1, .ref (b 0))] := hl
  refine lv_aload_n S.x S.b dX13_extraValves_0 rfl (lv_at hl 1 rfl) ?_
  refine sq_g S hM hQ 2 rfl (Or.inr ⟨_, q925⟩) rfl dX13_extraValves_1 ?_
  refine sq_clen S hM hC dX13_extraValves_4 ?_
  refine lv_iconst (v := (1 : Int32)) S.x S.b dX13_extraValves_5 ie1 ?_
  refine lv_isub S.x S.b dX13_extraValves_6 ?_
  exact g_iret S hM rfl dX13_extraValves_7
theorem metX14_extraValves (hQ : SqI T b sa ns q (.ref (b 3)) ws) (sz : Nat) : WMetI l yX14_extraValves cX14_extraValves 2 rmEv D T ws sz [.ref r0, .ref (b 0)] (Int32.ofNat ns) ws := by
  refine g_entryW (y := yX14_extraValves) (Qc := fun A => gQi D T A (Int32.ofNat ns) ws) rfl ?_
  intro p e s m below meth c ls S hini hnamed hM hl
  have hl : lv_has ls 2 [(0, .ref r0), (1, .ref (b 0))] := hl
  refine lv_aload_n S.x S.b dX14_extraValves_0 rfl (lv_at hl 1 rfl) ?_
  refine sq_g S hM hQ 0 rfl (Or.inr ⟨_, q920⟩) rfl dX14_extraValves_1 ?_
  refine sq_len S hM hQ dX14_extraValves_4 ?_
  exact g_iret S hM rfl dX14_extraValves_5
theorem hdEv : ("SequenceBench$Method" : String) ≠ "java/lang/invoke/MethodHandle" ∧ ("SequenceBench$Method" : String) ≠ "java/lang/invoke/VarHandle" ∧ (parseMethodDescriptor "(LSequenceBench$Sequence;)I").map (fun d => d.parameters.length) = some 1 := by decide +kernel
variable {p : Program} {e : Env} {R : Room} {s : State} {m : MethodId} {args : Array Value} {below : List Frame} {meth : Method} {c : Code} {H : Heap} {locs : List Loc} {cells slots : Nat} {Q : State → Prop} {cc : ByteArray} {nL : Nat} {ret : Option FieldType} {A : Nat → Prop} {pc : Nat} {ls : Array Slot} {rest : List Value} {lv : List (Nat × Value)} {i : Nat}
/-- its.extraValves(sequence), in the bench -/
theorem ev_call (S : gS p s m args meth c cc nL ret RX1 D T) (hM : gM D A s.heap ws H locs) (hl : lv_has ls nL lv) (hY : EnY em A s s.heap) (hi : i < 3) (hQ : SqI T b sa ns q (.ref (b 3)) ws) (hC : CuI T b nc q ws) (hR : Nat.ble (rmEv.frames + 1) R.frames = true ∧ Nat.ble (8 + (2 + 11) + rmEv.locals) R.locals = true) (hrm : Nat.ble (rest.map fun v => v.category).sum 8 = true) (hfit : cells + 0 ≤ R.cells ∧ slots + 0 ≤ R.slots) (hdg : decode cc pc = .ok (.invokevirtual 152, 3))
    (kk : ∀ (H1 : Heap) (locs1 : List Loc), gM D A s.heap ws H1 locs1 → W p l e R s m args below meth c H1 locs1 cells slots Q (F0 m (pc + 3) ls (.int (exV i ns nc) :: rest))) : W p l e R s m args below meth c H locs cells slots Q (F0 m pc ls (.ref (b 0) :: .ref (em i) :: rest)) := by
  rcases (show i = 0 ∨ i = 1 ∨ i = 2 by omega) with rfl | rfl | rfl
  · exact gc_i (C := enC 0) (owner := "SequenceBench$Method") S hM hl [.ref (b 0)] (va_Orecv (hY.1 0 (by decide)).2 hM.2.2.1) (by decide) metX12_extraValves q1199 q1201 q1200 hdEv q1202 q1203 q1204 ⟨rfl, rfl⟩ hR rfl rfl hrm hfit hdg kk
  · exact gc_i (C := enC 1) (owner := "SequenceBench$Method") S hM hl [.ref (b 0)] (va_Orecv (hY.1 1 (by decide)).2 hM.2.2.1) (by decide) (metX13_extraValves hQ hC) q1199 q1201 q1200 hdEv q1205 q1206 q1207 ⟨rfl, rfl⟩ hR rfl rfl hrm hfit hdg kk
  · exact gc_i (C := enC 2) (owner := "SequenceBench$Method") S hM hl [.ref (b 0)] (va_Orecv (hY.1 2 (by decide)).2 hM.2.2.1) (by decide) (metX14_extraValves hQ) q1199 q1201 q1200 hdEv q1208 q1209 q1210 ⟨rfl, rfl⟩ hR rfl rfl hrm hfit hdg kk
end EV
