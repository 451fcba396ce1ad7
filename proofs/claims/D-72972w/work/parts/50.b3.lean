/-! constants -/
set_option maxRecDepth 100000
/-! SequenceBench.effect(III)I -/
theorem hdX1_effect : gHd yX1_effect 3 := by decide +kernel
def gX1_effect_35 (N : Nat) (i : Nat) (ns : Nat) (q : MW) (nc : Nat) (x1 : Int32) (x2 : Int32) (x3 : Int32) (s0 : Int32) (w : BW) : Option (Int32 × BW) :=
  bd (gX1_checkArgument s0) fun _ =>
  bd (gX1_checkSequence ns q nc w) fun w_3 =>
  bd (gFaulty i N ns nc q x1 x2 x3 w_3) fun wt_5 =>
  some ((wt_5.1 18), w_3)
def gX1_effect_34 (N : Nat) (i : Nat) (ns : Nat) (q : MW) (nc : Nat) (x1 : Int32) (x2 : Int32) (x3 : Int32) (w : BW) : Option (Int32 × BW) :=
  gX1_effect_35 N i ns q nc x1 x2 x3 (0 : Int32) w
def gX1_effect (N : Nat) (i : Nat) (ns : Nat) (q : MW) (nc : Nat) (x1 : Int32) (x2 : Int32) (x3 : Int32) (w : BW) : Option (Int32 × BW) :=
  bd (gX1_checkIndex x1 (6 : Int32)) fun _ =>
  bd (gX1_isIn x2.toInt64 (0 : Int64) (4 : Int64)) fun r_1 =>
  if r_1 = 0 then (
  gX1_effect_34 N i ns q nc x1 x2 x3 w)
  else (
  bd (gX1_isIn x3.toInt64 (0 : Int64) (2000 : Int64)) fun r_2 =>
  if r_2 = 0 then (
  gX1_effect_34 N i ns q nc x1 x2 x3 w)
  else (
  gX1_effect_35 N i ns q nc x1 x2 x3 (1 : Int32) w))
abbrev rmX1_effect : Room := { frames := 10, cells := 25, slots := 238, locals := 3525 }
set_option maxHeartbeats 4000000 in
theorem wX1_effect_35 {p : Program} {l : Launch} {e : Env} {s : State} {m : MethodId} {args : Array Value} {below : List Frame} {meth : Method} {c : Code} {D : va_G} {T : Nat → ClassId} {A : Nat → Prop} {h : Nat} {d a b sa : Nat → Nat} {co : Option Nat} {tl : va_W} {em : Nat → Nat} {rr : Int32} {wr : BW} {N : Nat} {i : Nat} {ns : Nat} {q : MW} {nc : Nat} (S : gS p s m args meth c cX1_effect 4 (some .int) RX1 D T) (hi3 : i < 3) (hK : SqK N ns nc q) (hQ : SqI T b sa ns q (.ref (b 3)) tl) (hC : CuI T b nc q tl) (hY : EnY em A s s.heap) : ∀ (x1 : Int32) (x2 : Int32) (x3 : Int32) (s0 : Int32) (w : BW) (H : Heap) (locs : List Loc) (ls : Array Slot), gM D A s.heap (bwW h d T (some (b 0)) co (em i) a w tl) H locs → lv_has ls 4 [(0, .ref h), (1, .int x1), (2, .int x2), (3, .int x3)] → gX1_effect_35 N i ns q nc x1 x2 x3 s0 w = some (rr, wr) → W p l e rmX1_effect s m args below meth c H locs 0 0 (MQ below (va_Qi (fun r' (_ : Unit) => r' = rr) (fun _ t => gPost D T A (bwW h d T (some (b 0)) co (em i) a wr tl) t ∧ True) A) args s 25 238 A) (F0 m 35 ls [.int s0]) := by
  intro x1 x2 x3 s0 w H locs ls hM hl hf
  obtain ⟨_, hc, hf⟩ := bd_some hf
  refine gg_sv S hM hl [.int s0] (metX1_checkArgument hc) hdX1_checkArgument q1022 q1023 q62 q1024 ⟨rfl, rfl⟩ ⟨rfl, rfl⟩ rfl rfl rfl ⟨Nat.le_of_ble_eq_true rfl, Nat.le_of_ble_eq_true rfl⟩ dX1_effect_35 (fun H locs hM => ?_)
  refine lv_aload_n S.x S.b dX1_effect_38 rfl (lv_at hl 0 rfl) ?_
  obtain ⟨w_3, hc, hf⟩ := bd_some hf
  refine gw_cv S hM hl [] 1 rfl ⟨0, _, rfl⟩ (metX1_checkSequence hQ hC hc) hdX1_checkSequence q1126 q1128 qs19 q62 q1129 ⟨rfl, rfl⟩ ⟨rfl, rfl⟩ rfl rfl rfl ⟨Nat.le_of_ble_eq_true rfl, Nat.le_of_ble_eq_true rfl⟩ dX1_effect_39 (fun H locs hM => ?_)
  refine lv_aload_n S.x S.b dX1_effect_42 rfl (lv_at hl 0 rfl) ?_
  refine lv_iload_n S.x S.b dX1_effect_43 rfl (lv_at hl 1 rfl) ?_
  refine lv_iload_n S.x S.b dX1_effect_44 rfl (lv_at hl 2 rfl) ?_
  refine lv_iload_n S.x S.b dX1_effect_45 rfl (lv_at hl 3 rfl) ?_
  obtain ⟨wt_5, hc, hf⟩ := bd_some hf
  refine gf_call S hM hl hY hi3 hK hQ hC hc ⟨rfl, rfl⟩ rfl ⟨Nat.le_of_ble_eq_true rfl, Nat.le_of_ble_eq_true rfl⟩ dX1_effect_46 (fun u H locs hM => ?_)
  refine g_getL S hM ⟨0, rfl⟩ (ci := 2) rfl in_X3 18 rfl (Or.inr ⟨_, q257⟩) rfl dX1_effect_49 ?_
  obtain ⟨rfl, rfl⟩ := rt2 hf
  exact ga_iret (U := Unit) (ws' := fun _ => _) (X := fun _ _ => True) S () hM.drop trivial rfl dX1_effect_52
set_option maxHeartbeats 4000000 in
theorem wX1_effect_34 {p : Program} {l : Launch} {e : Env} {s : State} {m : MethodId} {args : Array Value} {below : List Frame} {meth : Method} {c : Code} {D : va_G} {T : Nat → ClassId} {A : Nat → Prop} {h : Nat} {d a b sa : Nat → Nat} {co : Option Nat} {tl : va_W} {em : Nat → Nat} {rr : Int32} {wr : BW} {N : Nat} {i : Nat} {ns : Nat} {q : MW} {nc : Nat} (S : gS p s m args meth c cX1_effect 4 (some .int) RX1 D T) (hi3 : i < 3) (hK : SqK N ns nc q) (hQ : SqI T b sa ns q (.ref (b 3)) tl) (hC : CuI T b nc q tl) (hY : EnY em A s s.heap) : ∀ (x1 : Int32) (x2 : Int32) (x3 : Int32) (w : BW) (H : Heap) (locs : List Loc) (ls : Array Slot), gM D A s.heap (bwW h d T (some (b 0)) co (em i) a w tl) H locs → lv_has ls 4 [(0, .ref h), (1, .int x1), (2, .int x2), (3, .int x3)] → gX1_effect_34 N i ns q nc x1 x2 x3 w = some (rr, wr) → W p l e rmX1_effect s m args below meth c H locs 0 0 (MQ below (va_Qi (fun r' (_ : Unit) => r' = rr) (fun _ t => gPost D T A (bwW h d T (some (b 0)) co (em i) a wr tl) t ∧ True) A) args s 25 238 A) (F0 m 34 ls []) := by
  intro x1 x2 x3 w H locs ls hM hl hf
  refine lv_iconst (v := (0 : Int32)) S.x S.b dX1_effect_34 ki_0 ?_
  exact wX1_effect_35 S hi3 hK hQ hC hY x1 x2 x3 (0 : Int32) w _ _ _ hM (lv_sub hl [0, 1, 2, 3] rfl) hf
set_option maxHeartbeats 4000000 in
theorem metX1_effect {l : Launch} {D : va_G} {T : Nat → ClassId} {h : Nat} {d a b sa : Nat → Nat} {co : Option Nat} {tl : va_W} {em : Nat → Nat} {rr : Int32} {wr : BW} {N : Nat} {x1 : Int32} {x2 : Int32} {x3 : Int32} {w : BW} {i : Nat} {ns : Nat} {q : MW} {nc : Nat} (hi3 : i < 3) (hK : SqK N ns nc q) (hQ : SqI T b sa ns q (.ref (b 3)) tl) (hC : CuI T b nc q tl) (hf : gX1_effect N i ns q nc x1 x2 x3 w = some (rr, wr)) (sz : Nat) : MetIY Unit l yX1_effect (ws_ yX1_effect cX1_effect 4 (some .int)) rmX1_effect D T (EnY em) (bwW h d T (some (b 0)) co (em i) a w tl) sz [.ref h, .int x1, .int x2, .int x3] rr (fun _ => bwW h d T (some (b 0)) co (em i) a wr tl) (fun _ _ => True) 25 238 := by
  refine g_entryY (y := yX1_effect) (Y := EnY em) (Qc := fun A => va_Qi (fun r' (_ : Unit) => r' = rr) (fun _ t => gPost D T A (bwW h d T (some (b 0)) co (em i) a wr tl) t ∧ True) A) (by decide) rfl ?_
  intro p e s m below meth c ls S hini hM hY hl
  have hl : lv_has ls 4 [(0, .ref h), (1, .int x1), (2, .int x2), (3, .int x3)] := hl
  refine lv_iload_n S.x S.b dX1_effect_0 rfl (lv_at hl 1 rfl) ?_
  refine lv_bipush (v := (6 : Int32)) S.x S.b dX1_effect_1 kb_6 ?_
  obtain ⟨_, hc, hf⟩ := bd_some hf
  refine gg_sv S hM hl [.int x1, .int (6 : Int32)] (metX1_checkIndex hc) hdX1_checkIndex q1081 q1082 q62 q1083 ⟨rfl, rfl⟩ ⟨rfl, rfl⟩ rfl rfl rfl ⟨Nat.le_of_ble_eq_true rfl, Nat.le_of_ble_eq_true rfl⟩ dX1_effect_3 (fun H locs hM => ?_)
  refine lv_iload_n S.x S.b dX1_effect_6 rfl (lv_at hl 2 rfl) ?_
  refine lv_i2l S.x S.b dX1_effect_7 rfl ?_
  refine lv_lconst (v := (0 : Int64)) S.x S.b dX1_effect_8 kl_0 ?_
  refine lv_ldc2 (v := (4 : Int64)) S.x S.b S.o (S.w _ q1240) dX1_effect_9 ?_
  obtain ⟨r_1, hc, hf⟩ := bd_some hf
  refine gg_si S hM hl [.long x2.toInt64, .long (0 : Int64), .long (4 : Int64)] (metX1_isIn hc) hdX1_isIn q1021 q788 q62 q789 ⟨rfl, rfl⟩ ⟨rfl, rfl⟩ rfl rfl rfl ⟨Nat.le_of_ble_eq_true rfl, Nat.le_of_ble_eq_true rfl⟩ dX1_effect_12 (fun H locs hM => ?_)
  refine lv_if_eq (tgt := 34) S.x S.b dX1_effect_15 rfl (fun cn => ?_) (fun cn => ?_)
  · have hf := if_t cn hf
    exact wX1_effect_34 S hi3 hK hQ hC hY x1 x2 x3 w _ _ _ hM (lv_sub hl [0, 1, 2, 3] rfl) hf
  · have hf := if_f cn hf
    refine lv_iload_n S.x S.b dX1_effect_18 rfl (lv_at hl 3 rfl) ?_
    refine lv_i2l S.x S.b dX1_effect_19 rfl ?_
    refine lv_lconst (v := (0 : Int64)) S.x S.b dX1_effect_20 kl_0 ?_
    refine lv_ldc2 (v := (2000 : Int64)) S.x S.b S.o (S.w _ q1410) dX1_effect_21 ?_
    obtain ⟨r_2, hc, hf⟩ := bd_some hf
    refine gg_si S hM hl [.long x3.toInt64, .long (0 : Int64), .long (2000 : Int64)] (metX1_isIn hc) hdX1_isIn q1021 q788 q62 q789 ⟨rfl, rfl⟩ ⟨rfl, rfl⟩ rfl rfl rfl ⟨Nat.le_of_ble_eq_true rfl, Nat.le_of_ble_eq_true rfl⟩ dX1_effect_24 (fun H locs hM => ?_)
    refine lv_if_eq (tgt := 34) S.x S.b dX1_effect_27 rfl (fun cn => ?_) (fun cn => ?_)
    · have hf := if_t cn hf
      exact wX1_effect_34 S hi3 hK hQ hC hY x1 x2 x3 w _ _ _ hM (lv_sub hl [0, 1, 2, 3] rfl) hf
    · have hf := if_f cn hf
      refine lv_iconst (v := (1 : Int32)) S.x S.b dX1_effect_30 ki_1 ?_
      refine lv_goto (tgt := 35) S.x S.b dX1_effect_31 rfl ?_
      exact wX1_effect_35 S hi3 hK hQ hC hY x1 x2 x3 (1 : Int32) w _ _ _ hM (lv_sub hl [0, 1, 2, 3] rfl) hf
