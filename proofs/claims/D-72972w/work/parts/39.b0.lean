/-! constants -/
theorem kl_0 : Int64.ofNat ((0 : Fin 2) : Nat) = (0 : Int64) := by decide
theorem kl_1 : Int64.ofNat ((1 : Fin 2) : Nat) = (1 : Int64) := by decide
set_option maxRecDepth 100000
/-! SequenceBench.checkIndex(II)V -/
theorem hdX1_checkIndex : gHd yX1_checkIndex 2 := by decide +kernel
def gX1_checkIndex (x0 : Int32) (x1 : Int32) : Option (Unit) :=
  bd (gX1_isIn x0.toInt64 (0 : Int64) (x1.toInt64 - (1 : Int64))) fun r_1 =>
  if r_1 = 0 then (
  none)
  else (
  some ())
abbrev rmX1_checkIndex : Room := { frames := 2, cells := 0, slots := 0, locals := 37 }
set_option maxHeartbeats 4000000 in
theorem metX1_checkIndex {l : Launch} {D : va_G} {T : Nat → ClassId} {x0 : Int32} {x1 : Int32} (hf : gX1_checkIndex x0 x1 = some ()) (sz : Nat) : MetV l yX1_checkIndex (ws_ yX1_checkIndex cX1_checkIndex 2 (none)) rmX1_checkIndex D T ([]) sz [.int x0, .int x1] ([]) := by
  refine g_entry (Qc := fun A => gQv D T A ([])) (by decide) rfl ?_
  intro p e s m below meth c ls S hM hl
  have hl : lv_has ls 2 [(0, .int x0), (1, .int x1)] := hl
  refine lv_iload_n S.x S.b dX1_checkIndex_0 rfl (lv_at hl 0 rfl) ?_
  refine lv_i2l S.x S.b dX1_checkIndex_1 rfl ?_
  refine lv_lconst (v := (0 : Int64)) S.x S.b dX1_checkIndex_2 kl_0 ?_
  refine lv_iload_n S.x S.b dX1_checkIndex_3 rfl (lv_at hl 1 rfl) ?_
  refine lv_i2l S.x S.b dX1_checkIndex_4 rfl ?_
  refine lv_lconst (v := (1 : Int64)) S.x S.b dX1_checkIndex_5 kl_1 ?_
  refine lv_lsub S.x S.b dX1_checkIndex_6 ?_
  obtain ⟨r_1, hc, hf⟩ := bd_some hf
  refine gg_si S hM hl [.long x0.toInt64, .long (0 : Int64), .long (x1.toInt64 - (1 : Int64))] (metX1_isIn hc) hdX1_isIn q1021 q788 q62 q789 ⟨rfl, rfl⟩ ⟨rfl, rfl⟩ rfl rfl rfl ⟨Nat.zero_le _, Nat.zero_le _⟩ dX1_checkIndex_7 (fun H locs hM => ?_)
  refine lv_if_ne (tgt := 21) S.x S.b dX1_checkIndex_10 rfl (fun cn => ?_) (fun cn => ?_)
  · have hf := if_f cn hf
    clear hf
    exact g_vret S hM dX1_checkIndex_21
  · have hf := if_t cn hf
    cases hf
/-! SequenceBench.checkArgument(Z)V -/
theorem hdX1_checkArgument : gHd yX1_checkArgument 1 := by decide +kernel
def gX1_checkArgument (x0 : Int32) : Option (Unit) :=
  if x0 = 0 then (
  none)
  else (
  some ())
abbrev rmX1_checkArgument : Room := { frames := 1, cells := 0, slots := 0, locals := 12 }
set_option maxHeartbeats 4000000 in
theorem metX1_checkArgument {l : Launch} {D : va_G} {T : Nat → ClassId} {x0 : Int32} (hf : gX1_checkArgument x0 = some ()) (sz : Nat) : MetV l yX1_checkArgument (ws_ yX1_checkArgument cX1_checkArgument 1 (none)) rmX1_checkArgument D T ([]) sz [.int x0] ([]) := by
  refine g_entry (Qc := fun A => gQv D T A ([])) (by decide) rfl ?_
  intro p e s m below meth c ls S hM hl
  have hl : lv_has ls 1 [(0, .int x0)] := hl
  refine lv_iload_n S.x S.b dX1_checkArgument_0 rfl (lv_at hl 0 rfl) ?_
  refine lv_if_ne (tgt := 12) S.x S.b dX1_checkArgument_1 rfl (fun cn => ?_) (fun cn => ?_)
  · have hf := if_f cn hf
    clear hf
    exact g_vret S hM dX1_checkArgument_12
  · have hf := if_t cn hf
    cases hf
/-! SequenceBench.clearText()I -/
theorem hdX1_clearText : gHd yX1_clearText 0 := by decide +kernel
def gX1_clearText (w : BW) : Option (Int32 × BW) :=
  lt ((w.1.1 1)) fun x1_1 =>
  lt (bF w 1 (0 : Int32)) fun w_2 =>
  some (x1_1, w_2)
abbrev rmX1_clearText : Room := { frames := 1, cells := 0, slots := 0, locals := 12 }
set_option maxHeartbeats 4000000 in
theorem metX1_clearText {l : Launch} {D : va_G} {T : Nat → ClassId} {h me : Nat} {d a : Nat → Nat} {so co : Option Nat} {tl : va_W} {rr : Int32} {wr : BW} {w : BW} (hf : gX1_clearText w = some (rr, wr)) (sz : Nat) : MetI l yX1_clearText (ws_ yX1_clearText cX1_clearText 2 (some .int)) rmX1_clearText D T (bwW h d T so co me a w tl) sz [.ref h] rr (bwW h d T so co me a wr tl) := by
  refine g_entry (Qc := fun A => gQi D T A rr (bwW h d T so co me a wr tl)) (by decide) rfl ?_
  intro p e s m below meth c ls S hM hl
  have hl : lv_has ls 2 [(0, .ref h)] := hl
  refine lv_aload_n S.x S.b dX1_clearText_0 rfl (lv_at hl 0 rfl) ?_
  refine bn_g S hM 1 rfl (Or.inl q321) rfl dX1_clearText_1 ?_
  obtain ⟨x1_1, ex, hf⟩ := lt_some hf
  refine g_istn S (x' := x1_1) ex hl dX1_clearText_4 rfl rfl (lv' := [(1, .int x1_1), (0, .ref h)]) rfl (fun ls hl => ?_)
  refine lv_aload_n S.x S.b dX1_clearText_5 rfl (lv_at hl 1 rfl) ?_
  refine lv_iconst (v := (0 : Int32)) S.x S.b dX1_clearText_6 ki_0 ?_
  obtain ⟨w_2, ew, hf⟩ := lt_some hf
  refine bn_p1 S hM ew (Or.inl q321) dX1_clearText_7 (fun H locs hM => ?_)
  refine lv_iload_n S.x S.b dX1_clearText_10 rfl (lv_at hl 0 rfl) ?_
  obtain ⟨rfl, rfl⟩ := rt2 hf
  exact g_iret S hM rfl dX1_clearText_11
/-! SequenceBench.errorKind()I -/
theorem hdX1_errorKind : gHd yX1_errorKind 0 := by decide +kernel
def gX1_errorKind (w : BW) : Option (Int32 × BW) :=
  some ((w.1.1 2), w)
abbrev rmX1_errorKind : Room := { frames := 1, cells := 0, slots := 0, locals := 12 }
set_option maxHeartbeats 4000000 in
theorem metX1_errorKind {l : Launch} {D : va_G} {T : Nat → ClassId} {h me : Nat} {d a : Nat → Nat} {so co : Option Nat} {tl : va_W} {rr : Int32} {wr : BW} {w : BW} (hf : gX1_errorKind w = some (rr, wr)) (sz : Nat) : MetI l yX1_errorKind (ws_ yX1_errorKind cX1_errorKind 1 (some .int)) rmX1_errorKind D T (bwW h d T so co me a w tl) sz [.ref h] rr (bwW h d T so co me a wr tl) := by
  refine g_entry (Qc := fun A => gQi D T A rr (bwW h d T so co me a wr tl)) (by decide) rfl ?_
  intro p e s m below meth c ls S hM hl
  have hl : lv_has ls 1 [(0, .ref h)] := hl
  refine lv_aload_n S.x S.b dX1_errorKind_0 rfl (lv_at hl 0 rfl) ?_
  refine bn_g S hM 2 rfl (Or.inl q322) rfl dX1_errorKind_1 ?_
  obtain ⟨rfl, rfl⟩ := rt2 hf
  exact g_iret S hM rfl dX1_errorKind_4
/-! SequenceBench.setStart(Z)Z -/
theorem hdX1_setStart : gHd yX1_setStart 1 := by decide +kernel
def gX1_setStart (x1 : Int32) (w : BW) : Option (Int32 × BW) :=
  lt ((w.1.1 6)) fun x2_1 =>
  bz x1 <|
  lt (bF w 6 x1) fun w_2 =>
  bz x1 <|
  lt (rF w_2 6 x1) fun w_3 =>
  bz x2_1 (some (x2_1, w_3))
abbrev rmX1_setStart : Room := { frames := 1, cells := 0, slots := 0, locals := 12 }
set_option maxHeartbeats 4000000 in
theorem metX1_setStart {l : Launch} {D : va_G} {T : Nat → ClassId} {h me : Nat} {d a : Nat → Nat} {so co : Option Nat} {tl : va_W} {rr : Int32} {wr : BW} {x1 : Int32} {w : BW} (hf : gX1_setStart x1 w = some (rr, wr)) (sz : Nat) : MetI l yX1_setStart (ws_ yX1_setStart cX1_setStart 3 (some .boolean)) rmX1_setStart D T (bwW h d T so co me a w tl) sz [.ref h, .int x1] rr (bwW h d T so co me a wr tl) := by
  refine g_entry (Qc := fun A => gQi D T A rr (bwW h d T so co me a wr tl)) (by decide) rfl ?_
  intro p e s m below meth c ls S hM hl
  have hl : lv_has ls 3 [(0, .ref h), (1, .int x1)] := hl
  refine lv_aload_n S.x S.b dX1_setStart_0 rfl (lv_at hl 0 rfl) ?_
  refine bn_g S hM 6 rfl (Or.inl q326) rfl dX1_setStart_1 ?_
  obtain ⟨x2_1, ex, hf⟩ := lt_some hf
  refine g_istn S (x' := x2_1) ex hl dX1_setStart_4 rfl rfl (lv' := [(2, .int x2_1), (0, .ref h), (1, .int x1)]) rfl (fun ls hl => ?_)
  refine lv_aload_n S.x S.b dX1_setStart_5 rfl (lv_at hl 1 rfl) ?_
  refine lv_iload_n S.x S.b dX1_setStart_6 rfl (lv_at hl 2 rfl) ?_
  obtain ⟨hz, hf⟩ := bz_or hf
  obtain ⟨w_2, ew, hf⟩ := lt_some hf
  refine bn_p6 S hM hz ew (Or.inl q326) dX1_setStart_7 (fun H locs hM => ?_)
  refine lv_aload_n S.x S.b dX1_setStart_10 rfl (lv_at hl 1 rfl) ?_
  refine bn_g S hM 8 rfl (Or.inl q328) rfl dX1_setStart_11 ?_
  refine lv_iload_n S.x S.b dX1_setStart_14 rfl (lv_at hl 2 rfl) ?_
  obtain ⟨hz, hf⟩ := bz_or hf
  obtain ⟨w_3, ew, hf⟩ := lt_some hf
  refine br_p6 S hM hz ew (Or.inr ⟨_, q236⟩) dX1_setStart_15 (fun H locs hM => ?_)
  refine lv_iload_n S.x S.b dX1_setStart_18 rfl (lv_at hl 0 rfl) ?_
  obtain ⟨hz, hf⟩ := bz_some hf
  obtain ⟨rfl, rfl⟩ := rt2 hf
  exact g_zret S hM rfl hz dX1_setStart_19
/-! SequenceBench.time()I -/
theorem hdX1_time : gHd yX1_time 0 := by decide +kernel
def gX1_time (w : BW) : Option (Int32 × BW) :=
  some ((w.2.1 8), w)
abbrev rmX1_time : Room := { frames := 1, cells := 0, slots := 0, locals := 12 }
set_option maxHeartbeats 4000000 in
theorem metX1_time {l : Launch} {D : va_G} {T : Nat → ClassId} {h me : Nat} {d a : Nat → Nat} {so co : Option Nat} {tl : va_W} {rr : Int32} {wr : BW} {w : BW} (hf : gX1_time w = some (rr, wr)) (sz : Nat) : MetI l yX1_time (ws_ yX1_time cX1_time 1 (some .int)) rmX1_time D T (bwW h d T so co me a w tl) sz [.ref h] rr (bwW h d T so co me a wr tl) := by
  refine g_entry (Qc := fun A => gQi D T A rr (bwW h d T so co me a wr tl)) (by decide) rfl ?_
  intro p e s m below meth c ls S hM hl
  have hl : lv_has ls 1 [(0, .ref h)] := hl
  refine lv_aload_n S.x S.b dX1_time_0 rfl (lv_at hl 0 rfl) ?_
  refine bn_g S hM 8 rfl (Or.inl q328) rfl dX1_time_1 ?_
  refine br_g S hM 8 rfl (Or.inr ⟨_, q240⟩) rfl dX1_time_4 ?_
  obtain ⟨rfl, rfl⟩ := rt2 hf
  exact g_iret S hM rfl dX1_time_7
/-! SequenceBench.events()I -/
theorem hdX1_events : gHd yX1_events 0 := by decide +kernel
def gX1_events (w : BW) : Option (Int32 × BW) :=
  some ((w.2.1 17), w)
abbrev rmX1_events : Room := { frames := 1, cells := 0, slots := 0, locals := 12 }
set_option maxHeartbeats 4000000 in
theorem metX1_events {l : Launch} {D : va_G} {T : Nat → ClassId} {h me : Nat} {d a : Nat → Nat} {so co : Option Nat} {tl : va_W} {rr : Int32} {wr : BW} {w : BW} (hf : gX1_events w = some (rr, wr)) (sz : Nat) : MetI l yX1_events (ws_ yX1_events cX1_events 1 (some .int)) rmX1_events D T (bwW h d T so co me a w tl) sz [.ref h] rr (bwW h d T so co me a wr tl) := by
  refine g_entry (Qc := fun A => gQi D T A rr (bwW h d T so co me a wr tl)) (by decide) rfl ?_
  intro p e s m below meth c ls S hM hl
  have hl : lv_has ls 1 [(0, .ref h)] := hl
  refine lv_aload_n S.x S.b dX1_events_0 rfl (lv_at hl 0 rfl) ?_
  refine bn_g S hM 8 rfl (Or.inl q328) rfl dX1_events_1 ?_
  refine br_g S hM 17 rfl (Or.inr ⟨_, q255⟩) rfl dX1_events_4 ?_
  obtain ⟨rfl, rfl⟩ := rt2 hf
  exact g_iret S hM rfl dX1_events_7
/-! SequenceBench.rightEvents()I -/
theorem hdX1_rightEvents : gHd yX1_rightEvents 0 := by decide +kernel
def gX1_rightEvents (w : BW) : Option (Int32 × BW) :=
  some ((w.2.1 18), w)
abbrev rmX1_rightEvents : Room := { frames := 1, cells := 0, slots := 0, locals := 12 }
set_option maxHeartbeats 4000000 in
theorem metX1_rightEvents {l : Launch} {D : va_G} {T : Nat → ClassId} {h me : Nat} {d a : Nat → Nat} {so co : Option Nat} {tl : va_W} {rr : Int32} {wr : BW} {w : BW} (hf : gX1_rightEvents w = some (rr, wr)) (sz : Nat) : MetI l yX1_rightEvents (ws_ yX1_rightEvents cX1_rightEvents 1 (some .int)) rmX1_rightEvents D T (bwW h d T so co me a w tl) sz [.ref h] rr (bwW h d T so co me a wr tl) := by
  refine g_entry (Qc := fun A => gQi D T A rr (bwW h d T so co me a wr tl)) (by decide) rfl ?_
  intro p e s m below meth c ls S hM hl
  have hl : lv_has ls 1 [(0, .ref h)] := hl
  refine lv_aload_n S.x S.b dX1_rightEvents_0 rfl (lv_at hl 0 rfl) ?_
  refine bn_g S hM 8 rfl (Or.inl q328) rfl dX1_rightEvents_1 ?_
  refine br_g S hM 18 rfl (Or.inr ⟨_, q257⟩) rfl dX1_rightEvents_4 ?_
  obtain ⟨rfl, rfl⟩ := rt2 hf
  exact g_iret S hM rfl dX1_rightEvents_7
/-! SequenceBench.cycles()I -/
theorem hdX1_cycles : gHd yX1_cycles 0 := by decide +kernel
def gX1_cycles (w : BW) : Option (Int32 × BW) :=
  some ((w.2.1 22), w)
abbrev rmX1_cycles : Room := { frames := 1, cells := 0, slots := 0, locals := 12 }
set_option maxHeartbeats 4000000 in
theorem metX1_cycles {l : Launch} {D : va_G} {T : Nat → ClassId} {h me : Nat} {d a : Nat → Nat} {so co : Option Nat} {tl : va_W} {rr : Int32} {wr : BW} {w : BW} (hf : gX1_cycles w = some (rr, wr)) (sz : Nat) : MetI l yX1_cycles (ws_ yX1_cycles cX1_cycles 1 (some .int)) rmX1_cycles D T (bwW h d T so co me a w tl) sz [.ref h] rr (bwW h d T so co me a wr tl) := by
  refine g_entry (Qc := fun A => gQi D T A rr (bwW h d T so co me a wr tl)) (by decide) rfl ?_
  intro p e s m below meth c ls S hM hl
  have hl : lv_has ls 1 [(0, .ref h)] := hl
  refine lv_aload_n S.x S.b dX1_cycles_0 rfl (lv_at hl 0 rfl) ?_
  refine bn_g S hM 8 rfl (Or.inl q328) rfl dX1_cycles_1 ?_
  refine br_g S hM 22 rfl (Or.inr ⟨_, q262⟩) rfl dX1_cycles_4 ?_
  obtain ⟨rfl, rfl⟩ := rt2 hf
  exact g_iret S hM rfl dX1_cycles_7
/-! SequenceBench.quiet()I -/
theorem hdX1_quiet : gHd yX1_quiet 0 := by decide +kernel
def gX1_quiet (w : BW) : Option (Int32 × BW) :=
  some ((w.2.1 9), w)
abbrev rmX1_quiet : Room := { frames := 1, cells := 0, slots := 0, locals := 12 }
set_option maxHeartbeats 4000000 in
theorem metX1_quiet {l : Launch} {D : va_G} {T : Nat → ClassId} {h me : Nat} {d a : Nat → Nat} {so co : Option Nat} {tl : va_W} {rr : Int32} {wr : BW} {w : BW} (hf : gX1_quiet w = some (rr, wr)) (sz : Nat) : MetI l yX1_quiet (ws_ yX1_quiet cX1_quiet 1 (some .int)) rmX1_quiet D T (bwW h d T so co me a w tl) sz [.ref h] rr (bwW h d T so co me a wr tl) := by
  refine g_entry (Qc := fun A => gQi D T A rr (bwW h d T so co me a wr tl)) (by decide) rfl ?_
  intro p e s m below meth c ls S hM hl
  have hl : lv_has ls 1 [(0, .ref h)] := hl
  refine lv_aload_n S.x S.b dX1_quiet_0 rfl (lv_at hl 0 rfl) ?_
  refine bn_g S hM 8 rfl (Or.inl q328) rfl dX1_quiet_1 ?_
  refine br_g S hM 9 rfl (Or.inr ⟨_, q242⟩) rfl dX1_quiet_4 ?_
  obtain ⟨rfl, rfl⟩ := rt2 hf
  exact g_iret S hM rfl dX1_quiet_7
/-! SequenceBench.type(I)I -/
theorem hdX1_type : gHd yX1_type 1 := by decide +kernel
def gX1_type (x1 : Int32) (w : BW) : Option (Int32 × BW) :=
  bd (gX1_isIn x1.toInt64 (32 : Int64) (126 : Int64)) fun r_1 =>
  bd (gX1_checkArgument r_1) fun _ =>
  if (w.1.1 1) = (80 : Int32) then (
  none)
  else (
  ck (w.1.1 1) 80 <|
  lt (bA w 0 (w.1.1 1).toNatClampNeg (vp_nar .char ((x1.toUInt32 % 65536).toInt32))) fun w_2 =>
  lt (bF w_2 1 ((w_2.1.1 1) + (1 : Int32))) fun w_3 =>
  some ((w_3.1.1 1), w_3))
abbrev rmX1_type : Room := { frames := 2, cells := 0, slots := 0, locals := 37 }
set_option maxHeartbeats 4000000 in
theorem metX1_type {l : Launch} {D : va_G} {T : Nat → ClassId} {h me : Nat} {d a : Nat → Nat} {so co : Option Nat} {tl : va_W} {rr : Int32} {wr : BW} {x1 : Int32} {w : BW} (hf : gX1_type x1 w = some (rr, wr)) (sz : Nat) : MetI l yX1_type (ws_ yX1_type cX1_type 2 (some .int)) rmX1_type D T (bwW h d T so co me a w tl) sz [.ref h, .int x1] rr (bwW h d T so co me a wr tl) := by
  refine g_entry (Qc := fun A => gQi D T A rr (bwW h d T so co me a wr tl)) (by decide) rfl ?_
  intro p e s m below meth c ls S hM hl
  have hl : lv_has ls 2 [(0, .ref h), (1, .int x1)] := hl
  refine lv_iload_n S.x S.b dX1_type_0 rfl (lv_at hl 1 rfl) ?_
  refine lv_i2l S.x S.b dX1_type_1 rfl ?_
  refine lv_ldc2 (v := (32 : Int64)) S.x S.b S.o (S.w _ q1019) dX1_type_2 ?_
  refine lv_ldc2 (v := (126 : Int64)) S.x S.b S.o (S.w _ q1020) dX1_type_5 ?_
  obtain ⟨r_1, hc, hf⟩ := bd_some hf
  refine gg_si S hM hl [.long x1.toInt64, .long (32 : Int64), .long (126 : Int64)] (metX1_isIn hc) hdX1_isIn q1021 q788 q62 q789 ⟨rfl, rfl⟩ ⟨rfl, rfl⟩ rfl rfl rfl ⟨Nat.zero_le _, Nat.zero_le _⟩ dX1_type_8 (fun H locs hM => ?_)
  obtain ⟨_, hc, hf⟩ := bd_some hf
  refine gg_sv S hM hl [.int r_1] (metX1_checkArgument hc) hdX1_checkArgument q1022 q1023 q62 q1024 ⟨rfl, rfl⟩ ⟨rfl, rfl⟩ rfl rfl rfl ⟨Nat.zero_le _, Nat.zero_le _⟩ dX1_type_11 (fun H locs hM => ?_)
  refine lv_aload_n S.x S.b dX1_type_14 rfl (lv_at hl 0 rfl) ?_
  refine bn_g S hM 1 rfl (Or.inl q321) rfl dX1_type_15 ?_
  refine lv_bipush (v := (80 : Int32)) S.x S.b dX1_type_18 kb_80 ?_
  refine lv_icmp_ne (tgt := 31) S.x S.b dX1_type_20 rfl (fun cn => ?_) (fun cn => ?_)
  · have hf := if_f cn hf
    refine lv_aload_n S.x S.b dX1_type_31 rfl (lv_at hl 0 rfl) ?_
    refine bn_g S hM 0 rfl (Or.inl q318) rfl dX1_type_32 ?_
    refine lv_aload_n S.x S.b dX1_type_35 rfl (lv_at hl 0 rfl) ?_
    refine bn_g S hM 1 rfl (Or.inl q321) rfl dX1_type_36 ?_
    refine lv_iload_n S.x S.b dX1_type_39 rfl (lv_at hl 1 rfl) ?_
    refine lv_i2c S.x S.b dX1_type_40 rfl ?_
    obtain ⟨hi, hf⟩ := ck_some hf
    obtain ⟨w_2, ew, hf⟩ := lt_some hf
    refine bn_st0 S hM hi ew dX1_type_41 (fun H locs hM => ?_)
    refine lv_aload_n S.x S.b dX1_type_42 rfl (lv_at hl 0 rfl) ?_
    refine lv_dup S.x S.b dX1_type_43 rfl ?_
    refine bn_g S hM 1 rfl (Or.inl q321) rfl dX1_type_44 ?_
    refine lv_iconst (v := (1 : Int32)) S.x S.b dX1_type_47 ki_1 ?_
    refine lv_iadd S.x S.b dX1_type_48 ?_
    obtain ⟨w_3, ew, hf⟩ := lt_some hf
    refine bn_p1 S hM ew (Or.inl q321) dX1_type_49 (fun H locs hM => ?_)
    refine lv_aload_n S.x S.b dX1_type_52 rfl (lv_at hl 0 rfl) ?_
    refine bn_g S hM 1 rfl (Or.inl q321) rfl dX1_type_53 ?_
    obtain ⟨rfl, rfl⟩ := rt2 hf
    exact g_iret S hM rfl dX1_type_56
  · have hf := if_t cn hf
    cases hf
/-! SequenceBench.setFault(IIZ)Z -/
theorem hdX1_setFault : gHd yX1_setFault 3 := by decide +kernel
def gX1_setFault_64 (x1 : Int32) (x4 : Int32) (s0 : Int32) (s1 : Int32) (w : BW) : Option (Int32 × BW) :=
  ck s1 6 <|
  lt (bA w 2 s1.toNatClampNeg s0) fun w_3 =>
  ck x1 6 <|
  ck x1 6 <|
  lt (rA w_3 1 x1.toNatClampNeg (w_3.1.2 2 x1.toNatClampNeg)) fun w_4 =>
  bz x4 (some (x4, w_4))
def gX1_setFault (x1 : Int32) (x2 : Int32) (x3 : Int32) (w : BW) : Option (Int32 × BW) :=
  bd (gX1_checkIndex x1 (6 : Int32)) fun _ =>
  bd (gX1_isIn x2.toInt64 (0 : Int64) (4 : Int64)) fun r_1 =>
  bd (gX1_checkArgument r_1) fun _ =>
  ck x1 6 <|
  bd (gX1_has (w.1.2 2 x1.toNatClampNeg) x2) fun r_2 =>
  if x3 = 0 then (
  ck x1 6 <|
  gX1_setFault_64 x1 r_2 ((w.1.2 2 x1.toNatClampNeg) &&& (((1 : Int32) <<< (x2 &&& 31)) ^^^ (-1 : Int32))) x1 w)
  else (
  ck x1 6 <|
  gX1_setFault_64 x1 r_2 ((w.1.2 2 x1.toNatClampNeg) ||| ((1 : Int32) <<< (x2 &&& 31))) x1 w)
abbrev rmX1_setFault : Room := { frames := 3, cells := 0, slots := 0, locals := 58 }
set_option maxHeartbeats 4000000 in
theorem wX1_setFault_64 {p : Program} {l : Launch} {e : Env} {s : State} {m : MethodId} {args : Array Value} {below : List Frame} {meth : Method} {c : Code} {D : va_G} {T : Nat → ClassId} {A : Nat → Prop} {h me : Nat} {d a : Nat → Nat} {so co : Option Nat} {tl : va_W} {rr : Int32} {wr : BW} (S : gS p s m args meth c cX1_setFault 5 (some .boolean) RX1 D T) : ∀ (x1 : Int32) (x4 : Int32) (s0 : Int32) (s1 : Int32) (w : BW) (H : Heap) (locs : List Loc) (ls : Array Slot), gM D A s.heap (bwW h d T so co me a w tl) H locs → lv_has ls 5 [(0, .ref h), (1, .int x1), (4, .int x4)] → gX1_setFault_64 x1 x4 s0 s1 w = some (rr, wr) → W p l e rmX1_setFault s m args below meth c H locs 0 0 (MQ below (gQi D T A rr (bwW h d T so co me a wr tl)) args s 0 0 A) (F0 m 64 ls [.int s0, .int s1, .ref (d 2)]) := by
  intro x1 x4 s0 s1 w H locs ls hM hl hf
  obtain ⟨hi, hf⟩ := ck_some hf
  obtain ⟨w_3, ew, hf⟩ := lt_some hf
  refine bn_st2 S hM hi ew dX1_setFault_64 (fun H locs hM => ?_)
  refine lv_aload_n S.x S.b dX1_setFault_65 rfl (lv_at hl 0 rfl) ?_
  refine bn_g S hM 8 rfl (Or.inl q328) rfl dX1_setFault_66 ?_
  refine br_g S hM 2 rfl (Or.inr ⟨_, q225⟩) rfl dX1_setFault_69 ?_
  refine lv_iload_n S.x S.b dX1_setFault_72 rfl (lv_at hl 1 rfl) ?_
  refine lv_aload_n S.x S.b dX1_setFault_73 rfl (lv_at hl 0 rfl) ?_
  refine bn_g S hM 5 rfl (Or.inl q325) rfl dX1_setFault_74 ?_
  refine lv_iload_n S.x S.b dX1_setFault_77 rfl (lv_at hl 1 rfl) ?_
  obtain ⟨hi, hf⟩ := ck_some hf
  refine bn_ld2 S hM hi dX1_setFault_78 ?_
  obtain ⟨hi, hf⟩ := ck_some hf
  obtain ⟨w_4, ew, hf⟩ := lt_some hf
  refine br_st1 S hM hi ew dX1_setFault_79 (fun H locs hM => ?_)
  refine lv_iload S.x S.b dX1_setFault_80 (lv_at hl 2 rfl) ?_
  obtain ⟨hz, hf⟩ := bz_some hf
  obtain ⟨rfl, rfl⟩ := rt2 hf
  exact g_zret S hM rfl hz dX1_setFault_82
set_option maxHeartbeats 4000000 in
theorem metX1_setFault {l : Launch} {D : va_G} {T : Nat → ClassId} {h me : Nat} {d a : Nat → Nat} {so co : Option Nat} {tl : va_W} {rr : Int32} {wr : BW} {x1 : Int32} {x2 : Int32} {x3 : Int32} {w : BW} (hf : gX1_setFault x1 x2 x3 w = some (rr, wr)) (sz : Nat) : MetI l yX1_setFault (ws_ yX1_setFault cX1_setFault 5 (some .boolean)) rmX1_setFault D T (bwW h d T so co me a w tl) sz [.ref h, .int x1, .int x2, .int x3] rr (bwW h d T so co me a wr tl) := by
  refine g_entry (Qc := fun A => gQi D T A rr (bwW h d T so co me a wr tl)) (by decide) rfl ?_
  intro p e s m below meth c ls S hM hl
  have hl : lv_has ls 5 [(0, .ref h), (1, .int x1), (2, .int x2), (3, .int x3)] := hl
  refine lv_iload_n S.x S.b dX1_setFault_0 rfl (lv_at hl 1 rfl) ?_
  refine lv_bipush (v := (6 : Int32)) S.x S.b dX1_setFault_1 kb_6 ?_
  obtain ⟨_, hc, hf⟩ := bd_some hf
  refine gg_sv S hM hl [.int x1, .int (6 : Int32)] (metX1_checkIndex hc) hdX1_checkIndex q1081 q1082 q62 q1083 ⟨rfl, rfl⟩ ⟨rfl, rfl⟩ rfl rfl rfl ⟨Nat.zero_le _, Nat.zero_le _⟩ dX1_setFault_3 (fun H locs hM => ?_)
  refine lv_iload_n S.x S.b dX1_setFault_6 rfl (lv_at hl 2 rfl) ?_
  refine lv_i2l S.x S.b dX1_setFault_7 rfl ?_
  refine lv_lconst (v := (0 : Int64)) S.x S.b dX1_setFault_8 kl_0 ?_
  refine lv_ldc2 (v := (4 : Int64)) S.x S.b S.o (S.w _ q1240) dX1_setFault_9 ?_
  obtain ⟨r_1, hc, hf⟩ := bd_some hf
  refine gg_si S hM hl [.long x2.toInt64, .long (0 : Int64), .long (4 : Int64)] (metX1_isIn hc) hdX1_isIn q1021 q788 q62 q789 ⟨rfl, rfl⟩ ⟨rfl, rfl⟩ rfl rfl rfl ⟨Nat.zero_le _, Nat.zero_le _⟩ dX1_setFault_12 (fun H locs hM => ?_)
  obtain ⟨_, hc, hf⟩ := bd_some hf
  refine gg_sv S hM hl [.int r_1] (metX1_checkArgument hc) hdX1_checkArgument q1022 q1023 q62 q1024 ⟨rfl, rfl⟩ ⟨rfl, rfl⟩ rfl rfl rfl ⟨Nat.zero_le _, Nat.zero_le _⟩ dX1_setFault_15 (fun H locs hM => ?_)
  refine lv_aload_n S.x S.b dX1_setFault_18 rfl (lv_at hl 0 rfl) ?_
  refine bn_g S hM 5 rfl (Or.inl q325) rfl dX1_setFault_19 ?_
  refine lv_iload_n S.x S.b dX1_setFault_22 rfl (lv_at hl 1 rfl) ?_
  obtain ⟨hi, hf⟩ := ck_some hf
  refine bn_ld2 S hM hi dX1_setFault_23 ?_
  refine lv_iload_n S.x S.b dX1_setFault_24 rfl (lv_at hl 2 rfl) ?_
  obtain ⟨r_2, hc, hf⟩ := bd_some hf
  refine gg_si S hM hl [.int (w.1.2 2 x1.toNatClampNeg), .int x2] (metX1_has hc) hdX1_has q1008 q791 q62 q792 ⟨rfl, rfl⟩ ⟨rfl, rfl⟩ rfl rfl rfl ⟨Nat.zero_le _, Nat.zero_le _⟩ dX1_setFault_25 (fun H locs hM => ?_)
  refine g_ist S (x' := r_2) rfl hl dX1_setFault_28 rfl (lv' := [(4, .int r_2), (0, .ref h), (1, .int x1), (2, .int x2), (3, .int x3)]) rfl (fun ls hl => ?_)
  refine lv_aload_n S.x S.b dX1_setFault_30 rfl (lv_at hl 1 rfl) ?_
  refine bn_g S hM 5 rfl (Or.inl q325) rfl dX1_setFault_31 ?_
  refine lv_iload_n S.x S.b dX1_setFault_34 rfl (lv_at hl 2 rfl) ?_
  refine lv_iload_n S.x S.b dX1_setFault_35 rfl (lv_at hl 4 rfl) ?_
  refine lv_if_eq (tgt := 52) S.x S.b dX1_setFault_36 rfl (fun cn => ?_) (fun cn => ?_)
  · have hf := if_t cn hf
    refine lv_aload_n S.x S.b dX1_setFault_52 rfl (lv_at hl 1 rfl) ?_
    refine bn_g S hM 5 rfl (Or.inl q325) rfl dX1_setFault_53 ?_
    refine lv_iload_n S.x S.b dX1_setFault_56 rfl (lv_at hl 2 rfl) ?_
    obtain ⟨hi, hf⟩ := ck_some hf
    refine bn_ld2 S hM hi dX1_setFault_57 ?_
    refine lv_iconst (v := (1 : Int32)) S.x S.b dX1_setFault_58 ki_1 ?_
    refine lv_iload_n S.x S.b dX1_setFault_59 rfl (lv_at hl 3 rfl) ?_
    refine lv_ishl S.x S.b dX1_setFault_60 ?_
    refine lv_iconst (v := (-1 : Int32)) S.x S.b dX1_setFault_61 ki_m1 ?_
    refine lv_ixor S.x S.b dX1_setFault_62 ?_
    refine lv_iand S.x S.b dX1_setFault_63 ?_
    exact wX1_setFault_64 S x1 r_2 ((w.1.2 2 x1.toNatClampNeg) &&& (((1 : Int32) <<< (x2 &&& 31)) ^^^ (-1 : Int32))) x1 w _ _ _ hM (lv_sub hl [1, 2, 0] rfl) hf
  · have hf := if_f cn hf
    refine lv_aload_n S.x S.b dX1_setFault_39 rfl (lv_at hl 1 rfl) ?_
    refine bn_g S hM 5 rfl (Or.inl q325) rfl dX1_setFault_40 ?_
    refine lv_iload_n S.x S.b dX1_setFault_43 rfl (lv_at hl 2 rfl) ?_
    obtain ⟨hi, hf⟩ := ck_some hf
    refine bn_ld2 S hM hi dX1_setFault_44 ?_
    refine lv_iconst (v := (1 : Int32)) S.x S.b dX1_setFault_45 ki_1 ?_
    refine lv_iload_n S.x S.b dX1_setFault_46 rfl (lv_at hl 3 rfl) ?_
    refine lv_ishl S.x S.b dX1_setFault_47 ?_
    refine lv_ior S.x S.b dX1_setFault_48 ?_
    refine lv_goto (tgt := 64) S.x S.b dX1_setFault_49 rfl ?_
    exact wX1_setFault_64 S x1 r_2 ((w.1.2 2 x1.toNatClampNeg) ||| ((1 : Int32) <<< (x2 &&& 31))) x1 w _ _ _ hM (lv_sub hl [1, 2, 0] rfl) hf
/-! SequenceBench.position(I)I -/
theorem hdX1_position : gHd yX1_position 1 := by decide +kernel
def gX1_position (x1 : Int32) (w : BW) : Option (Int32 × BW) :=
  bd (gX1_checkIndex x1 (6 : Int32)) fun _ =>
  ck x1 6 <|
  some ((w.2.2 2 x1.toNatClampNeg), w)
abbrev rmX1_position : Room := { frames := 3, cells := 0, slots := 0, locals := 58 }
set_option maxHeartbeats 4000000 in
theorem metX1_position {l : Launch} {D : va_G} {T : Nat → ClassId} {h me : Nat} {d a : Nat → Nat} {so co : Option Nat} {tl : va_W} {rr : Int32} {wr : BW} {x1 : Int32} {w : BW} (hf : gX1_position x1 w = some (rr, wr)) (sz : Nat) : MetI l yX1_position (ws_ yX1_position cX1_position 2 (some .int)) rmX1_position D T (bwW h d T so co me a w tl) sz [.ref h, .int x1] rr (bwW h d T so co me a wr tl) := by
  refine g_entry (Qc := fun A => gQi D T A rr (bwW h d T so co me a wr tl)) (by decide) rfl ?_
  intro p e s m below meth c ls S hM hl
  have hl : lv_has ls 2 [(0, .ref h), (1, .int x1)] := hl
  refine lv_iload_n S.x S.b dX1_position_0 rfl (lv_at hl 1 rfl) ?_
  refine lv_bipush (v := (6 : Int32)) S.x S.b dX1_position_1 kb_6 ?_
  obtain ⟨_, hc, hf⟩ := bd_some hf
  refine gg_sv S hM hl [.int x1, .int (6 : Int32)] (metX1_checkIndex hc) hdX1_checkIndex q1081 q1082 q62 q1083 ⟨rfl, rfl⟩ ⟨rfl, rfl⟩ rfl rfl rfl ⟨Nat.zero_le _, Nat.zero_le _⟩ dX1_position_3 (fun H locs hM => ?_)
  refine lv_aload_n S.x S.b dX1_position_6 rfl (lv_at hl 0 rfl) ?_
  refine bn_g S hM 8 rfl (Or.inl q328) rfl dX1_position_7 ?_
  refine br_g S hM 3 rfl (Or.inr ⟨_, q227⟩) rfl dX1_position_10 ?_
  refine lv_iload_n S.x S.b dX1_position_13 rfl (lv_at hl 1 rfl) ?_
  obtain ⟨hi, hf⟩ := ck_some hf
  refine br_ld S hM 2 rfl hi dX1_position_14 ?_
  obtain ⟨rfl, rfl⟩ := rt2 hf
  exact g_iret S hM rfl dX1_position_15
/-! SequenceBench.isOut(I)Z -/
theorem hdX1_isOut : gHd yX1_isOut 1 := by decide +kernel
def gX1_isOut (x1 : Int32) (w : BW) : Option (Int32 × BW) :=
  bd (gX1_checkIndex x1 (6 : Int32)) fun _ =>
  bd (gX1_has (w.2.1 7) x1) fun r_1 =>
  bz r_1 (some (r_1, w))
abbrev rmX1_isOut : Room := { frames := 3, cells := 0, slots := 0, locals := 58 }
set_option maxHeartbeats 4000000 in
theorem metX1_isOut {l : Launch} {D : va_G} {T : Nat → ClassId} {h me : Nat} {d a : Nat → Nat} {so co : Option Nat} {tl : va_W} {rr : Int32} {wr : BW} {x1 : Int32} {w : BW} (hf : gX1_isOut x1 w = some (rr, wr)) (sz : Nat) : MetI l yX1_isOut (ws_ yX1_isOut cX1_isOut 2 (some .boolean)) rmX1_isOut D T (bwW h d T so co me a w tl) sz [.ref h, .int x1] rr (bwW h d T so co me a wr tl) := by
  refine g_entry (Qc := fun A => gQi D T A rr (bwW h d T so co me a wr tl)) (by decide) rfl ?_
  intro p e s m below meth c ls S hM hl
  have hl : lv_has ls 2 [(0, .ref h), (1, .int x1)] := hl
  refine lv_iload_n S.x S.b dX1_isOut_0 rfl (lv_at hl 1 rfl) ?_
  refine lv_bipush (v := (6 : Int32)) S.x S.b dX1_isOut_1 kb_6 ?_
  obtain ⟨_, hc, hf⟩ := bd_some hf
  refine gg_sv S hM hl [.int x1, .int (6 : Int32)] (metX1_checkIndex hc) hdX1_checkIndex q1081 q1082 q62 q1083 ⟨rfl, rfl⟩ ⟨rfl, rfl⟩ rfl rfl rfl ⟨Nat.zero_le _, Nat.zero_le _⟩ dX1_isOut_3 (fun H locs hM => ?_)
  refine lv_aload_n S.x S.b dX1_isOut_6 rfl (lv_at hl 0 rfl) ?_
  refine bn_g S hM 8 rfl (Or.inl q328) rfl dX1_isOut_7 ?_
  refine br_g S hM 7 rfl (Or.inr ⟨_, q238⟩) rfl dX1_isOut_10 ?_
  refine lv_iload_n S.x S.b dX1_isOut_13 rfl (lv_at hl 1 rfl) ?_
  obtain ⟨r_1, hc, hf⟩ := bd_some hf
  refine gg_si S hM hl [.int (w.2.1 7), .int x1] (metX1_has hc) hdX1_has q1008 q791 q62 q792 ⟨rfl, rfl⟩ ⟨rfl, rfl⟩ rfl rfl rfl ⟨Nat.zero_le _, Nat.zero_le _⟩ dX1_isOut_14 (fun H locs hM => ?_)
  obtain ⟨hz, hf⟩ := bz_some hf
  obtain ⟨rfl, rfl⟩ := rt2 hf
  exact g_zret S hM rfl hz dX1_isOut_17
/-! SequenceBench.sensor(II)Z -/
theorem hdX1_sensor : gHd yX1_sensor 2 := by decide +kernel
def gX1_sensor (x1 : Int32) (x2 : Int32) (w : BW) : Option (Int32 × BW) :=
  bd (gX1_checkIndex x1 (6 : Int32)) fun _ =>
  bd (gX1_checkIndex x2 (2 : Int32)) fun _ =>
  bd2 (gX3_sensor x1 x2 w.2) fun r_2 w_1 =>
  lt (w.1, w_1) fun w_3 =>
  bz r_2 (some (r_2, w_3))
abbrev rmX1_sensor : Room := { frames := 3, cells := 0, slots := 0, locals := 58 }
set_option maxHeartbeats 4000000 in
theorem metX1_sensor {l : Launch} {D : va_G} {T : Nat → ClassId} {h me : Nat} {d a : Nat → Nat} {so co : Option Nat} {tl : va_W} {rr : Int32} {wr : BW} {x1 : Int32} {x2 : Int32} {w : BW} (hf : gX1_sensor x1 x2 w = some (rr, wr)) (sz : Nat) : MetI l yX1_sensor (ws_ yX1_sensor cX1_sensor 3 (some .boolean)) rmX1_sensor D T (bwW h d T so co me a w tl) sz [.ref h, .int x1, .int x2] rr (bwW h d T so co me a wr tl) := by
  refine g_entry (Qc := fun A => gQi D T A rr (bwW h d T so co me a wr tl)) (by decide) rfl ?_
  intro p e s m below meth c ls S hM hl
  have hl : lv_has ls 3 [(0, .ref h), (1, .int x1), (2, .int x2)] := hl
  refine lv_iload_n S.x S.b dX1_sensor_0 rfl (lv_at hl 1 rfl) ?_
  refine lv_bipush (v := (6 : Int32)) S.x S.b dX1_sensor_1 kb_6 ?_
  obtain ⟨_, hc, hf⟩ := bd_some hf
  refine gg_sv S hM hl [.int x1, .int (6 : Int32)] (metX1_checkIndex hc) hdX1_checkIndex q1081 q1082 q62 q1083 ⟨rfl, rfl⟩ ⟨rfl, rfl⟩ rfl rfl rfl ⟨Nat.zero_le _, Nat.zero_le _⟩ dX1_sensor_3 (fun H locs hM => ?_)
  refine lv_iload_n S.x S.b dX1_sensor_6 rfl (lv_at hl 2 rfl) ?_
  refine lv_iconst (v := (2 : Int32)) S.x S.b dX1_sensor_7 ki_2 ?_
  obtain ⟨_, hc, hf⟩ := bd_some hf
  refine gg_sv S hM hl [.int x2, .int (2 : Int32)] (metX1_checkIndex hc) hdX1_checkIndex q1081 q1082 q62 q1083 ⟨rfl, rfl⟩ ⟨rfl, rfl⟩ rfl rfl rfl ⟨Nat.zero_le _, Nat.zero_le _⟩ dX1_sensor_8 (fun H locs hM => ?_)
  refine lv_aload_n S.x S.b dX1_sensor_11 rfl (lv_at hl 0 rfl) ?_
  refine bn_g S hM 8 rfl (Or.inl q328) rfl dX1_sensor_12 ?_
  refine lv_iload_n S.x S.b dX1_sensor_15 rfl (lv_at hl 1 rfl) ?_
  refine lv_iload_n S.x S.b dX1_sensor_16 rfl (lv_at hl 2 rfl) ?_
  obtain ⟨r_2, w_1, hc, hf⟩ := bd2_some hf
  obtain ⟨w_3, ew, hf⟩ := lt_some hf
  refine br_ci S hM hl [.int x1, .int x2] (metX3_sensor hc) ew rfl hdX3_sensor q1341 q1262 q1263 q65 q1264 ⟨rfl, rfl⟩ ⟨rfl, rfl⟩ rfl rfl rfl ⟨Nat.zero_le _, Nat.zero_le _⟩ dX1_sensor_17 (fun H locs hM => ?_)
  obtain ⟨hz, hf⟩ := bz_some hf
  obtain ⟨rfl, rfl⟩ := rt2 hf
  exact g_zret S hM rfl hz dX1_sensor_20
/-! SequenceBench.commands(I)I -/
theorem hdX1_commands : gHd yX1_commands 1 := by decide +kernel
def gX1_commands_25 (x1 : Int32) (s0 : Int32) (w : BW) : Option (Int32 × BW) :=
  bd (gX1_has (w.2.1 13) x1) fun r_2 =>
  if r_2 = 0 then (
  some ((s0 + (0 : Int32)), w))
  else (
  some ((s0 + (2 : Int32)), w))
def gX1_commands (x1 : Int32) (w : BW) : Option (Int32 × BW) :=
  bd (gX1_checkIndex x1 (6 : Int32)) fun _ =>
  bd (gX1_has (w.2.1 12) x1) fun r_1 =>
  if r_1 = 0 then (
  gX1_commands_25 x1 (0 : Int32) w)
  else (
  gX1_commands_25 x1 (1 : Int32) w)
abbrev rmX1_commands : Room := { frames := 3, cells := 0, slots := 0, locals := 58 }
set_option maxHeartbeats 4000000 in
theorem wX1_commands_25 {p : Program} {l : Launch} {e : Env} {s : State} {m : MethodId} {args : Array Value} {below : List Frame} {meth : Method} {c : Code} {D : va_G} {T : Nat → ClassId} {A : Nat → Prop} {h me : Nat} {d a : Nat → Nat} {so co : Option Nat} {tl : va_W} {rr : Int32} {wr : BW} (S : gS p s m args meth c cX1_commands 2 (some .int) RX1 D T) : ∀ (x1 : Int32) (s0 : Int32) (w : BW) (H : Heap) (locs : List Loc) (ls : Array Slot), gM D A s.heap (bwW h d T so co me a w tl) H locs → lv_has ls 2 [(0, .ref h), (1, .int x1)] → gX1_commands_25 x1 s0 w = some (rr, wr) → W p l e rmX1_commands s m args below meth c H locs 0 0 (MQ below (gQi D T A rr (bwW h d T so co me a wr tl)) args s 0 0 A) (F0 m 25 ls [.int s0]) := by
  intro x1 s0 w H locs ls hM hl hf
  refine lv_aload_n S.x S.b dX1_commands_25 rfl (lv_at hl 0 rfl) ?_
  refine bn_g S hM 8 rfl (Or.inl q328) rfl dX1_commands_26 ?_
  refine br_g S hM 13 rfl (Or.inr ⟨_, q248⟩) rfl dX1_commands_29 ?_
  refine lv_iload_n S.x S.b dX1_commands_32 rfl (lv_at hl 1 rfl) ?_
  obtain ⟨r_2, hc, hf⟩ := bd_some hf
  refine gg_si S hM hl [.int (w.2.1 13), .int x1] (metX1_has hc) hdX1_has q1008 q791 q62 q792 ⟨rfl, rfl⟩ ⟨rfl, rfl⟩ rfl rfl rfl ⟨Nat.zero_le _, Nat.zero_le _⟩ dX1_commands_33 (fun H locs hM => ?_)
  refine lv_if_eq (tgt := 43) S.x S.b dX1_commands_36 rfl (fun cn => ?_) (fun cn => ?_)
  · have hf := if_t cn hf
    refine lv_iconst (v := (0 : Int32)) S.x S.b dX1_commands_43 ki_0 ?_
    refine lv_iadd S.x S.b dX1_commands_44 ?_
    obtain ⟨rfl, rfl⟩ := rt2 hf
    exact g_iret S hM rfl dX1_commands_45
  · have hf := if_f cn hf
    refine lv_iconst (v := (2 : Int32)) S.x S.b dX1_commands_39 ki_2 ?_
    refine lv_goto (tgt := 44) S.x S.b dX1_commands_40 rfl ?_
    refine lv_iadd S.x S.b dX1_commands_44 ?_
    obtain ⟨rfl, rfl⟩ := rt2 hf
    exact g_iret S hM rfl dX1_commands_45
set_option maxHeartbeats 4000000 in
theorem metX1_commands {l : Launch} {D : va_G} {T : Nat → ClassId} {h me : Nat} {d a : Nat → Nat} {so co : Option Nat} {tl : va_W} {rr : Int32} {wr : BW} {x1 : Int32} {w : BW} (hf : gX1_commands x1 w = some (rr, wr)) (sz : Nat) : MetI l yX1_commands (ws_ yX1_commands cX1_commands 2 (some .int)) rmX1_commands D T (bwW h d T so co me a w tl) sz [.ref h, .int x1] rr (bwW h d T so co me a wr tl) := by
  refine g_entry (Qc := fun A => gQi D T A rr (bwW h d T so co me a wr tl)) (by decide) rfl ?_
  intro p e s m below meth c ls S hM hl
  have hl : lv_has ls 2 [(0, .ref h), (1, .int x1)] := hl
  refine lv_iload_n S.x S.b dX1_commands_0 rfl (lv_at hl 1 rfl) ?_
  refine lv_bipush (v := (6 : Int32)) S.x S.b dX1_commands_1 kb_6 ?_
  obtain ⟨_, hc, hf⟩ := bd_some hf
  refine gg_sv S hM hl [.int x1, .int (6 : Int32)] (metX1_checkIndex hc) hdX1_checkIndex q1081 q1082 q62 q1083 ⟨rfl, rfl⟩ ⟨rfl, rfl⟩ rfl rfl rfl ⟨Nat.zero_le _, Nat.zero_le _⟩ dX1_commands_3 (fun H locs hM => ?_)
  refine lv_aload_n S.x S.b dX1_commands_6 rfl (lv_at hl 0 rfl) ?_
  refine bn_g S hM 8 rfl (Or.inl q328) rfl dX1_commands_7 ?_
  refine br_g S hM 12 rfl (Or.inr ⟨_, q246⟩) rfl dX1_commands_10 ?_
  refine lv_iload_n S.x S.b dX1_commands_13 rfl (lv_at hl 1 rfl) ?_
  obtain ⟨r_1, hc, hf⟩ := bd_some hf
  refine gg_si S hM hl [.int (w.2.1 12), .int x1] (metX1_has hc) hdX1_has q1008 q791 q62 q792 ⟨rfl, rfl⟩ ⟨rfl, rfl⟩ rfl rfl rfl ⟨Nat.zero_le _, Nat.zero_le _⟩ dX1_commands_14 (fun H locs hM => ?_)
  refine lv_if_eq (tgt := 24) S.x S.b dX1_commands_17 rfl (fun cn => ?_) (fun cn => ?_)
  · have hf := if_t cn hf
    refine lv_iconst (v := (0 : Int32)) S.x S.b dX1_commands_24 ki_0 ?_
    exact wX1_commands_25 S x1 (0 : Int32) w _ _ _ hM (lv_sub hl [0, 1] rfl) hf
  · have hf := if_f cn hf
    refine lv_iconst (v := (1 : Int32)) S.x S.b dX1_commands_20 ki_1 ?_
    refine lv_goto (tgt := 25) S.x S.b dX1_commands_21 rfl ?_
    exact wX1_commands_25 S x1 (1 : Int32) w _ _ _ hM (lv_sub hl [0, 1] rfl) hf
/-! SequenceBench.placeOf(I)I -/
theorem hdX1_placeOf : gHd yX1_placeOf 1 := by decide +kernel
def gX1_placeOf (x1 : Int32) (w : BW) : Option (Int32 × BW) :=
  if 0 ≤ x1 then (
  if (40 : Int32) ≤ x1 then (
  some ((-1 : Int32), w))
  else (
  if (w.2.1 17) ≤ x1 then (
  some ((-1 : Int32), w))
  else (
  some (((((w.2.1 17) - (1 : Int32)) - x1) - (((w.2.1 17) - (1 : Int32)) - x1) / (40 : Int32) * (40 : Int32)), w))))
  else (
  none)
abbrev rmX1_placeOf : Room := { frames := 1, cells := 0, slots := 0, locals := 12 }
set_option maxHeartbeats 4000000 in
theorem metX1_placeOf {l : Launch} {D : va_G} {T : Nat → ClassId} {h me : Nat} {d a : Nat → Nat} {so co : Option Nat} {tl : va_W} {rr : Int32} {wr : BW} {x1 : Int32} {w : BW} (hf : gX1_placeOf x1 w = some (rr, wr)) (sz : Nat) : MetI l yX1_placeOf (ws_ yX1_placeOf cX1_placeOf 2 (some .int)) rmX1_placeOf D T (bwW h d T so co me a w tl) sz [.ref h, .int x1] rr (bwW h d T so co me a wr tl) := by
  refine g_entry (Qc := fun A => gQi D T A rr (bwW h d T so co me a wr tl)) (by decide) rfl ?_
  intro p e s m below meth c ls S hM hl
  have hl : lv_has ls 2 [(0, .ref h), (1, .int x1)] := hl
  refine lv_iload_n S.x S.b dX1_placeOf_0 rfl (lv_at hl 1 rfl) ?_
  refine lv_if_ge (tgt := 12) S.x S.b dX1_placeOf_1 rfl (fun cn => ?_) (fun cn => ?_)
  · have hf := if_t cn hf
    refine lv_iload_n S.x S.b dX1_placeOf_12 rfl (lv_at hl 1 rfl) ?_
    refine lv_bipush (v := (40 : Int32)) S.x S.b dX1_placeOf_13 kb_40 ?_
    refine lv_icmp_ge (tgt := 46) S.x S.b dX1_placeOf_15 rfl (fun cn => ?_) (fun cn => ?_)
    · have hf := if_t cn hf
      refine lv_iconst (v := (-1 : Int32)) S.x S.b dX1_placeOf_46 ki_m1 ?_
      obtain ⟨rfl, rfl⟩ := rt2 hf
      exact g_iret S hM rfl dX1_placeOf_47
    · have hf := if_f cn hf
      refine lv_iload_n S.x S.b dX1_placeOf_18 rfl (lv_at hl 1 rfl) ?_
      refine lv_aload_n S.x S.b dX1_placeOf_19 rfl (lv_at hl 0 rfl) ?_
      refine bn_g S hM 8 rfl (Or.inl q328) rfl dX1_placeOf_20 ?_
      refine br_g S hM 17 rfl (Or.inr ⟨_, q255⟩) rfl dX1_placeOf_23 ?_
      refine lv_icmp_ge (tgt := 46) S.x S.b dX1_placeOf_26 rfl (fun cn => ?_) (fun cn => ?_)
      · have hf := if_t cn hf
        refine lv_iconst (v := (-1 : Int32)) S.x S.b dX1_placeOf_46 ki_m1 ?_
        obtain ⟨rfl, rfl⟩ := rt2 hf
        exact g_iret S hM rfl dX1_placeOf_47
      · have hf := if_f cn hf
        refine lv_aload_n S.x S.b dX1_placeOf_29 rfl (lv_at hl 0 rfl) ?_
        refine bn_g S hM 8 rfl (Or.inl q328) rfl dX1_placeOf_30 ?_
        refine br_g S hM 17 rfl (Or.inr ⟨_, q255⟩) rfl dX1_placeOf_33 ?_
        refine lv_iconst (v := (1 : Int32)) S.x S.b dX1_placeOf_36 ki_1 ?_
        refine lv_isub S.x S.b dX1_placeOf_37 ?_
        refine lv_iload_n S.x S.b dX1_placeOf_38 rfl (lv_at hl 1 rfl) ?_
        refine lv_isub S.x S.b dX1_placeOf_39 ?_
        refine lv_bipush (v := (40 : Int32)) S.x S.b dX1_placeOf_40 kb_40 ?_
        refine lv_irem S.x S.b dX1_placeOf_42 (by decide) ?_
        refine lv_goto (tgt := 47) S.x S.b dX1_placeOf_43 rfl ?_
        obtain ⟨rfl, rfl⟩ := rt2 hf
        exact g_iret S hM rfl dX1_placeOf_47
  · have hf := if_f cn hf
    cases hf
/-! SequenceBench.eventTime(I)I -/
theorem hdX1_eventTime : gHd yX1_eventTime 1 := by decide +kernel
def gX1_eventTime (x1 : Int32) (w : BW) : Option (Int32 × BW) :=
  bd2 (gX1_placeOf x1 w) fun r_2 w_1 =>
  if 0 ≤ r_2 then (
  ck r_2 40 <|
  some ((w_1.2.2 4 r_2.toNatClampNeg), w_1))
  else (
  some ((-1 : Int32), w_1))
abbrev rmX1_eventTime : Room := { frames := 2, cells := 0, slots := 0, locals := 33 }
set_option maxHeartbeats 4000000 in
theorem metX1_eventTime {l : Launch} {D : va_G} {T : Nat → ClassId} {h me : Nat} {d a : Nat → Nat} {so co : Option Nat} {tl : va_W} {rr : Int32} {wr : BW} {x1 : Int32} {w : BW} (hf : gX1_eventTime x1 w = some (rr, wr)) (sz : Nat) : MetI l yX1_eventTime (ws_ yX1_eventTime cX1_eventTime 3 (some .int)) rmX1_eventTime D T (bwW h d T so co me a w tl) sz [.ref h, .int x1] rr (bwW h d T so co me a wr tl) := by
  refine g_entry (Qc := fun A => gQi D T A rr (bwW h d T so co me a wr tl)) (by decide) rfl ?_
  intro p e s m below meth c ls S hM hl
  have hl : lv_has ls 3 [(0, .ref h), (1, .int x1)] := hl
  refine lv_aload_n S.x S.b dX1_eventTime_0 rfl (lv_at hl 0 rfl) ?_
  refine lv_iload_n S.x S.b dX1_eventTime_1 rfl (lv_at hl 1 rfl) ?_
  obtain ⟨r_2, w_1, hc, hf⟩ := bd2_some hf
  refine gw_ci S hM hl [.int x1] 1 rfl ⟨0, _, rfl⟩ (metX1_placeOf hc) hdX1_placeOf q1363 q1365 qs26 q62 q1366 ⟨rfl, rfl⟩ ⟨rfl, rfl⟩ rfl rfl rfl ⟨Nat.zero_le _, Nat.zero_le _⟩ dX1_eventTime_2 (fun H locs hM => ?_)
  refine g_istn S (x' := r_2) rfl hl dX1_eventTime_5 rfl rfl (lv' := [(2, .int r_2), (0, .ref h), (1, .int x1)]) rfl (fun ls hl => ?_)
  refine lv_iload_n S.x S.b dX1_eventTime_6 rfl (lv_at hl 0 rfl) ?_
  refine lv_if_ge (tgt := 14) S.x S.b dX1_eventTime_7 rfl (fun cn => ?_) (fun cn => ?_)
  · have hf := if_t cn hf
    refine lv_aload_n S.x S.b dX1_eventTime_14 rfl (lv_at hl 1 rfl) ?_
    refine bn_g S hM 8 rfl (Or.inl q328) rfl dX1_eventTime_15 ?_
    refine br_g S hM 15 rfl (Or.inr ⟨_, q251⟩) rfl dX1_eventTime_18 ?_
    refine lv_iload_n S.x S.b dX1_eventTime_21 rfl (lv_at hl 0 rfl) ?_
    obtain ⟨hi, hf⟩ := ck_some hf
    refine br_ld S hM 4 rfl hi dX1_eventTime_22 ?_
    obtain ⟨rfl, rfl⟩ := rt2 hf
    exact g_iret S hM rfl dX1_eventTime_23
  · have hf := if_f cn hf
    refine lv_iconst (v := (-1 : Int32)) S.x S.b dX1_eventTime_10 ki_m1 ?_
    refine lv_goto (tgt := 23) S.x S.b dX1_eventTime_11 rfl ?_
    obtain ⟨rfl, rfl⟩ := rt2 hf
    exact g_iret S hM rfl dX1_eventTime_23
/-! SequenceBench.eventMove(I)I -/
theorem hdX1_eventMove : gHd yX1_eventMove 1 := by decide +kernel
def gX1_eventMove (x1 : Int32) (w : BW) : Option (Int32 × BW) :=
  bd2 (gX1_placeOf x1 w) fun r_2 w_1 =>
  if 0 ≤ r_2 then (
  ck r_2 40 <|
  some ((w_1.2.2 5 r_2.toNatClampNeg), w_1))
  else (
  some ((-1 : Int32), w_1))
abbrev rmX1_eventMove : Room := { frames := 2, cells := 0, slots := 0, locals := 33 }
set_option maxHeartbeats 4000000 in
theorem metX1_eventMove {l : Launch} {D : va_G} {T : Nat → ClassId} {h me : Nat} {d a : Nat → Nat} {so co : Option Nat} {tl : va_W} {rr : Int32} {wr : BW} {x1 : Int32} {w : BW} (hf : gX1_eventMove x1 w = some (rr, wr)) (sz : Nat) : MetI l yX1_eventMove (ws_ yX1_eventMove cX1_eventMove 3 (some .int)) rmX1_eventMove D T (bwW h d T so co me a w tl) sz [.ref h, .int x1] rr (bwW h d T so co me a wr tl) := by
  refine g_entry (Qc := fun A => gQi D T A rr (bwW h d T so co me a wr tl)) (by decide) rfl ?_
  intro p e s m below meth c ls S hM hl
  have hl : lv_has ls 3 [(0, .ref h), (1, .int x1)] := hl
  refine lv_aload_n S.x S.b dX1_eventMove_0 rfl (lv_at hl 0 rfl) ?_
  refine lv_iload_n S.x S.b dX1_eventMove_1 rfl (lv_at hl 1 rfl) ?_
  obtain ⟨r_2, w_1, hc, hf⟩ := bd2_some hf
  refine gw_ci S hM hl [.int x1] 1 rfl ⟨0, _, rfl⟩ (metX1_placeOf hc) hdX1_placeOf q1363 q1365 qs26 q62 q1366 ⟨rfl, rfl⟩ ⟨rfl, rfl⟩ rfl rfl rfl ⟨Nat.zero_le _, Nat.zero_le _⟩ dX1_eventMove_2 (fun H locs hM => ?_)
  refine g_istn S (x' := r_2) rfl hl dX1_eventMove_5 rfl rfl (lv' := [(2, .int r_2), (0, .ref h), (1, .int x1)]) rfl (fun ls hl => ?_)
  refine lv_iload_n S.x S.b dX1_eventMove_6 rfl (lv_at hl 0 rfl) ?_
  refine lv_if_ge (tgt := 14) S.x S.b dX1_eventMove_7 rfl (fun cn => ?_) (fun cn => ?_)
  · have hf := if_t cn hf
    refine lv_aload_n S.x S.b dX1_eventMove_14 rfl (lv_at hl 1 rfl) ?_
    refine bn_g S hM 8 rfl (Or.inl q328) rfl dX1_eventMove_15 ?_
    refine br_g S hM 16 rfl (Or.inr ⟨_, q253⟩) rfl dX1_eventMove_18 ?_
    refine lv_iload_n S.x S.b dX1_eventMove_21 rfl (lv_at hl 0 rfl) ?_
    obtain ⟨hi, hf⟩ := ck_some hf
    refine br_ld S hM 5 rfl hi dX1_eventMove_22 ?_
    obtain ⟨rfl, rfl⟩ := rt2 hf
    exact g_iret S hM rfl dX1_eventMove_23
  · have hf := if_f cn hf
    refine lv_iconst (v := (-1 : Int32)) S.x S.b dX1_eventMove_10 ki_m1 ?_
    refine lv_goto (tgt := 23) S.x S.b dX1_eventMove_11 rfl ?_
    obtain ⟨rfl, rfl⟩ := rt2 hf
    exact g_iret S hM rfl dX1_eventMove_23
/-! SequenceBench.steps()I -/
theorem hdX1_steps : gHd yX1_steps 0 := by decide +kernel
def gX1_steps (ns : Nat) (q : MW) (nc : Nat) (w : BW) : Option (Int32 × BW) :=
  some ((Int32.ofNat ns), w)
abbrev rmX1_steps : Room := { frames := 1, cells := 0, slots := 0, locals := 12 }
set_option maxHeartbeats 4000000 in
theorem metX1_steps {l : Launch} {D : va_G} {T : Nat → ClassId} {h me : Nat} {d a b sa : Nat → Nat} {co : Option Nat} {tl : va_W} {rr : Int32} {wr : BW} {w : BW} {ns : Nat} {q : MW} {nc : Nat} (hQ : SqI T b sa ns q (.ref (b 3)) tl) (hC : CuI T b nc q tl) (hf : gX1_steps ns q nc w = some (rr, wr)) (sz : Nat) : MetI l yX1_steps (ws_ yX1_steps cX1_steps 1 (some .int)) rmX1_steps D T (bwW h d T (some (b 0)) co me a w tl) sz [.ref h] rr (bwW h d T (some (b 0)) co me a wr tl) := by
  refine g_entry (Qc := fun A => gQi D T A rr (bwW h d T (some (b 0)) co me a wr tl)) (by decide) rfl ?_
  intro p e s m below meth c ls S hM hl
  have hl : lv_has ls 1 [(0, .ref h)] := hl
  refine lv_aload_n S.x S.b dX1_steps_0 rfl (lv_at hl 0 rfl) ?_
  refine bn_g S hM 3 rfl (Or.inl q323) rfl dX1_steps_1 ?_
  refine lv_ifnonnull (tgt := 11) S.x S.b dX1_steps_4 rfl ?_
  refine lv_aload_n S.x S.b dX1_steps_11 rfl (lv_at hl 0 rfl) ?_
  refine bn_g S hM 3 rfl (Or.inl q323) rfl dX1_steps_12 ?_
  refine sq_g S hM hQ.bw 0 rfl (Or.inr ⟨_, q921⟩) rfl dX1_steps_15 ?_
  refine sq_len S hM hQ.bw dX1_steps_18 ?_
  obtain ⟨rfl, rfl⟩ := rt2 hf
  exact g_iret S hM rfl dX1_steps_19
/-! SequenceBench.checkSequence()V -/
theorem hdX1_checkSequence : gHd yX1_checkSequence 0 := by decide +kernel
def gX1_checkSequence (ns : Nat) (q : MW) (nc : Nat) (w : BW) : Option (BW) :=
  some w
abbrev rmX1_checkSequence : Room := { frames := 1, cells := 0, slots := 0, locals := 12 }
set_option maxHeartbeats 4000000 in
theorem metX1_checkSequence {l : Launch} {D : va_G} {T : Nat → ClassId} {h me : Nat} {d a b sa : Nat → Nat} {co : Option Nat} {tl : va_W} {wr : BW} {w : BW} {ns : Nat} {q : MW} {nc : Nat} (hQ : SqI T b sa ns q (.ref (b 3)) tl) (hC : CuI T b nc q tl) (hf : gX1_checkSequence ns q nc w = some wr) (sz : Nat) : MetV l yX1_checkSequence (ws_ yX1_checkSequence cX1_checkSequence 1 (none)) rmX1_checkSequence D T (bwW h d T (some (b 0)) co me a w tl) sz [.ref h] (bwW h d T (some (b 0)) co me a wr tl) := by
  refine g_entry (Qc := fun A => gQv D T A (bwW h d T (some (b 0)) co me a wr tl)) (by decide) rfl ?_
  intro p e s m below meth c ls S hM hl
  have hl : lv_has ls 1 [(0, .ref h)] := hl
  refine lv_aload_n S.x S.b dX1_checkSequence_0 rfl (lv_at hl 0 rfl) ?_
  refine bn_g S hM 3 rfl (Or.inl q323) rfl dX1_checkSequence_1 ?_
  refine lv_ifnonnull (tgt := 15) S.x S.b dX1_checkSequence_4 rfl ?_
  obtain rfl := rt1 hf
  exact g_vret S hM dX1_checkSequence_15
/-! SequenceBench.step(I)LSequenceBench$Step; -/
theorem hdX1_step : gHd yX1_step 1 := by decide +kernel
def gX1_step (ns : Nat) (q : MW) (nc : Nat) (x1 : Int32) (w : BW) : Option (Int32 × BW) :=
  bd2 (gX1_steps ns q nc w) fun r_2 w_1 =>
  bd (gX1_checkIndex x1 r_2) fun _ =>
  ck x1 ns <|
  some (x1, w_1)
abbrev rmX1_step : Room := { frames := 3, cells := 0, slots := 0, locals := 58 }
set_option maxHeartbeats 4000000 in
theorem metX1_step {l : Launch} {D : va_G} {T : Nat → ClassId} {h me : Nat} {d a b sa : Nat → Nat} {co : Option Nat} {tl : va_W} {rr : Int32} {wr : BW} {x1 : Int32} {w : BW} {ns : Nat} {q : MW} {nc : Nat} (hQ : SqI T b sa ns q (.ref (b 3)) tl) (hC : CuI T b nc q tl) (hf : gX1_step ns q nc x1 w = some (rr, wr)) (sz : Nat) : MetR Unit l yX1_step (ws_ yX1_step cX1_step 2 (some (.object "SequenceBench$Step"))) rmX1_step D T (bwW h d T (some (b 0)) co me a w tl) sz [.ref h, .int x1] (fun _ => sa rr.toNatClampNeg) (fun _ => bwW h d T (some (b 0)) co me a wr tl) (fun _ _ => True) 0 0 := by
  refine g_entry (Qc := fun A => va_Qr (fun (_ : Unit) => True) (fun u aa t => aa = sa rr.toNatClampNeg ∧ gPost D T A (bwW h d T (some (b 0)) co me a wr tl) t ∧ True) A) (by decide) rfl ?_
  intro p e s m below meth c ls S hM hl
  have hl : lv_has ls 2 [(0, .ref h), (1, .int x1)] := hl
  refine lv_iload_n S.x S.b dX1_step_0 rfl (lv_at hl 1 rfl) ?_
  refine lv_aload_n S.x S.b dX1_step_1 rfl (lv_at hl 0 rfl) ?_
  obtain ⟨r_2, w_1, hc, hf⟩ := bd2_some hf
  refine gw_ci S hM hl [] 1 rfl ⟨0, _, rfl⟩ (metX1_steps hQ hC hc) hdX1_steps q1009 q944 q945 q62 q946 ⟨rfl, rfl⟩ ⟨rfl, rfl⟩ rfl rfl rfl ⟨Nat.zero_le _, Nat.zero_le _⟩ dX1_step_2 (fun H locs hM => ?_)
  obtain ⟨_, hc, hf⟩ := bd_some hf
  refine gg_sv S hM hl [.int x1, .int r_2] (metX1_checkIndex hc) hdX1_checkIndex q1081 q1082 q62 q1083 ⟨rfl, rfl⟩ ⟨rfl, rfl⟩ rfl rfl rfl ⟨Nat.zero_le _, Nat.zero_le _⟩ dX1_step_5 (fun H locs hM => ?_)
  refine lv_aload_n S.x S.b dX1_step_8 rfl (lv_at hl 0 rfl) ?_
  refine bn_g S hM 3 rfl (Or.inl q323) rfl dX1_step_9 ?_
  refine sq_g S hM hQ.bw 0 rfl (Or.inr ⟨_, q921⟩) rfl dX1_step_12 ?_
  refine lv_iload_n S.x S.b dX1_step_15 rfl (lv_at hl 1 rfl) ?_
  obtain ⟨hi_3, hf⟩ := ck_some hf
  refine sq_ald S hM hQ.bw hi_3 dX1_step_16 ?_
  obtain ⟨rfl, rfl⟩ := rt2 hf
  exact ga_aret (U := Unit) (ad := fun _ => sa _) (ws' := fun _ => _) (X := fun _ _ => True) S (Or.inl ⟨_, rfl⟩) () hM trivial rfl dX1_step_17
/-! SequenceBench.moves(I)I -/
theorem hdX1_moves : gHd yX1_moves 1 := by decide +kernel
def gX1_moves (ns : Nat) (q : MW) (nc : Nat) (x1 : Int32) (w : BW) : Option (Int32 × BW) :=
  bd2 (gX1_step ns q nc x1 w) fun r_2 w_1 =>
  ck r_2 ns <|
  bd (gX10_moves (q.2 0 r_2.toNatClampNeg) (q.2 1 r_2.toNatClampNeg) (q.2 2 r_2.toNatClampNeg)) fun r_5 =>
  some (r_5, w_1)
abbrev rmX1_moves : Room := { frames := 4, cells := 0, slots := 0, locals := 79 }
set_option maxHeartbeats 4000000 in
theorem metX1_moves {l : Launch} {D : va_G} {T : Nat → ClassId} {h me : Nat} {d a b sa : Nat → Nat} {co : Option Nat} {tl : va_W} {rr : Int32} {wr : BW} {x1 : Int32} {w : BW} {ns : Nat} {q : MW} {nc : Nat} (hQ : SqI T b sa ns q (.ref (b 3)) tl) (hC : CuI T b nc q tl) (hf : gX1_moves ns q nc x1 w = some (rr, wr)) (sz : Nat) : MetI l yX1_moves (ws_ yX1_moves cX1_moves 2 (some .int)) rmX1_moves D T (bwW h d T (some (b 0)) co me a w tl) sz [.ref h, .int x1] rr (bwW h d T (some (b 0)) co me a wr tl) := by
  refine g_entry (Qc := fun A => gQi D T A rr (bwW h d T (some (b 0)) co me a wr tl)) (by decide) rfl ?_
  intro p e s m below meth c ls S hM hl
  have hl : lv_has ls 2 [(0, .ref h), (1, .int x1)] := hl
  refine lv_aload_n S.x S.b dX1_moves_0 rfl (lv_at hl 0 rfl) ?_
  refine lv_iload_n S.x S.b dX1_moves_1 rfl (lv_at hl 1 rfl) ?_
  obtain ⟨r_2, w_1, hc, hf⟩ := bd2_some hf
  obtain ⟨hi_3, hf⟩ := ck_some hf
  refine gw_cr S hM hl [.int x1] 1 rfl ⟨0, _, rfl⟩ (metX1_step hQ hC hc) hdX1_step q1077 q1079 qs18 q62 q1080 ⟨rfl, rfl⟩ ⟨rfl, rfl⟩ rfl rfl rfl ⟨Nat.zero_le _, Nat.zero_le _⟩ dX1_moves_2 (fun H locs hM => ?_)
  obtain ⟨r_5, hc, hf⟩ := bd_some hf
  refine gw_ci S hM hl [] 8 rfl (hQ.bw.st hi_3) (metX10_moves (hQ.bw.stx hi_3) hc) hdX10_moves q1099 q212 q213 q92 q214 ⟨rfl, rfl⟩ ⟨rfl, rfl⟩ rfl rfl rfl ⟨Nat.zero_le _, Nat.zero_le _⟩ dX1_moves_5 (fun H locs hM => ?_)
  obtain ⟨rfl, rfl⟩ := rt2 hf
  exact g_iret S hM rfl dX1_moves_8
/-! SequenceBench.direction(II)I -/
theorem hdX1_direction : gHd yX1_direction 2 := by decide +kernel
def gX1_direction (ns : Nat) (q : MW) (nc : Nat) (x1 : Int32) (x2 : Int32) (w : BW) : Option (Int32 × BW) :=
  bd2 (gX1_step ns q nc x1 w) fun r_2 w_1 =>
  ck r_2 ns <|
  bd (gX1_checkIndex x2 (6 : Int32)) fun _ =>
  bd (gX10_direction (q.2 0 r_2.toNatClampNeg) (q.2 1 r_2.toNatClampNeg) (q.2 2 r_2.toNatClampNeg) x2) fun r_5 =>
  some (r_5, w_1)
abbrev rmX1_direction : Room := { frames := 4, cells := 0, slots := 0, locals := 79 }
set_option maxHeartbeats 4000000 in
theorem metX1_direction {l : Launch} {D : va_G} {T : Nat → ClassId} {h me : Nat} {d a b sa : Nat → Nat} {co : Option Nat} {tl : va_W} {rr : Int32} {wr : BW} {x1 : Int32} {x2 : Int32} {w : BW} {ns : Nat} {q : MW} {nc : Nat} (hQ : SqI T b sa ns q (.ref (b 3)) tl) (hC : CuI T b nc q tl) (hf : gX1_direction ns q nc x1 x2 w = some (rr, wr)) (sz : Nat) : MetI l yX1_direction (ws_ yX1_direction cX1_direction 4 (some .int)) rmX1_direction D T (bwW h d T (some (b 0)) co me a w tl) sz [.ref h, .int x1, .int x2] rr (bwW h d T (some (b 0)) co me a wr tl) := by
  refine g_entry (Qc := fun A => gQi D T A rr (bwW h d T (some (b 0)) co me a wr tl)) (by decide) rfl ?_
  intro p e s m below meth c ls S hM hl
  have hl : lv_has ls 4 [(0, .ref h), (1, .int x1), (2, .int x2)] := hl
  refine lv_aload_n S.x S.b dX1_direction_0 rfl (lv_at hl 0 rfl) ?_
  refine lv_iload_n S.x S.b dX1_direction_1 rfl (lv_at hl 1 rfl) ?_
  obtain ⟨r_2, w_1, hc, hf⟩ := bd2_some hf
  obtain ⟨hi_3, hf⟩ := ck_some hf
  refine gw_cr S hM hl [.int x1] 1 rfl ⟨0, _, rfl⟩ (metX1_step hQ hC hc) hdX1_step q1077 q1079 qs18 q62 q1080 ⟨rfl, rfl⟩ ⟨rfl, rfl⟩ rfl rfl rfl ⟨Nat.zero_le _, Nat.zero_le _⟩ dX1_direction_2 (fun H locs hM => ?_)
  refine lv_astore_n (lv' := [(3, .ref (sa r_2.toNatClampNeg)), (0, .ref h), (1, .int x1), (2, .int x2)]) S.x S.b dX1_direction_5 rfl hl (by decide) rfl (fun ls hl => ?_)
  refine lv_iload_n S.x S.b dX1_direction_6 rfl (lv_at hl 3 rfl) ?_
  refine lv_bipush (v := (6 : Int32)) S.x S.b dX1_direction_7 kb_6 ?_
  obtain ⟨_, hc, hf⟩ := bd_some hf
  refine gg_sv S hM hl [.int x2, .int (6 : Int32)] (metX1_checkIndex hc) hdX1_checkIndex q1081 q1082 q62 q1083 ⟨rfl, rfl⟩ ⟨rfl, rfl⟩ rfl rfl rfl ⟨Nat.zero_le _, Nat.zero_le _⟩ dX1_direction_9 (fun H locs hM => ?_)
  refine lv_aload_n S.x S.b dX1_direction_12 rfl (lv_at hl 0 rfl) ?_
  refine lv_iload_n S.x S.b dX1_direction_13 rfl (lv_at hl 3 rfl) ?_
  obtain ⟨r_5, hc, hf⟩ := bd_some hf
  refine gw_ci S hM hl [.int x2] 8 rfl (hQ.bw.st hi_3) (metX10_direction (hQ.bw.stx hi_3) hc) hdX10_direction q1107 q1108 q1109 q92 q1110 ⟨rfl, rfl⟩ ⟨rfl, rfl⟩ rfl rfl rfl ⟨Nat.zero_le _, Nat.zero_le _⟩ dX1_direction_14 (fun H locs hM => ?_)
  obtain ⟨rfl, rfl⟩ := rt2 hf
  exact g_iret S hM rfl dX1_direction_17
/-! SequenceBench.pause(I)I -/
theorem hdX1_pause : gHd yX1_pause 1 := by decide +kernel
def gX1_pause (ns : Nat) (q : MW) (nc : Nat) (x1 : Int32) (w : BW) : Option (Int32 × BW) :=
  bd2 (gX1_step ns q nc x1 w) fun r_2 w_1 =>
  ck r_2 ns <|
  some ((q.2 2 r_2.toNatClampNeg), w_1)
abbrev rmX1_pause : Room := { frames := 4, cells := 0, slots := 0, locals := 79 }
set_option maxHeartbeats 4000000 in
theorem metX1_pause {l : Launch} {D : va_G} {T : Nat → ClassId} {h me : Nat} {d a b sa : Nat → Nat} {co : Option Nat} {tl : va_W} {rr : Int32} {wr : BW} {x1 : Int32} {w : BW} {ns : Nat} {q : MW} {nc : Nat} (hQ : SqI T b sa ns q (.ref (b 3)) tl) (hC : CuI T b nc q tl) (hf : gX1_pause ns q nc x1 w = some (rr, wr)) (sz : Nat) : MetI l yX1_pause (ws_ yX1_pause cX1_pause 2 (some .int)) rmX1_pause D T (bwW h d T (some (b 0)) co me a w tl) sz [.ref h, .int x1] rr (bwW h d T (some (b 0)) co me a wr tl) := by
  refine g_entry (Qc := fun A => gQi D T A rr (bwW h d T (some (b 0)) co me a wr tl)) (by decide) rfl ?_
  intro p e s m below meth c ls S hM hl
  have hl : lv_has ls 2 [(0, .ref h), (1, .int x1)] := hl
  refine lv_aload_n S.x S.b dX1_pause_0 rfl (lv_at hl 0 rfl) ?_
  refine lv_iload_n S.x S.b dX1_pause_1 rfl (lv_at hl 1 rfl) ?_
  obtain ⟨r_2, w_1, hc, hf⟩ := bd2_some hf
  obtain ⟨hi_3, hf⟩ := ck_some hf
  refine gw_cr S hM hl [.int x1] 1 rfl ⟨0, _, rfl⟩ (metX1_step hQ hC hc) hdX1_step q1077 q1079 qs18 q62 q1080 ⟨rfl, rfl⟩ ⟨rfl, rfl⟩ rfl rfl rfl ⟨Nat.zero_le _, Nat.zero_le _⟩ dX1_pause_2 (fun H locs hM => ?_)
  refine st_g S hM (hQ.bw.stx hi_3) 2 rfl (Or.inr ⟨_, q814⟩) rfl dX1_pause_5 ?_
  obtain ⟨rfl, rfl⟩ := rt2 hf
  exact g_iret S hM rfl dX1_pause_8
/-! SequenceBench.clashes()I -/
theorem hdX1_clashes : gHd yX1_clashes 0 := by decide +kernel
def gX1_clashes_22 (N : Nat) (ns : Nat) (q : MW) (nc : Nat) (k8 : Int32 → Int32 → BW → Option (Int32 × BW)) : Nat → Int32 → Int32 → Int32 → BW → Option (Int32 × BW)
  | 0, _, _, _, _ => none
  | n + 1, x1, x2, x3, w =>
    if (6 : Int32) ≤ x3 then (
    lt (x2 + (1 : Int32)) fun x2_3 =>
    k8 x1 x2_3 w)
    else (
    bd (gX11_clash N ns q x2 x3) fun r_5 =>
    if 0 ≤ r_5 then (
    lt ((x1 + (1 : Int32))) fun x1_6 =>
    lt (x3 + (1 : Int32)) fun x3_7 =>
    gX1_clashes_22 N ns q nc k8 n x1_6 x2 x3_7 w)
    else (
    lt ((x1 + (0 : Int32))) fun x1_8 =>
    lt (x3 + (1 : Int32)) fun x3_9 =>
    gX1_clashes_22 N ns q nc k8 n x1_8 x2 x3_9 w))
def gX1_clashes_8 (N : Nat) (ns : Nat) (q : MW) (nc : Nat) : Nat → Int32 → Int32 → BW → Option (Int32 × BW)
  | 0, _, _, _ => none
  | n + 1, x1, x2, w =>
    if (Int32.ofNat ns) ≤ x2 then (
    some (x1, w))
    else (
    gX1_clashes_22 N ns q nc (gX1_clashes_8 N ns q nc n) N x1 x2 (0 : Int32) w)
def gX1_clashes (N : Nat) (ns : Nat) (q : MW) (nc : Nat) (w : BW) : Option (Int32 × BW) :=
  bd (gX1_checkSequence ns q nc w) fun w_1 =>
  gX1_clashes_8 N ns q nc N (0 : Int32) (0 : Int32) w_1
abbrev rmX1_clashes : Room := { frames := 4, cells := 0, slots := 0, locals := 78 }
set_option maxHeartbeats 4000000 in
theorem wX1_clashes_22 {p : Program} {l : Launch} {e : Env} {s : State} {m : MethodId} {args : Array Value} {below : List Frame} {meth : Method} {c : Code} {D : va_G} {T : Nat → ClassId} {A : Nat → Prop} {h me : Nat} {d a b sa : Nat → Nat} {co : Option Nat} {tl : va_W} {rr : Int32} {wr : BW} {N : Nat} {ns : Nat} {q : MW} {nc : Nat} (S : gS p s m args meth c cX1_clashes 4 (some .int) RX1 D T) (hQ : SqI T b sa ns q (.ref (b 3)) tl) (hC : CuI T b nc q tl) {k8 : Int32 → Int32 → BW → Option (Int32 × BW)} (hk8 : ∀ (x1 : Int32) (x2 : Int32) (w : BW) (H : Heap) (locs : List Loc) (ls : Array Slot), gM D A s.heap (bwW h d T (some (b 0)) co me a w tl) H locs → lv_has ls 4 [(0, .ref h), (1, .int x1), (2, .int x2)] → k8 x1 x2 w = some (rr, wr) → W p l e rmX1_clashes s m args below meth c H locs 0 0 (MQ below (gQi D T A rr (bwW h d T (some (b 0)) co me a wr tl)) args s 0 0 A) (F0 m 8 ls [])) : ∀ (n : Nat) (x1 : Int32) (x2 : Int32) (x3 : Int32) (w : BW) (H : Heap) (locs : List Loc) (ls : Array Slot), gM D A s.heap (bwW h d T (some (b 0)) co me a w tl) H locs → lv_has ls 4 [(0, .ref h), (1, .int x1), (2, .int x2), (3, .int x3)] → gX1_clashes_22 N ns q nc k8 n x1 x2 x3 w = some (rr, wr) → W p l e rmX1_clashes s m args below meth c H locs 0 0 (MQ below (gQi D T A rr (bwW h d T (some (b 0)) co me a wr tl)) args s 0 0 A) (F0 m 22 ls []) := by
  intro n
  induction n with
  | zero =>
    intro x1 x2 x3 w H locs ls hM hl hf
    cases hf
  | succ n ih =>
    intro x1 x2 x3 w H locs ls hM hl hf
    refine lv_iload_n S.x S.b dX1_clashes_22 rfl (lv_at hl 3 rfl) ?_
    refine lv_bipush (v := (6 : Int32)) S.x S.b dX1_clashes_23 kb_6 ?_
    refine lv_icmp_ge (tgt := 54) S.x S.b dX1_clashes_25 rfl (fun cn => ?_) (fun cn => ?_)
    · have hf := if_t cn hf
      obtain ⟨x2_3, ex, hf⟩ := lt_some hf
      refine g_inc S (x' := x2_3) (d := (1 : Int32)) hl (k := 2) rfl ki_1 ex dX1_clashes_54 rfl (lv' := [(2, .int x2_3), (0, .ref h), (1, .int x1), (3, .int x3)]) rfl (fun ls hl => ?_)
      refine lv_goto (tgt := 8) S.x S.b dX1_clashes_57 rfl ?_
      exact hk8 x1 x2_3 w _ _ _ hM (lv_sub hl [1, 2, 0] rfl) hf
    · have hf := if_f cn hf
      refine lv_iload_n S.x S.b dX1_clashes_28 rfl (lv_at hl 1 rfl) ?_
      refine lv_aload_n S.x S.b dX1_clashes_29 rfl (lv_at hl 0 rfl) ?_
      refine bn_g S hM 3 rfl (Or.inl q323) rfl dX1_clashes_30 ?_
      refine lv_iload_n S.x S.b dX1_clashes_33 rfl (lv_at hl 2 rfl) ?_
      refine lv_iload_n S.x S.b dX1_clashes_34 rfl (lv_at hl 3 rfl) ?_
      obtain ⟨r_5, hc, hf⟩ := bd_some hf
      refine gw_ci S hM hl [.int x2, .int x3] 9 rfl hQ.bw.sq (metX11_clash hQ.bw hc) hdX11_clash q1130 q1131 q1132 q94 q1133 ⟨rfl, rfl⟩ ⟨rfl, rfl⟩ rfl rfl rfl ⟨Nat.zero_le _, Nat.zero_le _⟩ dX1_clashes_35 (fun H locs hM => ?_)
      refine lv_if_ge (tgt := 45) S.x S.b dX1_clashes_38 rfl (fun cn => ?_) (fun cn => ?_)
      · have hf := if_t cn hf
        refine lv_iconst (v := (1 : Int32)) S.x S.b dX1_clashes_45 ki_1 ?_
        refine lv_iadd S.x S.b dX1_clashes_46 ?_
        obtain ⟨x1_6, ex, hf⟩ := lt_some hf
        refine g_istn S (x' := x1_6) ex hl dX1_clashes_47 rfl rfl (lv' := [(1, .int x1_6), (0, .ref h), (2, .int x2), (3, .int x3)]) rfl (fun ls hl => ?_)
        obtain ⟨x3_7, ex, hf⟩ := lt_some hf
        refine g_inc S (x' := x3_7) (d := (1 : Int32)) hl (k := 3) rfl ki_1 ex dX1_clashes_48 rfl (lv' := [(3, .int x3_7), (1, .int x1_6), (0, .ref h), (2, .int x2)]) rfl (fun ls hl => ?_)
        refine lv_goto (tgt := 22) S.x S.b dX1_clashes_51 rfl ?_
        exact ih x1_6 x2 x3_7 w _ _ _ hM (lv_sub hl [2, 1, 3, 0] rfl) hf
      · have hf := if_f cn hf
        refine lv_iconst (v := (0 : Int32)) S.x S.b dX1_clashes_41 ki_0 ?_
        refine lv_goto (tgt := 46) S.x S.b dX1_clashes_42 rfl ?_
        refine lv_iadd S.x S.b dX1_clashes_46 ?_
        obtain ⟨x1_8, ex, hf⟩ := lt_some hf
        refine g_istn S (x' := x1_8) ex hl dX1_clashes_47 rfl rfl (lv' := [(1, .int x1_8), (0, .ref h), (2, .int x2), (3, .int x3)]) rfl (fun ls hl => ?_)
        obtain ⟨x3_9, ex, hf⟩ := lt_some hf
        refine g_inc S (x' := x3_9) (d := (1 : Int32)) hl (k := 3) rfl ki_1 ex dX1_clashes_48 rfl (lv' := [(3, .int x3_9), (1, .int x1_8), (0, .ref h), (2, .int x2)]) rfl (fun ls hl => ?_)
        refine lv_goto (tgt := 22) S.x S.b dX1_clashes_51 rfl ?_
        exact ih x1_8 x2 x3_9 w _ _ _ hM (lv_sub hl [2, 1, 3, 0] rfl) hf
set_option maxHeartbeats 4000000 in
theorem wX1_clashes_8 {p : Program} {l : Launch} {e : Env} {s : State} {m : MethodId} {args : Array Value} {below : List Frame} {meth : Method} {c : Code} {D : va_G} {T : Nat → ClassId} {A : Nat → Prop} {h me : Nat} {d a b sa : Nat → Nat} {co : Option Nat} {tl : va_W} {rr : Int32} {wr : BW} {N : Nat} {ns : Nat} {q : MW} {nc : Nat} (S : gS p s m args meth c cX1_clashes 4 (some .int) RX1 D T) (hQ : SqI T b sa ns q (.ref (b 3)) tl) (hC : CuI T b nc q tl) : ∀ (n : Nat) (x1 : Int32) (x2 : Int32) (w : BW) (H : Heap) (locs : List Loc) (ls : Array Slot), gM D A s.heap (bwW h d T (some (b 0)) co me a w tl) H locs → lv_has ls 4 [(0, .ref h), (1, .int x1), (2, .int x2)] → gX1_clashes_8 N ns q nc n x1 x2 w = some (rr, wr) → W p l e rmX1_clashes s m args below meth c H locs 0 0 (MQ below (gQi D T A rr (bwW h d T (some (b 0)) co me a wr tl)) args s 0 0 A) (F0 m 8 ls []) := by
  intro n
  induction n with
  | zero =>
    intro x1 x2 w H locs ls hM hl hf
    cases hf
  | succ n ih =>
    intro x1 x2 w H locs ls hM hl hf
    refine lv_iload_n S.x S.b dX1_clashes_8 rfl (lv_at hl 2 rfl) ?_
    refine lv_aload_n S.x S.b dX1_clashes_9 rfl (lv_at hl 0 rfl) ?_
    refine bn_g S hM 3 rfl (Or.inl q323) rfl dX1_clashes_10 ?_
    refine sq_g S hM hQ.bw 0 rfl (Or.inr ⟨_, q921⟩) rfl dX1_clashes_13 ?_
    refine sq_len S hM hQ.bw dX1_clashes_16 ?_
    refine lv_icmp_ge (tgt := 60) S.x S.b dX1_clashes_17 rfl (fun cn => ?_) (fun cn => ?_)
    · have hf := if_t cn hf
      refine lv_iload_n S.x S.b dX1_clashes_60 rfl (lv_at hl 1 rfl) ?_
      obtain ⟨rfl, rfl⟩ := rt2 hf
      exact g_iret S hM rfl dX1_clashes_61
    · have hf := if_f cn hf
      refine lv_iconst (v := (0 : Int32)) S.x S.b dX1_clashes_20 ki_0 ?_
      refine g_istn S (x' := (0 : Int32)) rfl hl dX1_clashes_21 rfl rfl (lv' := [(3, .int (0 : Int32)), (0, .ref h), (1, .int x1), (2, .int x2)]) rfl (fun ls hl => ?_)
      exact wX1_clashes_22 S hQ hC ih N x1 x2 (0 : Int32) w _ _ _ hM (lv_sub hl [1, 2, 3, 0] rfl) hf
set_option maxHeartbeats 4000000 in
theorem metX1_clashes {l : Launch} {D : va_G} {T : Nat → ClassId} {h me : Nat} {d a b sa : Nat → Nat} {co : Option Nat} {tl : va_W} {rr : Int32} {wr : BW} {N : Nat} {w : BW} {ns : Nat} {q : MW} {nc : Nat} (hQ : SqI T b sa ns q (.ref (b 3)) tl) (hC : CuI T b nc q tl) (hf : gX1_clashes N ns q nc w = some (rr, wr)) (sz : Nat) : MetI l yX1_clashes (ws_ yX1_clashes cX1_clashes 4 (some .int)) rmX1_clashes D T (bwW h d T (some (b 0)) co me a w tl) sz [.ref h] rr (bwW h d T (some (b 0)) co me a wr tl) := by
  refine g_entry (Qc := fun A => gQi D T A rr (bwW h d T (some (b 0)) co me a wr tl)) (by decide) rfl ?_
  intro p e s m below meth c ls S hM hl
  have hl : lv_has ls 4 [(0, .ref h)] := hl
  refine lv_aload_n S.x S.b dX1_clashes_0 rfl (lv_at hl 0 rfl) ?_
  obtain ⟨w_1, hc, hf⟩ := bd_some hf
  refine gw_cv S hM hl [] 1 rfl ⟨0, _, rfl⟩ (metX1_checkSequence hQ hC hc) hdX1_checkSequence q1126 q1128 qs19 q62 q1129 ⟨rfl, rfl⟩ ⟨rfl, rfl⟩ rfl rfl rfl ⟨Nat.zero_le _, Nat.zero_le _⟩ dX1_clashes_1 (fun H locs hM => ?_)
  refine lv_iconst (v := (0 : Int32)) S.x S.b dX1_clashes_4 ki_0 ?_
  refine g_istn S (x' := (0 : Int32)) rfl hl dX1_clashes_5 rfl rfl (lv' := [(1, .int (0 : Int32)), (0, .ref h)]) rfl (fun ls hl => ?_)
  refine lv_iconst (v := (0 : Int32)) S.x S.b dX1_clashes_6 ki_0 ?_
  refine g_istn S (x' := (0 : Int32)) rfl hl dX1_clashes_7 rfl rfl (lv' := [(2, .int (0 : Int32)), (1, .int (0 : Int32)), (0, .ref h)]) rfl (fun ls hl => ?_)
  exact wX1_clashes_8 S hQ hC N (0 : Int32) (0 : Int32) w_1 _ _ _ hM (lv_sub hl [2, 1, 0] rfl) hf
/-! SequenceBench.clash(II)I -/
theorem hdX1_clash : gHd yX1_clash 2 := by decide +kernel
def gX1_clash (N : Nat) (ns : Nat) (q : MW) (nc : Nat) (x1 : Int32) (x2 : Int32) (w : BW) : Option (Int32 × BW) :=
  bd2 (gX1_steps ns q nc w) fun r_2 w_1 =>
  bd (gX1_checkIndex x1 r_2) fun _ =>
  bd (gX1_checkIndex x2 (6 : Int32)) fun _ =>
  bd (gX11_clash N ns q x1 x2) fun r_4 =>
  some (r_4, w_1)
abbrev rmX1_clash : Room := { frames := 4, cells := 0, slots := 0, locals := 78 }
set_option maxHeartbeats 4000000 in
theorem metX1_clash {l : Launch} {D : va_G} {T : Nat → ClassId} {h me : Nat} {d a b sa : Nat → Nat} {co : Option Nat} {tl : va_W} {rr : Int32} {wr : BW} {N : Nat} {x1 : Int32} {x2 : Int32} {w : BW} {ns : Nat} {q : MW} {nc : Nat} (hQ : SqI T b sa ns q (.ref (b 3)) tl) (hC : CuI T b nc q tl) (hf : gX1_clash N ns q nc x1 x2 w = some (rr, wr)) (sz : Nat) : MetI l yX1_clash (ws_ yX1_clash cX1_clash 3 (some .int)) rmX1_clash D T (bwW h d T (some (b 0)) co me a w tl) sz [.ref h, .int x1, .int x2] rr (bwW h d T (some (b 0)) co me a wr tl) := by
  refine g_entry (Qc := fun A => gQi D T A rr (bwW h d T (some (b 0)) co me a wr tl)) (by decide) rfl ?_
  intro p e s m below meth c ls S hM hl
  have hl : lv_has ls 3 [(0, .ref h), (1, .int x1), (2, .int x2)] := hl
  refine lv_iload_n S.x S.b dX1_clash_0 rfl (lv_at hl 1 rfl) ?_
  refine lv_aload_n S.x S.b dX1_clash_1 rfl (lv_at hl 0 rfl) ?_
  obtain ⟨r_2, w_1, hc, hf⟩ := bd2_some hf
  refine gw_ci S hM hl [] 1 rfl ⟨0, _, rfl⟩ (metX1_steps hQ hC hc) hdX1_steps q1009 q944 q945 q62 q946 ⟨rfl, rfl⟩ ⟨rfl, rfl⟩ rfl rfl rfl ⟨Nat.zero_le _, Nat.zero_le _⟩ dX1_clash_2 (fun H locs hM => ?_)
  obtain ⟨_, hc, hf⟩ := bd_some hf
  refine gg_sv S hM hl [.int x1, .int r_2] (metX1_checkIndex hc) hdX1_checkIndex q1081 q1082 q62 q1083 ⟨rfl, rfl⟩ ⟨rfl, rfl⟩ rfl rfl rfl ⟨Nat.zero_le _, Nat.zero_le _⟩ dX1_clash_5 (fun H locs hM => ?_)
  refine lv_iload_n S.x S.b dX1_clash_8 rfl (lv_at hl 2 rfl) ?_
  refine lv_bipush (v := (6 : Int32)) S.x S.b dX1_clash_9 kb_6 ?_
  obtain ⟨_, hc, hf⟩ := bd_some hf
  refine gg_sv S hM hl [.int x2, .int (6 : Int32)] (metX1_checkIndex hc) hdX1_checkIndex q1081 q1082 q62 q1083 ⟨rfl, rfl⟩ ⟨rfl, rfl⟩ rfl rfl rfl ⟨Nat.zero_le _, Nat.zero_le _⟩ dX1_clash_11 (fun H locs hM => ?_)
  refine lv_aload_n S.x S.b dX1_clash_14 rfl (lv_at hl 0 rfl) ?_
  refine bn_g S hM 3 rfl (Or.inl q323) rfl dX1_clash_15 ?_
  refine lv_iload_n S.x S.b dX1_clash_18 rfl (lv_at hl 1 rfl) ?_
  refine lv_iload_n S.x S.b dX1_clash_19 rfl (lv_at hl 2 rfl) ?_
  obtain ⟨r_4, hc, hf⟩ := bd_some hf
  refine gw_ci S hM hl [.int x1, .int x2] 9 rfl hQ.bw.sq (metX11_clash hQ.bw hc) hdX11_clash q1130 q1131 q1132 q94 q1133 ⟨rfl, rfl⟩ ⟨rfl, rfl⟩ rfl rfl rfl ⟨Nat.zero_le _, Nat.zero_le _⟩ dX1_clash_20 (fun H locs hM => ?_)
  obtain ⟨rfl, rfl⟩ := rt2 hf
  exact g_iret S hM rfl dX1_clash_23
/-! SequenceBench.groups()I -/
theorem hdX1_groups : gHd yX1_groups 0 := by decide +kernel
def gX1_groups (ns : Nat) (q : MW) (nc : Nat) (w : BW) : Option (Int32 × BW) :=
  bd (gX1_checkSequence ns q nc w) fun w_1 =>
  some ((Int32.ofNat nc), w_1)
abbrev rmX1_groups : Room := { frames := 2, cells := 0, slots := 0, locals := 32 }
set_option maxHeartbeats 4000000 in
theorem metX1_groups {l : Launch} {D : va_G} {T : Nat → ClassId} {h me : Nat} {d a b sa : Nat → Nat} {co : Option Nat} {tl : va_W} {rr : Int32} {wr : BW} {w : BW} {ns : Nat} {q : MW} {nc : Nat} (hQ : SqI T b sa ns q (.ref (b 3)) tl) (hC : CuI T b nc q tl) (hf : gX1_groups ns q nc w = some (rr, wr)) (sz : Nat) : MetI l yX1_groups (ws_ yX1_groups cX1_groups 1 (some .int)) rmX1_groups D T (bwW h d T (some (b 0)) co me a w tl) sz [.ref h] rr (bwW h d T (some (b 0)) co me a wr tl) := by
  refine g_entry (Qc := fun A => gQi D T A rr (bwW h d T (some (b 0)) co me a wr tl)) (by decide) rfl ?_
  intro p e s m below meth c ls S hM hl
  have hl : lv_has ls 1 [(0, .ref h)] := hl
  refine lv_aload_n S.x S.b dX1_groups_0 rfl (lv_at hl 0 rfl) ?_
  obtain ⟨w_1, hc, hf⟩ := bd_some hf
  refine gw_cv S hM hl [] 1 rfl ⟨0, _, rfl⟩ (metX1_checkSequence hQ hC hc) hdX1_checkSequence q1126 q1128 qs19 q62 q1129 ⟨rfl, rfl⟩ ⟨rfl, rfl⟩ rfl rfl rfl ⟨Nat.zero_le _, Nat.zero_le _⟩ dX1_groups_1 (fun H locs hM => ?_)
  refine lv_aload_n S.x S.b dX1_groups_4 rfl (lv_at hl 0 rfl) ?_
  refine bn_g S hM 3 rfl (Or.inl q323) rfl dX1_groups_5 ?_
  refine sq_g S hM hQ.bw 2 rfl (Or.inr ⟨_, q926⟩) rfl dX1_groups_8 ?_
  refine sq_clen S hM hC.bw dX1_groups_11 ?_
  obtain ⟨rfl, rfl⟩ := rt2 hf
  exact g_iret S hM rfl dX1_groups_12
/-! SequenceBench.cut(I)I -/
theorem hdX1_cut : gHd yX1_cut 1 := by decide +kernel
def gX1_cut (ns : Nat) (q : MW) (nc : Nat) (x1 : Int32) (w : BW) : Option (Int32 × BW) :=
  bd (gX1_checkIndex x1 (Int32.ofNat nc)) fun _ =>
  ck x1 nc <|
  some ((q.2 4 x1.toNatClampNeg), w)
abbrev rmX1_cut : Room := { frames := 3, cells := 0, slots := 0, locals := 58 }
set_option maxHeartbeats 4000000 in
theorem metX1_cut {l : Launch} {D : va_G} {T : Nat → ClassId} {h me : Nat} {d a b sa : Nat → Nat} {co : Option Nat} {tl : va_W} {rr : Int32} {wr : BW} {x1 : Int32} {w : BW} {ns : Nat} {q : MW} {nc : Nat} (hQ : SqI T b sa ns q (.ref (b 3)) tl) (hC : CuI T b nc q tl) (hf : gX1_cut ns q nc x1 w = some (rr, wr)) (sz : Nat) : MetI l yX1_cut (ws_ yX1_cut cX1_cut 2 (some .int)) rmX1_cut D T (bwW h d T (some (b 0)) co me a w tl) sz [.ref h, .int x1] rr (bwW h d T (some (b 0)) co me a wr tl) := by
  refine g_entry (Qc := fun A => gQi D T A rr (bwW h d T (some (b 0)) co me a wr tl)) (by decide) rfl ?_
  intro p e s m below meth c ls S hM hl
  have hl : lv_has ls 2 [(0, .ref h), (1, .int x1)] := hl
  refine lv_iload_n S.x S.b dX1_cut_0 rfl (lv_at hl 1 rfl) ?_
  refine lv_aload_n S.x S.b dX1_cut_1 rfl (lv_at hl 0 rfl) ?_
  refine bn_g S hM 3 rfl (Or.inl q323) rfl dX1_cut_2 ?_
  refine lv_ifnonnull (tgt := 12) S.x S.b dX1_cut_5 rfl ?_
  refine lv_aload_n S.x S.b dX1_cut_12 rfl (lv_at hl 0 rfl) ?_
  refine bn_g S hM 3 rfl (Or.inl q323) rfl dX1_cut_13 ?_
  refine sq_g S hM hQ.bw 2 rfl (Or.inr ⟨_, q926⟩) rfl dX1_cut_16 ?_
  refine sq_clen S hM hC.bw dX1_cut_19 ?_
  obtain ⟨_, hc, hf⟩ := bd_some hf
  refine gg_sv S hM hl [.int x1, .int (Int32.ofNat nc)] (metX1_checkIndex hc) hdX1_checkIndex q1081 q1082 q62 q1083 ⟨rfl, rfl⟩ ⟨rfl, rfl⟩ rfl rfl rfl ⟨Nat.zero_le _, Nat.zero_le _⟩ dX1_cut_20 (fun H locs hM => ?_)
  refine lv_aload_n S.x S.b dX1_cut_23 rfl (lv_at hl 0 rfl) ?_
  refine bn_g S hM 3 rfl (Or.inl q323) rfl dX1_cut_24 ?_
  refine sq_g S hM hQ.bw 2 rfl (Or.inr ⟨_, q926⟩) rfl dX1_cut_27 ?_
  refine lv_iload_n S.x S.b dX1_cut_30 rfl (lv_at hl 1 rfl) ?_
  obtain ⟨hi, hf⟩ := ck_some hf
  refine sq_cut S hM hC.bw hi dX1_cut_31 ?_
  obtain ⟨rfl, rfl⟩ := rt2 hf
  exact g_iret S hM rfl dX1_cut_32
/-! SequenceBench.groupOf(I)I -/
theorem hdX1_groupOf : gHd yX1_groupOf 1 := by decide +kernel
def gX1_groupOf (N : Nat) (ns : Nat) (q : MW) (nc : Nat) (x1 : Int32) (w : BW) : Option (Int32 × BW) :=
  bd2 (gX1_steps ns q nc w) fun r_2 w_1 =>
  bd (gX1_checkIndex x1 r_2) fun _ =>
  bd (gX11_groupOf N ns q nc x1) fun r_4 =>
  some (r_4, w_1)
abbrev rmX1_groupOf : Room := { frames := 3, cells := 0, slots := 0, locals := 58 }
set_option maxHeartbeats 4000000 in
theorem metX1_groupOf {l : Launch} {D : va_G} {T : Nat → ClassId} {h me : Nat} {d a b sa : Nat → Nat} {co : Option Nat} {tl : va_W} {rr : Int32} {wr : BW} {N : Nat} {x1 : Int32} {w : BW} {ns : Nat} {q : MW} {nc : Nat} (hQ : SqI T b sa ns q (.ref (b 3)) tl) (hC : CuI T b nc q tl) (hf : gX1_groupOf N ns q nc x1 w = some (rr, wr)) (sz : Nat) : MetI l yX1_groupOf (ws_ yX1_groupOf cX1_groupOf 2 (some .int)) rmX1_groupOf D T (bwW h d T (some (b 0)) co me a w tl) sz [.ref h, .int x1] rr (bwW h d T (some (b 0)) co me a wr tl) := by
  refine g_entry (Qc := fun A => gQi D T A rr (bwW h d T (some (b 0)) co me a wr tl)) (by decide) rfl ?_
  intro p e s m below meth c ls S hM hl
  have hl : lv_has ls 2 [(0, .ref h), (1, .int x1)] := hl
  refine lv_iload_n S.x S.b dX1_groupOf_0 rfl (lv_at hl 1 rfl) ?_
  refine lv_aload_n S.x S.b dX1_groupOf_1 rfl (lv_at hl 0 rfl) ?_
  obtain ⟨r_2, w_1, hc, hf⟩ := bd2_some hf
  refine gw_ci S hM hl [] 1 rfl ⟨0, _, rfl⟩ (metX1_steps hQ hC hc) hdX1_steps q1009 q944 q945 q62 q946 ⟨rfl, rfl⟩ ⟨rfl, rfl⟩ rfl rfl rfl ⟨Nat.zero_le _, Nat.zero_le _⟩ dX1_groupOf_2 (fun H locs hM => ?_)
  obtain ⟨_, hc, hf⟩ := bd_some hf
  refine gg_sv S hM hl [.int x1, .int r_2] (metX1_checkIndex hc) hdX1_checkIndex q1081 q1082 q62 q1083 ⟨rfl, rfl⟩ ⟨rfl, rfl⟩ rfl rfl rfl ⟨Nat.zero_le _, Nat.zero_le _⟩ dX1_groupOf_5 (fun H locs hM => ?_)
  refine lv_aload_n S.x S.b dX1_groupOf_8 rfl (lv_at hl 0 rfl) ?_
  refine bn_g S hM 3 rfl (Or.inl q323) rfl dX1_groupOf_9 ?_
  refine lv_iload_n S.x S.b dX1_groupOf_12 rfl (lv_at hl 1 rfl) ?_
  obtain ⟨r_4, hc, hf⟩ := bd_some hf
  refine gw_ci S hM hl [.int x1] 9 rfl hQ.bw.sq (metX11_groupOf hQ.bw hC.bw hc) hdX11_groupOf q1168 q166 q167 q94 q168 ⟨rfl, rfl⟩ ⟨rfl, rfl⟩ rfl rfl rfl ⟨Nat.zero_le _, Nat.zero_le _⟩ dX1_groupOf_13 (fun H locs hM => ?_)
  obtain ⟨rfl, rfl⟩ := rt2 hf
  exact g_iret S hM rfl dX1_groupOf_16
/-! SequenceBench.timer(I)I -/
theorem hdX1_timer : gHd yX1_timer 1 := by decide +kernel
def gX1_timer (ns : Nat) (q : MW) (nc : Nat) (x1 : Int32) (w : BW) : Option (Int32 × BW) :=
  bd2 (gX1_steps ns q nc w) fun r_2 w_1 =>
  bd (gX1_checkIndex x1 r_2) fun _ =>
  ck x1 16 <|
  some ((w_1.2.2 3 x1.toNatClampNeg), w_1)
abbrev rmX1_timer : Room := { frames := 3, cells := 0, slots := 0, locals := 58 }
set_option maxHeartbeats 4000000 in
theorem metX1_timer {l : Launch} {D : va_G} {T : Nat → ClassId} {h me : Nat} {d a b sa : Nat → Nat} {co : Option Nat} {tl : va_W} {rr : Int32} {wr : BW} {x1 : Int32} {w : BW} {ns : Nat} {q : MW} {nc : Nat} (hQ : SqI T b sa ns q (.ref (b 3)) tl) (hC : CuI T b nc q tl) (hf : gX1_timer ns q nc x1 w = some (rr, wr)) (sz : Nat) : MetI l yX1_timer (ws_ yX1_timer cX1_timer 2 (some .int)) rmX1_timer D T (bwW h d T (some (b 0)) co me a w tl) sz [.ref h, .int x1] rr (bwW h d T (some (b 0)) co me a wr tl) := by
  refine g_entry (Qc := fun A => gQi D T A rr (bwW h d T (some (b 0)) co me a wr tl)) (by decide) rfl ?_
  intro p e s m below meth c ls S hM hl
  have hl : lv_has ls 2 [(0, .ref h), (1, .int x1)] := hl
  refine lv_iload_n S.x S.b dX1_timer_0 rfl (lv_at hl 1 rfl) ?_
  refine lv_aload_n S.x S.b dX1_timer_1 rfl (lv_at hl 0 rfl) ?_
  obtain ⟨r_2, w_1, hc, hf⟩ := bd2_some hf
  refine gw_ci S hM hl [] 1 rfl ⟨0, _, rfl⟩ (metX1_steps hQ hC hc) hdX1_steps q1009 q944 q945 q62 q946 ⟨rfl, rfl⟩ ⟨rfl, rfl⟩ rfl rfl rfl ⟨Nat.zero_le _, Nat.zero_le _⟩ dX1_timer_2 (fun H locs hM => ?_)
  obtain ⟨_, hc, hf⟩ := bd_some hf
  refine gg_sv S hM hl [.int x1, .int r_2] (metX1_checkIndex hc) hdX1_checkIndex q1081 q1082 q62 q1083 ⟨rfl, rfl⟩ ⟨rfl, rfl⟩ rfl rfl rfl ⟨Nat.zero_le _, Nat.zero_le _⟩ dX1_timer_5 (fun H locs hM => ?_)
  refine lv_aload_n S.x S.b dX1_timer_8 rfl (lv_at hl 0 rfl) ?_
  refine bn_g S hM 8 rfl (Or.inl q328) rfl dX1_timer_9 ?_
  refine br_g S hM 4 rfl (Or.inr ⟨_, q229⟩) rfl dX1_timer_12 ?_
  refine lv_iload_n S.x S.b dX1_timer_15 rfl (lv_at hl 1 rfl) ?_
  obtain ⟨hi, hf⟩ := ck_some hf
  refine br_ld S hM 3 rfl hi dX1_timer_16 ?_
  obtain ⟨rfl, rfl⟩ := rt2 hf
  exact g_iret S hM rfl dX1_timer_17
/-! SequenceBench.steps()I -/
def gX1_steps_n (w : BW) : Option (Int32 × BW) :=
  some ((0 : Int32), w)
abbrev rmX1_steps_n : Room := { frames := 1, cells := 0, slots := 0, locals := 12 }
set_option maxHeartbeats 4000000 in
theorem metX1_steps_n {l : Launch} {D : va_G} {T : Nat → ClassId} {h me : Nat} {d a : Nat → Nat} {co : Option Nat} {tl : va_W} {rr : Int32} {wr : BW} {w : BW} (hf : gX1_steps_n w = some (rr, wr)) (sz : Nat) : MetI l yX1_steps (ws_ yX1_steps cX1_steps 1 (some .int)) rmX1_steps_n D T (bwW h d T none co me a w tl) sz [.ref h] rr (bwW h d T none co me a wr tl) := by
  refine g_entry (Qc := fun A => gQi D T A rr (bwW h d T none co me a wr tl)) (by decide) rfl ?_
  intro p e s m below meth c ls S hM hl
  have hl : lv_has ls 1 [(0, .ref h)] := hl
  refine lv_aload_n S.x S.b dX1_steps_0 rfl (lv_at hl 0 rfl) ?_
  refine bn_g S hM 3 rfl (Or.inl q323) rfl dX1_steps_1 ?_
  refine lv_ifnonnullN S.x S.b dX1_steps_4 ?_
  refine lv_iconst (v := (0 : Int32)) S.x S.b dX1_steps_7 ki_0 ?_
  refine lv_goto (tgt := 19) S.x S.b dX1_steps_8 rfl ?_
  obtain ⟨rfl, rfl⟩ := rt2 hf
  exact g_iret S hM rfl dX1_steps_19
