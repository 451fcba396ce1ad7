set_option maxRecDepth 100000
/-! SequenceBenchModel.time()I -/
theorem hdX7_time : gHd yX7_time 0 := by decide +kernel
def gX7_time (w : MW) : Option (Int32 × MW) :=
  lt (setF w 3 (0 : Int32)) fun w_1 =>
  ck (0 : Int32) 140 <|
  some ((w_1.2 0 (0 : Int32).toNatClampNeg), w_1)
abbrev rmX7_time : Room := { frames := 1, cells := 0, slots := 0, locals := 12 }
set_option maxHeartbeats 4000000 in
theorem metX7_time {l : Launch} {D : va_G} {T : Nat → ClassId} {h : Nat} {ad : Nat → Nat} {rr : Int32} {wr : MW} {w : MW} (hf : gX7_time w = some (rr, wr)) (sz : Nat) : MetI l yX7_time (ws_ yX7_time cX7_time 1 (some .int)) rmX7_time D T (mmW h ad (T 0) w) sz [.ref h] rr (mmW h ad (T 0) wr) := by
  refine g_entry (Qc := fun A => gQi D T A rr (mmW h ad (T 0) wr)) (by decide) rfl ?_
  intro p e s m below meth c ls S hM hl
  have hl : lv_has ls 1 [(0, .ref h)] := hl
  refine lv_aload_n S.x S.b dX7_time_0 rfl (lv_at hl 0 rfl) ?_
  refine lv_iconst (v := (0 : Int32)) S.x S.b dX7_time_1 ki_0 ?_
  obtain ⟨w_1, ew, hf⟩ := lt_some hf
  refine mm_p S hM 3 rfl ew q1451 dX7_time_2 (fun H locs hM => ?_)
  refine lv_aload_n S.x S.b dX7_time_5 rfl (lv_at hl 0 rfl) ?_
  refine mm_g S hM 0 rfl q1448 rfl dX7_time_6 ?_
  refine lv_iconst (v := (0 : Int32)) S.x S.b dX7_time_9 ki_0 ?_
  obtain ⟨hi, hf⟩ := ck_some hf
  refine mm_ld S hM 0 rfl hi dX7_time_10 ?_
  obtain ⟨rfl, rfl⟩ := rt2 hf
  exact g_iret S hM rfl dX7_time_11
/-! SequenceBenchModel.timer(I)I -/
theorem hdX7_timer : gHd yX7_timer 1 := by decide +kernel
def gX7_timer (x1 : Int32) (w : MW) : Option (Int32 × MW) :=
  lt (setF w 3 (0 : Int32)) fun w_1 =>
  bd2 (gX7_isStep x1 w_1) fun r_3 w_2 =>
  if r_3 = 0 then (
  bd2 (gX7_fails (1 : Int32) w_2) fun r_5 w_4 =>
  some (r_5, w_4))
  else (
  ck ((44 : Int32) + x1) 140 <|
  some ((w_2.2 0 ((44 : Int32) + x1).toNatClampNeg), w_2))
abbrev rmX7_timer : Room := { frames := 3, cells := 0, slots := 0, locals := 55 }
set_option maxHeartbeats 4000000 in
theorem metX7_timer {l : Launch} {D : va_G} {T : Nat → ClassId} {h : Nat} {ad : Nat → Nat} {rr : Int32} {wr : MW} {x1 : Int32} {w : MW} (hf : gX7_timer x1 w = some (rr, wr)) (sz : Nat) : MetI l yX7_timer (ws_ yX7_timer cX7_timer 2 (some .int)) rmX7_timer D T (mmW h ad (T 0) w) sz [.ref h, .int x1] rr (mmW h ad (T 0) wr) := by
  refine g_entry (Qc := fun A => gQi D T A rr (mmW h ad (T 0) wr)) (by decide) rfl ?_
  intro p e s m below meth c ls S hM hl
  have hl : lv_has ls 2 [(0, .ref h), (1, .int x1)] := hl
  refine lv_aload_n S.x S.b dX7_timer_0 rfl (lv_at hl 0 rfl) ?_
  refine lv_iconst (v := (0 : Int32)) S.x S.b dX7_timer_1 ki_0 ?_
  obtain ⟨w_1, ew, hf⟩ := lt_some hf
  refine mm_p S hM 3 rfl ew q1451 dX7_timer_2 (fun H locs hM => ?_)
  refine lv_aload_n S.x S.b dX7_timer_5 rfl (lv_at hl 0 rfl) ?_
  refine lv_iload_n S.x S.b dX7_timer_6 rfl (lv_at hl 1 rfl) ?_
  obtain ⟨r_3, w_2, hc, hf⟩ := bd2_some hf
  refine mm_ci S hM hl [.int x1] rfl (metX7_isStep hc) hdX7_isStep q1587 q1589 qs43 q69 q1590 ⟨rfl, rfl⟩ ⟨rfl, rfl⟩ rfl rfl rfl ⟨Nat.zero_le _, Nat.zero_le _⟩ dX7_timer_7 (fun H locs hM => ?_)
  refine lv_if_eq (tgt := 25) S.x S.b dX7_timer_10 rfl (fun cn => ?_) (fun cn => ?_)
  · have hf := if_t cn hf
    refine lv_aload_n S.x S.b dX7_timer_25 rfl (lv_at hl 0 rfl) ?_
    refine lv_iconst (v := (1 : Int32)) S.x S.b dX7_timer_26 ki_1 ?_
    obtain ⟨r_5, w_4, hc, hf⟩ := bd2_some hf
    refine mm_ci S hM hl [.int (1 : Int32)] rfl (metX7_fails hc) hdX7_fails q1517 q1519 qs32 q69 q1520 ⟨rfl, rfl⟩ ⟨rfl, rfl⟩ rfl rfl rfl ⟨Nat.zero_le _, Nat.zero_le _⟩ dX7_timer_27 (fun H locs hM => ?_)
    obtain ⟨rfl, rfl⟩ := rt2 hf
    exact g_iret S hM rfl dX7_timer_30
  · have hf := if_f cn hf
    refine lv_aload_n S.x S.b dX7_timer_13 rfl (lv_at hl 0 rfl) ?_
    refine mm_g S hM 0 rfl q1448 rfl dX7_timer_14 ?_
    refine lv_bipush (v := (44 : Int32)) S.x S.b dX7_timer_17 kb_44 ?_
    refine lv_iload_n S.x S.b dX7_timer_19 rfl (lv_at hl 1 rfl) ?_
    refine lv_iadd S.x S.b dX7_timer_20 ?_
    obtain ⟨hi, hf⟩ := ck_some hf
    refine mm_ld S hM 0 rfl hi dX7_timer_21 ?_
    refine lv_goto (tgt := 30) S.x S.b dX7_timer_22 rfl ?_
    obtain ⟨rfl, rfl⟩ := rt2 hf
    exact g_iret S hM rfl dX7_timer_30
/-! SequenceBenchModel.type(I)I -/
theorem hdX7_type : gHd yX7_type 1 := by decide +kernel
def gX7_type (x1 : Int32) (w : MW) : Option (Int32 × MW) :=
  lt (setF w 3 (0 : Int32)) fun w_1 =>
  bd (gX7_in x1 (32 : Int32) (126 : Int32)) fun r_2 =>
  if r_2 = 0 then (
  bd2 (gX7_fails (1 : Int32) w_1) fun r_8 w_7 =>
  some (r_8, w_7))
  else (
  if (w_1.1 11) = (80 : Int32) then (
  bd2 (gX7_fails (2 : Int32) w_1) fun r_6 w_5 =>
  some (r_6, w_5))
  else (
  ck (w_1.1 11) 80 <|
  lt (setA w_1 7 (w_1.1 11).toNatClampNeg x1) fun w_3 =>
  lt (setF w_3 11 ((w_3.1 11) + (1 : Int32))) fun w_4 =>
  some ((w_4.1 11), w_4)))
abbrev rmX7_type : Room := { frames := 2, cells := 0, slots := 0, locals := 34 }
set_option maxHeartbeats 4000000 in
theorem metX7_type {l : Launch} {D : va_G} {T : Nat → ClassId} {h : Nat} {ad : Nat → Nat} {rr : Int32} {wr : MW} {x1 : Int32} {w : MW} (hf : gX7_type x1 w = some (rr, wr)) (sz : Nat) : MetI l yX7_type (ws_ yX7_type cX7_type 2 (some .int)) rmX7_type D T (mmW h ad (T 0) w) sz [.ref h, .int x1] rr (mmW h ad (T 0) wr) := by
  refine g_entry (Qc := fun A => gQi D T A rr (mmW h ad (T 0) wr)) (by decide) rfl ?_
  intro p e s m below meth c ls S hM hl
  have hl : lv_has ls 2 [(0, .ref h), (1, .int x1)] := hl
  refine lv_aload_n S.x S.b dX7_type_0 rfl (lv_at hl 0 rfl) ?_
  refine lv_iconst (v := (0 : Int32)) S.x S.b dX7_type_1 ki_0 ?_
  obtain ⟨w_1, ew, hf⟩ := lt_some hf
  refine mm_p S hM 3 rfl ew q1451 dX7_type_2 (fun H locs hM => ?_)
  refine lv_iload_n S.x S.b dX7_type_5 rfl (lv_at hl 1 rfl) ?_
  refine lv_bipush (v := (32 : Int32)) S.x S.b dX7_type_6 kb_32 ?_
  refine lv_bipush (v := (126 : Int32)) S.x S.b dX7_type_8 kb_126 ?_
  obtain ⟨r_2, hc, hf⟩ := bd_some hf
  refine gg_si S hM hl [.int x1, .int (32 : Int32), .int (126 : Int32)] (metX7_in hc) hdX7_in q1437 q1438 q69 q1439 ⟨rfl, rfl⟩ ⟨rfl, rfl⟩ rfl rfl rfl ⟨Nat.zero_le _, Nat.zero_le _⟩ dX7_type_10 (fun H locs hM => ?_)
  refine lv_if_ne (tgt := 22) S.x S.b dX7_type_13 rfl (fun cn => ?_) (fun cn => ?_)
  · have hf := if_f cn hf
    refine lv_aload_n S.x S.b dX7_type_22 rfl (lv_at hl 0 rfl) ?_
    refine mm_g S hM 11 rfl q1459 rfl dX7_type_23 ?_
    refine lv_bipush (v := (80 : Int32)) S.x S.b dX7_type_26 kb_80 ?_
    refine lv_icmp_ne (tgt := 37) S.x S.b dX7_type_28 rfl (fun cn => ?_) (fun cn => ?_)
    · have hf := if_f cn hf
      refine lv_aload_n S.x S.b dX7_type_37 rfl (lv_at hl 0 rfl) ?_
      refine mm_g S hM 10 rfl q1458 rfl dX7_type_38 ?_
      refine lv_aload_n S.x S.b dX7_type_41 rfl (lv_at hl 0 rfl) ?_
      refine mm_g S hM 11 rfl q1459 rfl dX7_type_42 ?_
      refine lv_iload_n S.x S.b dX7_type_45 rfl (lv_at hl 1 rfl) ?_
      obtain ⟨hi, hf⟩ := ck_some hf
      obtain ⟨w_3, ew, hf⟩ := lt_some hf
      refine mm_st S hM 7 rfl hi ew dX7_type_46 (fun H locs hM => ?_)
      refine lv_aload_n S.x S.b dX7_type_47 rfl (lv_at hl 0 rfl) ?_
      refine lv_dup S.x S.b dX7_type_48 rfl ?_
      refine mm_g S hM 11 rfl q1459 rfl dX7_type_49 ?_
      refine lv_iconst (v := (1 : Int32)) S.x S.b dX7_type_52 ki_1 ?_
      refine lv_iadd S.x S.b dX7_type_53 ?_
      obtain ⟨w_4, ew, hf⟩ := lt_some hf
      refine mm_p S hM 11 rfl ew q1459 dX7_type_54 (fun H locs hM => ?_)
      refine lv_aload_n S.x S.b dX7_type_57 rfl (lv_at hl 0 rfl) ?_
      refine mm_g S hM 11 rfl q1459 rfl dX7_type_58 ?_
      obtain ⟨rfl, rfl⟩ := rt2 hf
      exact g_iret S hM rfl dX7_type_61
    · have hf := if_t cn hf
      refine lv_aload_n S.x S.b dX7_type_31 rfl (lv_at hl 0 rfl) ?_
      refine lv_iconst (v := (2 : Int32)) S.x S.b dX7_type_32 ki_2 ?_
      obtain ⟨r_6, w_5, hc, hf⟩ := bd2_some hf
      refine mm_ci S hM hl [.int (2 : Int32)] rfl (metX7_fails hc) hdX7_fails q1517 q1519 qs32 q69 q1520 ⟨rfl, rfl⟩ ⟨rfl, rfl⟩ rfl rfl rfl ⟨Nat.zero_le _, Nat.zero_le _⟩ dX7_type_33 (fun H locs hM => ?_)
      obtain ⟨rfl, rfl⟩ := rt2 hf
      exact g_iret S hM rfl dX7_type_36
  · have hf := if_t cn hf
    refine lv_aload_n S.x S.b dX7_type_16 rfl (lv_at hl 0 rfl) ?_
    refine lv_iconst (v := (1 : Int32)) S.x S.b dX7_type_17 ki_1 ?_
    obtain ⟨r_8, w_7, hc, hf⟩ := bd2_some hf
    refine mm_ci S hM hl [.int (1 : Int32)] rfl (metX7_fails hc) hdX7_fails q1517 q1519 qs32 q69 q1520 ⟨rfl, rfl⟩ ⟨rfl, rfl⟩ rfl rfl rfl ⟨Nat.zero_le _, Nat.zero_le _⟩ dX7_type_18 (fun H locs hM => ?_)
    obtain ⟨rfl, rfl⟩ := rt2 hf
    exact g_iret S hM rfl dX7_type_21
/-! SequenceBenchModel.valves(I)I -/
theorem hdX7_valves : gHd yX7_valves 1 := by decide +kernel
def gX7_valves (N : Nat) (x1 : Int32) (w : MW) : Option (Int32 × MW) :=
  bd2 (gX7_lacks x1 w) fun r_2 w_1 =>
  if r_2 = 0 then (
  bd2 (gX7_valvesOf N x1 w_1) fun r_4 w_3 =>
  some (r_4, w_3))
  else (
  some ((0 : Int32), w_1))
abbrev rmX7_valves : Room := { frames := 3, cells := 0, slots := 0, locals := 57 }
set_option maxHeartbeats 4000000 in
theorem metX7_valves {l : Launch} {D : va_G} {T : Nat → ClassId} {h : Nat} {ad : Nat → Nat} {rr : Int32} {wr : MW} {N : Nat} {x1 : Int32} {w : MW} (hf : gX7_valves N x1 w = some (rr, wr)) (sz : Nat) : MetI l yX7_valves (ws_ yX7_valves cX7_valves 2 (some .int)) rmX7_valves D T (mmW h ad (T 0) w) sz [.ref h, .int x1] rr (mmW h ad (T 0) wr) := by
  refine g_entry (Qc := fun A => gQi D T A rr (mmW h ad (T 0) wr)) (by decide) rfl ?_
  intro p e s m below meth c ls S hM hl
  have hl : lv_has ls 2 [(0, .ref h), (1, .int x1)] := hl
  refine lv_aload_n S.x S.b dX7_valves_0 rfl (lv_at hl 0 rfl) ?_
  refine lv_iload_n S.x S.b dX7_valves_1 rfl (lv_at hl 1 rfl) ?_
  obtain ⟨r_2, w_1, hc, hf⟩ := bd2_some hf
  refine mm_ci S hM hl [.int x1] rfl (metX7_lacks hc) hdX7_lacks q1643 q1645 qs49 q69 q1646 ⟨rfl, rfl⟩ ⟨rfl, rfl⟩ rfl rfl rfl ⟨Nat.zero_le _, Nat.zero_le _⟩ dX7_valves_2 (fun H locs hM => ?_)
  refine lv_if_eq (tgt := 12) S.x S.b dX7_valves_5 rfl (fun cn => ?_) (fun cn => ?_)
  · have hf := if_t cn hf
    refine lv_aload_n S.x S.b dX7_valves_12 rfl (lv_at hl 0 rfl) ?_
    refine lv_iload_n S.x S.b dX7_valves_13 rfl (lv_at hl 1 rfl) ?_
    obtain ⟨r_4, w_3, hc, hf⟩ := bd2_some hf
    refine mm_ci S hM hl [.int x1] rfl (metX7_valvesOf hc) hdX7_valvesOf q1647 q1649 qs50 q69 q1650 ⟨rfl, rfl⟩ ⟨rfl, rfl⟩ rfl rfl rfl ⟨Nat.zero_le _, Nat.zero_le _⟩ dX7_valves_14 (fun H locs hM => ?_)
    obtain ⟨rfl, rfl⟩ := rt2 hf
    exact g_iret S hM rfl dX7_valves_17
  · have hf := if_f cn hf
    refine lv_iconst (v := (0 : Int32)) S.x S.b dX7_valves_8 ki_0 ?_
    refine lv_goto (tgt := 17) S.x S.b dX7_valves_9 rfl ?_
    obtain ⟨rfl, rfl⟩ := rt2 hf
    exact g_iret S hM rfl dX7_valves_17
/-! SequenceBenchModel.works(I)Z -/
theorem hdX7_works : gHd yX7_works 1 := by decide +kernel
def gX7_works (N : Nat) (x1 : Int32) (w : MW) : Option (Int32 × MW) :=
  bd2 (gX7_lacks x1 w) fun r_2 w_1 =>
  if r_2 = 0 then (
  bd2 (gX7_cycleOf N x1 w_1) fun r_4 w_3 =>
  if r_4 < 0 then (
  some ((0 : Int32), w_3))
  else (
  some ((1 : Int32), w_3)))
  else (
  some ((0 : Int32), w_1))
abbrev rmX7_works : Room := { frames := 7, cells := 0, slots := 0, locals := 163 }
set_option maxHeartbeats 4000000 in
theorem metX7_works {l : Launch} {D : va_G} {T : Nat → ClassId} {h : Nat} {ad : Nat → Nat} {rr : Int32} {wr : MW} {N : Nat} {x1 : Int32} {w : MW} (hf : gX7_works N x1 w = some (rr, wr)) (sz : Nat) : MetI l yX7_works (ws_ yX7_works cX7_works 2 (some .boolean)) rmX7_works D T (mmW h ad (T 0) w) sz [.ref h, .int x1] rr (mmW h ad (T 0) wr) := by
  refine g_entry (Qc := fun A => gQi D T A rr (mmW h ad (T 0) wr)) (by decide) rfl ?_
  intro p e s m below meth c ls S hM hl
  have hl : lv_has ls 2 [(0, .ref h), (1, .int x1)] := hl
  refine lv_aload_n S.x S.b dX7_works_0 rfl (lv_at hl 0 rfl) ?_
  refine lv_iload_n S.x S.b dX7_works_1 rfl (lv_at hl 1 rfl) ?_
  obtain ⟨r_2, w_1, hc, hf⟩ := bd2_some hf
  refine mm_ci S hM hl [.int x1] rfl (metX7_lacks hc) hdX7_lacks q1643 q1645 qs49 q69 q1646 ⟨rfl, rfl⟩ ⟨rfl, rfl⟩ rfl rfl rfl ⟨Nat.zero_le _, Nat.zero_le _⟩ dX7_works_2 (fun H locs hM => ?_)
  refine lv_if_ne (tgt := 20) S.x S.b dX7_works_5 rfl (fun cn => ?_) (fun cn => ?_)
  · have hf := if_f cn hf
    refine lv_iconst (v := (0 : Int32)) S.x S.b dX7_works_20 ki_0 ?_
    obtain ⟨rfl, rfl⟩ := rt2 hf
    exact g_zret S hM rfl rfl dX7_works_21
  · have hf := if_t cn hf
    refine lv_aload_n S.x S.b dX7_works_8 rfl (lv_at hl 0 rfl) ?_
    refine lv_iload_n S.x S.b dX7_works_9 rfl (lv_at hl 1 rfl) ?_
    obtain ⟨r_4, w_3, hc, hf⟩ := bd2_some hf
    refine mm_ci S hM hl [.int x1] rfl (metX7_cycleOf hc) hdX7_cycleOf q1759 q1761 qs58 q69 q1762 ⟨rfl, rfl⟩ ⟨rfl, rfl⟩ rfl rfl rfl ⟨Nat.zero_le _, Nat.zero_le _⟩ dX7_works_10 (fun H locs hM => ?_)
    refine lv_if_lt (tgt := 20) S.x S.b dX7_works_13 rfl (fun cn => ?_) (fun cn => ?_)
    · have hf := if_t cn hf
      refine lv_iconst (v := (0 : Int32)) S.x S.b dX7_works_20 ki_0 ?_
      obtain ⟨rfl, rfl⟩ := rt2 hf
      exact g_zret S hM rfl rfl dX7_works_21
    · have hf := if_f cn hf
      refine lv_iconst (v := (1 : Int32)) S.x S.b dX7_works_16 ki_1 ?_
      refine lv_goto (tgt := 21) S.x S.b dX7_works_17 rfl ?_
      obtain ⟨rfl, rfl⟩ := rt2 hf
      exact g_zret S hM rfl rfl dX7_works_21
