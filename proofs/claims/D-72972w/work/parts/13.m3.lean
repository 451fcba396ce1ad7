set_option maxRecDepth 100000
/-! SequenceBenchModel.effect(III)I -/
theorem hdX7_effect : gHd yX7_effect 3 := by decide +kernel
def gX7_effect (N : Nat) (x1 : Int32) (x2 : Int32) (x3 : Int32) (w : MW) : Option (Int32 × MW) :=
  lt (setF w 3 (0 : Int32)) fun w_1 =>
  bd (gX7_in x1 (0 : Int32) (5 : Int32)) fun r_2 =>
  if r_2 = 0 then (
  bd2 (gX7_fails (1 : Int32) w_1) fun r_13 w_12 =>
  some (r_13, w_12))
  else (
  bd (gX7_in x2 (0 : Int32) (4 : Int32)) fun r_3 =>
  if r_3 = 0 then (
  bd2 (gX7_fails (2 : Int32) w_1) fun r_5 w_4 =>
  some (r_5, w_4))
  else (
  bd (gX7_in x3 (0 : Int32) (2000 : Int32)) fun r_6 =>
  if r_6 = 0 then (
  bd2 (gX7_fails (2 : Int32) w_1) fun r_11 w_10 =>
  some (r_11, w_10))
  else (
  if (w_1.1 4) = 0 then (
  bd2 (gX7_fails (3 : Int32) w_1) fun r_9 w_8 =>
  some (r_9, w_8))
  else (
  ck (1 : Int32) 140 <|
  bd (gX7_tries N (w_1.2 0 (1 : Int32).toNatClampNeg) x1 x2 x3 (0 : Int32) w_1) fun w_7 =>
  ck (5 : Int32) 140 <|
  some ((w_7.2 1 (5 : Int32).toNatClampNeg), w_7)))))
abbrev rmX7_effect : Room := { frames := 6, cells := 0, slots := 0, locals := 142 }
set_option maxHeartbeats 4000000 in
theorem metX7_effect {l : Launch} {D : va_G} {T : Nat → ClassId} {h : Nat} {ad : Nat → Nat} {rr : Int32} {wr : MW} {N : Nat} {x1 : Int32} {x2 : Int32} {x3 : Int32} {w : MW} (hf : gX7_effect N x1 x2 x3 w = some (rr, wr)) (sz : Nat) : MetI l yX7_effect (ws_ yX7_effect cX7_effect 4 (some .int)) rmX7_effect D T (mmW h ad (T 0) w) sz [.ref h, .int x1, .int x2, .int x3] rr (mmW h ad (T 0) wr) := by
  refine g_entry (Qc := fun A => gQi D T A rr (mmW h ad (T 0) wr)) (by decide) rfl ?_
  intro p e s m below meth c ls S hM hl
  have hl : lv_has ls 4 [(0, .ref h), (1, .int x1), (2, .int x2), (3, .int x3)] := hl
  refine lv_aload_n S.x S.b dX7_effect_0 rfl (lv_at hl 0 rfl) ?_
  refine lv_iconst (v := (0 : Int32)) S.x S.b dX7_effect_1 ki_0 ?_
  obtain ⟨w_1, ew, hf⟩ := lt_some hf
  refine mm_p S hM 3 rfl ew q1451 dX7_effect_2 (fun H locs hM => ?_)
  refine lv_iload_n S.x S.b dX7_effect_5 rfl (lv_at hl 1 rfl) ?_
  refine lv_iconst (v := (0 : Int32)) S.x S.b dX7_effect_6 ki_0 ?_
  refine lv_iconst (v := (5 : Int32)) S.x S.b dX7_effect_7 ki_5 ?_
  obtain ⟨r_2, hc, hf⟩ := bd_some hf
  refine gg_si S hM hl [.int x1, .int (0 : Int32), .int (5 : Int32)] (metX7_in hc) hdX7_in q1437 q1438 q69 q1439 ⟨rfl, rfl⟩ ⟨rfl, rfl⟩ rfl rfl rfl ⟨Nat.zero_le _, Nat.zero_le _⟩ dX7_effect_8 (fun H locs hM => ?_)
  refine lv_if_ne (tgt := 20) S.x S.b dX7_effect_11 rfl (fun cn => ?_) (fun cn => ?_)
  · have hf := if_f cn hf
    refine lv_iload_n S.x S.b dX7_effect_20 rfl (lv_at hl 2 rfl) ?_
    refine lv_iconst (v := (0 : Int32)) S.x S.b dX7_effect_21 ki_0 ?_
    refine lv_iconst (v := (4 : Int32)) S.x S.b dX7_effect_22 ki_4 ?_
    obtain ⟨r_3, hc, hf⟩ := bd_some hf
    refine gg_si S hM hl [.int x2, .int (0 : Int32), .int (4 : Int32)] (metX7_in hc) hdX7_in q1437 q1438 q69 q1439 ⟨rfl, rfl⟩ ⟨rfl, rfl⟩ rfl rfl rfl ⟨Nat.zero_le _, Nat.zero_le _⟩ dX7_effect_23 (fun H locs hM => ?_)
    refine lv_if_eq (tgt := 40) S.x S.b dX7_effect_26 rfl (fun cn => ?_) (fun cn => ?_)
    · have hf := if_t cn hf
      refine lv_aload_n S.x S.b dX7_effect_40 rfl (lv_at hl 0 rfl) ?_
      refine lv_iconst (v := (2 : Int32)) S.x S.b dX7_effect_41 ki_2 ?_
      obtain ⟨r_5, w_4, hc, hf⟩ := bd2_some hf
      refine mm_ci S hM hl [.int (2 : Int32)] rfl (metX7_fails hc) hdX7_fails q1517 q1519 qs32 q69 q1520 ⟨rfl, rfl⟩ ⟨rfl, rfl⟩ rfl rfl rfl ⟨Nat.zero_le _, Nat.zero_le _⟩ dX7_effect_42 (fun H locs hM => ?_)
      obtain ⟨rfl, rfl⟩ := rt2 hf
      exact g_iret S hM rfl dX7_effect_45
    · have hf := if_f cn hf
      refine lv_iload_n S.x S.b dX7_effect_29 rfl (lv_at hl 3 rfl) ?_
      refine lv_iconst (v := (0 : Int32)) S.x S.b dX7_effect_30 ki_0 ?_
      refine lv_sipush (v := (2000 : Int32)) S.x S.b dX7_effect_31 ks_2000 ?_
      obtain ⟨r_6, hc, hf⟩ := bd_some hf
      refine gg_si S hM hl [.int x3, .int (0 : Int32), .int (2000 : Int32)] (metX7_in hc) hdX7_in q1437 q1438 q69 q1439 ⟨rfl, rfl⟩ ⟨rfl, rfl⟩ rfl rfl rfl ⟨Nat.zero_le _, Nat.zero_le _⟩ dX7_effect_34 (fun H locs hM => ?_)
      refine lv_if_ne (tgt := 46) S.x S.b dX7_effect_37 rfl (fun cn => ?_) (fun cn => ?_)
      · have hf := if_f cn hf
        refine lv_aload_n S.x S.b dX7_effect_46 rfl (lv_at hl 0 rfl) ?_
        refine mm_g S hM 4 rfl q1452 rfl dX7_effect_47 ?_
        refine lv_if_ne (tgt := 59) S.x S.b dX7_effect_50 rfl (fun cn => ?_) (fun cn => ?_)
        · have hf := if_f cn hf
          refine lv_aload_n S.x S.b dX7_effect_59 rfl (lv_at hl 0 rfl) ?_
          refine lv_aload_n S.x S.b dX7_effect_60 rfl (lv_at hl 0 rfl) ?_
          refine mm_g S hM 0 rfl q1448 rfl dX7_effect_61 ?_
          refine lv_iconst (v := (1 : Int32)) S.x S.b dX7_effect_64 ki_1 ?_
          obtain ⟨hi, hf⟩ := ck_some hf
          refine mm_ld S hM 0 rfl hi dX7_effect_65 ?_
          refine lv_iload_n S.x S.b dX7_effect_66 rfl (lv_at hl 1 rfl) ?_
          refine lv_iload_n S.x S.b dX7_effect_67 rfl (lv_at hl 2 rfl) ?_
          refine lv_iload_n S.x S.b dX7_effect_68 rfl (lv_at hl 3 rfl) ?_
          refine lv_iconst (v := (0 : Int32)) S.x S.b dX7_effect_69 ki_0 ?_
          obtain ⟨w_7, hc, hf⟩ := bd_some hf
          refine mm_cv S hM hl [.int (w_1.2 0 (1 : Int32).toNatClampNeg), .int x1, .int x2, .int x3, .int (0 : Int32)] rfl (metX7_tries hc) hdX7_tries q1763 q1765 qs59 q69 q1766 ⟨rfl, rfl⟩ ⟨rfl, rfl⟩ rfl rfl rfl ⟨Nat.zero_le _, Nat.zero_le _⟩ dX7_effect_70 (fun H locs hM => ?_)
          refine lv_aload_n S.x S.b dX7_effect_73 rfl (lv_at hl 0 rfl) ?_
          refine mm_g S hM 1 rfl q1449 rfl dX7_effect_74 ?_
          refine lv_iconst (v := (5 : Int32)) S.x S.b dX7_effect_77 ki_5 ?_
          obtain ⟨hi, hf⟩ := ck_some hf
          refine mm_ld S hM 1 rfl hi dX7_effect_78 ?_
          obtain ⟨rfl, rfl⟩ := rt2 hf
          exact g_iret S hM rfl dX7_effect_79
        · have hf := if_t cn hf
          refine lv_aload_n S.x S.b dX7_effect_53 rfl (lv_at hl 0 rfl) ?_
          refine lv_iconst (v := (3 : Int32)) S.x S.b dX7_effect_54 ki_3 ?_
          obtain ⟨r_9, w_8, hc, hf⟩ := bd2_some hf
          refine mm_ci S hM hl [.int (3 : Int32)] rfl (metX7_fails hc) hdX7_fails q1517 q1519 qs32 q69 q1520 ⟨rfl, rfl⟩ ⟨rfl, rfl⟩ rfl rfl rfl ⟨Nat.zero_le _, Nat.zero_le _⟩ dX7_effect_55 (fun H locs hM => ?_)
          obtain ⟨rfl, rfl⟩ := rt2 hf
          exact g_iret S hM rfl dX7_effect_58
      · have hf := if_t cn hf
        refine lv_aload_n S.x S.b dX7_effect_40 rfl (lv_at hl 0 rfl) ?_
        refine lv_iconst (v := (2 : Int32)) S.x S.b dX7_effect_41 ki_2 ?_
        obtain ⟨r_11, w_10, hc, hf⟩ := bd2_some hf
        refine mm_ci S hM hl [.int (2 : Int32)] rfl (metX7_fails hc) hdX7_fails q1517 q1519 qs32 q69 q1520 ⟨rfl, rfl⟩ ⟨rfl, rfl⟩ rfl rfl rfl ⟨Nat.zero_le _, Nat.zero_le _⟩ dX7_effect_42 (fun H locs hM => ?_)
        obtain ⟨rfl, rfl⟩ := rt2 hf
        exact g_iret S hM rfl dX7_effect_45
  · have hf := if_t cn hf
    refine lv_aload_n S.x S.b dX7_effect_14 rfl (lv_at hl 0 rfl) ?_
    refine lv_iconst (v := (1 : Int32)) S.x S.b dX7_effect_15 ki_1 ?_
    obtain ⟨r_13, w_12, hc, hf⟩ := bd2_some hf
    refine mm_ci S hM hl [.int (1 : Int32)] rfl (metX7_fails hc) hdX7_fails q1517 q1519 qs32 q69 q1520 ⟨rfl, rfl⟩ ⟨rfl, rfl⟩ rfl rfl rfl ⟨Nat.zero_le _, Nat.zero_le _⟩ dX7_effect_16 (fun H locs hM => ?_)
    obtain ⟨rfl, rfl⟩ := rt2 hf
    exact g_iret S hM rfl dX7_effect_19
/-! SequenceBenchModel.errorKind()I -/
theorem hdX7_errorKind : gHd yX7_errorKind 0 := by decide +kernel
def gX7_errorKind (w : MW) : Option (Int32 × MW) :=
  lt (setF w 3 (0 : Int32)) fun w_1 =>
  some ((w_1.1 12), w_1)
abbrev rmX7_errorKind : Room := { frames := 1, cells := 0, slots := 0, locals := 12 }
set_option maxHeartbeats 4000000 in
theorem metX7_errorKind {l : Launch} {D : va_G} {T : Nat → ClassId} {h : Nat} {ad : Nat → Nat} {rr : Int32} {wr : MW} {w : MW} (hf : gX7_errorKind w = some (rr, wr)) (sz : Nat) : MetI l yX7_errorKind (ws_ yX7_errorKind cX7_errorKind 1 (some .int)) rmX7_errorKind D T (mmW h ad (T 0) w) sz [.ref h] rr (mmW h ad (T 0) wr) := by
  refine g_entry (Qc := fun A => gQi D T A rr (mmW h ad (T 0) wr)) (by decide) rfl ?_
  intro p e s m below meth c ls S hM hl
  have hl : lv_has ls 1 [(0, .ref h)] := hl
  refine lv_aload_n S.x S.b dX7_errorKind_0 rfl (lv_at hl 0 rfl) ?_
  refine lv_iconst (v := (0 : Int32)) S.x S.b dX7_errorKind_1 ki_0 ?_
  obtain ⟨w_1, ew, hf⟩ := lt_some hf
  refine mm_p S hM 3 rfl ew q1451 dX7_errorKind_2 (fun H locs hM => ?_)
  refine lv_aload_n S.x S.b dX7_errorKind_5 rfl (lv_at hl 0 rfl) ?_
  refine mm_g S hM 12 rfl q1460 rfl dX7_errorKind_6 ?_
  obtain ⟨rfl, rfl⟩ := rt2 hf
  exact g_iret S hM rfl dX7_errorKind_9
/-! SequenceBenchModel.ofEvent(II)I -/
theorem hdX7_ofEvent : gHd yX7_ofEvent 2 := by decide +kernel
def gX7_ofEvent (x1 : Int32) (x2 : Int32) (w : MW) : Option (Int32 × MW) :=
  lt (setF w 3 (0 : Int32)) fun w_1 =>
  if 0 ≤ x1 then (
  if (40 : Int32) ≤ x1 then (
  some ((-1 : Int32), w_1))
  else (
  ck (4 : Int32) 140 <|
  if (w_1.2 0 (4 : Int32).toNatClampNeg) ≤ x1 then (
  some ((-1 : Int32), w_1))
  else (
  ck (4 : Int32) 140 <|
  ck (x2 + ((((w_1.2 0 (4 : Int32).toNatClampNeg) - (1 : Int32)) - x1) - (((w_1.2 0 (4 : Int32).toNatClampNeg) - (1 : Int32)) - x1) / (40 : Int32) * (40 : Int32))) 140 <|
  some ((w_1.2 0 (x2 + ((((w_1.2 0 (4 : Int32).toNatClampNeg) - (1 : Int32)) - x1) - (((w_1.2 0 (4 : Int32).toNatClampNeg) - (1 : Int32)) - x1) / (40 : Int32) * (40 : Int32))).toNatClampNeg), w_1))))
  else (
  bd2 (gX7_fails (1 : Int32) w_1) fun r_3 w_2 =>
  some (r_3, w_2))
abbrev rmX7_ofEvent : Room := { frames := 2, cells := 0, slots := 0, locals := 33 }
set_option maxHeartbeats 4000000 in
theorem metX7_ofEvent {l : Launch} {D : va_G} {T : Nat → ClassId} {h : Nat} {ad : Nat → Nat} {rr : Int32} {wr : MW} {x1 : Int32} {x2 : Int32} {w : MW} (hf : gX7_ofEvent x1 x2 w = some (rr, wr)) (sz : Nat) : MetI l yX7_ofEvent (ws_ yX7_ofEvent cX7_ofEvent 3 (some .int)) rmX7_ofEvent D T (mmW h ad (T 0) w) sz [.ref h, .int x1, .int x2] rr (mmW h ad (T 0) wr) := by
  refine g_entry (Qc := fun A => gQi D T A rr (mmW h ad (T 0) wr)) (by decide) rfl ?_
  intro p e s m below meth c ls S hM hl
  have hl : lv_has ls 3 [(0, .ref h), (1, .int x1), (2, .int x2)] := hl
  refine lv_aload_n S.x S.b dX7_ofEvent_0 rfl (lv_at hl 0 rfl) ?_
  refine lv_iconst (v := (0 : Int32)) S.x S.b dX7_ofEvent_1 ki_0 ?_
  obtain ⟨w_1, ew, hf⟩ := lt_some hf
  refine mm_p S hM 3 rfl ew q1451 dX7_ofEvent_2 (fun H locs hM => ?_)
  refine lv_iload_n S.x S.b dX7_ofEvent_5 rfl (lv_at hl 1 rfl) ?_
  refine lv_if_ge (tgt := 15) S.x S.b dX7_ofEvent_6 rfl (fun cn => ?_) (fun cn => ?_)
  · have hf := if_t cn hf
    refine lv_iload_n S.x S.b dX7_ofEvent_15 rfl (lv_at hl 1 rfl) ?_
    refine lv_bipush (v := (40 : Int32)) S.x S.b dX7_ofEvent_16 kb_40 ?_
    refine lv_icmp_ge (tgt := 54) S.x S.b dX7_ofEvent_18 rfl (fun cn => ?_) (fun cn => ?_)
    · have hf := if_t cn hf
      refine lv_iconst (v := (-1 : Int32)) S.x S.b dX7_ofEvent_54 ki_m1 ?_
      obtain ⟨rfl, rfl⟩ := rt2 hf
      exact g_iret S hM rfl dX7_ofEvent_55
    · have hf := if_f cn hf
      refine lv_iload_n S.x S.b dX7_ofEvent_21 rfl (lv_at hl 1 rfl) ?_
      refine lv_aload_n S.x S.b dX7_ofEvent_22 rfl (lv_at hl 0 rfl) ?_
      refine mm_g S hM 0 rfl q1448 rfl dX7_ofEvent_23 ?_
      refine lv_iconst (v := (4 : Int32)) S.x S.b dX7_ofEvent_26 ki_4 ?_
      obtain ⟨hi, hf⟩ := ck_some hf
      refine mm_ld S hM 0 rfl hi dX7_ofEvent_27 ?_
      refine lv_icmp_ge (tgt := 54) S.x S.b dX7_ofEvent_28 rfl (fun cn => ?_) (fun cn => ?_)
      · have hf := if_t cn hf
        refine lv_iconst (v := (-1 : Int32)) S.x S.b dX7_ofEvent_54 ki_m1 ?_
        obtain ⟨rfl, rfl⟩ := rt2 hf
        exact g_iret S hM rfl dX7_ofEvent_55
      · have hf := if_f cn hf
        refine lv_aload_n S.x S.b dX7_ofEvent_31 rfl (lv_at hl 0 rfl) ?_
        refine mm_g S hM 0 rfl q1448 rfl dX7_ofEvent_32 ?_
        refine lv_iload_n S.x S.b dX7_ofEvent_35 rfl (lv_at hl 2 rfl) ?_
        refine lv_aload_n S.x S.b dX7_ofEvent_36 rfl (lv_at hl 0 rfl) ?_
        refine mm_g S hM 0 rfl q1448 rfl dX7_ofEvent_37 ?_
        refine lv_iconst (v := (4 : Int32)) S.x S.b dX7_ofEvent_40 ki_4 ?_
        obtain ⟨hi, hf⟩ := ck_some hf
        refine mm_ld S hM 0 rfl hi dX7_ofEvent_41 ?_
        refine lv_iconst (v := (1 : Int32)) S.x S.b dX7_ofEvent_42 ki_1 ?_
        refine lv_isub S.x S.b dX7_ofEvent_43 ?_
        refine lv_iload_n S.x S.b dX7_ofEvent_44 rfl (lv_at hl 1 rfl) ?_
        refine lv_isub S.x S.b dX7_ofEvent_45 ?_
        refine lv_bipush (v := (40 : Int32)) S.x S.b dX7_ofEvent_46 kb_40 ?_
        refine lv_irem S.x S.b dX7_ofEvent_48 (by decide) ?_
        refine lv_iadd S.x S.b dX7_ofEvent_49 ?_
        obtain ⟨hi, hf⟩ := ck_some hf
        refine mm_ld S hM 0 rfl hi dX7_ofEvent_50 ?_
        refine lv_goto (tgt := 55) S.x S.b dX7_ofEvent_51 rfl ?_
        obtain ⟨rfl, rfl⟩ := rt2 hf
        exact g_iret S hM rfl dX7_ofEvent_55
  · have hf := if_f cn hf
    refine lv_aload_n S.x S.b dX7_ofEvent_9 rfl (lv_at hl 0 rfl) ?_
    refine lv_iconst (v := (1 : Int32)) S.x S.b dX7_ofEvent_10 ki_1 ?_
    obtain ⟨r_3, w_2, hc, hf⟩ := bd2_some hf
    refine mm_ci S hM hl [.int (1 : Int32)] rfl (metX7_fails hc) hdX7_fails q1517 q1519 qs32 q69 q1520 ⟨rfl, rfl⟩ ⟨rfl, rfl⟩ rfl rfl rfl ⟨Nat.zero_le _, Nat.zero_le _⟩ dX7_ofEvent_11 (fun H locs hM => ?_)
    obtain ⟨rfl, rfl⟩ := rt2 hf
    exact g_iret S hM rfl dX7_ofEvent_14
/-! SequenceBenchModel.eventMove(I)I -/
theorem hdX7_eventMove : gHd yX7_eventMove 1 := by decide +kernel
def gX7_eventMove (x1 : Int32) (w : MW) : Option (Int32 × MW) :=
  bd2 (gX7_ofEvent x1 (100 : Int32) w) fun r_2 w_1 =>
  some (r_2, w_1)
abbrev rmX7_eventMove : Room := { frames := 3, cells := 0, slots := 0, locals := 55 }
set_option maxHeartbeats 4000000 in
theorem metX7_eventMove {l : Launch} {D : va_G} {T : Nat → ClassId} {h : Nat} {ad : Nat → Nat} {rr : Int32} {wr : MW} {x1 : Int32} {w : MW} (hf : gX7_eventMove x1 w = some (rr, wr)) (sz : Nat) : MetI l yX7_eventMove (ws_ yX7_eventMove cX7_eventMove 2 (some .int)) rmX7_eventMove D T (mmW h ad (T 0) w) sz [.ref h, .int x1] rr (mmW h ad (T 0) wr) := by
  refine g_entry (Qc := fun A => gQi D T A rr (mmW h ad (T 0) wr)) (by decide) rfl ?_
  intro p e s m below meth c ls S hM hl
  have hl : lv_has ls 2 [(0, .ref h), (1, .int x1)] := hl
  refine lv_aload_n S.x S.b dX7_eventMove_0 rfl (lv_at hl 0 rfl) ?_
  refine lv_iload_n S.x S.b dX7_eventMove_1 rfl (lv_at hl 1 rfl) ?_
  refine lv_bipush (v := (100 : Int32)) S.x S.b dX7_eventMove_2 kb_100 ?_
  obtain ⟨r_2, w_1, hc, hf⟩ := bd2_some hf
  refine mm_ci S hM hl [.int x1, .int (100 : Int32)] rfl (metX7_ofEvent hc) hdX7_ofEvent q1735 q1737 qs57 q69 q1738 ⟨rfl, rfl⟩ ⟨rfl, rfl⟩ rfl rfl rfl ⟨Nat.zero_le _, Nat.zero_le _⟩ dX7_eventMove_4 (fun H locs hM => ?_)
  obtain ⟨rfl, rfl⟩ := rt2 hf
  exact g_iret S hM rfl dX7_eventMove_7
/-! SequenceBenchModel.eventTime(I)I -/
theorem hdX7_eventTime : gHd yX7_eventTime 1 := by decide +kernel
def gX7_eventTime (x1 : Int32) (w : MW) : Option (Int32 × MW) :=
  bd2 (gX7_ofEvent x1 (60 : Int32) w) fun r_2 w_1 =>
  some (r_2, w_1)
abbrev rmX7_eventTime : Room := { frames := 3, cells := 0, slots := 0, locals := 55 }
set_option maxHeartbeats 4000000 in
theorem metX7_eventTime {l : Launch} {D : va_G} {T : Nat → ClassId} {h : Nat} {ad : Nat → Nat} {rr : Int32} {wr : MW} {x1 : Int32} {w : MW} (hf : gX7_eventTime x1 w = some (rr, wr)) (sz : Nat) : MetI l yX7_eventTime (ws_ yX7_eventTime cX7_eventTime 2 (some .int)) rmX7_eventTime D T (mmW h ad (T 0) w) sz [.ref h, .int x1] rr (mmW h ad (T 0) wr) := by
  refine g_entry (Qc := fun A => gQi D T A rr (mmW h ad (T 0) wr)) (by decide) rfl ?_
  intro p e s m below meth c ls S hM hl
  have hl : lv_has ls 2 [(0, .ref h), (1, .int x1)] := hl
  refine lv_aload_n S.x S.b dX7_eventTime_0 rfl (lv_at hl 0 rfl) ?_
  refine lv_iload_n S.x S.b dX7_eventTime_1 rfl (lv_at hl 1 rfl) ?_
  refine lv_bipush (v := (60 : Int32)) S.x S.b dX7_eventTime_2 kb_60 ?_
  obtain ⟨r_2, w_1, hc, hf⟩ := bd2_some hf
  refine mm_ci S hM hl [.int x1, .int (60 : Int32)] rfl (metX7_ofEvent hc) hdX7_ofEvent q1735 q1737 qs57 q69 q1738 ⟨rfl, rfl⟩ ⟨rfl, rfl⟩ rfl rfl rfl ⟨Nat.zero_le _, Nat.zero_le _⟩ dX7_eventTime_4 (fun H locs hM => ?_)
  obtain ⟨rfl, rfl⟩ := rt2 hf
  exact g_iret S hM rfl dX7_eventTime_7
/-! SequenceBenchModel.events()I -/
theorem hdX7_events : gHd yX7_events 0 := by decide +kernel
def gX7_events (w : MW) : Option (Int32 × MW) :=
  lt (setF w 3 (0 : Int32)) fun w_1 =>
  ck (4 : Int32) 140 <|
  some ((w_1.2 0 (4 : Int32).toNatClampNeg), w_1)
abbrev rmX7_events : Room := { frames := 1, cells := 0, slots := 0, locals := 12 }
set_option maxHeartbeats 4000000 in
theorem metX7_events {l : Launch} {D : va_G} {T : Nat → ClassId} {h : Nat} {ad : Nat → Nat} {rr : Int32} {wr : MW} {w : MW} (hf : gX7_events w = some (rr, wr)) (sz : Nat) : MetI l yX7_events (ws_ yX7_events cX7_events 1 (some .int)) rmX7_events D T (mmW h ad (T 0) w) sz [.ref h] rr (mmW h ad (T 0) wr) := by
  refine g_entry (Qc := fun A => gQi D T A rr (mmW h ad (T 0) wr)) (by decide) rfl ?_
  intro p e s m below meth c ls S hM hl
  have hl : lv_has ls 1 [(0, .ref h)] := hl
  refine lv_aload_n S.x S.b dX7_events_0 rfl (lv_at hl 0 rfl) ?_
  refine lv_iconst (v := (0 : Int32)) S.x S.b dX7_events_1 ki_0 ?_
  obtain ⟨w_1, ew, hf⟩ := lt_some hf
  refine mm_p S hM 3 rfl ew q1451 dX7_events_2 (fun H locs hM => ?_)
  refine lv_aload_n S.x S.b dX7_events_5 rfl (lv_at hl 0 rfl) ?_
  refine mm_g S hM 0 rfl q1448 rfl dX7_events_6 ?_
  refine lv_iconst (v := (4 : Int32)) S.x S.b dX7_events_9 ki_4 ?_
  obtain ⟨hi, hf⟩ := ck_some hf
  refine mm_ld S hM 0 rfl hi dX7_events_10 ?_
  obtain ⟨rfl, rfl⟩ := rt2 hf
  exact g_iret S hM rfl dX7_events_11
/-! SequenceBenchModel.explains(II)Z -/
theorem hdX7_explains : gHd yX7_explains 2 := by decide +kernel
def gX7_explains_43 (N : Nat) : Nat → Int32 → Int32 → MW → Option (Int32 × MW)
  | 0, _, _, _ => none
  | n + 1, x3, x4, w =>
    if (32 : Int32) ≤ x4 then (
    bz x3 (some (x3, w)))
    else (
    if x3 = 0 then (
    lt (x4 + (1 : Int32)) fun x4_3 =>
    gX7_explains_43 N n (0 : Int32) x4_3 w)
    else (
    ck x4 140 <|
    ck x4 140 <|
    if (w.2 1 x4.toNatClampNeg) = (w.2 0 x4.toNatClampNeg) then (
    lt (x4 + (1 : Int32)) fun x4_5 =>
    gX7_explains_43 N n (1 : Int32) x4_5 w)
    else (
    lt (x4 + (1 : Int32)) fun x4_4 =>
    gX7_explains_43 N n (0 : Int32) x4_4 w)))
def gX7_explains (N : Nat) (x1 : Int32) (x2 : Int32) (w : MW) : Option (Int32 × MW) :=
  ck (1 : Int32) 140 <|
  ck (0 : Int32) 140 <|
  if (5000 : Int32) ≤ (w.2 0 (0 : Int32).toNatClampNeg) then (
  bd (gX7_tries N (w.2 0 (1 : Int32).toNatClampNeg) x1 x2 (5000 : Int32) (0 : Int32) w) fun w_1 =>
  gX7_explains_43 N N (1 : Int32) (20 : Int32) w_1)
  else (
  ck (0 : Int32) 140 <|
  bd (gX7_tries N (w.2 0 (1 : Int32).toNatClampNeg) x1 x2 (w.2 0 (0 : Int32).toNatClampNeg) (0 : Int32) w) fun w_2 =>
  gX7_explains_43 N N (1 : Int32) (20 : Int32) w_2)
abbrev rmX7_explains : Room := { frames := 6, cells := 0, slots := 0, locals := 142 }
set_option maxHeartbeats 4000000 in
theorem wX7_explains_43 {p : Program} {l : Launch} {e : Env} {s : State} {m : MethodId} {args : Array Value} {below : List Frame} {meth : Method} {c : Code} {D : va_G} {T : Nat → ClassId} {A : Nat → Prop} {h : Nat} {ad : Nat → Nat} {rr : Int32} {wr : MW} {N : Nat} (S : gS p s m args meth c cX7_explains 5 (some .boolean) RX7 D T) : ∀ (n : Nat) (x3 : Int32) (x4 : Int32) (w : MW) (H : Heap) (locs : List Loc) (ls : Array Slot), gM D A s.heap (mmW h ad (T 0) w) H locs → lv_has ls 5 [(0, .ref h), (3, .int x3), (4, .int x4)] → gX7_explains_43 N n x3 x4 w = some (rr, wr) → W p l e rmX7_explains s m args below meth c H locs 0 0 (MQ below (gQi D T A rr (mmW h ad (T 0) wr)) args s 0 0 A) (F0 m 43 ls []) := by
  intro n
  induction n with
  | zero =>
    intro x3 x4 w H locs ls hM hl hf
    cases hf
  | succ n ih =>
    intro x3 x4 w H locs ls hM hl hf
    refine lv_iload S.x S.b dX7_explains_43 (lv_at hl 2 rfl) ?_
    refine lv_bipush (v := (32 : Int32)) S.x S.b dX7_explains_45 kb_32 ?_
    refine lv_icmp_ge (tgt := 83) S.x S.b dX7_explains_47 rfl (fun cn => ?_) (fun cn => ?_)
    · have hf := if_t cn hf
      refine lv_iload_n S.x S.b dX7_explains_83 rfl (lv_at hl 1 rfl) ?_
      obtain ⟨hz, hf⟩ := bz_some hf
      obtain ⟨rfl, rfl⟩ := rt2 hf
      exact g_zret S hM rfl hz dX7_explains_84
    · have hf := if_f cn hf
      refine lv_iload_n S.x S.b dX7_explains_50 rfl (lv_at hl 1 rfl) ?_
      refine lv_if_eq (tgt := 75) S.x S.b dX7_explains_51 rfl (fun cn => ?_) (fun cn => ?_)
      · have hf := if_t cn hf
        refine lv_iconst (v := (0 : Int32)) S.x S.b dX7_explains_75 ki_0 ?_
        refine g_istn S (x' := (0 : Int32)) rfl hl dX7_explains_76 rfl rfl (lv' := [(3, .int (0 : Int32)), (0, .ref h), (4, .int x4)]) rfl (fun ls hl => ?_)
        obtain ⟨x4_3, ex, hf⟩ := lt_some hf
        refine g_inc S (x' := x4_3) (d := (1 : Int32)) hl (k := 2) rfl ki_1 ex dX7_explains_77 rfl (lv' := [(4, .int x4_3), (3, .int (0 : Int32)), (0, .ref h)]) rfl (fun ls hl => ?_)
        refine lv_goto (tgt := 43) S.x S.b dX7_explains_80 rfl ?_
        exact ih (0 : Int32) x4_3 w _ _ _ hM (lv_sub hl [2, 1, 0] rfl) hf
      · have hf := if_f cn hf
        refine lv_aload_n S.x S.b dX7_explains_54 rfl (lv_at hl 0 rfl) ?_
        refine mm_g S hM 1 rfl q1449 rfl dX7_explains_55 ?_
        refine lv_iload S.x S.b dX7_explains_58 (lv_at hl 2 rfl) ?_
        obtain ⟨hi, hf⟩ := ck_some hf
        refine mm_ld S hM 1 rfl hi dX7_explains_60 ?_
        refine lv_aload_n S.x S.b dX7_explains_61 rfl (lv_at hl 0 rfl) ?_
        refine mm_g S hM 0 rfl q1448 rfl dX7_explains_62 ?_
        refine lv_iload S.x S.b dX7_explains_65 (lv_at hl 2 rfl) ?_
        obtain ⟨hi, hf⟩ := ck_some hf
        refine mm_ld S hM 0 rfl hi dX7_explains_67 ?_
        refine lv_icmp_ne (tgt := 75) S.x S.b dX7_explains_68 rfl (fun cn => ?_) (fun cn => ?_)
        · have hf := if_f cn hf
          refine lv_iconst (v := (0 : Int32)) S.x S.b dX7_explains_75 ki_0 ?_
          refine g_istn S (x' := (0 : Int32)) rfl hl dX7_explains_76 rfl rfl (lv' := [(3, .int (0 : Int32)), (0, .ref h), (4, .int x4)]) rfl (fun ls hl => ?_)
          obtain ⟨x4_4, ex, hf⟩ := lt_some hf
          refine g_inc S (x' := x4_4) (d := (1 : Int32)) hl (k := 2) rfl ki_1 ex dX7_explains_77 rfl (lv' := [(4, .int x4_4), (3, .int (0 : Int32)), (0, .ref h)]) rfl (fun ls hl => ?_)
          refine lv_goto (tgt := 43) S.x S.b dX7_explains_80 rfl ?_
          exact ih (0 : Int32) x4_4 w _ _ _ hM (lv_sub hl [2, 1, 0] rfl) hf
        · have hf := if_t cn hf
          refine lv_iconst (v := (1 : Int32)) S.x S.b dX7_explains_71 ki_1 ?_
          refine lv_goto (tgt := 76) S.x S.b dX7_explains_72 rfl ?_
          refine g_istn S (x' := (1 : Int32)) rfl hl dX7_explains_76 rfl rfl (lv' := [(3, .int (1 : Int32)), (0, .ref h), (4, .int x4)]) rfl (fun ls hl => ?_)
          obtain ⟨x4_5, ex, hf⟩ := lt_some hf
          refine g_inc S (x' := x4_5) (d := (1 : Int32)) hl (k := 2) rfl ki_1 ex dX7_explains_77 rfl (lv' := [(4, .int x4_5), (3, .int (1 : Int32)), (0, .ref h)]) rfl (fun ls hl => ?_)
          refine lv_goto (tgt := 43) S.x S.b dX7_explains_80 rfl ?_
          exact ih (1 : Int32) x4_5 w _ _ _ hM (lv_sub hl [2, 1, 0] rfl) hf
set_option maxHeartbeats 4000000 in
theorem metX7_explains {l : Launch} {D : va_G} {T : Nat → ClassId} {h : Nat} {ad : Nat → Nat} {rr : Int32} {wr : MW} {N : Nat} {x1 : Int32} {x2 : Int32} {w : MW} (hf : gX7_explains N x1 x2 w = some (rr, wr)) (sz : Nat) : MetI l yX7_explains (ws_ yX7_explains cX7_explains 5 (some .boolean)) rmX7_explains D T (mmW h ad (T 0) w) sz [.ref h, .int x1, .int x2] rr (mmW h ad (T 0) wr) := by
  refine g_entry (Qc := fun A => gQi D T A rr (mmW h ad (T 0) wr)) (by decide) rfl ?_
  intro p e s m below meth c ls S hM hl
  have hl : lv_has ls 5 [(0, .ref h), (1, .int x1), (2, .int x2)] := hl
  refine lv_aload_n S.x S.b dX7_explains_0 rfl (lv_at hl 0 rfl) ?_
  refine lv_aload_n S.x S.b dX7_explains_1 rfl (lv_at hl 0 rfl) ?_
  refine mm_g S hM 0 rfl q1448 rfl dX7_explains_2 ?_
  refine lv_iconst (v := (1 : Int32)) S.x S.b dX7_explains_5 ki_1 ?_
  obtain ⟨hi, hf⟩ := ck_some hf
  refine mm_ld S hM 0 rfl hi dX7_explains_6 ?_
  refine lv_iload_n S.x S.b dX7_explains_7 rfl (lv_at hl 1 rfl) ?_
  refine lv_iload_n S.x S.b dX7_explains_8 rfl (lv_at hl 2 rfl) ?_
  refine lv_aload_n S.x S.b dX7_explains_9 rfl (lv_at hl 0 rfl) ?_
  refine mm_g S hM 0 rfl q1448 rfl dX7_explains_10 ?_
  refine lv_iconst (v := (0 : Int32)) S.x S.b dX7_explains_13 ki_0 ?_
  obtain ⟨hi, hf⟩ := ck_some hf
  refine mm_ld S hM 0 rfl hi dX7_explains_14 ?_
  refine lv_sipush (v := (5000 : Int32)) S.x S.b dX7_explains_15 ks_5000 ?_
  refine lv_icmp_ge (tgt := 30) S.x S.b dX7_explains_18 rfl (fun cn => ?_) (fun cn => ?_)
  · have hf := if_t cn hf
    refine lv_sipush (v := (5000 : Int32)) S.x S.b dX7_explains_30 ks_5000 ?_
    refine lv_iconst (v := (0 : Int32)) S.x S.b dX7_explains_33 ki_0 ?_
    obtain ⟨w_1, hc, hf⟩ := bd_some hf
    refine mm_cv S hM hl [.int (w.2 0 (1 : Int32).toNatClampNeg), .int x1, .int x2, .int (5000 : Int32), .int (0 : Int32)] rfl (metX7_tries hc) hdX7_tries q1763 q1765 qs59 q69 q1766 ⟨rfl, rfl⟩ ⟨rfl, rfl⟩ rfl rfl rfl ⟨Nat.zero_le _, Nat.zero_le _⟩ dX7_explains_34 (fun H locs hM => ?_)
    refine lv_iconst (v := (1 : Int32)) S.x S.b dX7_explains_37 ki_1 ?_
    refine g_istn S (x' := (1 : Int32)) rfl hl dX7_explains_38 rfl rfl (lv' := [(3, .int (1 : Int32)), (0, .ref h), (1, .int x1), (2, .int x2)]) rfl (fun ls hl => ?_)
    refine lv_bipush (v := (20 : Int32)) S.x S.b dX7_explains_39 kb_20 ?_
    refine g_ist S (x' := (20 : Int32)) rfl hl dX7_explains_41 rfl (lv' := [(4, .int (20 : Int32)), (3, .int (1 : Int32)), (0, .ref h), (1, .int x1), (2, .int x2)]) rfl (fun ls hl => ?_)
    exact wX7_explains_43 S N (1 : Int32) (20 : Int32) w_1 _ _ _ hM (lv_sub hl [2, 1, 0] rfl) hf
  · have hf := if_f cn hf
    refine lv_aload_n S.x S.b dX7_explains_21 rfl (lv_at hl 0 rfl) ?_
    refine mm_g S hM 0 rfl q1448 rfl dX7_explains_22 ?_
    refine lv_iconst (v := (0 : Int32)) S.x S.b dX7_explains_25 ki_0 ?_
    obtain ⟨hi, hf⟩ := ck_some hf
    refine mm_ld S hM 0 rfl hi dX7_explains_26 ?_
    refine lv_goto (tgt := 33) S.x S.b dX7_explains_27 rfl ?_
    refine lv_iconst (v := (0 : Int32)) S.x S.b dX7_explains_33 ki_0 ?_
    obtain ⟨w_2, hc, hf⟩ := bd_some hf
    refine mm_cv S hM hl [.int (w.2 0 (1 : Int32).toNatClampNeg), .int x1, .int x2, .int (w.2 0 (0 : Int32).toNatClampNeg), .int (0 : Int32)] rfl (metX7_tries hc) hdX7_tries q1763 q1765 qs59 q69 q1766 ⟨rfl, rfl⟩ ⟨rfl, rfl⟩ rfl rfl rfl ⟨Nat.zero_le _, Nat.zero_le _⟩ dX7_explains_34 (fun H locs hM => ?_)
    refine lv_iconst (v := (1 : Int32)) S.x S.b dX7_explains_37 ki_1 ?_
    refine g_istn S (x' := (1 : Int32)) rfl hl dX7_explains_38 rfl rfl (lv' := [(3, .int (1 : Int32)), (0, .ref h), (1, .int x1), (2, .int x2)]) rfl (fun ls hl => ?_)
    refine lv_bipush (v := (20 : Int32)) S.x S.b dX7_explains_39 kb_20 ?_
    refine g_ist S (x' := (20 : Int32)) rfl hl dX7_explains_41 rfl (lv' := [(4, .int (20 : Int32)), (3, .int (1 : Int32)), (0, .ref h), (1, .int x1), (2, .int x2)]) rfl (fun ls hl => ?_)
    exact wX7_explains_43 S N (1 : Int32) (20 : Int32) w_2 _ _ _ hM (lv_sub hl [2, 1, 0] rfl) hf
/-! SequenceBenchModel.letter(I)I -/
theorem hdX7_letter : gHd yX7_letter 1 := by decide +kernel
def gX7_letter (x1 : Int32) (w : MW) : Option (Int32 × MW) :=
  if (w.1 11) ≤ x1 then (
  some ((-1 : Int32), w))
  else (
  ck x1 80 <|
  some ((w.2 7 x1.toNatClampNeg), w))
abbrev rmX7_letter : Room := { frames := 1, cells := 0, slots := 0, locals := 12 }
set_option maxHeartbeats 4000000 in
theorem metX7_letter {l : Launch} {D : va_G} {T : Nat → ClassId} {h : Nat} {ad : Nat → Nat} {rr : Int32} {wr : MW} {x1 : Int32} {w : MW} (hf : gX7_letter x1 w = some (rr, wr)) (sz : Nat) : MetI l yX7_letter (ws_ yX7_letter cX7_letter 2 (some .int)) rmX7_letter D T (mmW h ad (T 0) w) sz [.ref h, .int x1] rr (mmW h ad (T 0) wr) := by
  refine g_entry (Qc := fun A => gQi D T A rr (mmW h ad (T 0) wr)) (by decide) rfl ?_
  intro p e s m below meth c ls S hM hl
  have hl : lv_has ls 2 [(0, .ref h), (1, .int x1)] := hl
  refine lv_iload_n S.x S.b dX7_letter_0 rfl (lv_at hl 1 rfl) ?_
  refine lv_aload_n S.x S.b dX7_letter_1 rfl (lv_at hl 0 rfl) ?_
  refine mm_g S hM 11 rfl q1459 rfl dX7_letter_2 ?_
  refine lv_icmp_ge (tgt := 17) S.x S.b dX7_letter_5 rfl (fun cn => ?_) (fun cn => ?_)
  · have hf := if_t cn hf
    refine lv_iconst (v := (-1 : Int32)) S.x S.b dX7_letter_17 ki_m1 ?_
    obtain ⟨rfl, rfl⟩ := rt2 hf
    exact g_iret S hM rfl dX7_letter_18
  · have hf := if_f cn hf
    refine lv_aload_n S.x S.b dX7_letter_8 rfl (lv_at hl 0 rfl) ?_
    refine mm_g S hM 10 rfl q1458 rfl dX7_letter_9 ?_
    refine lv_iload_n S.x S.b dX7_letter_12 rfl (lv_at hl 1 rfl) ?_
    obtain ⟨hi, hf⟩ := ck_some hf
    refine mm_ld S hM 7 rfl hi dX7_letter_13 ?_
    refine lv_goto (tgt := 18) S.x S.b dX7_letter_14 rfl ?_
    obtain ⟨rfl, rfl⟩ := rt2 hf
    exact g_iret S hM rfl dX7_letter_18
/-! SequenceBenchModel.failsAt(I)I -/
theorem hdX7_failsAt : gHd yX7_failsAt 1 := by decide +kernel
def gX7_failsAt (x1 : Int32) (w : MW) : Option (Int32 × MW) :=
  bd2 (gX7_letter x1 w) fun r_2 w_1 =>
  bd (gX7_in r_2 (65 : Int32) (70 : Int32)) fun r_3 =>
  if r_3 = 0 then (
  some (x1, w_1))
  else (
  some ((x1 + (1 : Int32)), w_1))
abbrev rmX7_failsAt : Room := { frames := 2, cells := 0, slots := 0, locals := 34 }
set_option maxHeartbeats 4000000 in
theorem metX7_failsAt {l : Launch} {D : va_G} {T : Nat → ClassId} {h : Nat} {ad : Nat → Nat} {rr : Int32} {wr : MW} {x1 : Int32} {w : MW} (hf : gX7_failsAt x1 w = some (rr, wr)) (sz : Nat) : MetI l yX7_failsAt (ws_ yX7_failsAt cX7_failsAt 2 (some .int)) rmX7_failsAt D T (mmW h ad (T 0) w) sz [.ref h, .int x1] rr (mmW h ad (T 0) wr) := by
  refine g_entry (Qc := fun A => gQi D T A rr (mmW h ad (T 0) wr)) (by decide) rfl ?_
  intro p e s m below meth c ls S hM hl
  have hl : lv_has ls 2 [(0, .ref h), (1, .int x1)] := hl
  refine lv_aload_n S.x S.b dX7_failsAt_0 rfl (lv_at hl 0 rfl) ?_
  refine lv_iload_n S.x S.b dX7_failsAt_1 rfl (lv_at hl 1 rfl) ?_
  obtain ⟨r_2, w_1, hc, hf⟩ := bd2_some hf
  refine mm_ci S hM hl [.int x1] rfl (metX7_letter hc) hdX7_letter q1537 q1539 qs35 q69 q1540 ⟨rfl, rfl⟩ ⟨rfl, rfl⟩ rfl rfl rfl ⟨Nat.zero_le _, Nat.zero_le _⟩ dX7_failsAt_2 (fun H locs hM => ?_)
  refine lv_bipush (v := (65 : Int32)) S.x S.b dX7_failsAt_5 kb_65 ?_
  refine lv_bipush (v := (70 : Int32)) S.x S.b dX7_failsAt_7 kb_70 ?_
  obtain ⟨r_3, hc, hf⟩ := bd_some hf
  refine gg_si S hM hl [.int r_2, .int (65 : Int32), .int (70 : Int32)] (metX7_in hc) hdX7_in q1437 q1438 q69 q1439 ⟨rfl, rfl⟩ ⟨rfl, rfl⟩ rfl rfl rfl ⟨Nat.zero_le _, Nat.zero_le _⟩ dX7_failsAt_9 (fun H locs hM => ?_)
  refine lv_if_eq (tgt := 21) S.x S.b dX7_failsAt_12 rfl (fun cn => ?_) (fun cn => ?_)
  · have hf := if_t cn hf
    refine lv_iload_n S.x S.b dX7_failsAt_21 rfl (lv_at hl 1 rfl) ?_
    obtain ⟨rfl, rfl⟩ := rt2 hf
    exact g_iret S hM rfl dX7_failsAt_22
  · have hf := if_f cn hf
    refine lv_iload_n S.x S.b dX7_failsAt_15 rfl (lv_at hl 1 rfl) ?_
    refine lv_iconst (v := (1 : Int32)) S.x S.b dX7_failsAt_16 ki_1 ?_
    refine lv_iadd S.x S.b dX7_failsAt_17 ?_
    refine lv_goto (tgt := 22) S.x S.b dX7_failsAt_18 rfl ?_
    obtain ⟨rfl, rfl⟩ := rt2 hf
    exact g_iret S hM rfl dX7_failsAt_22
/-! SequenceBenchModel.fingerprint()J -/
theorem hdX7_fingerprint : gHd yX7_fingerprint 0 := by decide +kernel
def gX7_fingerprint_156 (N : Nat) : Nat → Int64 → Int32 → MW → Option (Int64 × MW)
  | 0, _, _, _ => none
  | n + 1, x1, x3, w =>
    if (w.1 4) ≤ x3 then (
    some (x1, w))
    else (
    ck ((44 : Int32) + x3) 140 <|
    lt ((((31 : Int64) * x1) + ((w.2 0 ((44 : Int32) + x3).toNatClampNeg).toInt64))) fun x1_12 =>
    lt (x3 + (1 : Int32)) fun x3_13 =>
    gX7_fingerprint_156 N n x1_12 x3_13 w)
def gX7_fingerprint_91 (N : Nat) : Nat → Int64 → Int32 → MW → Option (Int64 × MW)
  | 0, _, _, _ => none
  | n + 1, x1, x3, w =>
    if (6 : Int32) ≤ x3 then (
    gX7_fingerprint_156 N N x1 (0 : Int32) w)
    else (
    ck ((20 : Int32) + x3) 140 <|
    lt ((((31 : Int64) * x1) + ((w.2 0 ((20 : Int32) + x3).toNatClampNeg).toInt64))) fun x1_8 =>
    ck ((26 : Int32) + x3) 140 <|
    lt ((((31 : Int64) * x1_8) + ((w.2 0 ((26 : Int32) + x3).toNatClampNeg).toInt64))) fun x1_9 =>
    ck ((32 : Int32) + x3) 140 <|
    lt ((((31 : Int64) * x1_9) + ((w.2 0 ((32 : Int32) + x3).toNatClampNeg).toInt64))) fun x1_10 =>
    lt (x3 + (1 : Int32)) fun x3_11 =>
    gX7_fingerprint_91 N n x1_10 x3_11 w)
def gX7_fingerprint (N : Nat) (w : MW) : Option (Int64 × MW) :=
  lt (setF w 3 (0 : Int32)) fun w_1 =>
  ck (0 : Int32) 140 <|
  lt (((589 : Int64) + ((w_1.2 0 (0 : Int32).toNatClampNeg).toInt64))) fun x1_2 =>
  ck (3 : Int32) 140 <|
  lt ((((31 : Int64) * x1_2) + ((w_1.2 0 (3 : Int32).toNatClampNeg).toInt64))) fun x1_3 =>
  ck (4 : Int32) 140 <|
  lt ((((31 : Int64) * x1_3) + ((w_1.2 0 (4 : Int32).toNatClampNeg).toInt64))) fun x1_4 =>
  ck (5 : Int32) 140 <|
  lt ((((31 : Int64) * x1_4) + ((w_1.2 0 (5 : Int32).toNatClampNeg).toInt64))) fun x1_5 =>
  ck (9 : Int32) 140 <|
  lt ((((31 : Int64) * x1_5) + ((w_1.2 0 (9 : Int32).toNatClampNeg).toInt64))) fun x1_6 =>
  ck (10 : Int32) 140 <|
  lt ((((31 : Int64) * x1_6) + ((w_1.2 0 (10 : Int32).toNatClampNeg).toInt64))) fun x1_7 =>
  gX7_fingerprint_91 N N x1_7 (0 : Int32) w_1
abbrev rmX7_fingerprint : Room := { frames := 1, cells := 0, slots := 0, locals := 12 }
set_option maxHeartbeats 4000000 in
theorem wX7_fingerprint_156 {p : Program} {l : Launch} {e : Env} {s : State} {m : MethodId} {args : Array Value} {below : List Frame} {meth : Method} {c : Code} {D : va_G} {T : Nat → ClassId} {A : Nat → Prop} {h : Nat} {ad : Nat → Nat} {rr : Int64} {wr : MW} {N : Nat} (S : gS p s m args meth c cX7_fingerprint 4 (some .long) RX7 D T) : ∀ (n : Nat) (x1 : Int64) (x3 : Int32) (w : MW) (H : Heap) (locs : List Loc) (ls : Array Slot), gM D A s.heap (mmW h ad (T 0) w) H locs → lv_has ls 4 [(0, .ref h), (1, .long x1), (3, .int x3)] → gX7_fingerprint_156 N n x1 x3 w = some (rr, wr) → W p l e rmX7_fingerprint s m args below meth c H locs 0 0 (MQ below (gQl D T A rr (mmW h ad (T 0) wr)) args s 0 0 A) (F0 m 156 ls []) := by
  intro n
  induction n with
  | zero =>
    intro x1 x3 w H locs ls hM hl hf
    cases hf
  | succ n ih =>
    intro x1 x3 w H locs ls hM hl hf
    refine lv_iload_n S.x S.b dX7_fingerprint_156 rfl (lv_at hl 2 rfl) ?_
    refine lv_aload_n S.x S.b dX7_fingerprint_157 rfl (lv_at hl 0 rfl) ?_
    refine mm_g S hM 4 rfl q1452 rfl dX7_fingerprint_158 ?_
    refine lv_icmp_ge (tgt := 187) S.x S.b dX7_fingerprint_161 rfl (fun cn => ?_) (fun cn => ?_)
    · have hf := if_t cn hf
      refine lv_lload_n S.x S.b dX7_fingerprint_187 rfl (lv_at hl 1 rfl) ?_
      obtain ⟨rfl, rfl⟩ := rt2 hf
      exact g_lret S hM rfl dX7_fingerprint_188
    · have hf := if_f cn hf
      refine lv_ldc2 (v := (31 : Int64)) S.x S.b S.o (S.w _ q1792) dX7_fingerprint_164 ?_
      refine lv_lload_n S.x S.b dX7_fingerprint_167 rfl (lv_at hl 1 rfl) ?_
      refine lv_lmul S.x S.b dX7_fingerprint_168 ?_
      refine lv_aload_n S.x S.b dX7_fingerprint_169 rfl (lv_at hl 0 rfl) ?_
      refine mm_g S hM 0 rfl q1448 rfl dX7_fingerprint_170 ?_
      refine lv_bipush (v := (44 : Int32)) S.x S.b dX7_fingerprint_173 kb_44 ?_
      refine lv_iload_n S.x S.b dX7_fingerprint_175 rfl (lv_at hl 2 rfl) ?_
      refine lv_iadd S.x S.b dX7_fingerprint_176 ?_
      obtain ⟨hi, hf⟩ := ck_some hf
      refine mm_ld S hM 0 rfl hi dX7_fingerprint_177 ?_
      refine lv_i2l S.x S.b dX7_fingerprint_178 rfl ?_
      refine lv_ladd S.x S.b dX7_fingerprint_179 ?_
      obtain ⟨x1_12, ex, hf⟩ := lt_some hf
      refine g_lstn S (x' := x1_12) ex hl dX7_fingerprint_180 rfl rfl (lv' := [(1, .long x1_12), (0, .ref h), (3, .int x3)]) rfl (fun ls hl => ?_)
      obtain ⟨x3_13, ex, hf⟩ := lt_some hf
      refine g_inc S (x' := x3_13) (d := (1 : Int32)) hl (k := 2) rfl ki_1 ex dX7_fingerprint_181 rfl (lv' := [(3, .int x3_13), (1, .long x1_12), (0, .ref h)]) rfl (fun ls hl => ?_)
      refine lv_goto (tgt := 156) S.x S.b dX7_fingerprint_184 rfl ?_
      exact ih x1_12 x3_13 w _ _ _ hM (lv_sub hl [2, 1, 0] rfl) hf
set_option maxHeartbeats 4000000 in
theorem wX7_fingerprint_91 {p : Program} {l : Launch} {e : Env} {s : State} {m : MethodId} {args : Array Value} {below : List Frame} {meth : Method} {c : Code} {D : va_G} {T : Nat → ClassId} {A : Nat → Prop} {h : Nat} {ad : Nat → Nat} {rr : Int64} {wr : MW} {N : Nat} (S : gS p s m args meth c cX7_fingerprint 4 (some .long) RX7 D T) : ∀ (n : Nat) (x1 : Int64) (x3 : Int32) (w : MW) (H : Heap) (locs : List Loc) (ls : Array Slot), gM D A s.heap (mmW h ad (T 0) w) H locs → lv_has ls 4 [(0, .ref h), (1, .long x1), (3, .int x3)] → gX7_fingerprint_91 N n x1 x3 w = some (rr, wr) → W p l e rmX7_fingerprint s m args below meth c H locs 0 0 (MQ below (gQl D T A rr (mmW h ad (T 0) wr)) args s 0 0 A) (F0 m 91 ls []) := by
  intro n
  induction n with
  | zero =>
    intro x1 x3 w H locs ls hM hl hf
    cases hf
  | succ n ih =>
    intro x1 x3 w H locs ls hM hl hf
    refine lv_iload_n S.x S.b dX7_fingerprint_91 rfl (lv_at hl 2 rfl) ?_
    refine lv_bipush (v := (6 : Int32)) S.x S.b dX7_fingerprint_92 kb_6 ?_
    refine lv_icmp_ge (tgt := 154) S.x S.b dX7_fingerprint_94 rfl (fun cn => ?_) (fun cn => ?_)
    · have hf := if_t cn hf
      refine lv_iconst (v := (0 : Int32)) S.x S.b dX7_fingerprint_154 ki_0 ?_
      refine g_istn S (x' := (0 : Int32)) rfl hl dX7_fingerprint_155 rfl rfl (lv' := [(3, .int (0 : Int32)), (0, .ref h), (1, .long x1)]) rfl (fun ls hl => ?_)
      exact wX7_fingerprint_156 S N x1 (0 : Int32) w _ _ _ hM (lv_sub hl [1, 2, 0] rfl) hf
    · have hf := if_f cn hf
      refine lv_ldc2 (v := (31 : Int64)) S.x S.b S.o (S.w _ q1792) dX7_fingerprint_97 ?_
      refine lv_lload_n S.x S.b dX7_fingerprint_100 rfl (lv_at hl 1 rfl) ?_
      refine lv_lmul S.x S.b dX7_fingerprint_101 ?_
      refine lv_aload_n S.x S.b dX7_fingerprint_102 rfl (lv_at hl 0 rfl) ?_
      refine mm_g S hM 0 rfl q1448 rfl dX7_fingerprint_103 ?_
      refine lv_bipush (v := (20 : Int32)) S.x S.b dX7_fingerprint_106 kb_20 ?_
      refine lv_iload_n S.x S.b dX7_fingerprint_108 rfl (lv_at hl 2 rfl) ?_
      refine lv_iadd S.x S.b dX7_fingerprint_109 ?_
      obtain ⟨hi, hf⟩ := ck_some hf
      refine mm_ld S hM 0 rfl hi dX7_fingerprint_110 ?_
      refine lv_i2l S.x S.b dX7_fingerprint_111 rfl ?_
      refine lv_ladd S.x S.b dX7_fingerprint_112 ?_
      obtain ⟨x1_8, ex, hf⟩ := lt_some hf
      refine g_lstn S (x' := x1_8) ex hl dX7_fingerprint_113 rfl rfl (lv' := [(1, .long x1_8), (0, .ref h), (3, .int x3)]) rfl (fun ls hl => ?_)
      refine lv_ldc2 (v := (31 : Int64)) S.x S.b S.o (S.w _ q1792) dX7_fingerprint_114 ?_
      refine lv_lload_n S.x S.b dX7_fingerprint_117 rfl (lv_at hl 0 rfl) ?_
      refine lv_lmul S.x S.b dX7_fingerprint_118 ?_
      refine lv_aload_n S.x S.b dX7_fingerprint_119 rfl (lv_at hl 1 rfl) ?_
      refine mm_g S hM 0 rfl q1448 rfl dX7_fingerprint_120 ?_
      refine lv_bipush (v := (26 : Int32)) S.x S.b dX7_fingerprint_123 kb_26 ?_
      refine lv_iload_n S.x S.b dX7_fingerprint_125 rfl (lv_at hl 2 rfl) ?_
      refine lv_iadd S.x S.b dX7_fingerprint_126 ?_
      obtain ⟨hi, hf⟩ := ck_some hf
      refine mm_ld S hM 0 rfl hi dX7_fingerprint_127 ?_
      refine lv_i2l S.x S.b dX7_fingerprint_128 rfl ?_
      refine lv_ladd S.x S.b dX7_fingerprint_129 ?_
      obtain ⟨x1_9, ex, hf⟩ := lt_some hf
      refine g_lstn S (x' := x1_9) ex hl dX7_fingerprint_130 rfl rfl (lv' := [(1, .long x1_9), (0, .ref h), (3, .int x3)]) rfl (fun ls hl => ?_)
      refine lv_ldc2 (v := (31 : Int64)) S.x S.b S.o (S.w _ q1792) dX7_fingerprint_131 ?_
      refine lv_lload_n S.x S.b dX7_fingerprint_134 rfl (lv_at hl 0 rfl) ?_
      refine lv_lmul S.x S.b dX7_fingerprint_135 ?_
      refine lv_aload_n S.x S.b dX7_fingerprint_136 rfl (lv_at hl 1 rfl) ?_
      refine mm_g S hM 0 rfl q1448 rfl dX7_fingerprint_137 ?_
      refine lv_bipush (v := (32 : Int32)) S.x S.b dX7_fingerprint_140 kb_32 ?_
      refine lv_iload_n S.x S.b dX7_fingerprint_142 rfl (lv_at hl 2 rfl) ?_
      refine lv_iadd S.x S.b dX7_fingerprint_143 ?_
      obtain ⟨hi, hf⟩ := ck_some hf
      refine mm_ld S hM 0 rfl hi dX7_fingerprint_144 ?_
      refine lv_i2l S.x S.b dX7_fingerprint_145 rfl ?_
      refine lv_ladd S.x S.b dX7_fingerprint_146 ?_
      obtain ⟨x1_10, ex, hf⟩ := lt_some hf
      refine g_lstn S (x' := x1_10) ex hl dX7_fingerprint_147 rfl rfl (lv' := [(1, .long x1_10), (0, .ref h), (3, .int x3)]) rfl (fun ls hl => ?_)
      obtain ⟨x3_11, ex, hf⟩ := lt_some hf
      refine g_inc S (x' := x3_11) (d := (1 : Int32)) hl (k := 2) rfl ki_1 ex dX7_fingerprint_148 rfl (lv' := [(3, .int x3_11), (1, .long x1_10), (0, .ref h)]) rfl (fun ls hl => ?_)
      refine lv_goto (tgt := 91) S.x S.b dX7_fingerprint_151 rfl ?_
      exact ih x1_10 x3_11 w _ _ _ hM (lv_sub hl [2, 1, 0] rfl) hf
set_option maxHeartbeats 4000000 in
theorem metX7_fingerprint {l : Launch} {D : va_G} {T : Nat → ClassId} {h : Nat} {ad : Nat → Nat} {rr : Int64} {wr : MW} {N : Nat} {w : MW} (hf : gX7_fingerprint N w = some (rr, wr)) (sz : Nat) : MetL l yX7_fingerprint (ws_ yX7_fingerprint cX7_fingerprint 4 (some .long)) rmX7_fingerprint D T (mmW h ad (T 0) w) sz [.ref h] rr (mmW h ad (T 0) wr) := by
  refine g_entry (Qc := fun A => gQl D T A rr (mmW h ad (T 0) wr)) (by decide) rfl ?_
  intro p e s m below meth c ls S hM hl
  have hl : lv_has ls 4 [(0, .ref h)] := hl
  refine lv_aload_n S.x S.b dX7_fingerprint_0 rfl (lv_at hl 0 rfl) ?_
  refine lv_iconst (v := (0 : Int32)) S.x S.b dX7_fingerprint_1 ki_0 ?_
  obtain ⟨w_1, ew, hf⟩ := lt_some hf
  refine mm_p S hM 3 rfl ew q1451 dX7_fingerprint_2 (fun H locs hM => ?_)
  refine lv_ldc2 (v := (589 : Int64)) S.x S.b S.o (S.w _ q1791) dX7_fingerprint_5 ?_
  refine lv_aload_n S.x S.b dX7_fingerprint_8 rfl (lv_at hl 0 rfl) ?_
  refine mm_g S hM 0 rfl q1448 rfl dX7_fingerprint_9 ?_
  refine lv_iconst (v := (0 : Int32)) S.x S.b dX7_fingerprint_12 ki_0 ?_
  obtain ⟨hi, hf⟩ := ck_some hf
  refine mm_ld S hM 0 rfl hi dX7_fingerprint_13 ?_
  refine lv_i2l S.x S.b dX7_fingerprint_14 rfl ?_
  refine lv_ladd S.x S.b dX7_fingerprint_15 ?_
  obtain ⟨x1_2, ex, hf⟩ := lt_some hf
  refine g_lstn S (x' := x1_2) ex hl dX7_fingerprint_16 rfl rfl (lv' := [(1, .long x1_2), (0, .ref h)]) rfl (fun ls hl => ?_)
  refine lv_ldc2 (v := (31 : Int64)) S.x S.b S.o (S.w _ q1792) dX7_fingerprint_17 ?_
  refine lv_lload_n S.x S.b dX7_fingerprint_20 rfl (lv_at hl 0 rfl) ?_
  refine lv_lmul S.x S.b dX7_fingerprint_21 ?_
  refine lv_aload_n S.x S.b dX7_fingerprint_22 rfl (lv_at hl 1 rfl) ?_
  refine mm_g S hM 0 rfl q1448 rfl dX7_fingerprint_23 ?_
  refine lv_iconst (v := (3 : Int32)) S.x S.b dX7_fingerprint_26 ki_3 ?_
  obtain ⟨hi, hf⟩ := ck_some hf
  refine mm_ld S hM 0 rfl hi dX7_fingerprint_27 ?_
  refine lv_i2l S.x S.b dX7_fingerprint_28 rfl ?_
  refine lv_ladd S.x S.b dX7_fingerprint_29 ?_
  obtain ⟨x1_3, ex, hf⟩ := lt_some hf
  refine g_lstn S (x' := x1_3) ex hl dX7_fingerprint_30 rfl rfl (lv' := [(1, .long x1_3), (0, .ref h)]) rfl (fun ls hl => ?_)
  refine lv_ldc2 (v := (31 : Int64)) S.x S.b S.o (S.w _ q1792) dX7_fingerprint_31 ?_
  refine lv_lload_n S.x S.b dX7_fingerprint_34 rfl (lv_at hl 0 rfl) ?_
  refine lv_lmul S.x S.b dX7_fingerprint_35 ?_
  refine lv_aload_n S.x S.b dX7_fingerprint_36 rfl (lv_at hl 1 rfl) ?_
  refine mm_g S hM 0 rfl q1448 rfl dX7_fingerprint_37 ?_
  refine lv_iconst (v := (4 : Int32)) S.x S.b dX7_fingerprint_40 ki_4 ?_
  obtain ⟨hi, hf⟩ := ck_some hf
  refine mm_ld S hM 0 rfl hi dX7_fingerprint_41 ?_
  refine lv_i2l S.x S.b dX7_fingerprint_42 rfl ?_
  refine lv_ladd S.x S.b dX7_fingerprint_43 ?_
  obtain ⟨x1_4, ex, hf⟩ := lt_some hf
  refine g_lstn S (x' := x1_4) ex hl dX7_fingerprint_44 rfl rfl (lv' := [(1, .long x1_4), (0, .ref h)]) rfl (fun ls hl => ?_)
  refine lv_ldc2 (v := (31 : Int64)) S.x S.b S.o (S.w _ q1792) dX7_fingerprint_45 ?_
  refine lv_lload_n S.x S.b dX7_fingerprint_48 rfl (lv_at hl 0 rfl) ?_
  refine lv_lmul S.x S.b dX7_fingerprint_49 ?_
  refine lv_aload_n S.x S.b dX7_fingerprint_50 rfl (lv_at hl 1 rfl) ?_
  refine mm_g S hM 0 rfl q1448 rfl dX7_fingerprint_51 ?_
  refine lv_iconst (v := (5 : Int32)) S.x S.b dX7_fingerprint_54 ki_5 ?_
  obtain ⟨hi, hf⟩ := ck_some hf
  refine mm_ld S hM 0 rfl hi dX7_fingerprint_55 ?_
  refine lv_i2l S.x S.b dX7_fingerprint_56 rfl ?_
  refine lv_ladd S.x S.b dX7_fingerprint_57 ?_
  obtain ⟨x1_5, ex, hf⟩ := lt_some hf
  refine g_lstn S (x' := x1_5) ex hl dX7_fingerprint_58 rfl rfl (lv' := [(1, .long x1_5), (0, .ref h)]) rfl (fun ls hl => ?_)
  refine lv_ldc2 (v := (31 : Int64)) S.x S.b S.o (S.w _ q1792) dX7_fingerprint_59 ?_
  refine lv_lload_n S.x S.b dX7_fingerprint_62 rfl (lv_at hl 0 rfl) ?_
  refine lv_lmul S.x S.b dX7_fingerprint_63 ?_
  refine lv_aload_n S.x S.b dX7_fingerprint_64 rfl (lv_at hl 1 rfl) ?_
  refine mm_g S hM 0 rfl q1448 rfl dX7_fingerprint_65 ?_
  refine lv_bipush (v := (9 : Int32)) S.x S.b dX7_fingerprint_68 kb_9 ?_
  obtain ⟨hi, hf⟩ := ck_some hf
  refine mm_ld S hM 0 rfl hi dX7_fingerprint_70 ?_
  refine lv_i2l S.x S.b dX7_fingerprint_71 rfl ?_
  refine lv_ladd S.x S.b dX7_fingerprint_72 ?_
  obtain ⟨x1_6, ex, hf⟩ := lt_some hf
  refine g_lstn S (x' := x1_6) ex hl dX7_fingerprint_73 rfl rfl (lv' := [(1, .long x1_6), (0, .ref h)]) rfl (fun ls hl => ?_)
  refine lv_ldc2 (v := (31 : Int64)) S.x S.b S.o (S.w _ q1792) dX7_fingerprint_74 ?_
  refine lv_lload_n S.x S.b dX7_fingerprint_77 rfl (lv_at hl 0 rfl) ?_
  refine lv_lmul S.x S.b dX7_fingerprint_78 ?_
  refine lv_aload_n S.x S.b dX7_fingerprint_79 rfl (lv_at hl 1 rfl) ?_
  refine mm_g S hM 0 rfl q1448 rfl dX7_fingerprint_80 ?_
  refine lv_bipush (v := (10 : Int32)) S.x S.b dX7_fingerprint_83 kb_10 ?_
  obtain ⟨hi, hf⟩ := ck_some hf
  refine mm_ld S hM 0 rfl hi dX7_fingerprint_85 ?_
  refine lv_i2l S.x S.b dX7_fingerprint_86 rfl ?_
  refine lv_ladd S.x S.b dX7_fingerprint_87 ?_
  obtain ⟨x1_7, ex, hf⟩ := lt_some hf
  refine g_lstn S (x' := x1_7) ex hl dX7_fingerprint_88 rfl rfl (lv' := [(1, .long x1_7), (0, .ref h)]) rfl (fun ls hl => ?_)
  refine lv_iconst (v := (0 : Int32)) S.x S.b dX7_fingerprint_89 ki_0 ?_
  refine g_istn S (x' := (0 : Int32)) rfl hl dX7_fingerprint_90 rfl rfl (lv' := [(3, .int (0 : Int32)), (1, .long x1_7), (0, .ref h)]) rfl (fun ls hl => ?_)
  exact wX7_fingerprint_91 S N x1_7 (0 : Int32) w_1 _ _ _ hM (lv_sub hl [2, 1, 0] rfl) hf
/-! SequenceBenchModel.groupOf(I)I -/
theorem hdX7_groupOf : gHd yX7_groupOf 1 := by decide +kernel
def gX7_groupOf (N : Nat) (x1 : Int32) (w : MW) : Option (Int32 × MW) :=
  lt (setF w 3 (0 : Int32)) fun w_1 =>
  bd2 (gX7_isStep x1 w_1) fun r_3 w_2 =>
  if r_3 = 0 then (
  bd2 (gX7_fails (1 : Int32) w_2) fun r_5 w_4 =>
  some (r_5, w_4))
  else (
  bd2 (gX7_groupFor N x1 w_2) fun r_7 w_6 =>
  some (r_7, w_6))
abbrev rmX7_groupOf : Room := { frames := 3, cells := 0, slots := 0, locals := 55 }
set_option maxHeartbeats 4000000 in
theorem metX7_groupOf {l : Launch} {D : va_G} {T : Nat → ClassId} {h : Nat} {ad : Nat → Nat} {rr : Int32} {wr : MW} {N : Nat} {x1 : Int32} {w : MW} (hf : gX7_groupOf N x1 w = some (rr, wr)) (sz : Nat) : MetI l yX7_groupOf (ws_ yX7_groupOf cX7_groupOf 2 (some .int)) rmX7_groupOf D T (mmW h ad (T 0) w) sz [.ref h, .int x1] rr (mmW h ad (T 0) wr) := by
  refine g_entry (Qc := fun A => gQi D T A rr (mmW h ad (T 0) wr)) (by decide) rfl ?_
  intro p e s m below meth c ls S hM hl
  have hl : lv_has ls 2 [(0, .ref h), (1, .int x1)] := hl
  refine lv_aload_n S.x S.b dX7_groupOf_0 rfl (lv_at hl 0 rfl) ?_
  refine lv_iconst (v := (0 : Int32)) S.x S.b dX7_groupOf_1 ki_0 ?_
  obtain ⟨w_1, ew, hf⟩ := lt_some hf
  refine mm_p S hM 3 rfl ew q1451 dX7_groupOf_2 (fun H locs hM => ?_)
  refine lv_aload_n S.x S.b dX7_groupOf_5 rfl (lv_at hl 0 rfl) ?_
  refine lv_iload_n S.x S.b dX7_groupOf_6 rfl (lv_at hl 1 rfl) ?_
  obtain ⟨r_3, w_2, hc, hf⟩ := bd2_some hf
  refine mm_ci S hM hl [.int x1] rfl (metX7_isStep hc) hdX7_isStep q1587 q1589 qs43 q69 q1590 ⟨rfl, rfl⟩ ⟨rfl, rfl⟩ rfl rfl rfl ⟨Nat.zero_le _, Nat.zero_le _⟩ dX7_groupOf_7 (fun H locs hM => ?_)
  refine lv_if_eq (tgt := 21) S.x S.b dX7_groupOf_10 rfl (fun cn => ?_) (fun cn => ?_)
  · have hf := if_t cn hf
    refine lv_aload_n S.x S.b dX7_groupOf_21 rfl (lv_at hl 0 rfl) ?_
    refine lv_iconst (v := (1 : Int32)) S.x S.b dX7_groupOf_22 ki_1 ?_
    obtain ⟨r_5, w_4, hc, hf⟩ := bd2_some hf
    refine mm_ci S hM hl [.int (1 : Int32)] rfl (metX7_fails hc) hdX7_fails q1517 q1519 qs32 q69 q1520 ⟨rfl, rfl⟩ ⟨rfl, rfl⟩ rfl rfl rfl ⟨Nat.zero_le _, Nat.zero_le _⟩ dX7_groupOf_23 (fun H locs hM => ?_)
    obtain ⟨rfl, rfl⟩ := rt2 hf
    exact g_iret S hM rfl dX7_groupOf_26
  · have hf := if_f cn hf
    refine lv_aload_n S.x S.b dX7_groupOf_13 rfl (lv_at hl 0 rfl) ?_
    refine lv_iload_n S.x S.b dX7_groupOf_14 rfl (lv_at hl 1 rfl) ?_
    obtain ⟨r_7, w_6, hc, hf⟩ := bd2_some hf
    refine mm_ci S hM hl [.int x1] rfl (metX7_groupFor hc) hdX7_groupFor q1635 q1637 qs48 q69 q1638 ⟨rfl, rfl⟩ ⟨rfl, rfl⟩ rfl rfl rfl ⟨Nat.zero_le _, Nat.zero_le _⟩ dX7_groupOf_15 (fun H locs hM => ?_)
    refine lv_goto (tgt := 26) S.x S.b dX7_groupOf_18 rfl ?_
    obtain ⟨rfl, rfl⟩ := rt2 hf
    exact g_iret S hM rfl dX7_groupOf_26
/-! SequenceBenchModel.groups()I -/
theorem hdX7_groups : gHd yX7_groups 0 := by decide +kernel
def gX7_groups (w : MW) : Option (Int32 × MW) :=
  lt (setF w 3 (0 : Int32)) fun w_1 =>
  if (w_1.1 4) = 0 then (
  bd2 (gX7_fails (1 : Int32) w_1) fun r_3 w_2 =>
  some (r_3, w_2))
  else (
  some ((w_1.1 8), w_1))
abbrev rmX7_groups : Room := { frames := 2, cells := 0, slots := 0, locals := 33 }
set_option maxHeartbeats 4000000 in
theorem metX7_groups {l : Launch} {D : va_G} {T : Nat → ClassId} {h : Nat} {ad : Nat → Nat} {rr : Int32} {wr : MW} {w : MW} (hf : gX7_groups w = some (rr, wr)) (sz : Nat) : MetI l yX7_groups (ws_ yX7_groups cX7_groups 1 (some .int)) rmX7_groups D T (mmW h ad (T 0) w) sz [.ref h] rr (mmW h ad (T 0) wr) := by
  refine g_entry (Qc := fun A => gQi D T A rr (mmW h ad (T 0) wr)) (by decide) rfl ?_
  intro p e s m below meth c ls S hM hl
  have hl : lv_has ls 1 [(0, .ref h)] := hl
  refine lv_aload_n S.x S.b dX7_groups_0 rfl (lv_at hl 0 rfl) ?_
  refine lv_iconst (v := (0 : Int32)) S.x S.b dX7_groups_1 ki_0 ?_
  obtain ⟨w_1, ew, hf⟩ := lt_some hf
  refine mm_p S hM 3 rfl ew q1451 dX7_groups_2 (fun H locs hM => ?_)
  refine lv_aload_n S.x S.b dX7_groups_5 rfl (lv_at hl 0 rfl) ?_
  refine mm_g S hM 4 rfl q1452 rfl dX7_groups_6 ?_
  refine lv_if_ne (tgt := 20) S.x S.b dX7_groups_9 rfl (fun cn => ?_) (fun cn => ?_)
  · have hf := if_f cn hf
    refine lv_aload_n S.x S.b dX7_groups_20 rfl (lv_at hl 0 rfl) ?_
    refine mm_g S hM 8 rfl q1456 rfl dX7_groups_21 ?_
    obtain ⟨rfl, rfl⟩ := rt2 hf
    exact g_iret S hM rfl dX7_groups_24
  · have hf := if_t cn hf
    refine lv_aload_n S.x S.b dX7_groups_12 rfl (lv_at hl 0 rfl) ?_
    refine lv_iconst (v := (1 : Int32)) S.x S.b dX7_groups_13 ki_1 ?_
    obtain ⟨r_3, w_2, hc, hf⟩ := bd2_some hf
    refine mm_ci S hM hl [.int (1 : Int32)] rfl (metX7_fails hc) hdX7_fails q1517 q1519 qs32 q69 q1520 ⟨rfl, rfl⟩ ⟨rfl, rfl⟩ rfl rfl rfl ⟨Nat.zero_le _, Nat.zero_le _⟩ dX7_groups_14 (fun H locs hM => ?_)
    refine lv_goto (tgt := 24) S.x S.b dX7_groups_17 rfl ?_
    obtain ⟨rfl, rfl⟩ := rt2 hf
    exact g_iret S hM rfl dX7_groups_24
/-! SequenceBenchModel.isDigit(I)Z -/
theorem hdX7_isDigit : gHd yX7_isDigit 1 := by decide +kernel
def gX7_isDigit (x1 : Int32) (w : MW) : Option (Int32 × MW) :=
  bd2 (gX7_letter x1 w) fun r_2 w_1 =>
  bd (gX7_in r_2 (48 : Int32) (57 : Int32)) fun r_3 =>
  bz r_3 (some (r_3, w_1))
abbrev rmX7_isDigit : Room := { frames := 2, cells := 0, slots := 0, locals := 34 }
set_option maxHeartbeats 4000000 in
theorem metX7_isDigit {l : Launch} {D : va_G} {T : Nat → ClassId} {h : Nat} {ad : Nat → Nat} {rr : Int32} {wr : MW} {x1 : Int32} {w : MW} (hf : gX7_isDigit x1 w = some (rr, wr)) (sz : Nat) : MetI l yX7_isDigit (ws_ yX7_isDigit cX7_isDigit 2 (some .boolean)) rmX7_isDigit D T (mmW h ad (T 0) w) sz [.ref h, .int x1] rr (mmW h ad (T 0) wr) := by
  refine g_entry (Qc := fun A => gQi D T A rr (mmW h ad (T 0) wr)) (by decide) rfl ?_
  intro p e s m below meth c ls S hM hl
  have hl : lv_has ls 2 [(0, .ref h), (1, .int x1)] := hl
  refine lv_aload_n S.x S.b dX7_isDigit_0 rfl (lv_at hl 0 rfl) ?_
  refine lv_iload_n S.x S.b dX7_isDigit_1 rfl (lv_at hl 1 rfl) ?_
  obtain ⟨r_2, w_1, hc, hf⟩ := bd2_some hf
  refine mm_ci S hM hl [.int x1] rfl (metX7_letter hc) hdX7_letter q1537 q1539 qs35 q69 q1540 ⟨rfl, rfl⟩ ⟨rfl, rfl⟩ rfl rfl rfl ⟨Nat.zero_le _, Nat.zero_le _⟩ dX7_isDigit_2 (fun H locs hM => ?_)
  refine lv_bipush (v := (48 : Int32)) S.x S.b dX7_isDigit_5 kb_48 ?_
  refine lv_bipush (v := (57 : Int32)) S.x S.b dX7_isDigit_7 kb_57 ?_
  obtain ⟨r_3, hc, hf⟩ := bd_some hf
  refine gg_si S hM hl [.int r_2, .int (48 : Int32), .int (57 : Int32)] (metX7_in hc) hdX7_in q1437 q1438 q69 q1439 ⟨rfl, rfl⟩ ⟨rfl, rfl⟩ rfl rfl rfl ⟨Nat.zero_le _, Nat.zero_le _⟩ dX7_isDigit_9 (fun H locs hM => ?_)
  obtain ⟨hz, hf⟩ := bz_some hf
  obtain ⟨rfl, rfl⟩ := rt2 hf
  exact g_zret S hM rfl hz dX7_isDigit_12
/-! SequenceBenchModel.isMove(I)Z -/
theorem hdX7_isMove : gHd yX7_isMove 1 := by decide +kernel
def gX7_isMove (x1 : Int32) (w : MW) : Option (Int32 × MW) :=
  bd2 (gX7_letter x1 w) fun r_2 w_1 =>
  bd (gX7_in r_2 (65 : Int32) (70 : Int32)) fun r_3 =>
  if r_3 = 0 then (
  some ((0 : Int32), w_1))
  else (
  bd2 (gX7_letter (x1 + (1 : Int32)) w_1) fun r_5 w_4 =>
  if r_5 = (43 : Int32) then (
  some ((1 : Int32), w_4))
  else (
  bd2 (gX7_letter (x1 + (1 : Int32)) w_4) fun r_7 w_6 =>
  if r_7 = (45 : Int32) then (
  some ((1 : Int32), w_6))
  else (
  some ((0 : Int32), w_6))))
abbrev rmX7_isMove : Room := { frames := 2, cells := 0, slots := 0, locals := 34 }
set_option maxHeartbeats 4000000 in
theorem metX7_isMove {l : Launch} {D : va_G} {T : Nat → ClassId} {h : Nat} {ad : Nat → Nat} {rr : Int32} {wr : MW} {x1 : Int32} {w : MW} (hf : gX7_isMove x1 w = some (rr, wr)) (sz : Nat) : MetI l yX7_isMove (ws_ yX7_isMove cX7_isMove 2 (some .boolean)) rmX7_isMove D T (mmW h ad (T 0) w) sz [.ref h, .int x1] rr (mmW h ad (T 0) wr) := by
  refine g_entry (Qc := fun A => gQi D T A rr (mmW h ad (T 0) wr)) (by decide) rfl ?_
  intro p e s m below meth c ls S hM hl
  have hl : lv_has ls 2 [(0, .ref h), (1, .int x1)] := hl
  refine lv_aload_n S.x S.b dX7_isMove_0 rfl (lv_at hl 0 rfl) ?_
  refine lv_iload_n S.x S.b dX7_isMove_1 rfl (lv_at hl 1 rfl) ?_
  obtain ⟨r_2, w_1, hc, hf⟩ := bd2_some hf
  refine mm_ci S hM hl [.int x1] rfl (metX7_letter hc) hdX7_letter q1537 q1539 qs35 q69 q1540 ⟨rfl, rfl⟩ ⟨rfl, rfl⟩ rfl rfl rfl ⟨Nat.zero_le _, Nat.zero_le _⟩ dX7_isMove_2 (fun H locs hM => ?_)
  refine lv_bipush (v := (65 : Int32)) S.x S.b dX7_isMove_5 kb_65 ?_
  refine lv_bipush (v := (70 : Int32)) S.x S.b dX7_isMove_7 kb_70 ?_
  obtain ⟨r_3, hc, hf⟩ := bd_some hf
  refine gg_si S hM hl [.int r_2, .int (65 : Int32), .int (70 : Int32)] (metX7_in hc) hdX7_in q1437 q1438 q69 q1439 ⟨rfl, rfl⟩ ⟨rfl, rfl⟩ rfl rfl rfl ⟨Nat.zero_le _, Nat.zero_le _⟩ dX7_isMove_9 (fun H locs hM => ?_)
  refine lv_if_eq (tgt := 43) S.x S.b dX7_isMove_12 rfl (fun cn => ?_) (fun cn => ?_)
  · have hf := if_t cn hf
    refine lv_iconst (v := (0 : Int32)) S.x S.b dX7_isMove_43 ki_0 ?_
    obtain ⟨rfl, rfl⟩ := rt2 hf
    exact g_zret S hM rfl rfl dX7_isMove_44
  · have hf := if_f cn hf
    refine lv_aload_n S.x S.b dX7_isMove_15 rfl (lv_at hl 0 rfl) ?_
    refine lv_iload_n S.x S.b dX7_isMove_16 rfl (lv_at hl 1 rfl) ?_
    refine lv_iconst (v := (1 : Int32)) S.x S.b dX7_isMove_17 ki_1 ?_
    refine lv_iadd S.x S.b dX7_isMove_18 ?_
    obtain ⟨r_5, w_4, hc, hf⟩ := bd2_some hf
    refine mm_ci S hM hl [.int (x1 + (1 : Int32))] rfl (metX7_letter hc) hdX7_letter q1537 q1539 qs35 q69 q1540 ⟨rfl, rfl⟩ ⟨rfl, rfl⟩ rfl rfl rfl ⟨Nat.zero_le _, Nat.zero_le _⟩ dX7_isMove_19 (fun H locs hM => ?_)
    refine lv_bipush (v := (43 : Int32)) S.x S.b dX7_isMove_22 kb_43 ?_
    refine lv_icmp_eq (tgt := 39) S.x S.b dX7_isMove_24 rfl (fun cn => ?_) (fun cn => ?_)
    · have hf := if_t cn hf
      refine lv_iconst (v := (1 : Int32)) S.x S.b dX7_isMove_39 ki_1 ?_
      refine lv_goto (tgt := 44) S.x S.b dX7_isMove_40 rfl ?_
      obtain ⟨rfl, rfl⟩ := rt2 hf
      exact g_zret S hM rfl rfl dX7_isMove_44
    · have hf := if_f cn hf
      refine lv_aload_n S.x S.b dX7_isMove_27 rfl (lv_at hl 0 rfl) ?_
      refine lv_iload_n S.x S.b dX7_isMove_28 rfl (lv_at hl 1 rfl) ?_
      refine lv_iconst (v := (1 : Int32)) S.x S.b dX7_isMove_29 ki_1 ?_
      refine lv_iadd S.x S.b dX7_isMove_30 ?_
      obtain ⟨r_7, w_6, hc, hf⟩ := bd2_some hf
      refine mm_ci S hM hl [.int (x1 + (1 : Int32))] rfl (metX7_letter hc) hdX7_letter q1537 q1539 qs35 q69 q1540 ⟨rfl, rfl⟩ ⟨rfl, rfl⟩ rfl rfl rfl ⟨Nat.zero_le _, Nat.zero_le _⟩ dX7_isMove_31 (fun H locs hM => ?_)
      refine lv_bipush (v := (45 : Int32)) S.x S.b dX7_isMove_34 kb_45 ?_
      refine lv_icmp_ne (tgt := 43) S.x S.b dX7_isMove_36 rfl (fun cn => ?_) (fun cn => ?_)
      · have hf := if_f cn hf
        refine lv_iconst (v := (0 : Int32)) S.x S.b dX7_isMove_43 ki_0 ?_
        obtain ⟨rfl, rfl⟩ := rt2 hf
        exact g_zret S hM rfl rfl dX7_isMove_44
      · have hf := if_t cn hf
        refine lv_iconst (v := (1 : Int32)) S.x S.b dX7_isMove_39 ki_1 ?_
        refine lv_goto (tgt := 44) S.x S.b dX7_isMove_40 rfl ?_
        obtain ⟨rfl, rfl⟩ := rt2 hf
        exact g_zret S hM rfl rfl dX7_isMove_44
/-! SequenceBenchModel.isOut(I)Z -/
theorem hdX7_isOut : gHd yX7_isOut 1 := by decide +kernel
def gX7_isOut (x1 : Int32) (w : MW) : Option (Int32 × MW) :=
  bd2 (gX7_ofCylinder x1 (26 : Int32) w) fun r_2 w_1 =>
  if r_2 = (1 : Int32) then (
  some ((1 : Int32), w_1))
  else (
  some ((0 : Int32), w_1))
abbrev rmX7_isOut : Room := { frames := 3, cells := 0, slots := 0, locals := 56 }
set_option maxHeartbeats 4000000 in
theorem metX7_isOut {l : Launch} {D : va_G} {T : Nat → ClassId} {h : Nat} {ad : Nat → Nat} {rr : Int32} {wr : MW} {x1 : Int32} {w : MW} (hf : gX7_isOut x1 w = some (rr, wr)) (sz : Nat) : MetI l yX7_isOut (ws_ yX7_isOut cX7_isOut 2 (some .boolean)) rmX7_isOut D T (mmW h ad (T 0) w) sz [.ref h, .int x1] rr (mmW h ad (T 0) wr) := by
  refine g_entry (Qc := fun A => gQi D T A rr (mmW h ad (T 0) wr)) (by decide) rfl ?_
  intro p e s m below meth c ls S hM hl
  have hl : lv_has ls 2 [(0, .ref h), (1, .int x1)] := hl
  refine lv_aload_n S.x S.b dX7_isOut_0 rfl (lv_at hl 0 rfl) ?_
  refine lv_iload_n S.x S.b dX7_isOut_1 rfl (lv_at hl 1 rfl) ?_
  refine lv_bipush (v := (26 : Int32)) S.x S.b dX7_isOut_2 kb_26 ?_
  obtain ⟨r_2, w_1, hc, hf⟩ := bd2_some hf
  refine mm_ci S hM hl [.int x1, .int (26 : Int32)] rfl (metX7_ofCylinder hc) hdX7_ofCylinder q1703 q1705 qs56 q69 q1706 ⟨rfl, rfl⟩ ⟨rfl, rfl⟩ rfl rfl rfl ⟨Nat.zero_le _, Nat.zero_le _⟩ dX7_isOut_4 (fun H locs hM => ?_)
  refine lv_iconst (v := (1 : Int32)) S.x S.b dX7_isOut_7 ki_1 ?_
  refine lv_icmp_ne (tgt := 15) S.x S.b dX7_isOut_8 rfl (fun cn => ?_) (fun cn => ?_)
  · have hf := if_f cn hf
    refine lv_iconst (v := (0 : Int32)) S.x S.b dX7_isOut_15 ki_0 ?_
    obtain ⟨rfl, rfl⟩ := rt2 hf
    exact g_zret S hM rfl rfl dX7_isOut_16
  · have hf := if_t cn hf
    refine lv_iconst (v := (1 : Int32)) S.x S.b dX7_isOut_11 ki_1 ?_
    refine lv_goto (tgt := 16) S.x S.b dX7_isOut_12 rfl ?_
    obtain ⟨rfl, rfl⟩ := rt2 hf
    exact g_zret S hM rfl rfl dX7_isOut_16
/-! SequenceBenchModel.moves(I)I -/
theorem hdX7_moves : gHd yX7_moves 1 := by decide +kernel
def gX7_moves (x1 : Int32) (w : MW) : Option (Int32 × MW) :=
  lt (setF w 3 (0 : Int32)) fun w_1 =>
  bd2 (gX7_isStep x1 w_1) fun r_3 w_2 =>
  if r_3 = 0 then (
  bd2 (gX7_fails (1 : Int32) w_2) fun r_5 w_4 =>
  some (r_5, w_4))
  else (
  ck x1 16 <|
  ck x1 16 <|
  some (((w_2.2 3 x1.toNatClampNeg) ||| (w_2.2 4 x1.toNatClampNeg)), w_2))
abbrev rmX7_moves : Room := { frames := 3, cells := 0, slots := 0, locals := 55 }
set_option maxHeartbeats 4000000 in
theorem metX7_moves {l : Launch} {D : va_G} {T : Nat → ClassId} {h : Nat} {ad : Nat → Nat} {rr : Int32} {wr : MW} {x1 : Int32} {w : MW} (hf : gX7_moves x1 w = some (rr, wr)) (sz : Nat) : MetI l yX7_moves (ws_ yX7_moves cX7_moves 2 (some .int)) rmX7_moves D T (mmW h ad (T 0) w) sz [.ref h, .int x1] rr (mmW h ad (T 0) wr) := by
  refine g_entry (Qc := fun A => gQi D T A rr (mmW h ad (T 0) wr)) (by decide) rfl ?_
  intro p e s m below meth c ls S hM hl
  have hl : lv_has ls 2 [(0, .ref h), (1, .int x1)] := hl
  refine lv_aload_n S.x S.b dX7_moves_0 rfl (lv_at hl 0 rfl) ?_
  refine lv_iconst (v := (0 : Int32)) S.x S.b dX7_moves_1 ki_0 ?_
  obtain ⟨w_1, ew, hf⟩ := lt_some hf
  refine mm_p S hM 3 rfl ew q1451 dX7_moves_2 (fun H locs hM => ?_)
  refine lv_aload_n S.x S.b dX7_moves_5 rfl (lv_at hl 0 rfl) ?_
  refine lv_iload_n S.x S.b dX7_moves_6 rfl (lv_at hl 1 rfl) ?_
  obtain ⟨r_3, w_2, hc, hf⟩ := bd2_some hf
  refine mm_ci S hM hl [.int x1] rfl (metX7_isStep hc) hdX7_isStep q1587 q1589 qs43 q69 q1590 ⟨rfl, rfl⟩ ⟨rfl, rfl⟩ rfl rfl rfl ⟨Nat.zero_le _, Nat.zero_le _⟩ dX7_moves_7 (fun H locs hM => ?_)
  refine lv_if_eq (tgt := 29) S.x S.b dX7_moves_10 rfl (fun cn => ?_) (fun cn => ?_)
  · have hf := if_t cn hf
    refine lv_aload_n S.x S.b dX7_moves_29 rfl (lv_at hl 0 rfl) ?_
    refine lv_iconst (v := (1 : Int32)) S.x S.b dX7_moves_30 ki_1 ?_
    obtain ⟨r_5, w_4, hc, hf⟩ := bd2_some hf
    refine mm_ci S hM hl [.int (1 : Int32)] rfl (metX7_fails hc) hdX7_fails q1517 q1519 qs32 q69 q1520 ⟨rfl, rfl⟩ ⟨rfl, rfl⟩ rfl rfl rfl ⟨Nat.zero_le _, Nat.zero_le _⟩ dX7_moves_31 (fun H locs hM => ?_)
    obtain ⟨rfl, rfl⟩ := rt2 hf
    exact g_iret S hM rfl dX7_moves_34
  · have hf := if_f cn hf
    refine lv_aload_n S.x S.b dX7_moves_13 rfl (lv_at hl 0 rfl) ?_
    refine mm_g S hM 5 rfl q1453 rfl dX7_moves_14 ?_
    refine lv_iload_n S.x S.b dX7_moves_17 rfl (lv_at hl 1 rfl) ?_
    obtain ⟨hi, hf⟩ := ck_some hf
    refine mm_ld S hM 3 rfl hi dX7_moves_18 ?_
    refine lv_aload_n S.x S.b dX7_moves_19 rfl (lv_at hl 0 rfl) ?_
    refine mm_g S hM 6 rfl q1454 rfl dX7_moves_20 ?_
    refine lv_iload_n S.x S.b dX7_moves_23 rfl (lv_at hl 1 rfl) ?_
    obtain ⟨hi, hf⟩ := ck_some hf
    refine mm_ld S hM 4 rfl hi dX7_moves_24 ?_
    refine lv_ior S.x S.b dX7_moves_25 ?_
    refine lv_goto (tgt := 34) S.x S.b dX7_moves_26 rfl ?_
    obtain ⟨rfl, rfl⟩ := rt2 hf
    exact g_iret S hM rfl dX7_moves_34
/-! SequenceBenchModel.notes(II)V -/
theorem hdX7_notes : gHd yX7_notes 2 := by decide +kernel
def gX7_notes_140 (x3 : Int32) (x4 : Int32) (s0 : Int32) (s1 : Int32) (s2 : Int32) (w : MW) : Option (MW) :=
  ck s2 17 <|
  lt (setA w 9 s2.toNatClampNeg (s1 ||| s0)) fun w_8 =>
  if x4 = 0 then (
  lt (setF w_8 18 ((w_8.1 18) &&& (x3 ^^^ (-1 : Int32)))) fun w_9 =>
  some w_9)
  else (
  lt (setF w_8 18 ((w_8.1 18) ||| x3)) fun w_10 =>
  some w_10)
def gX7_notes_118 (x3 : Int32) (x4 : Int32) (s0 : Int32) (s1 : Int32) (s2 : Int32) (w : MW) : Option (MW) :=
  ck s2 17 <|
  lt (setA w 8 s2.toNatClampNeg (s1 ||| s0)) fun w_7 =>
  ck (w_7.1 14) 17 <|
  if x4 = 0 then (
  gX7_notes_140 x3 x4 x3 (w_7.2 9 (w_7.1 14).toNatClampNeg) (w_7.1 14) w_7)
  else (
  gX7_notes_140 x3 x4 (0 : Int32) (w_7.2 9 (w_7.1 14).toNatClampNeg) (w_7.1 14) w_7)
def gX7_notes_98 (x3 : Int32) (x4 : Int32) (w : MW) : Option (MW) :=
  ck (w.1 14) 17 <|
  if x4 = 0 then (
  gX7_notes_118 x3 x4 (0 : Int32) (w.2 8 (w.1 14).toNatClampNeg) (w.1 14) w)
  else (
  gX7_notes_118 x3 x4 x3 (w.2 8 (w.1 14).toNatClampNeg) (w.1 14) w)
def gX7_notes_86 (x1 : Int32) (x3 : Int32) (x4 : Int32) (w : MW) : Option (MW) :=
  if 0 ≤ (w.1 19) then (
  gX7_notes_98 x3 x4 w)
  else (
  lt (setF w 19 x1) fun w_6 =>
  gX7_notes_98 x3 x4 w_6)
def gX7_notes_72 (x1 : Int32) (x3 : Int32) (x4 : Int32) (x5 : Int32) (s0 : Int32) (w : MW) : Option (MW) :=
  if x5 = 0 then (
  if s0 = x4 then (
  gX7_notes_86 x1 x3 x4 w)
  else (
  gX7_notes_98 x3 x4 w))
  else (
  gX7_notes_86 x1 x3 x4 w)
def gX7_notes_59 (x1 : Int32) (x2 : Int32) (x3 : Int32) (x4 : Int32) (s0 : Int32) (w : MW) : Option (MW) :=
  if (x2 &&& x3) = 0 then (
  gX7_notes_72 x1 x3 x4 s0 (0 : Int32) w)
  else (
  gX7_notes_72 x1 x3 x4 s0 (1 : Int32) w)
def gX7_notes_28 (x1 : Int32) (x2 : Int32) (x3 : Int32) (s0 : Int32) (w : MW) : Option (MW) :=
  ck (w.1 14) 17 <|
  ck (w.1 14) 17 <|
  if (((w.2 8 (w.1 14).toNatClampNeg) ||| (w.2 9 (w.1 14).toNatClampNeg)) &&& x3) = 0 then (
  gX7_notes_59 x1 x2 x3 s0 (0 : Int32) w)
  else (
  gX7_notes_59 x1 x2 x3 s0 (1 : Int32) w)
def gX7_notes (x1 : Int32) (x2 : Int32) (w : MW) : Option (MW) :=
  bd2 (gX7_letter x1 w) fun r_2 w_1 =>
  lt (((1 : Int32) <<< ((r_2 - (65 : Int32)) &&& 31))) fun x3_3 =>
  bd2 (gX7_letter (x1 + (1 : Int32)) w_1) fun r_5 w_4 =>
  if r_5 = (43 : Int32) then (
  gX7_notes_28 x1 x2 x3_3 (1 : Int32) w_4)
  else (
  gX7_notes_28 x1 x2 x3_3 (0 : Int32) w_4)
abbrev rmX7_notes : Room := { frames := 2, cells := 0, slots := 0, locals := 33 }
set_option maxHeartbeats 4000000 in
theorem wX7_notes_140 {p : Program} {l : Launch} {e : Env} {s : State} {m : MethodId} {args : Array Value} {below : List Frame} {meth : Method} {c : Code} {D : va_G} {T : Nat → ClassId} {A : Nat → Prop} {h : Nat} {ad : Nat → Nat} {wr : MW} (S : gS p s m args meth c cX7_notes 7 (none) RX7 D T) : ∀ (x3 : Int32) (x4 : Int32) (s0 : Int32) (s1 : Int32) (s2 : Int32) (w : MW) (H : Heap) (locs : List Loc) (ls : Array Slot), gM D A s.heap (mmW h ad (T 0) w) H locs → lv_has ls 7 [(0, .ref h), (3, .int x3), (4, .int x4)] → gX7_notes_140 x3 x4 s0 s1 s2 w = some wr → W p l e rmX7_notes s m args below meth c H locs 0 0 (MQ below (gQv D T A (mmW h ad (T 0) wr)) args s 0 0 A) (F0 m 140 ls [.int s0, .int s1, .int s2, .ref (ad 9)]) := by
  intro x3 x4 s0 s1 s2 w H locs ls hM hl hf
  refine lv_ior S.x S.b dX7_notes_140 ?_
  obtain ⟨hi, hf⟩ := ck_some hf
  obtain ⟨w_8, ew, hf⟩ := lt_some hf
  refine mm_st S hM 9 rfl hi ew dX7_notes_141 (fun H locs hM => ?_)
  refine lv_aload_n S.x S.b dX7_notes_142 rfl (lv_at hl 0 rfl) ?_
  refine lv_iload S.x S.b dX7_notes_143 (lv_at hl 2 rfl) ?_
  refine lv_if_eq (tgt := 157) S.x S.b dX7_notes_145 rfl (fun cn => ?_) (fun cn => ?_)
  · have hf := if_t cn hf
    refine lv_aload_n S.x S.b dX7_notes_157 rfl (lv_at hl 0 rfl) ?_
    refine mm_g S hM 18 rfl q1466 rfl dX7_notes_158 ?_
    refine lv_iload_n S.x S.b dX7_notes_161 rfl (lv_at hl 1 rfl) ?_
    refine lv_iconst (v := (-1 : Int32)) S.x S.b dX7_notes_162 ki_m1 ?_
    refine lv_ixor S.x S.b dX7_notes_163 ?_
    refine lv_iand S.x S.b dX7_notes_164 ?_
    obtain ⟨w_9, ew, hf⟩ := lt_some hf
    refine mm_p S hM 18 rfl ew q1466 dX7_notes_165 (fun H locs hM => ?_)
    obtain rfl := rt1 hf
    exact g_vret S hM dX7_notes_168
  · have hf := if_f cn hf
    refine lv_aload_n S.x S.b dX7_notes_148 rfl (lv_at hl 0 rfl) ?_
    refine mm_g S hM 18 rfl q1466 rfl dX7_notes_149 ?_
    refine lv_iload_n S.x S.b dX7_notes_152 rfl (lv_at hl 1 rfl) ?_
    refine lv_ior S.x S.b dX7_notes_153 ?_
    refine lv_goto (tgt := 165) S.x S.b dX7_notes_154 rfl ?_
    obtain ⟨w_10, ew, hf⟩ := lt_some hf
    refine mm_p S hM 18 rfl ew q1466 dX7_notes_165 (fun H locs hM => ?_)
    obtain rfl := rt1 hf
    exact g_vret S hM dX7_notes_168
set_option maxHeartbeats 4000000 in
theorem wX7_notes_118 {p : Program} {l : Launch} {e : Env} {s : State} {m : MethodId} {args : Array Value} {below : List Frame} {meth : Method} {c : Code} {D : va_G} {T : Nat → ClassId} {A : Nat → Prop} {h : Nat} {ad : Nat → Nat} {wr : MW} (S : gS p s m args meth c cX7_notes 7 (none) RX7 D T) : ∀ (x3 : Int32) (x4 : Int32) (s0 : Int32) (s1 : Int32) (s2 : Int32) (w : MW) (H : Heap) (locs : List Loc) (ls : Array Slot), gM D A s.heap (mmW h ad (T 0) w) H locs → lv_has ls 7 [(0, .ref h), (3, .int x3), (4, .int x4)] → gX7_notes_118 x3 x4 s0 s1 s2 w = some wr → W p l e rmX7_notes s m args below meth c H locs 0 0 (MQ below (gQv D T A (mmW h ad (T 0) wr)) args s 0 0 A) (F0 m 118 ls [.int s0, .int s1, .int s2, .ref (ad 8)]) := by
  intro x3 x4 s0 s1 s2 w H locs ls hM hl hf
  refine lv_ior S.x S.b dX7_notes_118 ?_
  obtain ⟨hi, hf⟩ := ck_some hf
  obtain ⟨w_7, ew, hf⟩ := lt_some hf
  refine mm_st S hM 8 rfl hi ew dX7_notes_119 (fun H locs hM => ?_)
  refine lv_aload_n S.x S.b dX7_notes_120 rfl (lv_at hl 0 rfl) ?_
  refine mm_g S hM 16 rfl q1464 rfl dX7_notes_121 ?_
  refine lv_aload_n S.x S.b dX7_notes_124 rfl (lv_at hl 0 rfl) ?_
  refine mm_g S hM 14 rfl q1462 rfl dX7_notes_125 ?_
  refine lv_dup2_11 S.x S.b dX7_notes_128 rfl rfl ?_
  obtain ⟨hi, hf⟩ := ck_some hf
  refine mm_ld S hM 9 rfl hi dX7_notes_129 ?_
  refine lv_iload S.x S.b dX7_notes_130 (lv_at hl 2 rfl) ?_
  refine lv_if_eq (tgt := 139) S.x S.b dX7_notes_132 rfl (fun cn => ?_) (fun cn => ?_)
  · have hf := if_t cn hf
    refine lv_iload_n S.x S.b dX7_notes_139 rfl (lv_at hl 1 rfl) ?_
    exact wX7_notes_140 S x3 x4 x3 (w_7.2 9 (w_7.1 14).toNatClampNeg) (w_7.1 14) w_7 _ _ _ hM (lv_sub hl [0, 1, 2] rfl) hf
  · have hf := if_f cn hf
    refine lv_iconst (v := (0 : Int32)) S.x S.b dX7_notes_135 ki_0 ?_
    refine lv_goto (tgt := 140) S.x S.b dX7_notes_136 rfl ?_
    exact wX7_notes_140 S x3 x4 (0 : Int32) (w_7.2 9 (w_7.1 14).toNatClampNeg) (w_7.1 14) w_7 _ _ _ hM (lv_sub hl [0, 1, 2] rfl) hf
set_option maxHeartbeats 4000000 in
theorem wX7_notes_98 {p : Program} {l : Launch} {e : Env} {s : State} {m : MethodId} {args : Array Value} {below : List Frame} {meth : Method} {c : Code} {D : va_G} {T : Nat → ClassId} {A : Nat → Prop} {h : Nat} {ad : Nat → Nat} {wr : MW} (S : gS p s m args meth c cX7_notes 7 (none) RX7 D T) : ∀ (x3 : Int32) (x4 : Int32) (w : MW) (H : Heap) (locs : List Loc) (ls : Array Slot), gM D A s.heap (mmW h ad (T 0) w) H locs → lv_has ls 7 [(0, .ref h), (3, .int x3), (4, .int x4)] → gX7_notes_98 x3 x4 w = some wr → W p l e rmX7_notes s m args below meth c H locs 0 0 (MQ below (gQv D T A (mmW h ad (T 0) wr)) args s 0 0 A) (F0 m 98 ls []) := by
  intro x3 x4 w H locs ls hM hl hf
  refine lv_aload_n S.x S.b dX7_notes_98 rfl (lv_at hl 0 rfl) ?_
  refine mm_g S hM 15 rfl q1463 rfl dX7_notes_99 ?_
  refine lv_aload_n S.x S.b dX7_notes_102 rfl (lv_at hl 0 rfl) ?_
  refine mm_g S hM 14 rfl q1462 rfl dX7_notes_103 ?_
  refine lv_dup2_11 S.x S.b dX7_notes_106 rfl rfl ?_
  obtain ⟨hi, hf⟩ := ck_some hf
  refine mm_ld S hM 8 rfl hi dX7_notes_107 ?_
  refine lv_iload S.x S.b dX7_notes_108 (lv_at hl 2 rfl) ?_
  refine lv_if_eq (tgt := 117) S.x S.b dX7_notes_110 rfl (fun cn => ?_) (fun cn => ?_)
  · have hf := if_t cn hf
    refine lv_iconst (v := (0 : Int32)) S.x S.b dX7_notes_117 ki_0 ?_
    exact wX7_notes_118 S x3 x4 (0 : Int32) (w.2 8 (w.1 14).toNatClampNeg) (w.1 14) w _ _ _ hM (lv_sub hl [0, 1, 2] rfl) hf
  · have hf := if_f cn hf
    refine lv_iload_n S.x S.b dX7_notes_113 rfl (lv_at hl 1 rfl) ?_
    refine lv_goto (tgt := 118) S.x S.b dX7_notes_114 rfl ?_
    exact wX7_notes_118 S x3 x4 x3 (w.2 8 (w.1 14).toNatClampNeg) (w.1 14) w _ _ _ hM (lv_sub hl [0, 1, 2] rfl) hf
set_option maxHeartbeats 4000000 in
theorem wX7_notes_86 {p : Program} {l : Launch} {e : Env} {s : State} {m : MethodId} {args : Array Value} {below : List Frame} {meth : Method} {c : Code} {D : va_G} {T : Nat → ClassId} {A : Nat → Prop} {h : Nat} {ad : Nat → Nat} {wr : MW} (S : gS p s m args meth c cX7_notes 7 (none) RX7 D T) : ∀ (x1 : Int32) (x3 : Int32) (x4 : Int32) (w : MW) (H : Heap) (locs : List Loc) (ls : Array Slot), gM D A s.heap (mmW h ad (T 0) w) H locs → lv_has ls 7 [(0, .ref h), (1, .int x1), (3, .int x3), (4, .int x4)] → gX7_notes_86 x1 x3 x4 w = some wr → W p l e rmX7_notes s m args below meth c H locs 0 0 (MQ below (gQv D T A (mmW h ad (T 0) wr)) args s 0 0 A) (F0 m 86 ls []) := by
  intro x1 x3 x4 w H locs ls hM hl hf
  refine lv_aload_n S.x S.b dX7_notes_86 rfl (lv_at hl 0 rfl) ?_
  refine mm_g S hM 19 rfl q1467 rfl dX7_notes_87 ?_
  refine lv_if_ge (tgt := 98) S.x S.b dX7_notes_90 rfl (fun cn => ?_) (fun cn => ?_)
  · have hf := if_t cn hf
    exact wX7_notes_98 S x3 x4 w _ _ _ hM (lv_sub hl [0, 2, 3] rfl) hf
  · have hf := if_f cn hf
    refine lv_aload_n S.x S.b dX7_notes_93 rfl (lv_at hl 0 rfl) ?_
    refine lv_iload_n S.x S.b dX7_notes_94 rfl (lv_at hl 1 rfl) ?_
    obtain ⟨w_6, ew, hf⟩ := lt_some hf
    refine mm_p S hM 19 rfl ew q1467 dX7_notes_95 (fun H locs hM => ?_)
    exact wX7_notes_98 S x3 x4 w_6 _ _ _ hM (lv_sub hl [0, 2, 3] rfl) hf
set_option maxHeartbeats 4000000 in
theorem wX7_notes_72 {p : Program} {l : Launch} {e : Env} {s : State} {m : MethodId} {args : Array Value} {below : List Frame} {meth : Method} {c : Code} {D : va_G} {T : Nat → ClassId} {A : Nat → Prop} {h : Nat} {ad : Nat → Nat} {wr : MW} (S : gS p s m args meth c cX7_notes 7 (none) RX7 D T) : ∀ (x1 : Int32) (x3 : Int32) (x4 : Int32) (x5 : Int32) (s0 : Int32) (w : MW) (H : Heap) (locs : List Loc) (ls : Array Slot), gM D A s.heap (mmW h ad (T 0) w) H locs → lv_has ls 7 [(0, .ref h), (1, .int x1), (3, .int x3), (4, .int x4), (5, .int x5)] → gX7_notes_72 x1 x3 x4 x5 s0 w = some wr → W p l e rmX7_notes s m args below meth c H locs 0 0 (MQ below (gQv D T A (mmW h ad (T 0) wr)) args s 0 0 A) (F0 m 72 ls [.int s0]) := by
  intro x1 x3 x4 x5 s0 w H locs ls hM hl hf
  refine g_ist S (x' := s0) rfl hl dX7_notes_72 rfl (lv' := [(6, .int s0), (0, .ref h), (1, .int x1), (3, .int x3), (4, .int x4), (5, .int x5)]) rfl (fun ls hl => ?_)
  refine lv_iload S.x S.b dX7_notes_74 (lv_at hl 5 rfl) ?_
  refine lv_if_ne (tgt := 86) S.x S.b dX7_notes_76 rfl (fun cn => ?_) (fun cn => ?_)
  · have hf := if_f cn hf
    exact wX7_notes_86 S x1 x3 x4 w _ _ _ hM (lv_sub hl [1, 2, 3, 4] rfl) hf
  · have hf := if_t cn hf
    refine lv_iload S.x S.b dX7_notes_79 (lv_at hl 0 rfl) ?_
    refine lv_iload S.x S.b dX7_notes_81 (lv_at hl 4 rfl) ?_
    refine lv_icmp_ne (tgt := 98) S.x S.b dX7_notes_83 rfl (fun cn => ?_) (fun cn => ?_)
    · have hf := if_f cn hf
      exact wX7_notes_98 S x3 x4 w _ _ _ hM (lv_sub hl [1, 3, 4] rfl) hf
    · have hf := if_t cn hf
      exact wX7_notes_86 S x1 x3 x4 w _ _ _ hM (lv_sub hl [1, 2, 3, 4] rfl) hf
set_option maxHeartbeats 4000000 in
theorem wX7_notes_59 {p : Program} {l : Launch} {e : Env} {s : State} {m : MethodId} {args : Array Value} {below : List Frame} {meth : Method} {c : Code} {D : va_G} {T : Nat → ClassId} {A : Nat → Prop} {h : Nat} {ad : Nat → Nat} {wr : MW} (S : gS p s m args meth c cX7_notes 7 (none) RX7 D T) : ∀ (x1 : Int32) (x2 : Int32) (x3 : Int32) (x4 : Int32) (s0 : Int32) (w : MW) (H : Heap) (locs : List Loc) (ls : Array Slot), gM D A s.heap (mmW h ad (T 0) w) H locs → lv_has ls 7 [(0, .ref h), (1, .int x1), (2, .int x2), (3, .int x3), (4, .int x4)] → gX7_notes_59 x1 x2 x3 x4 s0 w = some wr → W p l e rmX7_notes s m args below meth c H locs 0 0 (MQ below (gQv D T A (mmW h ad (T 0) wr)) args s 0 0 A) (F0 m 59 ls [.int s0]) := by
  intro x1 x2 x3 x4 s0 w H locs ls hM hl hf
  refine g_ist S (x' := s0) rfl hl dX7_notes_59 rfl (lv' := [(5, .int s0), (0, .ref h), (1, .int x1), (2, .int x2), (3, .int x3), (4, .int x4)]) rfl (fun ls hl => ?_)
  refine lv_iload_n S.x S.b dX7_notes_61 rfl (lv_at hl 3 rfl) ?_
  refine lv_iload_n S.x S.b dX7_notes_62 rfl (lv_at hl 4 rfl) ?_
  refine lv_iand S.x S.b dX7_notes_63 ?_
  refine lv_if_eq (tgt := 71) S.x S.b dX7_notes_64 rfl (fun cn => ?_) (fun cn => ?_)
  · have hf := if_t cn hf
    refine lv_iconst (v := (0 : Int32)) S.x S.b dX7_notes_71 ki_0 ?_
    exact wX7_notes_72 S x1 x3 x4 s0 (0 : Int32) w _ _ _ hM (lv_sub hl [1, 2, 4, 5, 0] rfl) hf
  · have hf := if_f cn hf
    refine lv_iconst (v := (1 : Int32)) S.x S.b dX7_notes_67 ki_1 ?_
    refine lv_goto (tgt := 72) S.x S.b dX7_notes_68 rfl ?_
    exact wX7_notes_72 S x1 x3 x4 s0 (1 : Int32) w _ _ _ hM (lv_sub hl [1, 2, 4, 5, 0] rfl) hf
set_option maxHeartbeats 4000000 in
theorem wX7_notes_28 {p : Program} {l : Launch} {e : Env} {s : State} {m : MethodId} {args : Array Value} {below : List Frame} {meth : Method} {c : Code} {D : va_G} {T : Nat → ClassId} {A : Nat → Prop} {h : Nat} {ad : Nat → Nat} {wr : MW} (S : gS p s m args meth c cX7_notes 7 (none) RX7 D T) : ∀ (x1 : Int32) (x2 : Int32) (x3 : Int32) (s0 : Int32) (w : MW) (H : Heap) (locs : List Loc) (ls : Array Slot), gM D A s.heap (mmW h ad (T 0) w) H locs → lv_has ls 7 [(0, .ref h), (1, .int x1), (2, .int x2), (3, .int x3)] → gX7_notes_28 x1 x2 x3 s0 w = some wr → W p l e rmX7_notes s m args below meth c H locs 0 0 (MQ below (gQv D T A (mmW h ad (T 0) wr)) args s 0 0 A) (F0 m 28 ls [.int s0]) := by
  intro x1 x2 x3 s0 w H locs ls hM hl hf
  refine g_ist S (x' := s0) rfl hl dX7_notes_28 rfl (lv' := [(4, .int s0), (0, .ref h), (1, .int x1), (2, .int x2), (3, .int x3)]) rfl (fun ls hl => ?_)
  refine lv_aload_n S.x S.b dX7_notes_30 rfl (lv_at hl 1 rfl) ?_
  refine mm_g S hM 15 rfl q1463 rfl dX7_notes_31 ?_
  refine lv_aload_n S.x S.b dX7_notes_34 rfl (lv_at hl 1 rfl) ?_
  refine mm_g S hM 14 rfl q1462 rfl dX7_notes_35 ?_
  obtain ⟨hi, hf⟩ := ck_some hf
  refine mm_ld S hM 8 rfl hi dX7_notes_38 ?_
  refine lv_aload_n S.x S.b dX7_notes_39 rfl (lv_at hl 1 rfl) ?_
  refine mm_g S hM 16 rfl q1464 rfl dX7_notes_40 ?_
  refine lv_aload_n S.x S.b dX7_notes_43 rfl (lv_at hl 1 rfl) ?_
  refine mm_g S hM 14 rfl q1462 rfl dX7_notes_44 ?_
  obtain ⟨hi, hf⟩ := ck_some hf
  refine mm_ld S hM 9 rfl hi dX7_notes_47 ?_
  refine lv_ior S.x S.b dX7_notes_48 ?_
  refine lv_iload_n S.x S.b dX7_notes_49 rfl (lv_at hl 4 rfl) ?_
  refine lv_iand S.x S.b dX7_notes_50 ?_
  refine lv_if_eq (tgt := 58) S.x S.b dX7_notes_51 rfl (fun cn => ?_) (fun cn => ?_)
  · have hf := if_t cn hf
    refine lv_iconst (v := (0 : Int32)) S.x S.b dX7_notes_58 ki_0 ?_
    exact wX7_notes_59 S x1 x2 x3 s0 (0 : Int32) w _ _ _ hM (lv_sub hl [1, 2, 3, 4, 0] rfl) hf
  · have hf := if_f cn hf
    refine lv_iconst (v := (1 : Int32)) S.x S.b dX7_notes_54 ki_1 ?_
    refine lv_goto (tgt := 59) S.x S.b dX7_notes_55 rfl ?_
    exact wX7_notes_59 S x1 x2 x3 s0 (1 : Int32) w _ _ _ hM (lv_sub hl [1, 2, 3, 4, 0] rfl) hf
set_option maxHeartbeats 4000000 in
theorem metX7_notes {l : Launch} {D : va_G} {T : Nat → ClassId} {h : Nat} {ad : Nat → Nat} {wr : MW} {x1 : Int32} {x2 : Int32} {w : MW} (hf : gX7_notes x1 x2 w = some wr) (sz : Nat) : MetV l yX7_notes (ws_ yX7_notes cX7_notes 7 (none)) rmX7_notes D T (mmW h ad (T 0) w) sz [.ref h, .int x1, .int x2] (mmW h ad (T 0) wr) := by
  refine g_entry (Qc := fun A => gQv D T A (mmW h ad (T 0) wr)) (by decide) rfl ?_
  intro p e s m below meth c ls S hM hl
  have hl : lv_has ls 7 [(0, .ref h), (1, .int x1), (2, .int x2)] := hl
  refine lv_iconst (v := (1 : Int32)) S.x S.b dX7_notes_0 ki_1 ?_
  refine lv_aload_n S.x S.b dX7_notes_1 rfl (lv_at hl 0 rfl) ?_
  refine lv_iload_n S.x S.b dX7_notes_2 rfl (lv_at hl 1 rfl) ?_
  obtain ⟨r_2, w_1, hc, hf⟩ := bd2_some hf
  refine mm_ci S hM hl [.int x1] rfl (metX7_letter hc) hdX7_letter q1537 q1539 qs35 q69 q1540 ⟨rfl, rfl⟩ ⟨rfl, rfl⟩ rfl rfl rfl ⟨Nat.zero_le _, Nat.zero_le _⟩ dX7_notes_3 (fun H locs hM => ?_)
  refine lv_bipush (v := (65 : Int32)) S.x S.b dX7_notes_6 kb_65 ?_
  refine lv_isub S.x S.b dX7_notes_8 ?_
  refine lv_ishl S.x S.b dX7_notes_9 ?_
  obtain ⟨x3_3, ex, hf⟩ := lt_some hf
  refine g_istn S (x' := x3_3) ex hl dX7_notes_10 rfl rfl (lv' := [(3, .int x3_3), (0, .ref h), (1, .int x1), (2, .int x2)]) rfl (fun ls hl => ?_)
  refine lv_aload_n S.x S.b dX7_notes_11 rfl (lv_at hl 1 rfl) ?_
  refine lv_iload_n S.x S.b dX7_notes_12 rfl (lv_at hl 2 rfl) ?_
  refine lv_iconst (v := (1 : Int32)) S.x S.b dX7_notes_13 ki_1 ?_
  refine lv_iadd S.x S.b dX7_notes_14 ?_
  obtain ⟨r_5, w_4, hc, hf⟩ := bd2_some hf
  refine mm_ci S hM hl [.int (x1 + (1 : Int32))] rfl (metX7_letter hc) hdX7_letter q1537 q1539 qs35 q69 q1540 ⟨rfl, rfl⟩ ⟨rfl, rfl⟩ rfl rfl rfl ⟨Nat.zero_le _, Nat.zero_le _⟩ dX7_notes_15 (fun H locs hM => ?_)
  refine lv_bipush (v := (43 : Int32)) S.x S.b dX7_notes_18 kb_43 ?_
  refine lv_icmp_ne (tgt := 27) S.x S.b dX7_notes_20 rfl (fun cn => ?_) (fun cn => ?_)
  · have hf := if_f cn hf
    refine lv_iconst (v := (0 : Int32)) S.x S.b dX7_notes_27 ki_0 ?_
    exact wX7_notes_28 S x1 x2 x3_3 (0 : Int32) w_4 _ _ _ hM (lv_sub hl [1, 2, 3, 0] rfl) hf
  · have hf := if_t cn hf
    refine lv_iconst (v := (1 : Int32)) S.x S.b dX7_notes_23 ki_1 ?_
    refine lv_goto (tgt := 28) S.x S.b dX7_notes_24 rfl ?_
    exact wX7_notes_28 S x1 x2 x3_3 (1 : Int32) w_4 _ _ _ hM (lv_sub hl [1, 2, 3, 0] rfl) hf
/-! SequenceBenchModel.pause(I)I -/
theorem hdX7_pause : gHd yX7_pause 1 := by decide +kernel
def gX7_pause (x1 : Int32) (w : MW) : Option (Int32 × MW) :=
  lt (setF w 3 (0 : Int32)) fun w_1 =>
  bd2 (gX7_isStep x1 w_1) fun r_3 w_2 =>
  if r_3 = 0 then (
  bd2 (gX7_fails (1 : Int32) w_2) fun r_5 w_4 =>
  some (r_5, w_4))
  else (
  ck x1 16 <|
  some ((w_2.2 5 x1.toNatClampNeg), w_2))
abbrev rmX7_pause : Room := { frames := 3, cells := 0, slots := 0, locals := 55 }
set_option maxHeartbeats 4000000 in
theorem metX7_pause {l : Launch} {D : va_G} {T : Nat → ClassId} {h : Nat} {ad : Nat → Nat} {rr : Int32} {wr : MW} {x1 : Int32} {w : MW} (hf : gX7_pause x1 w = some (rr, wr)) (sz : Nat) : MetI l yX7_pause (ws_ yX7_pause cX7_pause 2 (some .int)) rmX7_pause D T (mmW h ad (T 0) w) sz [.ref h, .int x1] rr (mmW h ad (T 0) wr) := by
  refine g_entry (Qc := fun A => gQi D T A rr (mmW h ad (T 0) wr)) (by decide) rfl ?_
  intro p e s m below meth c ls S hM hl
  have hl : lv_has ls 2 [(0, .ref h), (1, .int x1)] := hl
  refine lv_aload_n S.x S.b dX7_pause_0 rfl (lv_at hl 0 rfl) ?_
  refine lv_iconst (v := (0 : Int32)) S.x S.b dX7_pause_1 ki_0 ?_
  obtain ⟨w_1, ew, hf⟩ := lt_some hf
  refine mm_p S hM 3 rfl ew q1451 dX7_pause_2 (fun H locs hM => ?_)
  refine lv_aload_n S.x S.b dX7_pause_5 rfl (lv_at hl 0 rfl) ?_
  refine lv_iload_n S.x S.b dX7_pause_6 rfl (lv_at hl 1 rfl) ?_
  obtain ⟨r_3, w_2, hc, hf⟩ := bd2_some hf
  refine mm_ci S hM hl [.int x1] rfl (metX7_isStep hc) hdX7_isStep q1587 q1589 qs43 q69 q1590 ⟨rfl, rfl⟩ ⟨rfl, rfl⟩ rfl rfl rfl ⟨Nat.zero_le _, Nat.zero_le _⟩ dX7_pause_7 (fun H locs hM => ?_)
  refine lv_if_eq (tgt := 22) S.x S.b dX7_pause_10 rfl (fun cn => ?_) (fun cn => ?_)
  · have hf := if_t cn hf
    refine lv_aload_n S.x S.b dX7_pause_22 rfl (lv_at hl 0 rfl) ?_
    refine lv_iconst (v := (1 : Int32)) S.x S.b dX7_pause_23 ki_1 ?_
    obtain ⟨r_5, w_4, hc, hf⟩ := bd2_some hf
    refine mm_ci S hM hl [.int (1 : Int32)] rfl (metX7_fails hc) hdX7_fails q1517 q1519 qs32 q69 q1520 ⟨rfl, rfl⟩ ⟨rfl, rfl⟩ rfl rfl rfl ⟨Nat.zero_le _, Nat.zero_le _⟩ dX7_pause_24 (fun H locs hM => ?_)
    obtain ⟨rfl, rfl⟩ := rt2 hf
    exact g_iret S hM rfl dX7_pause_27
  · have hf := if_f cn hf
    refine lv_aload_n S.x S.b dX7_pause_13 rfl (lv_at hl 0 rfl) ?_
    refine mm_g S hM 7 rfl q1455 rfl dX7_pause_14 ?_
    refine lv_iload_n S.x S.b dX7_pause_17 rfl (lv_at hl 1 rfl) ?_
    obtain ⟨hi, hf⟩ := ck_some hf
    refine mm_ld S hM 5 rfl hi dX7_pause_18 ?_
    refine lv_goto (tgt := 27) S.x S.b dX7_pause_19 rfl ?_
    obtain ⟨rfl, rfl⟩ := rt2 hf
    exact g_iret S hM rfl dX7_pause_27
/-! SequenceBenchModel.position(I)I -/
theorem hdX7_position : gHd yX7_position 1 := by decide +kernel
def gX7_position (x1 : Int32) (w : MW) : Option (Int32 × MW) :=
  bd2 (gX7_ofCylinder x1 (20 : Int32) w) fun r_2 w_1 =>
  some (r_2, w_1)
abbrev rmX7_position : Room := { frames := 3, cells := 0, slots := 0, locals := 56 }
set_option maxHeartbeats 4000000 in
theorem metX7_position {l : Launch} {D : va_G} {T : Nat → ClassId} {h : Nat} {ad : Nat → Nat} {rr : Int32} {wr : MW} {x1 : Int32} {w : MW} (hf : gX7_position x1 w = some (rr, wr)) (sz : Nat) : MetI l yX7_position (ws_ yX7_position cX7_position 2 (some .int)) rmX7_position D T (mmW h ad (T 0) w) sz [.ref h, .int x1] rr (mmW h ad (T 0) wr) := by
  refine g_entry (Qc := fun A => gQi D T A rr (mmW h ad (T 0) wr)) (by decide) rfl ?_
  intro p e s m below meth c ls S hM hl
  have hl : lv_has ls 2 [(0, .ref h), (1, .int x1)] := hl
  refine lv_aload_n S.x S.b dX7_position_0 rfl (lv_at hl 0 rfl) ?_
  refine lv_iload_n S.x S.b dX7_position_1 rfl (lv_at hl 1 rfl) ?_
  refine lv_bipush (v := (20 : Int32)) S.x S.b dX7_position_2 kb_20 ?_
  obtain ⟨r_2, w_1, hc, hf⟩ := bd2_some hf
  refine mm_ci S hM hl [.int x1, .int (20 : Int32)] rfl (metX7_ofCylinder hc) hdX7_ofCylinder q1703 q1705 qs56 q69 q1706 ⟨rfl, rfl⟩ ⟨rfl, rfl⟩ rfl rfl rfl ⟨Nat.zero_le _, Nat.zero_le _⟩ dX7_position_4 (fun H locs hM => ?_)
  obtain ⟨rfl, rfl⟩ := rt2 hf
  exact g_iret S hM rfl dX7_position_7
/-! SequenceBenchModel.quiet()I -/
theorem hdX7_quiet : gHd yX7_quiet 0 := by decide +kernel
def gX7_quiet (w : MW) : Option (Int32 × MW) :=
  lt (setF w 3 (0 : Int32)) fun w_1 =>
  ck (10 : Int32) 140 <|
  some ((w_1.2 0 (10 : Int32).toNatClampNeg), w_1)
abbrev rmX7_quiet : Room := { frames := 1, cells := 0, slots := 0, locals := 12 }
set_option maxHeartbeats 4000000 in
theorem metX7_quiet {l : Launch} {D : va_G} {T : Nat → ClassId} {h : Nat} {ad : Nat → Nat} {rr : Int32} {wr : MW} {w : MW} (hf : gX7_quiet w = some (rr, wr)) (sz : Nat) : MetI l yX7_quiet (ws_ yX7_quiet cX7_quiet 1 (some .int)) rmX7_quiet D T (mmW h ad (T 0) w) sz [.ref h] rr (mmW h ad (T 0) wr) := by
  refine g_entry (Qc := fun A => gQi D T A rr (mmW h ad (T 0) wr)) (by decide) rfl ?_
  intro p e s m below meth c ls S hM hl
  have hl : lv_has ls 1 [(0, .ref h)] := hl
  refine lv_aload_n S.x S.b dX7_quiet_0 rfl (lv_at hl 0 rfl) ?_
  refine lv_iconst (v := (0 : Int32)) S.x S.b dX7_quiet_1 ki_0 ?_
  obtain ⟨w_1, ew, hf⟩ := lt_some hf
  refine mm_p S hM 3 rfl ew q1451 dX7_quiet_2 (fun H locs hM => ?_)
  refine lv_aload_n S.x S.b dX7_quiet_5 rfl (lv_at hl 0 rfl) ?_
  refine mm_g S hM 0 rfl q1448 rfl dX7_quiet_6 ?_
  refine lv_bipush (v := (10 : Int32)) S.x S.b dX7_quiet_9 kb_10 ?_
  obtain ⟨hi, hf⟩ := ck_some hf
  refine mm_ld S hM 0 rfl hi dX7_quiet_11 ?_
  obtain ⟨rfl, rfl⟩ := rt2 hf
  exact g_iret S hM rfl dX7_quiet_12
/-! SequenceBenchModel.readsPause(I)I -/
theorem hdX7_readsPause : gHd yX7_readsPause 1 := by decide +kernel
def gX7_readsPause_50 (x1 : Int32) (x2 : Int32) (x3 : Int32) (w : MW) : Option (Int32 × MW) :=
  ck (w.1 14) 17 <|
  lt (setA w 10 (w.1 14).toNatClampNeg x2) fun w_13 =>
  bd (gX7_in x2 (1 : Int32) (60 : Int32)) fun r_14 =>
  if r_14 = 0 then (
  some (((-1 : Int32) - x1), w_13))
  else (
  some (x3, w_13))
def gX7_readsPause (x1 : Int32) (w : MW) : Option (Int32 × MW) :=
  bd2 (gX7_isDigit x1 w) fun r_2 w_1 =>
  if r_2 = 0 then (
  some (((-1 : Int32) - x1), w_1))
  else (
  bd2 (gX7_letter x1 w_1) fun r_4 w_3 =>
  lt ((r_4 - (48 : Int32))) fun x2_5 =>
  lt ((x1 + (1 : Int32))) fun x3_6 =>
  bd2 (gX7_isDigit x3_6 w_3) fun r_8 w_7 =>
  if r_8 = 0 then (
  gX7_readsPause_50 x1 x2_5 x3_6 w_7)
  else (
  bd2 (gX7_letter x3_6 w_7) fun r_10 w_9 =>
  lt (((((10 : Int32) * x2_5) + r_10) - (48 : Int32))) fun x2_11 =>
  lt (x3_6 + (1 : Int32)) fun x3_12 =>
  gX7_readsPause_50 x1 x2_11 x3_12 w_9))
abbrev rmX7_readsPause : Room := { frames := 3, cells := 0, slots := 0, locals := 55 }
set_option maxHeartbeats 4000000 in
theorem wX7_readsPause_50 {p : Program} {l : Launch} {e : Env} {s : State} {m : MethodId} {args : Array Value} {below : List Frame} {meth : Method} {c : Code} {D : va_G} {T : Nat → ClassId} {A : Nat → Prop} {h : Nat} {ad : Nat → Nat} {rr : Int32} {wr : MW} (S : gS p s m args meth c cX7_readsPause 4 (some .int) RX7 D T) : ∀ (x1 : Int32) (x2 : Int32) (x3 : Int32) (w : MW) (H : Heap) (locs : List Loc) (ls : Array Slot), gM D A s.heap (mmW h ad (T 0) w) H locs → lv_has ls 4 [(0, .ref h), (1, .int x1), (2, .int x2), (3, .int x3)] → gX7_readsPause_50 x1 x2 x3 w = some (rr, wr) → W p l e rmX7_readsPause s m args below meth c H locs 0 0 (MQ below (gQi D T A rr (mmW h ad (T 0) wr)) args s 0 0 A) (F0 m 50 ls []) := by
  intro x1 x2 x3 w H locs ls hM hl hf
  refine lv_aload_n S.x S.b dX7_readsPause_50 rfl (lv_at hl 0 rfl) ?_
  refine mm_g S hM 17 rfl q1465 rfl dX7_readsPause_51 ?_
  refine lv_aload_n S.x S.b dX7_readsPause_54 rfl (lv_at hl 0 rfl) ?_
  refine mm_g S hM 14 rfl q1462 rfl dX7_readsPause_55 ?_
  refine lv_iload_n S.x S.b dX7_readsPause_58 rfl (lv_at hl 2 rfl) ?_
  obtain ⟨hi, hf⟩ := ck_some hf
  obtain ⟨w_13, ew, hf⟩ := lt_some hf
  refine mm_st S hM 10 rfl hi ew dX7_readsPause_59 (fun H locs hM => ?_)
  refine lv_iload_n S.x S.b dX7_readsPause_60 rfl (lv_at hl 2 rfl) ?_
  refine lv_iconst (v := (1 : Int32)) S.x S.b dX7_readsPause_61 ki_1 ?_
  refine lv_bipush (v := (60 : Int32)) S.x S.b dX7_readsPause_62 kb_60 ?_
  obtain ⟨r_14, hc, hf⟩ := bd_some hf
  refine gg_si S hM hl [.int x2, .int (1 : Int32), .int (60 : Int32)] (metX7_in hc) hdX7_in q1437 q1438 q69 q1439 ⟨rfl, rfl⟩ ⟨rfl, rfl⟩ rfl rfl rfl ⟨Nat.zero_le _, Nat.zero_le _⟩ dX7_readsPause_64 (fun H locs hM => ?_)
  refine lv_if_eq (tgt := 74) S.x S.b dX7_readsPause_67 rfl (fun cn => ?_) (fun cn => ?_)
  · have hf := if_t cn hf
    refine lv_iconst (v := (-1 : Int32)) S.x S.b dX7_readsPause_74 ki_m1 ?_
    refine lv_iload_n S.x S.b dX7_readsPause_75 rfl (lv_at hl 1 rfl) ?_
    refine lv_isub S.x S.b dX7_readsPause_76 ?_
    obtain ⟨rfl, rfl⟩ := rt2 hf
    exact g_iret S hM rfl dX7_readsPause_77
  · have hf := if_f cn hf
    refine lv_iload_n S.x S.b dX7_readsPause_70 rfl (lv_at hl 3 rfl) ?_
    refine lv_goto (tgt := 77) S.x S.b dX7_readsPause_71 rfl ?_
    obtain ⟨rfl, rfl⟩ := rt2 hf
    exact g_iret S hM rfl dX7_readsPause_77
set_option maxHeartbeats 4000000 in
theorem metX7_readsPause {l : Launch} {D : va_G} {T : Nat → ClassId} {h : Nat} {ad : Nat → Nat} {rr : Int32} {wr : MW} {x1 : Int32} {w : MW} (hf : gX7_readsPause x1 w = some (rr, wr)) (sz : Nat) : MetI l yX7_readsPause (ws_ yX7_readsPause cX7_readsPause 4 (some .int)) rmX7_readsPause D T (mmW h ad (T 0) w) sz [.ref h, .int x1] rr (mmW h ad (T 0) wr) := by
  refine g_entry (Qc := fun A => gQi D T A rr (mmW h ad (T 0) wr)) (by decide) rfl ?_
  intro p e s m below meth c ls S hM hl
  have hl : lv_has ls 4 [(0, .ref h), (1, .int x1)] := hl
  refine lv_aload_n S.x S.b dX7_readsPause_0 rfl (lv_at hl 0 rfl) ?_
  refine lv_iload_n S.x S.b dX7_readsPause_1 rfl (lv_at hl 1 rfl) ?_
  obtain ⟨r_2, w_1, hc, hf⟩ := bd2_some hf
  refine mm_ci S hM hl [.int x1] rfl (metX7_isDigit hc) hdX7_isDigit q1545 q1547 qs37 q69 q1548 ⟨rfl, rfl⟩ ⟨rfl, rfl⟩ rfl rfl rfl ⟨Nat.zero_le _, Nat.zero_le _⟩ dX7_readsPause_2 (fun H locs hM => ?_)
  refine lv_if_ne (tgt := 12) S.x S.b dX7_readsPause_5 rfl (fun cn => ?_) (fun cn => ?_)
  · have hf := if_f cn hf
    refine lv_aload_n S.x S.b dX7_readsPause_12 rfl (lv_at hl 0 rfl) ?_
    refine lv_iload_n S.x S.b dX7_readsPause_13 rfl (lv_at hl 1 rfl) ?_
    obtain ⟨r_4, w_3, hc, hf⟩ := bd2_some hf
    refine mm_ci S hM hl [.int x1] rfl (metX7_letter hc) hdX7_letter q1537 q1539 qs35 q69 q1540 ⟨rfl, rfl⟩ ⟨rfl, rfl⟩ rfl rfl rfl ⟨Nat.zero_le _, Nat.zero_le _⟩ dX7_readsPause_14 (fun H locs hM => ?_)
    refine lv_bipush (v := (48 : Int32)) S.x S.b dX7_readsPause_17 kb_48 ?_
    refine lv_isub S.x S.b dX7_readsPause_19 ?_
    obtain ⟨x2_5, ex, hf⟩ := lt_some hf
    refine g_istn S (x' := x2_5) ex hl dX7_readsPause_20 rfl rfl (lv' := [(2, .int x2_5), (0, .ref h), (1, .int x1)]) rfl (fun ls hl => ?_)
    refine lv_iload_n S.x S.b dX7_readsPause_21 rfl (lv_at hl 2 rfl) ?_
    refine lv_iconst (v := (1 : Int32)) S.x S.b dX7_readsPause_22 ki_1 ?_
    refine lv_iadd S.x S.b dX7_readsPause_23 ?_
    obtain ⟨x3_6, ex, hf⟩ := lt_some hf
    refine g_istn S (x' := x3_6) ex hl dX7_readsPause_24 rfl rfl (lv' := [(3, .int x3_6), (2, .int x2_5), (0, .ref h), (1, .int x1)]) rfl (fun ls hl => ?_)
    refine lv_aload_n S.x S.b dX7_readsPause_25 rfl (lv_at hl 2 rfl) ?_
    refine lv_iload_n S.x S.b dX7_readsPause_26 rfl (lv_at hl 0 rfl) ?_
    obtain ⟨r_8, w_7, hc, hf⟩ := bd2_some hf
    refine mm_ci S hM hl [.int x3_6] rfl (metX7_isDigit hc) hdX7_isDigit q1545 q1547 qs37 q69 q1548 ⟨rfl, rfl⟩ ⟨rfl, rfl⟩ rfl rfl rfl ⟨Nat.zero_le _, Nat.zero_le _⟩ dX7_readsPause_27 (fun H locs hM => ?_)
    refine lv_if_eq (tgt := 50) S.x S.b dX7_readsPause_30 rfl (fun cn => ?_) (fun cn => ?_)
    · have hf := if_t cn hf
      exact wX7_readsPause_50 S x1 x2_5 x3_6 w_7 _ _ _ hM (lv_sub hl [2, 3, 1, 0] rfl) hf
    · have hf := if_f cn hf
      refine lv_bipush (v := (10 : Int32)) S.x S.b dX7_readsPause_33 kb_10 ?_
      refine lv_iload_n S.x S.b dX7_readsPause_35 rfl (lv_at hl 1 rfl) ?_
      refine lv_imul S.x S.b dX7_readsPause_36 ?_
      refine lv_aload_n S.x S.b dX7_readsPause_37 rfl (lv_at hl 2 rfl) ?_
      refine lv_iload_n S.x S.b dX7_readsPause_38 rfl (lv_at hl 0 rfl) ?_
      obtain ⟨r_10, w_9, hc, hf⟩ := bd2_some hf
      refine mm_ci S hM hl [.int x3_6] rfl (metX7_letter hc) hdX7_letter q1537 q1539 qs35 q69 q1540 ⟨rfl, rfl⟩ ⟨rfl, rfl⟩ rfl rfl rfl ⟨Nat.zero_le _, Nat.zero_le _⟩ dX7_readsPause_39 (fun H locs hM => ?_)
      refine lv_iadd S.x S.b dX7_readsPause_42 ?_
      refine lv_bipush (v := (48 : Int32)) S.x S.b dX7_readsPause_43 kb_48 ?_
      refine lv_isub S.x S.b dX7_readsPause_45 ?_
      obtain ⟨x2_11, ex, hf⟩ := lt_some hf
      refine g_istn S (x' := x2_11) ex hl dX7_readsPause_46 rfl rfl (lv' := [(2, .int x2_11), (3, .int x3_6), (0, .ref h), (1, .int x1)]) rfl (fun ls hl => ?_)
      obtain ⟨x3_12, ex, hf⟩ := lt_some hf
      refine g_inc S (x' := x3_12) (d := (1 : Int32)) hl (k := 1) rfl ki_1 ex dX7_readsPause_47 rfl (lv' := [(3, .int x3_12), (2, .int x2_11), (0, .ref h), (1, .int x1)]) rfl (fun ls hl => ?_)
      exact wX7_readsPause_50 S x1 x2_11 x3_12 w_9 _ _ _ hM (lv_sub hl [2, 3, 1, 0] rfl) hf
  · have hf := if_t cn hf
    refine lv_iconst (v := (-1 : Int32)) S.x S.b dX7_readsPause_8 ki_m1 ?_
    refine lv_iload_n S.x S.b dX7_readsPause_9 rfl (lv_at hl 1 rfl) ?_
    refine lv_isub S.x S.b dX7_readsPause_10 ?_
    obtain ⟨rfl, rfl⟩ := rt2 hf
    exact g_iret S hM rfl dX7_readsPause_11
