set_option maxRecDepth 100000
/-! SequenceBenchModel.readsStep(I)I -/
theorem hdX7_readsStep : gHd yX7_readsStep 1 := by decide +kernel
def gX7_readsStep_96 (N : Nat) : Nat → Int32 → Int32 → Int32 → MW → Option (Int32 × MW)
  | 0, _, _, _, _ => none
  | n + 1, x2, x3, x4, w =>
    bd2 (gX7_isMove x3 w) fun r_18 w_17 =>
    if r_18 = 0 then (
    if x4 < (2 : Int32) then (
    bd2 (gX7_failsAt x3 w_17) fun r_20 w_19 =>
    some (((-1 : Int32) - r_20), w_19))
    else (
    bd2 (gX7_letter x3 w_17) fun r_22 w_21 =>
    if r_22 = (41 : Int32) then (
    some ((x3 + (1 : Int32)), w_21))
    else (
    bd2 (gX7_failsAt x3 w_21) fun r_24 w_23 =>
    some (((-1 : Int32) - r_24), w_23))))
    else (
    bd (gX7_notes x3 x2 w_17) fun w_25 =>
    lt (x4 + (1 : Int32)) fun x4_26 =>
    lt (x3 + (2 : Int32)) fun x3_27 =>
    gX7_readsStep_96 N n x2 x3_27 x4_26 w_25)
def gX7_readsStep (N : Nat) (x1 : Int32) (w : MW) : Option (Int32 × MW) :=
  lt ((w.1 18)) fun x2_1 =>
  ck (w.1 14) 17 <|
  lt (setA w 8 (w.1 14).toNatClampNeg (0 : Int32)) fun w_2 =>
  ck (w_2.1 14) 17 <|
  lt (setA w_2 9 (w_2.1 14).toNatClampNeg (0 : Int32)) fun w_3 =>
  ck (w_3.1 14) 17 <|
  lt (setA w_3 10 (w_3.1 14).toNatClampNeg (0 : Int32)) fun w_4 =>
  bd2 (gX7_letter x1 w_4) fun r_6 w_5 =>
  if r_6 = (84 : Int32) then (
  bd2 (gX7_readsPause (x1 + (1 : Int32)) w_5) fun r_16 w_15 =>
  some (r_16, w_15))
  else (
  bd2 (gX7_letter x1 w_5) fun r_8 w_7 =>
  if r_8 = (40 : Int32) then (
  lt ((x1 + (1 : Int32))) fun x3_9 =>
  gX7_readsStep_96 N N x2_1 x3_9 (0 : Int32) w_7)
  else (
  bd2 (gX7_isMove x1 w_7) fun r_11 w_10 =>
  if r_11 = 0 then (
  bd2 (gX7_failsAt x1 w_10) fun r_14 w_13 =>
  some (((-1 : Int32) - r_14), w_13))
  else (
  bd (gX7_notes x1 x2_1 w_10) fun w_12 =>
  some ((x1 + (2 : Int32)), w_12))))
abbrev rmX7_readsStep : Room := { frames := 4, cells := 0, slots := 0, locals := 78 }
set_option maxHeartbeats 4000000 in
theorem wX7_readsStep_96 {p : Program} {l : Launch} {e : Env} {s : State} {m : MethodId} {args : Array Value} {below : List Frame} {meth : Method} {c : Code} {D : va_G} {T : Nat → ClassId} {A : Nat → Prop} {h : Nat} {ad : Nat → Nat} {rr : Int32} {wr : MW} {N : Nat} (S : gS p s m args meth c cX7_readsStep 5 (some .int) RX7 D T) : ∀ (n : Nat) (x2 : Int32) (x3 : Int32) (x4 : Int32) (w : MW) (H : Heap) (locs : List Loc) (ls : Array Slot), gM D A s.heap (mmW h ad (T 0) w) H locs → lv_has ls 5 [(0, .ref h), (2, .int x2), (3, .int x3), (4, .int x4)] → gX7_readsStep_96 N n x2 x3 x4 w = some (rr, wr) → W p l e rmX7_readsStep s m args below meth c H locs 0 0 (MQ below (gQi D T A rr (mmW h ad (T 0) wr)) args s 0 0 A) (F0 m 96 ls []) := by
  intro n
  induction n with
  | zero =>
    intro x2 x3 x4 w H locs ls hM hl hf
    cases hf
  | succ n ih =>
    intro x2 x3 x4 w H locs ls hM hl hf
    refine lv_aload_n S.x S.b dX7_readsStep_96 rfl (lv_at hl 0 rfl) ?_
    refine lv_iload_n S.x S.b dX7_readsStep_97 rfl (lv_at hl 2 rfl) ?_
    obtain ⟨r_18, w_17, hc, hf⟩ := bd2_some hf
    refine mm_ci S hM hl [.int x3] rfl (metX7_isMove hc) hdX7_isMove q1549 q1551 qs38 q69 q1552 ⟨rfl, rfl⟩ ⟨rfl, rfl⟩ rfl rfl rfl ⟨Nat.zero_le _, Nat.zero_le _⟩ dX7_readsStep_98 (fun H locs hM => ?_)
    refine lv_if_eq (tgt := 119) S.x S.b dX7_readsStep_101 rfl (fun cn => ?_) (fun cn => ?_)
    · have hf := if_t cn hf
      refine lv_iload S.x S.b dX7_readsStep_119 (lv_at hl 3 rfl) ?_
      refine lv_iconst (v := (2 : Int32)) S.x S.b dX7_readsStep_121 ki_2 ?_
      refine lv_icmp_lt (tgt := 141) S.x S.b dX7_readsStep_122 rfl (fun cn => ?_) (fun cn => ?_)
      · have hf := if_t cn hf
        refine lv_iconst (v := (-1 : Int32)) S.x S.b dX7_readsStep_141 ki_m1 ?_
        refine lv_aload_n S.x S.b dX7_readsStep_142 rfl (lv_at hl 0 rfl) ?_
        refine lv_iload_n S.x S.b dX7_readsStep_143 rfl (lv_at hl 2 rfl) ?_
        obtain ⟨r_20, w_19, hc, hf⟩ := bd2_some hf
        refine mm_ci S hM hl [.int x3] rfl (metX7_failsAt hc) hdX7_failsAt q1553 q1555 qs39 q69 q1556 ⟨rfl, rfl⟩ ⟨rfl, rfl⟩ rfl rfl rfl ⟨Nat.zero_le _, Nat.zero_le _⟩ dX7_readsStep_144 (fun H locs hM => ?_)
        refine lv_isub S.x S.b dX7_readsStep_147 ?_
        obtain ⟨rfl, rfl⟩ := rt2 hf
        exact g_iret S hM rfl dX7_readsStep_148
      · have hf := if_f cn hf
        refine lv_aload_n S.x S.b dX7_readsStep_125 rfl (lv_at hl 0 rfl) ?_
        refine lv_iload_n S.x S.b dX7_readsStep_126 rfl (lv_at hl 2 rfl) ?_
        obtain ⟨r_22, w_21, hc, hf⟩ := bd2_some hf
        refine mm_ci S hM hl [.int x3] rfl (metX7_letter hc) hdX7_letter q1537 q1539 qs35 q69 q1540 ⟨rfl, rfl⟩ ⟨rfl, rfl⟩ rfl rfl rfl ⟨Nat.zero_le _, Nat.zero_le _⟩ dX7_readsStep_127 (fun H locs hM => ?_)
        refine lv_bipush (v := (41 : Int32)) S.x S.b dX7_readsStep_130 kb_41 ?_
        refine lv_icmp_ne (tgt := 141) S.x S.b dX7_readsStep_132 rfl (fun cn => ?_) (fun cn => ?_)
        · have hf := if_f cn hf
          refine lv_iconst (v := (-1 : Int32)) S.x S.b dX7_readsStep_141 ki_m1 ?_
          refine lv_aload_n S.x S.b dX7_readsStep_142 rfl (lv_at hl 0 rfl) ?_
          refine lv_iload_n S.x S.b dX7_readsStep_143 rfl (lv_at hl 2 rfl) ?_
          obtain ⟨r_24, w_23, hc, hf⟩ := bd2_some hf
          refine mm_ci S hM hl [.int x3] rfl (metX7_failsAt hc) hdX7_failsAt q1553 q1555 qs39 q69 q1556 ⟨rfl, rfl⟩ ⟨rfl, rfl⟩ rfl rfl rfl ⟨Nat.zero_le _, Nat.zero_le _⟩ dX7_readsStep_144 (fun H locs hM => ?_)
          refine lv_isub S.x S.b dX7_readsStep_147 ?_
          obtain ⟨rfl, rfl⟩ := rt2 hf
          exact g_iret S hM rfl dX7_readsStep_148
        · have hf := if_t cn hf
          refine lv_iload_n S.x S.b dX7_readsStep_135 rfl (lv_at hl 2 rfl) ?_
          refine lv_iconst (v := (1 : Int32)) S.x S.b dX7_readsStep_136 ki_1 ?_
          refine lv_iadd S.x S.b dX7_readsStep_137 ?_
          refine lv_goto (tgt := 148) S.x S.b dX7_readsStep_138 rfl ?_
          obtain ⟨rfl, rfl⟩ := rt2 hf
          exact g_iret S hM rfl dX7_readsStep_148
    · have hf := if_f cn hf
      refine lv_aload_n S.x S.b dX7_readsStep_104 rfl (lv_at hl 0 rfl) ?_
      refine lv_iload_n S.x S.b dX7_readsStep_105 rfl (lv_at hl 2 rfl) ?_
      refine lv_iload_n S.x S.b dX7_readsStep_106 rfl (lv_at hl 1 rfl) ?_
      obtain ⟨w_25, hc, hf⟩ := bd_some hf
      refine mm_cv S hM hl [.int x3, .int x2] rfl (metX7_notes hc) hdX7_notes q1557 q1559 qs40 q69 q1560 ⟨rfl, rfl⟩ ⟨rfl, rfl⟩ rfl rfl rfl ⟨Nat.zero_le _, Nat.zero_le _⟩ dX7_readsStep_107 (fun H locs hM => ?_)
      obtain ⟨x4_26, ex, hf⟩ := lt_some hf
      refine g_inc S (x' := x4_26) (d := (1 : Int32)) hl (k := 3) rfl ki_1 ex dX7_readsStep_110 rfl (lv' := [(4, .int x4_26), (0, .ref h), (2, .int x2), (3, .int x3)]) rfl (fun ls hl => ?_)
      obtain ⟨x3_27, ex, hf⟩ := lt_some hf
      refine g_inc S (x' := x3_27) (d := (2 : Int32)) hl (k := 3) rfl ki_2 ex dX7_readsStep_113 rfl (lv' := [(3, .int x3_27), (4, .int x4_26), (0, .ref h), (2, .int x2)]) rfl (fun ls hl => ?_)
      refine lv_goto (tgt := 96) S.x S.b dX7_readsStep_116 rfl ?_
      exact ih x2 x3_27 x4_26 w_25 _ _ _ hM (lv_sub hl [2, 3, 0, 1] rfl) hf
set_option maxHeartbeats 4000000 in
theorem metX7_readsStep {l : Launch} {D : va_G} {T : Nat → ClassId} {h : Nat} {ad : Nat → Nat} {rr : Int32} {wr : MW} {N : Nat} {x1 : Int32} {w : MW} (hf : gX7_readsStep N x1 w = some (rr, wr)) (sz : Nat) : MetI l yX7_readsStep (ws_ yX7_readsStep cX7_readsStep 5 (some .int)) rmX7_readsStep D T (mmW h ad (T 0) w) sz [.ref h, .int x1] rr (mmW h ad (T 0) wr) := by
  refine g_entry (Qc := fun A => gQi D T A rr (mmW h ad (T 0) wr)) (by decide) rfl ?_
  intro p e s m below meth c ls S hM hl
  have hl : lv_has ls 5 [(0, .ref h), (1, .int x1)] := hl
  refine lv_aload_n S.x S.b dX7_readsStep_0 rfl (lv_at hl 0 rfl) ?_
  refine mm_g S hM 18 rfl q1466 rfl dX7_readsStep_1 ?_
  obtain ⟨x2_1, ex, hf⟩ := lt_some hf
  refine g_istn S (x' := x2_1) ex hl dX7_readsStep_4 rfl rfl (lv' := [(2, .int x2_1), (0, .ref h), (1, .int x1)]) rfl (fun ls hl => ?_)
  refine lv_aload_n S.x S.b dX7_readsStep_5 rfl (lv_at hl 1 rfl) ?_
  refine mm_g S hM 15 rfl q1463 rfl dX7_readsStep_6 ?_
  refine lv_aload_n S.x S.b dX7_readsStep_9 rfl (lv_at hl 1 rfl) ?_
  refine mm_g S hM 14 rfl q1462 rfl dX7_readsStep_10 ?_
  refine lv_iconst (v := (0 : Int32)) S.x S.b dX7_readsStep_13 ki_0 ?_
  obtain ⟨hi, hf⟩ := ck_some hf
  obtain ⟨w_2, ew, hf⟩ := lt_some hf
  refine mm_st S hM 8 rfl hi ew dX7_readsStep_14 (fun H locs hM => ?_)
  refine lv_aload_n S.x S.b dX7_readsStep_15 rfl (lv_at hl 1 rfl) ?_
  refine mm_g S hM 16 rfl q1464 rfl dX7_readsStep_16 ?_
  refine lv_aload_n S.x S.b dX7_readsStep_19 rfl (lv_at hl 1 rfl) ?_
  refine mm_g S hM 14 rfl q1462 rfl dX7_readsStep_20 ?_
  refine lv_iconst (v := (0 : Int32)) S.x S.b dX7_readsStep_23 ki_0 ?_
  obtain ⟨hi, hf⟩ := ck_some hf
  obtain ⟨w_3, ew, hf⟩ := lt_some hf
  refine mm_st S hM 9 rfl hi ew dX7_readsStep_24 (fun H locs hM => ?_)
  refine lv_aload_n S.x S.b dX7_readsStep_25 rfl (lv_at hl 1 rfl) ?_
  refine mm_g S hM 17 rfl q1465 rfl dX7_readsStep_26 ?_
  refine lv_aload_n S.x S.b dX7_readsStep_29 rfl (lv_at hl 1 rfl) ?_
  refine mm_g S hM 14 rfl q1462 rfl dX7_readsStep_30 ?_
  refine lv_iconst (v := (0 : Int32)) S.x S.b dX7_readsStep_33 ki_0 ?_
  obtain ⟨hi, hf⟩ := ck_some hf
  obtain ⟨w_4, ew, hf⟩ := lt_some hf
  refine mm_st S hM 10 rfl hi ew dX7_readsStep_34 (fun H locs hM => ?_)
  refine lv_aload_n S.x S.b dX7_readsStep_35 rfl (lv_at hl 1 rfl) ?_
  refine lv_iload_n S.x S.b dX7_readsStep_36 rfl (lv_at hl 2 rfl) ?_
  obtain ⟨r_6, w_5, hc, hf⟩ := bd2_some hf
  refine mm_ci S hM hl [.int x1] rfl (metX7_letter hc) hdX7_letter q1537 q1539 qs35 q69 q1540 ⟨rfl, rfl⟩ ⟨rfl, rfl⟩ rfl rfl rfl ⟨Nat.zero_le _, Nat.zero_le _⟩ dX7_readsStep_37 (fun H locs hM => ?_)
  refine lv_bipush (v := (84 : Int32)) S.x S.b dX7_readsStep_40 kb_84 ?_
  refine lv_icmp_ne (tgt := 53) S.x S.b dX7_readsStep_42 rfl (fun cn => ?_) (fun cn => ?_)
  · have hf := if_f cn hf
    refine lv_aload_n S.x S.b dX7_readsStep_53 rfl (lv_at hl 1 rfl) ?_
    refine lv_iload_n S.x S.b dX7_readsStep_54 rfl (lv_at hl 2 rfl) ?_
    obtain ⟨r_8, w_7, hc, hf⟩ := bd2_some hf
    refine mm_ci S hM hl [.int x1] rfl (metX7_letter hc) hdX7_letter q1537 q1539 qs35 q69 q1540 ⟨rfl, rfl⟩ ⟨rfl, rfl⟩ rfl rfl rfl ⟨Nat.zero_le _, Nat.zero_le _⟩ dX7_readsStep_55 (fun H locs hM => ?_)
    refine lv_bipush (v := (40 : Int32)) S.x S.b dX7_readsStep_58 kb_40 ?_
    refine lv_icmp_eq (tgt := 89) S.x S.b dX7_readsStep_60 rfl (fun cn => ?_) (fun cn => ?_)
    · have hf := if_t cn hf
      refine lv_iload_n S.x S.b dX7_readsStep_89 rfl (lv_at hl 2 rfl) ?_
      refine lv_iconst (v := (1 : Int32)) S.x S.b dX7_readsStep_90 ki_1 ?_
      refine lv_iadd S.x S.b dX7_readsStep_91 ?_
      obtain ⟨x3_9, ex, hf⟩ := lt_some hf
      refine g_istn S (x' := x3_9) ex hl dX7_readsStep_92 rfl rfl (lv' := [(3, .int x3_9), (2, .int x2_1), (0, .ref h), (1, .int x1)]) rfl (fun ls hl => ?_)
      refine lv_iconst (v := (0 : Int32)) S.x S.b dX7_readsStep_93 ki_0 ?_
      refine g_ist S (x' := (0 : Int32)) rfl hl dX7_readsStep_94 rfl (lv' := [(4, .int (0 : Int32)), (3, .int x3_9), (2, .int x2_1), (0, .ref h), (1, .int x1)]) rfl (fun ls hl => ?_)
      exact wX7_readsStep_96 S N x2_1 x3_9 (0 : Int32) w_7 _ _ _ hM (lv_sub hl [3, 2, 1, 0] rfl) hf
    · have hf := if_f cn hf
      refine lv_aload_n S.x S.b dX7_readsStep_63 rfl (lv_at hl 1 rfl) ?_
      refine lv_iload_n S.x S.b dX7_readsStep_64 rfl (lv_at hl 2 rfl) ?_
      obtain ⟨r_11, w_10, hc, hf⟩ := bd2_some hf
      refine mm_ci S hM hl [.int x1] rfl (metX7_isMove hc) hdX7_isMove q1549 q1551 qs38 q69 q1552 ⟨rfl, rfl⟩ ⟨rfl, rfl⟩ rfl rfl rfl ⟨Nat.zero_le _, Nat.zero_le _⟩ dX7_readsStep_65 (fun H locs hM => ?_)
      refine lv_if_ne (tgt := 79) S.x S.b dX7_readsStep_68 rfl (fun cn => ?_) (fun cn => ?_)
      · have hf := if_f cn hf
        refine lv_aload_n S.x S.b dX7_readsStep_79 rfl (lv_at hl 1 rfl) ?_
        refine lv_iload_n S.x S.b dX7_readsStep_80 rfl (lv_at hl 2 rfl) ?_
        refine lv_iload_n S.x S.b dX7_readsStep_81 rfl (lv_at hl 0 rfl) ?_
        obtain ⟨w_12, hc, hf⟩ := bd_some hf
        refine mm_cv S hM hl [.int x1, .int x2_1] rfl (metX7_notes hc) hdX7_notes q1557 q1559 qs40 q69 q1560 ⟨rfl, rfl⟩ ⟨rfl, rfl⟩ rfl rfl rfl ⟨Nat.zero_le _, Nat.zero_le _⟩ dX7_readsStep_82 (fun H locs hM => ?_)
        refine lv_iload_n S.x S.b dX7_readsStep_85 rfl (lv_at hl 2 rfl) ?_
        refine lv_iconst (v := (2 : Int32)) S.x S.b dX7_readsStep_86 ki_2 ?_
        refine lv_iadd S.x S.b dX7_readsStep_87 ?_
        obtain ⟨rfl, rfl⟩ := rt2 hf
        exact g_iret S hM rfl dX7_readsStep_88
      · have hf := if_t cn hf
        refine lv_iconst (v := (-1 : Int32)) S.x S.b dX7_readsStep_71 ki_m1 ?_
        refine lv_aload_n S.x S.b dX7_readsStep_72 rfl (lv_at hl 1 rfl) ?_
        refine lv_iload_n S.x S.b dX7_readsStep_73 rfl (lv_at hl 2 rfl) ?_
        obtain ⟨r_14, w_13, hc, hf⟩ := bd2_some hf
        refine mm_ci S hM hl [.int x1] rfl (metX7_failsAt hc) hdX7_failsAt q1553 q1555 qs39 q69 q1556 ⟨rfl, rfl⟩ ⟨rfl, rfl⟩ rfl rfl rfl ⟨Nat.zero_le _, Nat.zero_le _⟩ dX7_readsStep_74 (fun H locs hM => ?_)
        refine lv_isub S.x S.b dX7_readsStep_77 ?_
        obtain ⟨rfl, rfl⟩ := rt2 hf
        exact g_iret S hM rfl dX7_readsStep_78
  · have hf := if_t cn hf
    refine lv_aload_n S.x S.b dX7_readsStep_45 rfl (lv_at hl 1 rfl) ?_
    refine lv_iload_n S.x S.b dX7_readsStep_46 rfl (lv_at hl 2 rfl) ?_
    refine lv_iconst (v := (1 : Int32)) S.x S.b dX7_readsStep_47 ki_1 ?_
    refine lv_iadd S.x S.b dX7_readsStep_48 ?_
    obtain ⟨r_16, w_15, hc, hf⟩ := bd2_some hf
    refine mm_ci S hM hl [.int (x1 + (1 : Int32))] rfl (metX7_readsPause hc) hdX7_readsPause q1541 q1543 qs36 q69 q1544 ⟨rfl, rfl⟩ ⟨rfl, rfl⟩ rfl rfl rfl ⟨Nat.zero_le _, Nat.zero_le _⟩ dX7_readsStep_49 (fun H locs hM => ?_)
    obtain ⟨rfl, rfl⟩ := rt2 hf
    exact g_iret S hM rfl dX7_readsStep_52
/-! SequenceBenchModel.reads()Z -/
theorem hdX7_reads : gHd yX7_reads 0 := by decide +kernel
def gX7_reads_94 (N : Nat) (k19 : Int32 → Int32 → MW → Option (Int32 × MW)) (x3 : Int32) (s0 : Int32) (w : MW) : Option (Int32 × MW) :=
  lt (setF w 14 ((w.1 14) + (1 : Int32))) fun w_10 =>
  k19 x3 s0 w_10
def gX7_reads_89 (N : Nat) (k19 : Int32 → Int32 → MW → Option (Int32 × MW)) (x3 : Int32) (w : MW) : Option (Int32 × MW) :=
  gX7_reads_94 N k19 x3 (1 : Int32) w
def gX7_reads_54 (N : Nat) (k19 : Int32 → Int32 → MW → Option (Int32 × MW)) (x2 : Int32) (s0 : Int32) (w : MW) : Option (Int32 × MW) :=
  if 0 ≤ s0 then (
  if x2 = 0 then (
  ck (w.1 14) 17 <|
  if (w.2 10 (w.1 14).toNatClampNeg) = 0 then (
  gX7_reads_89 N k19 s0 w)
  else (
  gX7_reads_94 N k19 s0 (0 : Int32) w))
  else (
  gX7_reads_89 N k19 s0 w))
  else (
  lt (setF w 12 (1 : Int32)) fun w_7 =>
  lt (setF w_7 13 ((-1 : Int32) - s0)) fun w_8 =>
  some ((0 : Int32), w_8))
def gX7_reads_34 (N : Nat) (k19 : Int32 → Int32 → MW → Option (Int32 × MW)) (x1 : Int32) (x2 : Int32) (w : MW) : Option (Int32 × MW) :=
  if (w.1 14) = (16 : Int32) then (
  gX7_reads_54 N k19 x2 ((-1 : Int32) - x1) w)
  else (
  bd2 (gX7_readsStep N x1 w) fun r_5 w_4 =>
  gX7_reads_54 N k19 x2 r_5 w_4)
def gX7_reads_160 (N : Nat) (s0 : Int32) (w : MW) : Option (Int32 × MW) :=
  lt (setF w 13 s0) fun w_9 =>
  if (w_9.1 12) = 0 then (
  some ((1 : Int32), w_9))
  else (
  some ((0 : Int32), w_9))
def gX7_reads_138 (N : Nat) (s0 : Int32) (w : MW) : Option (Int32 × MW) :=
  lt (setF w 12 s0) fun w_6 =>
  if (w_6.1 19) < 0 then (
  gX7_reads_160 N (w_6.1 11) w_6)
  else (
  gX7_reads_160 N (w_6.1 19) w_6)
def gX7_reads_133 (N : Nat) (w : MW) : Option (Int32 × MW) :=
  gX7_reads_138 N (3 : Int32) w
def gX7_reads_19 (N : Nat) : Nat → Int32 → Int32 → MW → Option (Int32 × MW)
  | 0, _, _, _ => none
  | n + 1, x1, x2, w =>
    if x1 < (w.1 11) then (
    gX7_reads_34 N (gX7_reads_19 N n) x1 x2 w)
    else (
    if (w.1 14) = 0 then (
    gX7_reads_34 N (gX7_reads_19 N n) x1 x2 w)
    else (
    if (w.1 19) < 0 then (
    if (w.1 18) = 0 then (
    if x2 = 0 then (
    gX7_reads_133 N w)
    else (
    gX7_reads_138 N (0 : Int32) w))
    else (
    gX7_reads_133 N w))
    else (
    gX7_reads_138 N (2 : Int32) w)))
def gX7_reads (N : Nat) (w : MW) : Option (Int32 × MW) :=
  lt (setF w 14 (0 : Int32)) fun w_1 =>
  lt (setF w_1 18 (0 : Int32)) fun w_2 =>
  lt (setF w_2 19 (-1 : Int32)) fun w_3 =>
  gX7_reads_19 N N (0 : Int32) (0 : Int32) w_3
abbrev rmX7_reads : Room := { frames := 5, cells := 0, slots := 0, locals := 102 }
set_option maxHeartbeats 4000000 in
theorem wX7_reads_94 {p : Program} {l : Launch} {e : Env} {s : State} {m : MethodId} {args : Array Value} {below : List Frame} {meth : Method} {c : Code} {D : va_G} {T : Nat → ClassId} {A : Nat → Prop} {h : Nat} {ad : Nat → Nat} {rr : Int32} {wr : MW} {N : Nat} (S : gS p s m args meth c cX7_reads 4 (some .boolean) RX7 D T) {k19 : Int32 → Int32 → MW → Option (Int32 × MW)} (hk19 : ∀ (x1 : Int32) (x2 : Int32) (w : MW) (H : Heap) (locs : List Loc) (ls : Array Slot), gM D A s.heap (mmW h ad (T 0) w) H locs → lv_has ls 4 [(0, .ref h), (1, .int x1), (2, .int x2)] → k19 x1 x2 w = some (rr, wr) → W p l e rmX7_reads s m args below meth c H locs 0 0 (MQ below (gQi D T A rr (mmW h ad (T 0) wr)) args s 0 0 A) (F0 m 19 ls [])) : ∀ (x3 : Int32) (s0 : Int32) (w : MW) (H : Heap) (locs : List Loc) (ls : Array Slot), gM D A s.heap (mmW h ad (T 0) w) H locs → lv_has ls 4 [(0, .ref h), (3, .int x3)] → gX7_reads_94 N k19 x3 s0 w = some (rr, wr) → W p l e rmX7_reads s m args below meth c H locs 0 0 (MQ below (gQi D T A rr (mmW h ad (T 0) wr)) args s 0 0 A) (F0 m 94 ls [.int s0]) := by
  intro x3 s0 w H locs ls hM hl hf
  refine g_istn S (x' := s0) rfl hl dX7_reads_94 rfl rfl (lv' := [(2, .int s0), (0, .ref h), (3, .int x3)]) rfl (fun ls hl => ?_)
  refine lv_iload_n S.x S.b dX7_reads_95 rfl (lv_at hl 2 rfl) ?_
  refine g_istn S (x' := x3) rfl hl dX7_reads_96 rfl rfl (lv' := [(1, .int x3), (2, .int s0), (0, .ref h), (3, .int x3)]) rfl (fun ls hl => ?_)
  refine lv_aload_n S.x S.b dX7_reads_97 rfl (lv_at hl 2 rfl) ?_
  refine lv_dup S.x S.b dX7_reads_98 rfl ?_
  refine mm_g S hM 14 rfl q1462 rfl dX7_reads_99 ?_
  refine lv_iconst (v := (1 : Int32)) S.x S.b dX7_reads_102 ki_1 ?_
  refine lv_iadd S.x S.b dX7_reads_103 ?_
  obtain ⟨w_10, ew, hf⟩ := lt_some hf
  refine mm_p S hM 14 rfl ew q1462 dX7_reads_104 (fun H locs hM => ?_)
  refine lv_goto (tgt := 19) S.x S.b dX7_reads_107 rfl ?_
  exact hk19 x3 s0 w_10 _ _ _ hM (lv_sub hl [2, 0, 1] rfl) hf
set_option maxHeartbeats 4000000 in
theorem wX7_reads_89 {p : Program} {l : Launch} {e : Env} {s : State} {m : MethodId} {args : Array Value} {below : List Frame} {meth : Method} {c : Code} {D : va_G} {T : Nat → ClassId} {A : Nat → Prop} {h : Nat} {ad : Nat → Nat} {rr : Int32} {wr : MW} {N : Nat} (S : gS p s m args meth c cX7_reads 4 (some .boolean) RX7 D T) {k19 : Int32 → Int32 → MW → Option (Int32 × MW)} (hk19 : ∀ (x1 : Int32) (x2 : Int32) (w : MW) (H : Heap) (locs : List Loc) (ls : Array Slot), gM D A s.heap (mmW h ad (T 0) w) H locs → lv_has ls 4 [(0, .ref h), (1, .int x1), (2, .int x2)] → k19 x1 x2 w = some (rr, wr) → W p l e rmX7_reads s m args below meth c H locs 0 0 (MQ below (gQi D T A rr (mmW h ad (T 0) wr)) args s 0 0 A) (F0 m 19 ls [])) : ∀ (x3 : Int32) (w : MW) (H : Heap) (locs : List Loc) (ls : Array Slot), gM D A s.heap (mmW h ad (T 0) w) H locs → lv_has ls 4 [(0, .ref h), (3, .int x3)] → gX7_reads_89 N k19 x3 w = some (rr, wr) → W p l e rmX7_reads s m args below meth c H locs 0 0 (MQ below (gQi D T A rr (mmW h ad (T 0) wr)) args s 0 0 A) (F0 m 89 ls []) := by
  intro x3 w H locs ls hM hl hf
  refine lv_iconst (v := (1 : Int32)) S.x S.b dX7_reads_89 ki_1 ?_
  refine lv_goto (tgt := 94) S.x S.b dX7_reads_90 rfl ?_
  exact wX7_reads_94 S hk19 x3 (1 : Int32) w _ _ _ hM (lv_sub hl [0, 1] rfl) hf
set_option maxHeartbeats 4000000 in
theorem wX7_reads_54 {p : Program} {l : Launch} {e : Env} {s : State} {m : MethodId} {args : Array Value} {below : List Frame} {meth : Method} {c : Code} {D : va_G} {T : Nat → ClassId} {A : Nat → Prop} {h : Nat} {ad : Nat → Nat} {rr : Int32} {wr : MW} {N : Nat} (S : gS p s m args meth c cX7_reads 4 (some .boolean) RX7 D T) {k19 : Int32 → Int32 → MW → Option (Int32 × MW)} (hk19 : ∀ (x1 : Int32) (x2 : Int32) (w : MW) (H : Heap) (locs : List Loc) (ls : Array Slot), gM D A s.heap (mmW h ad (T 0) w) H locs → lv_has ls 4 [(0, .ref h), (1, .int x1), (2, .int x2)] → k19 x1 x2 w = some (rr, wr) → W p l e rmX7_reads s m args below meth c H locs 0 0 (MQ below (gQi D T A rr (mmW h ad (T 0) wr)) args s 0 0 A) (F0 m 19 ls [])) : ∀ (x2 : Int32) (s0 : Int32) (w : MW) (H : Heap) (locs : List Loc) (ls : Array Slot), gM D A s.heap (mmW h ad (T 0) w) H locs → lv_has ls 4 [(0, .ref h), (2, .int x2)] → gX7_reads_54 N k19 x2 s0 w = some (rr, wr) → W p l e rmX7_reads s m args below meth c H locs 0 0 (MQ below (gQi D T A rr (mmW h ad (T 0) wr)) args s 0 0 A) (F0 m 54 ls [.int s0]) := by
  intro x2 s0 w H locs ls hM hl hf
  refine g_istn S (x' := s0) rfl hl dX7_reads_54 rfl rfl (lv' := [(3, .int s0), (0, .ref h), (2, .int x2)]) rfl (fun ls hl => ?_)
  refine lv_iload_n S.x S.b dX7_reads_55 rfl (lv_at hl 0 rfl) ?_
  refine lv_if_ge (tgt := 73) S.x S.b dX7_reads_56 rfl (fun cn => ?_) (fun cn => ?_)
  · have hf := if_t cn hf
    refine lv_iload_n S.x S.b dX7_reads_73 rfl (lv_at hl 2 rfl) ?_
    refine lv_if_ne (tgt := 89) S.x S.b dX7_reads_74 rfl (fun cn => ?_) (fun cn => ?_)
    · have hf := if_f cn hf
      exact wX7_reads_89 S hk19 s0 w _ _ _ hM (lv_sub hl [1, 0] rfl) hf
    · have hf := if_t cn hf
      refine lv_aload_n S.x S.b dX7_reads_77 rfl (lv_at hl 1 rfl) ?_
      refine mm_g S hM 17 rfl q1465 rfl dX7_reads_78 ?_
      refine lv_aload_n S.x S.b dX7_reads_81 rfl (lv_at hl 1 rfl) ?_
      refine mm_g S hM 14 rfl q1462 rfl dX7_reads_82 ?_
      obtain ⟨hi, hf⟩ := ck_some hf
      refine mm_ld S hM 10 rfl hi dX7_reads_85 ?_
      refine lv_if_ne (tgt := 93) S.x S.b dX7_reads_86 rfl (fun cn => ?_) (fun cn => ?_)
      · have hf := if_f cn hf
        refine lv_iconst (v := (0 : Int32)) S.x S.b dX7_reads_93 ki_0 ?_
        exact wX7_reads_94 S hk19 s0 (0 : Int32) w _ _ _ hM (lv_sub hl [1, 0] rfl) hf
      · have hf := if_t cn hf
        exact wX7_reads_89 S hk19 s0 w _ _ _ hM (lv_sub hl [1, 0] rfl) hf
  · have hf := if_f cn hf
    refine lv_aload_n S.x S.b dX7_reads_59 rfl (lv_at hl 1 rfl) ?_
    refine lv_iconst (v := (1 : Int32)) S.x S.b dX7_reads_60 ki_1 ?_
    obtain ⟨w_7, ew, hf⟩ := lt_some hf
    refine mm_p S hM 12 rfl ew q1460 dX7_reads_61 (fun H locs hM => ?_)
    refine lv_aload_n S.x S.b dX7_reads_64 rfl (lv_at hl 1 rfl) ?_
    refine lv_iconst (v := (-1 : Int32)) S.x S.b dX7_reads_65 ki_m1 ?_
    refine lv_iload_n S.x S.b dX7_reads_66 rfl (lv_at hl 0 rfl) ?_
    refine lv_isub S.x S.b dX7_reads_67 ?_
    obtain ⟨w_8, ew, hf⟩ := lt_some hf
    refine mm_p S hM 13 rfl ew q1461 dX7_reads_68 (fun H locs hM => ?_)
    refine lv_iconst (v := (0 : Int32)) S.x S.b dX7_reads_71 ki_0 ?_
    obtain ⟨rfl, rfl⟩ := rt2 hf
    exact g_zret S hM rfl rfl dX7_reads_72
set_option maxHeartbeats 4000000 in
theorem wX7_reads_34 {p : Program} {l : Launch} {e : Env} {s : State} {m : MethodId} {args : Array Value} {below : List Frame} {meth : Method} {c : Code} {D : va_G} {T : Nat → ClassId} {A : Nat → Prop} {h : Nat} {ad : Nat → Nat} {rr : Int32} {wr : MW} {N : Nat} (S : gS p s m args meth c cX7_reads 4 (some .boolean) RX7 D T) {k19 : Int32 → Int32 → MW → Option (Int32 × MW)} (hk19 : ∀ (x1 : Int32) (x2 : Int32) (w : MW) (H : Heap) (locs : List Loc) (ls : Array Slot), gM D A s.heap (mmW h ad (T 0) w) H locs → lv_has ls 4 [(0, .ref h), (1, .int x1), (2, .int x2)] → k19 x1 x2 w = some (rr, wr) → W p l e rmX7_reads s m args below meth c H locs 0 0 (MQ below (gQi D T A rr (mmW h ad (T 0) wr)) args s 0 0 A) (F0 m 19 ls [])) : ∀ (x1 : Int32) (x2 : Int32) (w : MW) (H : Heap) (locs : List Loc) (ls : Array Slot), gM D A s.heap (mmW h ad (T 0) w) H locs → lv_has ls 4 [(0, .ref h), (1, .int x1), (2, .int x2)] → gX7_reads_34 N k19 x1 x2 w = some (rr, wr) → W p l e rmX7_reads s m args below meth c H locs 0 0 (MQ below (gQi D T A rr (mmW h ad (T 0) wr)) args s 0 0 A) (F0 m 34 ls []) := by
  intro x1 x2 w H locs ls hM hl hf
  refine lv_aload_n S.x S.b dX7_reads_34 rfl (lv_at hl 0 rfl) ?_
  refine mm_g S hM 14 rfl q1462 rfl dX7_reads_35 ?_
  refine lv_bipush (v := (16 : Int32)) S.x S.b dX7_reads_38 kb_16 ?_
  refine lv_icmp_ne (tgt := 49) S.x S.b dX7_reads_40 rfl (fun cn => ?_) (fun cn => ?_)
  · have hf := if_f cn hf
    refine lv_aload_n S.x S.b dX7_reads_49 rfl (lv_at hl 0 rfl) ?_
    refine lv_iload_n S.x S.b dX7_reads_50 rfl (lv_at hl 1 rfl) ?_
    obtain ⟨r_5, w_4, hc, hf⟩ := bd2_some hf
    refine mm_ci S hM hl [.int x1] rfl (metX7_readsStep hc) hdX7_readsStep q1533 q1535 qs34 q69 q1536 ⟨rfl, rfl⟩ ⟨rfl, rfl⟩ rfl rfl rfl ⟨Nat.zero_le _, Nat.zero_le _⟩ dX7_reads_51 (fun H locs hM => ?_)
    exact wX7_reads_54 S hk19 x2 r_5 w_4 _ _ _ hM (lv_sub hl [0, 2] rfl) hf
  · have hf := if_t cn hf
    refine lv_iconst (v := (-1 : Int32)) S.x S.b dX7_reads_43 ki_m1 ?_
    refine lv_iload_n S.x S.b dX7_reads_44 rfl (lv_at hl 1 rfl) ?_
    refine lv_isub S.x S.b dX7_reads_45 ?_
    refine lv_goto (tgt := 54) S.x S.b dX7_reads_46 rfl ?_
    exact wX7_reads_54 S hk19 x2 ((-1 : Int32) - x1) w _ _ _ hM (lv_sub hl [0, 2] rfl) hf
set_option maxHeartbeats 4000000 in
theorem wX7_reads_160 {p : Program} {l : Launch} {e : Env} {s : State} {m : MethodId} {args : Array Value} {below : List Frame} {meth : Method} {c : Code} {D : va_G} {T : Nat → ClassId} {A : Nat → Prop} {h : Nat} {ad : Nat → Nat} {rr : Int32} {wr : MW} {N : Nat} (S : gS p s m args meth c cX7_reads 4 (some .boolean) RX7 D T) : ∀ (s0 : Int32) (w : MW) (H : Heap) (locs : List Loc) (ls : Array Slot), gM D A s.heap (mmW h ad (T 0) w) H locs → lv_has ls 4 [(0, .ref h)] → gX7_reads_160 N s0 w = some (rr, wr) → W p l e rmX7_reads s m args below meth c H locs 0 0 (MQ below (gQi D T A rr (mmW h ad (T 0) wr)) args s 0 0 A) (F0 m 160 ls [.int s0, .ref h]) := by
  intro s0 w H locs ls hM hl hf
  obtain ⟨w_9, ew, hf⟩ := lt_some hf
  refine mm_p S hM 13 rfl ew q1461 dX7_reads_160 (fun H locs hM => ?_)
  refine lv_aload_n S.x S.b dX7_reads_163 rfl (lv_at hl 0 rfl) ?_
  refine mm_g S hM 12 rfl q1460 rfl dX7_reads_164 ?_
  refine lv_if_ne (tgt := 174) S.x S.b dX7_reads_167 rfl (fun cn => ?_) (fun cn => ?_)
  · have hf := if_f cn hf
    refine lv_iconst (v := (0 : Int32)) S.x S.b dX7_reads_174 ki_0 ?_
    obtain ⟨rfl, rfl⟩ := rt2 hf
    exact g_zret S hM rfl rfl dX7_reads_175
  · have hf := if_t cn hf
    refine lv_iconst (v := (1 : Int32)) S.x S.b dX7_reads_170 ki_1 ?_
    refine lv_goto (tgt := 175) S.x S.b dX7_reads_171 rfl ?_
    obtain ⟨rfl, rfl⟩ := rt2 hf
    exact g_zret S hM rfl rfl dX7_reads_175
set_option maxHeartbeats 4000000 in
theorem wX7_reads_138 {p : Program} {l : Launch} {e : Env} {s : State} {m : MethodId} {args : Array Value} {below : List Frame} {meth : Method} {c : Code} {D : va_G} {T : Nat → ClassId} {A : Nat → Prop} {h : Nat} {ad : Nat → Nat} {rr : Int32} {wr : MW} {N : Nat} (S : gS p s m args meth c cX7_reads 4 (some .boolean) RX7 D T) : ∀ (s0 : Int32) (w : MW) (H : Heap) (locs : List Loc) (ls : Array Slot), gM D A s.heap (mmW h ad (T 0) w) H locs → lv_has ls 4 [(0, .ref h)] → gX7_reads_138 N s0 w = some (rr, wr) → W p l e rmX7_reads s m args below meth c H locs 0 0 (MQ below (gQi D T A rr (mmW h ad (T 0) wr)) args s 0 0 A) (F0 m 138 ls [.int s0, .ref h]) := by
  intro s0 w H locs ls hM hl hf
  obtain ⟨w_6, ew, hf⟩ := lt_some hf
  refine mm_p S hM 12 rfl ew q1460 dX7_reads_138 (fun H locs hM => ?_)
  refine lv_aload_n S.x S.b dX7_reads_141 rfl (lv_at hl 0 rfl) ?_
  refine lv_aload_n S.x S.b dX7_reads_142 rfl (lv_at hl 0 rfl) ?_
  refine mm_g S hM 19 rfl q1467 rfl dX7_reads_143 ?_
  refine lv_if_lt (tgt := 156) S.x S.b dX7_reads_146 rfl (fun cn => ?_) (fun cn => ?_)
  · have hf := if_t cn hf
    refine lv_aload_n S.x S.b dX7_reads_156 rfl (lv_at hl 0 rfl) ?_
    refine mm_g S hM 11 rfl q1459 rfl dX7_reads_157 ?_
    exact wX7_reads_160 S (w_6.1 11) w_6 _ _ _ hM (lv_sub hl [0] rfl) hf
  · have hf := if_f cn hf
    refine lv_aload_n S.x S.b dX7_reads_149 rfl (lv_at hl 0 rfl) ?_
    refine mm_g S hM 19 rfl q1467 rfl dX7_reads_150 ?_
    refine lv_goto (tgt := 160) S.x S.b dX7_reads_153 rfl ?_
    exact wX7_reads_160 S (w_6.1 19) w_6 _ _ _ hM (lv_sub hl [0] rfl) hf
set_option maxHeartbeats 4000000 in
theorem wX7_reads_133 {p : Program} {l : Launch} {e : Env} {s : State} {m : MethodId} {args : Array Value} {below : List Frame} {meth : Method} {c : Code} {D : va_G} {T : Nat → ClassId} {A : Nat → Prop} {h : Nat} {ad : Nat → Nat} {rr : Int32} {wr : MW} {N : Nat} (S : gS p s m args meth c cX7_reads 4 (some .boolean) RX7 D T) : ∀ (w : MW) (H : Heap) (locs : List Loc) (ls : Array Slot), gM D A s.heap (mmW h ad (T 0) w) H locs → lv_has ls 4 [(0, .ref h)] → gX7_reads_133 N w = some (rr, wr) → W p l e rmX7_reads s m args below meth c H locs 0 0 (MQ below (gQi D T A rr (mmW h ad (T 0) wr)) args s 0 0 A) (F0 m 133 ls [.ref h]) := by
  intro w H locs ls hM hl hf
  refine lv_iconst (v := (3 : Int32)) S.x S.b dX7_reads_133 ki_3 ?_
  refine lv_goto (tgt := 138) S.x S.b dX7_reads_134 rfl ?_
  exact wX7_reads_138 S (3 : Int32) w _ _ _ hM (lv_sub hl [0] rfl) hf
set_option maxHeartbeats 4000000 in
theorem wX7_reads_19 {p : Program} {l : Launch} {e : Env} {s : State} {m : MethodId} {args : Array Value} {below : List Frame} {meth : Method} {c : Code} {D : va_G} {T : Nat → ClassId} {A : Nat → Prop} {h : Nat} {ad : Nat → Nat} {rr : Int32} {wr : MW} {N : Nat} (S : gS p s m args meth c cX7_reads 4 (some .boolean) RX7 D T) : ∀ (n : Nat) (x1 : Int32) (x2 : Int32) (w : MW) (H : Heap) (locs : List Loc) (ls : Array Slot), gM D A s.heap (mmW h ad (T 0) w) H locs → lv_has ls 4 [(0, .ref h), (1, .int x1), (2, .int x2)] → gX7_reads_19 N n x1 x2 w = some (rr, wr) → W p l e rmX7_reads s m args below meth c H locs 0 0 (MQ below (gQi D T A rr (mmW h ad (T 0) wr)) args s 0 0 A) (F0 m 19 ls []) := by
  intro n
  induction n with
  | zero =>
    intro x1 x2 w H locs ls hM hl hf
    cases hf
  | succ n ih =>
    intro x1 x2 w H locs ls hM hl hf
    refine lv_iload_n S.x S.b dX7_reads_19 rfl (lv_at hl 1 rfl) ?_
    refine lv_aload_n S.x S.b dX7_reads_20 rfl (lv_at hl 0 rfl) ?_
    refine mm_g S hM 11 rfl q1459 rfl dX7_reads_21 ?_
    refine lv_icmp_lt (tgt := 34) S.x S.b dX7_reads_24 rfl (fun cn => ?_) (fun cn => ?_)
    · have hf := if_t cn hf
      exact wX7_reads_34 S ih x1 x2 w _ _ _ hM (lv_sub hl [0, 1, 2] rfl) hf
    · have hf := if_f cn hf
      refine lv_aload_n S.x S.b dX7_reads_27 rfl (lv_at hl 0 rfl) ?_
      refine mm_g S hM 14 rfl q1462 rfl dX7_reads_28 ?_
      refine lv_if_ne (tgt := 110) S.x S.b dX7_reads_31 rfl (fun cn => ?_) (fun cn => ?_)
      · have hf := if_f cn hf
        refine lv_aload_n S.x S.b dX7_reads_110 rfl (lv_at hl 0 rfl) ?_
        refine lv_aload_n S.x S.b dX7_reads_111 rfl (lv_at hl 0 rfl) ?_
        refine mm_g S hM 19 rfl q1467 rfl dX7_reads_112 ?_
        refine lv_if_lt (tgt := 122) S.x S.b dX7_reads_115 rfl (fun cn => ?_) (fun cn => ?_)
        · have hf := if_t cn hf
          refine lv_aload_n S.x S.b dX7_reads_122 rfl (lv_at hl 0 rfl) ?_
          refine mm_g S hM 18 rfl q1466 rfl dX7_reads_123 ?_
          refine lv_if_ne (tgt := 133) S.x S.b dX7_reads_126 rfl (fun cn => ?_) (fun cn => ?_)
          · have hf := if_f cn hf
            exact wX7_reads_133 S w _ _ _ hM (lv_sub hl [0] rfl) hf
          · have hf := if_t cn hf
            refine lv_iload_n S.x S.b dX7_reads_129 rfl (lv_at hl 2 rfl) ?_
            refine lv_if_ne (tgt := 137) S.x S.b dX7_reads_130 rfl (fun cn => ?_) (fun cn => ?_)
            · have hf := if_f cn hf
              refine lv_iconst (v := (0 : Int32)) S.x S.b dX7_reads_137 ki_0 ?_
              exact wX7_reads_138 S (0 : Int32) w _ _ _ hM (lv_sub hl [0] rfl) hf
            · have hf := if_t cn hf
              exact wX7_reads_133 S w _ _ _ hM (lv_sub hl [0] rfl) hf
        · have hf := if_f cn hf
          refine lv_iconst (v := (2 : Int32)) S.x S.b dX7_reads_118 ki_2 ?_
          refine lv_goto (tgt := 138) S.x S.b dX7_reads_119 rfl ?_
          exact wX7_reads_138 S (2 : Int32) w _ _ _ hM (lv_sub hl [0] rfl) hf
      · have hf := if_t cn hf
        exact wX7_reads_34 S ih x1 x2 w _ _ _ hM (lv_sub hl [0, 1, 2] rfl) hf
set_option maxHeartbeats 4000000 in
theorem metX7_reads {l : Launch} {D : va_G} {T : Nat → ClassId} {h : Nat} {ad : Nat → Nat} {rr : Int32} {wr : MW} {N : Nat} {w : MW} (hf : gX7_reads N w = some (rr, wr)) (sz : Nat) : MetI l yX7_reads (ws_ yX7_reads cX7_reads 4 (some .boolean)) rmX7_reads D T (mmW h ad (T 0) w) sz [.ref h] rr (mmW h ad (T 0) wr) := by
  refine g_entry (Qc := fun A => gQi D T A rr (mmW h ad (T 0) wr)) (by decide) rfl ?_
  intro p e s m below meth c ls S hM hl
  have hl : lv_has ls 4 [(0, .ref h)] := hl
  refine lv_aload_n S.x S.b dX7_reads_0 rfl (lv_at hl 0 rfl) ?_
  refine lv_iconst (v := (0 : Int32)) S.x S.b dX7_reads_1 ki_0 ?_
  obtain ⟨w_1, ew, hf⟩ := lt_some hf
  refine mm_p S hM 14 rfl ew q1462 dX7_reads_2 (fun H locs hM => ?_)
  refine lv_aload_n S.x S.b dX7_reads_5 rfl (lv_at hl 0 rfl) ?_
  refine lv_iconst (v := (0 : Int32)) S.x S.b dX7_reads_6 ki_0 ?_
  obtain ⟨w_2, ew, hf⟩ := lt_some hf
  refine mm_p S hM 18 rfl ew q1466 dX7_reads_7 (fun H locs hM => ?_)
  refine lv_aload_n S.x S.b dX7_reads_10 rfl (lv_at hl 0 rfl) ?_
  refine lv_iconst (v := (-1 : Int32)) S.x S.b dX7_reads_11 ki_m1 ?_
  obtain ⟨w_3, ew, hf⟩ := lt_some hf
  refine mm_p S hM 19 rfl ew q1467 dX7_reads_12 (fun H locs hM => ?_)
  refine lv_iconst (v := (0 : Int32)) S.x S.b dX7_reads_15 ki_0 ?_
  refine g_istn S (x' := (0 : Int32)) rfl hl dX7_reads_16 rfl rfl (lv' := [(1, .int (0 : Int32)), (0, .ref h)]) rfl (fun ls hl => ?_)
  refine lv_iconst (v := (0 : Int32)) S.x S.b dX7_reads_17 ki_0 ?_
  refine g_istn S (x' := (0 : Int32)) rfl hl dX7_reads_18 rfl rfl (lv' := [(2, .int (0 : Int32)), (1, .int (0 : Int32)), (0, .ref h)]) rfl (fun ls hl => ?_)
  exact wX7_reads_19 S N (0 : Int32) (0 : Int32) w_3 _ _ _ hM (lv_sub hl [2, 1, 0] rfl) hf
/-! SequenceBenchModel.readSequence()I -/
theorem hdX7_readSequence : gHd yX7_readSequence 0 := by decide +kernel
def gX7_readSequence_29 (N : Nat) : Nat → Int32 → MW → Option (Int32 × MW)
  | 0, _, _ => none
  | n + 1, x1, w =>
    if (w.1 4) ≤ x1 then (
    bd (gX7_divides N w) fun w_5 =>
    lt (setF w_5 11 (0 : Int32)) fun w_6 =>
    bd (gX7_rests N 0 w_6) fun w_7 =>
    some ((w_7.1 4), w_7))
    else (
    ck x1 17 <|
    ck x1 16 <|
    lt (setA w 3 x1.toNatClampNeg (w.2 8 x1.toNatClampNeg)) fun w_8 =>
    ck x1 17 <|
    ck x1 16 <|
    lt (setA w_8 4 x1.toNatClampNeg (w_8.2 9 x1.toNatClampNeg)) fun w_9 =>
    ck x1 17 <|
    ck x1 16 <|
    lt (setA w_9 5 x1.toNatClampNeg (w_9.2 10 x1.toNatClampNeg)) fun w_10 =>
    lt (x1 + (1 : Int32)) fun x1_11 =>
    gX7_readSequence_29 N n x1_11 w_10)
def gX7_readSequence (N : Nat) (w : MW) : Option (Int32 × MW) :=
  lt (setF w 3 (0 : Int32)) fun w_1 =>
  bd2 (gX7_reads N w_1) fun r_3 w_2 =>
  if r_3 = 0 then (
  some (((-1 : Int32) - (w_2.1 13)), w_2))
  else (
  lt (setF w_2 4 (w_2.1 14)) fun w_4 =>
  gX7_readSequence_29 N N (0 : Int32) w_4)
abbrev rmX7_readSequence : Room := { frames := 6, cells := 0, slots := 0, locals := 125 }
set_option maxHeartbeats 4000000 in
theorem wX7_readSequence_29 {p : Program} {l : Launch} {e : Env} {s : State} {m : MethodId} {args : Array Value} {below : List Frame} {meth : Method} {c : Code} {D : va_G} {T : Nat → ClassId} {A : Nat → Prop} {h : Nat} {ad : Nat → Nat} {rr : Int32} {wr : MW} {N : Nat} (S : gS p s m args meth c cX7_readSequence 2 (some .int) RX7 D T) : ∀ (n : Nat) (x1 : Int32) (w : MW) (H : Heap) (locs : List Loc) (ls : Array Slot), gM D A s.heap (mmW h ad (T 0) w) H locs → lv_has ls 2 [(0, .ref h), (1, .int x1)] → gX7_readSequence_29 N n x1 w = some (rr, wr) → W p l e rmX7_readSequence s m args below meth c H locs 0 0 (MQ below (gQi D T A rr (mmW h ad (T 0) wr)) args s 0 0 A) (F0 m 29 ls []) := by
  intro n
  induction n with
  | zero =>
    intro x1 w H locs ls hM hl hf
    cases hf
  | succ n ih =>
    intro x1 w H locs ls hM hl hf
    refine lv_iload_n S.x S.b dX7_readSequence_29 rfl (lv_at hl 1 rfl) ?_
    refine lv_aload_n S.x S.b dX7_readSequence_30 rfl (lv_at hl 0 rfl) ?_
    refine mm_g S hM 4 rfl q1452 rfl dX7_readSequence_31 ?_
    refine lv_icmp_ge (tgt := 79) S.x S.b dX7_readSequence_34 rfl (fun cn => ?_) (fun cn => ?_)
    · have hf := if_t cn hf
      refine lv_aload_n S.x S.b dX7_readSequence_79 rfl (lv_at hl 0 rfl) ?_
      obtain ⟨w_5, hc, hf⟩ := bd_some hf
      refine mm_cv S hM hl [] rfl (metX7_divides hc) hdX7_divides q1561 q1563 qs41 q69 q1564 ⟨rfl, rfl⟩ ⟨rfl, rfl⟩ rfl rfl rfl ⟨Nat.zero_le _, Nat.zero_le _⟩ dX7_readSequence_80 (fun H locs hM => ?_)
      refine lv_aload_n S.x S.b dX7_readSequence_83 rfl (lv_at hl 0 rfl) ?_
      refine lv_iconst (v := (0 : Int32)) S.x S.b dX7_readSequence_84 ki_0 ?_
      obtain ⟨w_6, ew, hf⟩ := lt_some hf
      refine mm_p S hM 11 rfl ew q1459 dX7_readSequence_85 (fun H locs hM => ?_)
      refine lv_aload_n S.x S.b dX7_readSequence_88 rfl (lv_at hl 0 rfl) ?_
      refine lv_aload_n S.x S.b dX7_readSequence_89 rfl (lv_at hl 0 rfl) ?_
      refine mm_g S hM 0 rfl q1448 rfl dX7_readSequence_90 ?_
      obtain ⟨w_7, hc, hf⟩ := bd_some hf
      refine mm_cv S hM hl [.ref (ad 0)] rfl (metX7_rests (jr := 0) rfl hc) hdX7_rests q1433 q1435 qs29 q69 q1436 ⟨rfl, rfl⟩ ⟨rfl, rfl⟩ rfl rfl rfl ⟨Nat.zero_le _, Nat.zero_le _⟩ dX7_readSequence_93 (fun H locs hM => ?_)
      refine lv_aload_n S.x S.b dX7_readSequence_96 rfl (lv_at hl 0 rfl) ?_
      refine mm_g S hM 4 rfl q1452 rfl dX7_readSequence_97 ?_
      obtain ⟨rfl, rfl⟩ := rt2 hf
      exact g_iret S hM rfl dX7_readSequence_100
    · have hf := if_f cn hf
      refine lv_aload_n S.x S.b dX7_readSequence_37 rfl (lv_at hl 0 rfl) ?_
      refine mm_g S hM 5 rfl q1453 rfl dX7_readSequence_38 ?_
      refine lv_iload_n S.x S.b dX7_readSequence_41 rfl (lv_at hl 1 rfl) ?_
      refine lv_aload_n S.x S.b dX7_readSequence_42 rfl (lv_at hl 0 rfl) ?_
      refine mm_g S hM 15 rfl q1463 rfl dX7_readSequence_43 ?_
      refine lv_iload_n S.x S.b dX7_readSequence_46 rfl (lv_at hl 1 rfl) ?_
      obtain ⟨hi, hf⟩ := ck_some hf
      refine mm_ld S hM 8 rfl hi dX7_readSequence_47 ?_
      obtain ⟨hi, hf⟩ := ck_some hf
      obtain ⟨w_8, ew, hf⟩ := lt_some hf
      refine mm_st S hM 3 rfl hi ew dX7_readSequence_48 (fun H locs hM => ?_)
      refine lv_aload_n S.x S.b dX7_readSequence_49 rfl (lv_at hl 0 rfl) ?_
      refine mm_g S hM 6 rfl q1454 rfl dX7_readSequence_50 ?_
      refine lv_iload_n S.x S.b dX7_readSequence_53 rfl (lv_at hl 1 rfl) ?_
      refine lv_aload_n S.x S.b dX7_readSequence_54 rfl (lv_at hl 0 rfl) ?_
      refine mm_g S hM 16 rfl q1464 rfl dX7_readSequence_55 ?_
      refine lv_iload_n S.x S.b dX7_readSequence_58 rfl (lv_at hl 1 rfl) ?_
      obtain ⟨hi, hf⟩ := ck_some hf
      refine mm_ld S hM 9 rfl hi dX7_readSequence_59 ?_
      obtain ⟨hi, hf⟩ := ck_some hf
      obtain ⟨w_9, ew, hf⟩ := lt_some hf
      refine mm_st S hM 4 rfl hi ew dX7_readSequence_60 (fun H locs hM => ?_)
      refine lv_aload_n S.x S.b dX7_readSequence_61 rfl (lv_at hl 0 rfl) ?_
      refine mm_g S hM 7 rfl q1455 rfl dX7_readSequence_62 ?_
      refine lv_iload_n S.x S.b dX7_readSequence_65 rfl (lv_at hl 1 rfl) ?_
      refine lv_aload_n S.x S.b dX7_readSequence_66 rfl (lv_at hl 0 rfl) ?_
      refine mm_g S hM 17 rfl q1465 rfl dX7_readSequence_67 ?_
      refine lv_iload_n S.x S.b dX7_readSequence_70 rfl (lv_at hl 1 rfl) ?_
      obtain ⟨hi, hf⟩ := ck_some hf
      refine mm_ld S hM 10 rfl hi dX7_readSequence_71 ?_
      obtain ⟨hi, hf⟩ := ck_some hf
      obtain ⟨w_10, ew, hf⟩ := lt_some hf
      refine mm_st S hM 5 rfl hi ew dX7_readSequence_72 (fun H locs hM => ?_)
      obtain ⟨x1_11, ex, hf⟩ := lt_some hf
      refine g_inc S (x' := x1_11) (d := (1 : Int32)) hl (k := 1) rfl ki_1 ex dX7_readSequence_73 rfl (lv' := [(1, .int x1_11), (0, .ref h)]) rfl (fun ls hl => ?_)
      refine lv_goto (tgt := 29) S.x S.b dX7_readSequence_76 rfl ?_
      exact ih x1_11 w_10 _ _ _ hM (lv_sub hl [1, 0] rfl) hf
set_option maxHeartbeats 4000000 in
theorem metX7_readSequence {l : Launch} {D : va_G} {T : Nat → ClassId} {h : Nat} {ad : Nat → Nat} {rr : Int32} {wr : MW} {N : Nat} {w : MW} (hf : gX7_readSequence N w = some (rr, wr)) (sz : Nat) : MetI l yX7_readSequence (ws_ yX7_readSequence cX7_readSequence 2 (some .int)) rmX7_readSequence D T (mmW h ad (T 0) w) sz [.ref h] rr (mmW h ad (T 0) wr) := by
  refine g_entry (Qc := fun A => gQi D T A rr (mmW h ad (T 0) wr)) (by decide) rfl ?_
  intro p e s m below meth c ls S hM hl
  have hl : lv_has ls 2 [(0, .ref h)] := hl
  refine lv_aload_n S.x S.b dX7_readSequence_0 rfl (lv_at hl 0 rfl) ?_
  refine lv_iconst (v := (0 : Int32)) S.x S.b dX7_readSequence_1 ki_0 ?_
  obtain ⟨w_1, ew, hf⟩ := lt_some hf
  refine mm_p S hM 3 rfl ew q1451 dX7_readSequence_2 (fun H locs hM => ?_)
  refine lv_aload_n S.x S.b dX7_readSequence_5 rfl (lv_at hl 0 rfl) ?_
  obtain ⟨r_3, w_2, hc, hf⟩ := bd2_some hf
  refine mm_ci S hM hl [] rfl (metX7_reads hc) hdX7_reads q1529 q1531 qs33 q69 q1532 ⟨rfl, rfl⟩ ⟨rfl, rfl⟩ rfl rfl rfl ⟨Nat.zero_le _, Nat.zero_le _⟩ dX7_readSequence_6 (fun H locs hM => ?_)
  refine lv_if_ne (tgt := 19) S.x S.b dX7_readSequence_9 rfl (fun cn => ?_) (fun cn => ?_)
  · have hf := if_f cn hf
    refine lv_aload_n S.x S.b dX7_readSequence_19 rfl (lv_at hl 0 rfl) ?_
    refine lv_aload_n S.x S.b dX7_readSequence_20 rfl (lv_at hl 0 rfl) ?_
    refine mm_g S hM 14 rfl q1462 rfl dX7_readSequence_21 ?_
    obtain ⟨w_4, ew, hf⟩ := lt_some hf
    refine mm_p S hM 4 rfl ew q1452 dX7_readSequence_24 (fun H locs hM => ?_)
    refine lv_iconst (v := (0 : Int32)) S.x S.b dX7_readSequence_27 ki_0 ?_
    refine g_istn S (x' := (0 : Int32)) rfl hl dX7_readSequence_28 rfl rfl (lv' := [(1, .int (0 : Int32)), (0, .ref h)]) rfl (fun ls hl => ?_)
    exact wX7_readSequence_29 S N (0 : Int32) w_4 _ _ _ hM (lv_sub hl [1, 0] rfl) hf
  · have hf := if_t cn hf
    refine lv_iconst (v := (-1 : Int32)) S.x S.b dX7_readSequence_12 ki_m1 ?_
    refine lv_aload_n S.x S.b dX7_readSequence_13 rfl (lv_at hl 0 rfl) ?_
    refine mm_g S hM 13 rfl q1461 rfl dX7_readSequence_14 ?_
    refine lv_isub S.x S.b dX7_readSequence_17 ?_
    obtain ⟨rfl, rfl⟩ := rt2 hf
    exact g_iret S hM rfl dX7_readSequence_18
/-! SequenceBenchModel.rest()I -/
theorem hdX7_rest : gHd yX7_rest 0 := by decide +kernel
def gX7_rest (N : Nat) (w : MW) : Option (Int32 × MW) :=
  lt (setF w 3 (0 : Int32)) fun w_1 =>
  ck (0 : Int32) 140 <|
  lt ((w_1.2 0 (0 : Int32).toNatClampNeg)) fun x1_2 =>
  bd (gX7_rests N 0 w_1) fun w_3 =>
  some (x1_2, w_3)
abbrev rmX7_rest : Room := { frames := 3, cells := 0, slots := 0, locals := 57 }
set_option maxHeartbeats 4000000 in
theorem metX7_rest {l : Launch} {D : va_G} {T : Nat → ClassId} {h : Nat} {ad : Nat → Nat} {rr : Int32} {wr : MW} {N : Nat} {w : MW} (hf : gX7_rest N w = some (rr, wr)) (sz : Nat) : MetI l yX7_rest (ws_ yX7_rest cX7_rest 2 (some .int)) rmX7_rest D T (mmW h ad (T 0) w) sz [.ref h] rr (mmW h ad (T 0) wr) := by
  refine g_entry (Qc := fun A => gQi D T A rr (mmW h ad (T 0) wr)) (by decide) rfl ?_
  intro p e s m below meth c ls S hM hl
  have hl : lv_has ls 2 [(0, .ref h)] := hl
  refine lv_aload_n S.x S.b dX7_rest_0 rfl (lv_at hl 0 rfl) ?_
  refine lv_iconst (v := (0 : Int32)) S.x S.b dX7_rest_1 ki_0 ?_
  obtain ⟨w_1, ew, hf⟩ := lt_some hf
  refine mm_p S hM 3 rfl ew q1451 dX7_rest_2 (fun H locs hM => ?_)
  refine lv_aload_n S.x S.b dX7_rest_5 rfl (lv_at hl 0 rfl) ?_
  refine mm_g S hM 0 rfl q1448 rfl dX7_rest_6 ?_
  refine lv_iconst (v := (0 : Int32)) S.x S.b dX7_rest_9 ki_0 ?_
  obtain ⟨hi, hf⟩ := ck_some hf
  refine mm_ld S hM 0 rfl hi dX7_rest_10 ?_
  obtain ⟨x1_2, ex, hf⟩ := lt_some hf
  refine g_istn S (x' := x1_2) ex hl dX7_rest_11 rfl rfl (lv' := [(1, .int x1_2), (0, .ref h)]) rfl (fun ls hl => ?_)
  refine lv_aload_n S.x S.b dX7_rest_12 rfl (lv_at hl 1 rfl) ?_
  refine lv_aload_n S.x S.b dX7_rest_13 rfl (lv_at hl 1 rfl) ?_
  refine mm_g S hM 0 rfl q1448 rfl dX7_rest_14 ?_
  obtain ⟨w_3, hc, hf⟩ := bd_some hf
  refine mm_cv S hM hl [.ref (ad 0)] rfl (metX7_rests (jr := 0) rfl hc) hdX7_rests q1433 q1435 qs29 q69 q1436 ⟨rfl, rfl⟩ ⟨rfl, rfl⟩ rfl rfl rfl ⟨Nat.zero_le _, Nat.zero_le _⟩ dX7_rest_17 (fun H locs hM => ?_)
  refine lv_iload_n S.x S.b dX7_rest_20 rfl (lv_at hl 0 rfl) ?_
  obtain ⟨rfl, rfl⟩ := rt2 hf
  exact g_iret S hM rfl dX7_rest_21
/-! SequenceBenchModel.rightEvents()I -/
theorem hdX7_rightEvents : gHd yX7_rightEvents 0 := by decide +kernel
def gX7_rightEvents (w : MW) : Option (Int32 × MW) :=
  lt (setF w 3 (0 : Int32)) fun w_1 =>
  ck (5 : Int32) 140 <|
  some ((w_1.2 0 (5 : Int32).toNatClampNeg), w_1)
abbrev rmX7_rightEvents : Room := { frames := 1, cells := 0, slots := 0, locals := 12 }
set_option maxHeartbeats 4000000 in
theorem metX7_rightEvents {l : Launch} {D : va_G} {T : Nat → ClassId} {h : Nat} {ad : Nat → Nat} {rr : Int32} {wr : MW} {w : MW} (hf : gX7_rightEvents w = some (rr, wr)) (sz : Nat) : MetI l yX7_rightEvents (ws_ yX7_rightEvents cX7_rightEvents 1 (some .int)) rmX7_rightEvents D T (mmW h ad (T 0) w) sz [.ref h] rr (mmW h ad (T 0) wr) := by
  refine g_entry (Qc := fun A => gQi D T A rr (mmW h ad (T 0) wr)) (by decide) rfl ?_
  intro p e s m below meth c ls S hM hl
  have hl : lv_has ls 1 [(0, .ref h)] := hl
  refine lv_aload_n S.x S.b dX7_rightEvents_0 rfl (lv_at hl 0 rfl) ?_
  refine lv_iconst (v := (0 : Int32)) S.x S.b dX7_rightEvents_1 ki_0 ?_
  obtain ⟨w_1, ew, hf⟩ := lt_some hf
  refine mm_p S hM 3 rfl ew q1451 dX7_rightEvents_2 (fun H locs hM => ?_)
  refine lv_aload_n S.x S.b dX7_rightEvents_5 rfl (lv_at hl 0 rfl) ?_
  refine mm_g S hM 0 rfl q1448 rfl dX7_rightEvents_6 ?_
  refine lv_iconst (v := (5 : Int32)) S.x S.b dX7_rightEvents_9 ki_5 ?_
  obtain ⟨hi, hf⟩ := ck_some hf
  refine mm_ld S hM 0 rfl hi dX7_rightEvents_10 ?_
  obtain ⟨rfl, rfl⟩ := rt2 hf
  exact g_iret S hM rfl dX7_rightEvents_11
/-! SequenceBenchModel.sensor(II)Z -/
theorem hdX7_sensor : gHd yX7_sensor 2 := by decide +kernel
def gX7_sensor_24 (x1 : Int32) (x2 : Int32) (s0 : Int32) (w : MW) : Option (Int32 × MW) :=
  lt (setF w 3 s0) fun w_3 =>
  if (w_3.1 3) = 0 then (
  bd2 (gX7_senses 0 x1 x2 w_3) fun r_5 w_4 =>
  if r_5 = 0 then (
  some ((0 : Int32), w_4))
  else (
  some ((1 : Int32), w_4)))
  else (
  some ((0 : Int32), w_3))
def gX7_sensor_23 (x1 : Int32) (x2 : Int32) (w : MW) : Option (Int32 × MW) :=
  gX7_sensor_24 x1 x2 (1 : Int32) w
def gX7_sensor (x1 : Int32) (x2 : Int32) (w : MW) : Option (Int32 × MW) :=
  bd (gX7_in x1 (0 : Int32) (5 : Int32)) fun r_1 =>
  if r_1 = 0 then (
  gX7_sensor_23 x1 x2 w)
  else (
  bd (gX7_in x2 (0 : Int32) (1 : Int32)) fun r_2 =>
  if r_2 = 0 then (
  gX7_sensor_23 x1 x2 w)
  else (
  gX7_sensor_24 x1 x2 (0 : Int32) w))
abbrev rmX7_sensor : Room := { frames := 2, cells := 0, slots := 0, locals := 37 }
set_option maxHeartbeats 4000000 in
theorem wX7_sensor_24 {p : Program} {l : Launch} {e : Env} {s : State} {m : MethodId} {args : Array Value} {below : List Frame} {meth : Method} {c : Code} {D : va_G} {T : Nat → ClassId} {A : Nat → Prop} {h : Nat} {ad : Nat → Nat} {rr : Int32} {wr : MW} (S : gS p s m args meth c cX7_sensor 3 (some .boolean) RX7 D T) : ∀ (x1 : Int32) (x2 : Int32) (s0 : Int32) (w : MW) (H : Heap) (locs : List Loc) (ls : Array Slot), gM D A s.heap (mmW h ad (T 0) w) H locs → lv_has ls 3 [(0, .ref h), (1, .int x1), (2, .int x2)] → gX7_sensor_24 x1 x2 s0 w = some (rr, wr) → W p l e rmX7_sensor s m args below meth c H locs 0 0 (MQ below (gQi D T A rr (mmW h ad (T 0) wr)) args s 0 0 A) (F0 m 24 ls [.int s0, .ref h]) := by
  intro x1 x2 s0 w H locs ls hM hl hf
  obtain ⟨w_3, ew, hf⟩ := lt_some hf
  refine mm_p S hM 3 rfl ew q1451 dX7_sensor_24 (fun H locs hM => ?_)
  refine lv_aload_n S.x S.b dX7_sensor_27 rfl (lv_at hl 0 rfl) ?_
  refine mm_g S hM 3 rfl q1451 rfl dX7_sensor_28 ?_
  refine lv_if_ne (tgt := 51) S.x S.b dX7_sensor_31 rfl (fun cn => ?_) (fun cn => ?_)
  · have hf := if_f cn hf
    refine lv_iconst (v := (0 : Int32)) S.x S.b dX7_sensor_51 ki_0 ?_
    obtain ⟨rfl, rfl⟩ := rt2 hf
    exact g_zret S hM rfl rfl dX7_sensor_52
  · have hf := if_t cn hf
    refine lv_aload_n S.x S.b dX7_sensor_34 rfl (lv_at hl 0 rfl) ?_
    refine lv_aload_n S.x S.b dX7_sensor_35 rfl (lv_at hl 0 rfl) ?_
    refine mm_g S hM 0 rfl q1448 rfl dX7_sensor_36 ?_
    refine lv_iload_n S.x S.b dX7_sensor_39 rfl (lv_at hl 1 rfl) ?_
    refine lv_iload_n S.x S.b dX7_sensor_40 rfl (lv_at hl 2 rfl) ?_
    obtain ⟨r_5, w_4, hc, hf⟩ := bd2_some hf
    refine mm_ci S hM hl [.ref (ad 0), .int x1, .int x2] rfl (metX7_senses (jr := 0) rfl hc) hdX7_senses q1687 q1689 qs54 q69 q1690 ⟨rfl, rfl⟩ ⟨rfl, rfl⟩ rfl rfl rfl ⟨Nat.zero_le _, Nat.zero_le _⟩ dX7_sensor_41 (fun H locs hM => ?_)
    refine lv_if_eq (tgt := 51) S.x S.b dX7_sensor_44 rfl (fun cn => ?_) (fun cn => ?_)
    · have hf := if_t cn hf
      refine lv_iconst (v := (0 : Int32)) S.x S.b dX7_sensor_51 ki_0 ?_
      obtain ⟨rfl, rfl⟩ := rt2 hf
      exact g_zret S hM rfl rfl dX7_sensor_52
    · have hf := if_f cn hf
      refine lv_iconst (v := (1 : Int32)) S.x S.b dX7_sensor_47 ki_1 ?_
      refine lv_goto (tgt := 52) S.x S.b dX7_sensor_48 rfl ?_
      obtain ⟨rfl, rfl⟩ := rt2 hf
      exact g_zret S hM rfl rfl dX7_sensor_52
set_option maxHeartbeats 4000000 in
theorem wX7_sensor_23 {p : Program} {l : Launch} {e : Env} {s : State} {m : MethodId} {args : Array Value} {below : List Frame} {meth : Method} {c : Code} {D : va_G} {T : Nat → ClassId} {A : Nat → Prop} {h : Nat} {ad : Nat → Nat} {rr : Int32} {wr : MW} (S : gS p s m args meth c cX7_sensor 3 (some .boolean) RX7 D T) : ∀ (x1 : Int32) (x2 : Int32) (w : MW) (H : Heap) (locs : List Loc) (ls : Array Slot), gM D A s.heap (mmW h ad (T 0) w) H locs → lv_has ls 3 [(0, .ref h), (1, .int x1), (2, .int x2)] → gX7_sensor_23 x1 x2 w = some (rr, wr) → W p l e rmX7_sensor s m args below meth c H locs 0 0 (MQ below (gQi D T A rr (mmW h ad (T 0) wr)) args s 0 0 A) (F0 m 23 ls [.ref h]) := by
  intro x1 x2 w H locs ls hM hl hf
  refine lv_iconst (v := (1 : Int32)) S.x S.b dX7_sensor_23 ki_1 ?_
  exact wX7_sensor_24 S x1 x2 (1 : Int32) w _ _ _ hM (lv_sub hl [0, 1, 2] rfl) hf
set_option maxHeartbeats 4000000 in
theorem metX7_sensor {l : Launch} {D : va_G} {T : Nat → ClassId} {h : Nat} {ad : Nat → Nat} {rr : Int32} {wr : MW} {x1 : Int32} {x2 : Int32} {w : MW} (hf : gX7_sensor x1 x2 w = some (rr, wr)) (sz : Nat) : MetI l yX7_sensor (ws_ yX7_sensor cX7_sensor 3 (some .boolean)) rmX7_sensor D T (mmW h ad (T 0) w) sz [.ref h, .int x1, .int x2] rr (mmW h ad (T 0) wr) := by
  refine g_entry (Qc := fun A => gQi D T A rr (mmW h ad (T 0) wr)) (by decide) rfl ?_
  intro p e s m below meth c ls S hM hl
  have hl : lv_has ls 3 [(0, .ref h), (1, .int x1), (2, .int x2)] := hl
  refine lv_aload_n S.x S.b dX7_sensor_0 rfl (lv_at hl 0 rfl) ?_
  refine lv_iload_n S.x S.b dX7_sensor_1 rfl (lv_at hl 1 rfl) ?_
  refine lv_iconst (v := (0 : Int32)) S.x S.b dX7_sensor_2 ki_0 ?_
  refine lv_iconst (v := (5 : Int32)) S.x S.b dX7_sensor_3 ki_5 ?_
  obtain ⟨r_1, hc, hf⟩ := bd_some hf
  refine gg_si S hM hl [.int x1, .int (0 : Int32), .int (5 : Int32)] (metX7_in hc) hdX7_in q1437 q1438 q69 q1439 ⟨rfl, rfl⟩ ⟨rfl, rfl⟩ rfl rfl rfl ⟨Nat.zero_le _, Nat.zero_le _⟩ dX7_sensor_4 (fun H locs hM => ?_)
  refine lv_if_eq (tgt := 23) S.x S.b dX7_sensor_7 rfl (fun cn => ?_) (fun cn => ?_)
  · have hf := if_t cn hf
    exact wX7_sensor_23 S x1 x2 w _ _ _ hM (lv_sub hl [0, 1, 2] rfl) hf
  · have hf := if_f cn hf
    refine lv_iload_n S.x S.b dX7_sensor_10 rfl (lv_at hl 2 rfl) ?_
    refine lv_iconst (v := (0 : Int32)) S.x S.b dX7_sensor_11 ki_0 ?_
    refine lv_iconst (v := (1 : Int32)) S.x S.b dX7_sensor_12 ki_1 ?_
    obtain ⟨r_2, hc, hf⟩ := bd_some hf
    refine gg_si S hM hl [.int x2, .int (0 : Int32), .int (1 : Int32)] (metX7_in hc) hdX7_in q1437 q1438 q69 q1439 ⟨rfl, rfl⟩ ⟨rfl, rfl⟩ rfl rfl rfl ⟨Nat.zero_le _, Nat.zero_le _⟩ dX7_sensor_13 (fun H locs hM => ?_)
    refine lv_if_eq (tgt := 23) S.x S.b dX7_sensor_16 rfl (fun cn => ?_) (fun cn => ?_)
    · have hf := if_t cn hf
      exact wX7_sensor_23 S x1 x2 w _ _ _ hM (lv_sub hl [0, 1, 2] rfl) hf
    · have hf := if_f cn hf
      refine lv_iconst (v := (0 : Int32)) S.x S.b dX7_sensor_19 ki_0 ?_
      refine lv_goto (tgt := 24) S.x S.b dX7_sensor_20 rfl ?_
      exact wX7_sensor_24 S x1 x2 (0 : Int32) w _ _ _ hM (lv_sub hl [0, 1, 2] rfl) hf
/-! SequenceBenchModel.setFault(IIZ)Z -/
theorem hdX7_setFault : gHd yX7_setFault 3 := by decide +kernel
def gX7_setFault_62 (x1 : Int32) (x2 : Int32) (x3 : Int32) (s0 : Int32) (w : MW) : Option (Int32 × MW) :=
  if x3 = 0 then (
  ck ((38 : Int32) + x1) 140 <|
  ck ((38 : Int32) + x1) 140 <|
  lt (setA w 0 ((38 : Int32) + x1).toNatClampNeg ((w.2 0 ((38 : Int32) + x1).toNatClampNeg) &&& (((1 : Int32) <<< (x2 &&& 31)) ^^^ (-1 : Int32)))) fun w_4 =>
  bz s0 (some (s0, w_4)))
  else (
  ck ((38 : Int32) + x1) 140 <|
  ck ((38 : Int32) + x1) 140 <|
  lt (setA w 0 ((38 : Int32) + x1).toNatClampNeg ((w.2 0 ((38 : Int32) + x1).toNatClampNeg) ||| ((1 : Int32) <<< (x2 &&& 31)))) fun w_5 =>
  bz s0 (some (s0, w_5)))
def gX7_setFault_28 (x1 : Int32) (x2 : Int32) (x3 : Int32) (s0 : Int32) (w : MW) : Option (Int32 × MW) :=
  lt (setF w 3 s0) fun w_3 =>
  if (w_3.1 3) = 0 then (
  ck ((38 : Int32) + x1) 140 <|
  if (((w_3.2 0 ((38 : Int32) + x1).toNatClampNeg) >>> (x2 &&& 31)) &&& (1 : Int32)) = (1 : Int32) then (
  gX7_setFault_62 x1 x2 x3 (1 : Int32) w_3)
  else (
  gX7_setFault_62 x1 x2 x3 (0 : Int32) w_3))
  else (
  some ((0 : Int32), w_3))
def gX7_setFault (x1 : Int32) (x2 : Int32) (x3 : Int32) (w : MW) : Option (Int32 × MW) :=
  bd (gX7_in x1 (0 : Int32) (5 : Int32)) fun r_1 =>
  if r_1 = 0 then (
  gX7_setFault_28 x1 x2 x3 (1 : Int32) w)
  else (
  bd (gX7_in x2 (0 : Int32) (4 : Int32)) fun r_2 =>
  if r_2 = 0 then (
  gX7_setFault_28 x1 x2 x3 (2 : Int32) w)
  else (
  gX7_setFault_28 x1 x2 x3 (0 : Int32) w))
abbrev rmX7_setFault : Room := { frames := 2, cells := 0, slots := 0, locals := 34 }
set_option maxHeartbeats 4000000 in
theorem wX7_setFault_62 {p : Program} {l : Launch} {e : Env} {s : State} {m : MethodId} {args : Array Value} {below : List Frame} {meth : Method} {c : Code} {D : va_G} {T : Nat → ClassId} {A : Nat → Prop} {h : Nat} {ad : Nat → Nat} {rr : Int32} {wr : MW} (S : gS p s m args meth c cX7_setFault 5 (some .boolean) RX7 D T) : ∀ (x1 : Int32) (x2 : Int32) (x3 : Int32) (s0 : Int32) (w : MW) (H : Heap) (locs : List Loc) (ls : Array Slot), gM D A s.heap (mmW h ad (T 0) w) H locs → lv_has ls 5 [(0, .ref h), (1, .int x1), (2, .int x2), (3, .int x3)] → gX7_setFault_62 x1 x2 x3 s0 w = some (rr, wr) → W p l e rmX7_setFault s m args below meth c H locs 0 0 (MQ below (gQi D T A rr (mmW h ad (T 0) wr)) args s 0 0 A) (F0 m 62 ls [.int s0]) := by
  intro x1 x2 x3 s0 w H locs ls hM hl hf
  refine g_ist S (x' := s0) rfl hl dX7_setFault_62 rfl (lv' := [(4, .int s0), (0, .ref h), (1, .int x1), (2, .int x2), (3, .int x3)]) rfl (fun ls hl => ?_)
  refine lv_aload_n S.x S.b dX7_setFault_64 rfl (lv_at hl 1 rfl) ?_
  refine mm_g S hM 0 rfl q1448 rfl dX7_setFault_65 ?_
  refine lv_bipush (v := (38 : Int32)) S.x S.b dX7_setFault_68 kb_38 ?_
  refine lv_iload_n S.x S.b dX7_setFault_70 rfl (lv_at hl 2 rfl) ?_
  refine lv_iadd S.x S.b dX7_setFault_71 ?_
  refine lv_iload_n S.x S.b dX7_setFault_72 rfl (lv_at hl 4 rfl) ?_
  refine lv_if_eq (tgt := 92) S.x S.b dX7_setFault_73 rfl (fun cn => ?_) (fun cn => ?_)
  · have hf := if_t cn hf
    refine lv_aload_n S.x S.b dX7_setFault_92 rfl (lv_at hl 1 rfl) ?_
    refine mm_g S hM 0 rfl q1448 rfl dX7_setFault_93 ?_
    refine lv_bipush (v := (38 : Int32)) S.x S.b dX7_setFault_96 kb_38 ?_
    refine lv_iload_n S.x S.b dX7_setFault_98 rfl (lv_at hl 2 rfl) ?_
    refine lv_iadd S.x S.b dX7_setFault_99 ?_
    obtain ⟨hi, hf⟩ := ck_some hf
    refine mm_ld S hM 0 rfl hi dX7_setFault_100 ?_
    refine lv_iconst (v := (1 : Int32)) S.x S.b dX7_setFault_101 ki_1 ?_
    refine lv_iload_n S.x S.b dX7_setFault_102 rfl (lv_at hl 3 rfl) ?_
    refine lv_ishl S.x S.b dX7_setFault_103 ?_
    refine lv_iconst (v := (-1 : Int32)) S.x S.b dX7_setFault_104 ki_m1 ?_
    refine lv_ixor S.x S.b dX7_setFault_105 ?_
    refine lv_iand S.x S.b dX7_setFault_106 ?_
    obtain ⟨hi, hf⟩ := ck_some hf
    obtain ⟨w_4, ew, hf⟩ := lt_some hf
    refine mm_st S hM 0 rfl hi ew dX7_setFault_107 (fun H locs hM => ?_)
    refine lv_iload S.x S.b dX7_setFault_108 (lv_at hl 0 rfl) ?_
    obtain ⟨hz, hf⟩ := bz_some hf
    obtain ⟨rfl, rfl⟩ := rt2 hf
    exact g_zret S hM rfl hz dX7_setFault_110
  · have hf := if_f cn hf
    refine lv_aload_n S.x S.b dX7_setFault_76 rfl (lv_at hl 1 rfl) ?_
    refine mm_g S hM 0 rfl q1448 rfl dX7_setFault_77 ?_
    refine lv_bipush (v := (38 : Int32)) S.x S.b dX7_setFault_80 kb_38 ?_
    refine lv_iload_n S.x S.b dX7_setFault_82 rfl (lv_at hl 2 rfl) ?_
    refine lv_iadd S.x S.b dX7_setFault_83 ?_
    obtain ⟨hi, hf⟩ := ck_some hf
    refine mm_ld S hM 0 rfl hi dX7_setFault_84 ?_
    refine lv_iconst (v := (1 : Int32)) S.x S.b dX7_setFault_85 ki_1 ?_
    refine lv_iload_n S.x S.b dX7_setFault_86 rfl (lv_at hl 3 rfl) ?_
    refine lv_ishl S.x S.b dX7_setFault_87 ?_
    refine lv_ior S.x S.b dX7_setFault_88 ?_
    refine lv_goto (tgt := 107) S.x S.b dX7_setFault_89 rfl ?_
    obtain ⟨hi, hf⟩ := ck_some hf
    obtain ⟨w_5, ew, hf⟩ := lt_some hf
    refine mm_st S hM 0 rfl hi ew dX7_setFault_107 (fun H locs hM => ?_)
    refine lv_iload S.x S.b dX7_setFault_108 (lv_at hl 0 rfl) ?_
    obtain ⟨hz, hf⟩ := bz_some hf
    obtain ⟨rfl, rfl⟩ := rt2 hf
    exact g_zret S hM rfl hz dX7_setFault_110
set_option maxHeartbeats 4000000 in
theorem wX7_setFault_28 {p : Program} {l : Launch} {e : Env} {s : State} {m : MethodId} {args : Array Value} {below : List Frame} {meth : Method} {c : Code} {D : va_G} {T : Nat → ClassId} {A : Nat → Prop} {h : Nat} {ad : Nat → Nat} {rr : Int32} {wr : MW} (S : gS p s m args meth c cX7_setFault 5 (some .boolean) RX7 D T) : ∀ (x1 : Int32) (x2 : Int32) (x3 : Int32) (s0 : Int32) (w : MW) (H : Heap) (locs : List Loc) (ls : Array Slot), gM D A s.heap (mmW h ad (T 0) w) H locs → lv_has ls 5 [(0, .ref h), (1, .int x1), (2, .int x2), (3, .int x3)] → gX7_setFault_28 x1 x2 x3 s0 w = some (rr, wr) → W p l e rmX7_setFault s m args below meth c H locs 0 0 (MQ below (gQi D T A rr (mmW h ad (T 0) wr)) args s 0 0 A) (F0 m 28 ls [.int s0, .ref h]) := by
  intro x1 x2 x3 s0 w H locs ls hM hl hf
  obtain ⟨w_3, ew, hf⟩ := lt_some hf
  refine mm_p S hM 3 rfl ew q1451 dX7_setFault_28 (fun H locs hM => ?_)
  refine lv_aload_n S.x S.b dX7_setFault_31 rfl (lv_at hl 0 rfl) ?_
  refine mm_g S hM 3 rfl q1451 rfl dX7_setFault_32 ?_
  refine lv_if_eq (tgt := 40) S.x S.b dX7_setFault_35 rfl (fun cn => ?_) (fun cn => ?_)
  · have hf := if_t cn hf
    refine lv_aload_n S.x S.b dX7_setFault_40 rfl (lv_at hl 0 rfl) ?_
    refine mm_g S hM 0 rfl q1448 rfl dX7_setFault_41 ?_
    refine lv_bipush (v := (38 : Int32)) S.x S.b dX7_setFault_44 kb_38 ?_
    refine lv_iload_n S.x S.b dX7_setFault_46 rfl (lv_at hl 1 rfl) ?_
    refine lv_iadd S.x S.b dX7_setFault_47 ?_
    obtain ⟨hi, hf⟩ := ck_some hf
    refine mm_ld S hM 0 rfl hi dX7_setFault_48 ?_
    refine lv_iload_n S.x S.b dX7_setFault_49 rfl (lv_at hl 2 rfl) ?_
    refine lv_ishr S.x S.b dX7_setFault_50 ?_
    refine lv_iconst (v := (1 : Int32)) S.x S.b dX7_setFault_51 ki_1 ?_
    refine lv_iand S.x S.b dX7_setFault_52 ?_
    refine lv_iconst (v := (1 : Int32)) S.x S.b dX7_setFault_53 ki_1 ?_
    refine lv_icmp_ne (tgt := 61) S.x S.b dX7_setFault_54 rfl (fun cn => ?_) (fun cn => ?_)
    · have hf := if_f cn hf
      refine lv_iconst (v := (0 : Int32)) S.x S.b dX7_setFault_61 ki_0 ?_
      exact wX7_setFault_62 S x1 x2 x3 (0 : Int32) w_3 _ _ _ hM (lv_sub hl [0, 1, 2, 3] rfl) hf
    · have hf := if_t cn hf
      refine lv_iconst (v := (1 : Int32)) S.x S.b dX7_setFault_57 ki_1 ?_
      refine lv_goto (tgt := 62) S.x S.b dX7_setFault_58 rfl ?_
      exact wX7_setFault_62 S x1 x2 x3 (1 : Int32) w_3 _ _ _ hM (lv_sub hl [0, 1, 2, 3] rfl) hf
  · have hf := if_f cn hf
    refine lv_iconst (v := (0 : Int32)) S.x S.b dX7_setFault_38 ki_0 ?_
    obtain ⟨rfl, rfl⟩ := rt2 hf
    exact g_zret S hM rfl rfl dX7_setFault_39
set_option maxHeartbeats 4000000 in
theorem metX7_setFault {l : Launch} {D : va_G} {T : Nat → ClassId} {h : Nat} {ad : Nat → Nat} {rr : Int32} {wr : MW} {x1 : Int32} {x2 : Int32} {x3 : Int32} {w : MW} (hf : gX7_setFault x1 x2 x3 w = some (rr, wr)) (sz : Nat) : MetI l yX7_setFault (ws_ yX7_setFault cX7_setFault 5 (some .boolean)) rmX7_setFault D T (mmW h ad (T 0) w) sz [.ref h, .int x1, .int x2, .int x3] rr (mmW h ad (T 0) wr) := by
  refine g_entry (Qc := fun A => gQi D T A rr (mmW h ad (T 0) wr)) (by decide) rfl ?_
  intro p e s m below meth c ls S hM hl
  have hl : lv_has ls 5 [(0, .ref h), (1, .int x1), (2, .int x2), (3, .int x3)] := hl
  refine lv_aload_n S.x S.b dX7_setFault_0 rfl (lv_at hl 0 rfl) ?_
  refine lv_iload_n S.x S.b dX7_setFault_1 rfl (lv_at hl 1 rfl) ?_
  refine lv_iconst (v := (0 : Int32)) S.x S.b dX7_setFault_2 ki_0 ?_
  refine lv_iconst (v := (5 : Int32)) S.x S.b dX7_setFault_3 ki_5 ?_
  obtain ⟨r_1, hc, hf⟩ := bd_some hf
  refine gg_si S hM hl [.int x1, .int (0 : Int32), .int (5 : Int32)] (metX7_in hc) hdX7_in q1437 q1438 q69 q1439 ⟨rfl, rfl⟩ ⟨rfl, rfl⟩ rfl rfl rfl ⟨Nat.zero_le _, Nat.zero_le _⟩ dX7_setFault_4 (fun H locs hM => ?_)
  refine lv_if_ne (tgt := 14) S.x S.b dX7_setFault_7 rfl (fun cn => ?_) (fun cn => ?_)
  · have hf := if_f cn hf
    refine lv_iload_n S.x S.b dX7_setFault_14 rfl (lv_at hl 2 rfl) ?_
    refine lv_iconst (v := (0 : Int32)) S.x S.b dX7_setFault_15 ki_0 ?_
    refine lv_iconst (v := (4 : Int32)) S.x S.b dX7_setFault_16 ki_4 ?_
    obtain ⟨r_2, hc, hf⟩ := bd_some hf
    refine gg_si S hM hl [.int x2, .int (0 : Int32), .int (4 : Int32)] (metX7_in hc) hdX7_in q1437 q1438 q69 q1439 ⟨rfl, rfl⟩ ⟨rfl, rfl⟩ rfl rfl rfl ⟨Nat.zero_le _, Nat.zero_le _⟩ dX7_setFault_17 (fun H locs hM => ?_)
    refine lv_if_ne (tgt := 27) S.x S.b dX7_setFault_20 rfl (fun cn => ?_) (fun cn => ?_)
    · have hf := if_f cn hf
      refine lv_iconst (v := (0 : Int32)) S.x S.b dX7_setFault_27 ki_0 ?_
      exact wX7_setFault_28 S x1 x2 x3 (0 : Int32) w _ _ _ hM (lv_sub hl [0, 1, 2, 3] rfl) hf
    · have hf := if_t cn hf
      refine lv_iconst (v := (2 : Int32)) S.x S.b dX7_setFault_23 ki_2 ?_
      refine lv_goto (tgt := 28) S.x S.b dX7_setFault_24 rfl ?_
      exact wX7_setFault_28 S x1 x2 x3 (2 : Int32) w _ _ _ hM (lv_sub hl [0, 1, 2, 3] rfl) hf
  · have hf := if_t cn hf
    refine lv_iconst (v := (1 : Int32)) S.x S.b dX7_setFault_10 ki_1 ?_
    refine lv_goto (tgt := 28) S.x S.b dX7_setFault_11 rfl ?_
    exact wX7_setFault_28 S x1 x2 x3 (1 : Int32) w _ _ _ hM (lv_sub hl [0, 1, 2, 3] rfl) hf
/-! SequenceBenchModel.setMethod(I)I -/
theorem hdX7_setMethod : gHd yX7_setMethod 1 := by decide +kernel
def gX7_setMethod (N : Nat) (x1 : Int32) (w : MW) : Option (Int32 × MW) :=
  lt (setF w 3 (0 : Int32)) fun w_1 =>
  bd (gX7_in x1 (0 : Int32) (2 : Int32)) fun r_2 =>
  if r_2 = 0 then (
  bd2 (gX7_fails (1 : Int32) w_1) fun r_7 w_6 =>
  some (r_7, w_6))
  else (
  ck (1 : Int32) 140 <|
  lt ((w_1.2 0 (1 : Int32).toNatClampNeg)) fun x2_3 =>
  ck (1 : Int32) 140 <|
  lt (setA w_1 0 (1 : Int32).toNatClampNeg x1) fun w_4 =>
  bd (gX7_rests N 0 w_4) fun w_5 =>
  some (x2_3, w_5))
abbrev rmX7_setMethod : Room := { frames := 3, cells := 0, slots := 0, locals := 57 }
set_option maxHeartbeats 4000000 in
theorem metX7_setMethod {l : Launch} {D : va_G} {T : Nat → ClassId} {h : Nat} {ad : Nat → Nat} {rr : Int32} {wr : MW} {N : Nat} {x1 : Int32} {w : MW} (hf : gX7_setMethod N x1 w = some (rr, wr)) (sz : Nat) : MetI l yX7_setMethod (ws_ yX7_setMethod cX7_setMethod 3 (some .int)) rmX7_setMethod D T (mmW h ad (T 0) w) sz [.ref h, .int x1] rr (mmW h ad (T 0) wr) := by
  refine g_entry (Qc := fun A => gQi D T A rr (mmW h ad (T 0) wr)) (by decide) rfl ?_
  intro p e s m below meth c ls S hM hl
  have hl : lv_has ls 3 [(0, .ref h), (1, .int x1)] := hl
  refine lv_aload_n S.x S.b dX7_setMethod_0 rfl (lv_at hl 0 rfl) ?_
  refine lv_iconst (v := (0 : Int32)) S.x S.b dX7_setMethod_1 ki_0 ?_
  obtain ⟨w_1, ew, hf⟩ := lt_some hf
  refine mm_p S hM 3 rfl ew q1451 dX7_setMethod_2 (fun H locs hM => ?_)
  refine lv_iload_n S.x S.b dX7_setMethod_5 rfl (lv_at hl 1 rfl) ?_
  refine lv_iconst (v := (0 : Int32)) S.x S.b dX7_setMethod_6 ki_0 ?_
  refine lv_iconst (v := (2 : Int32)) S.x S.b dX7_setMethod_7 ki_2 ?_
  obtain ⟨r_2, hc, hf⟩ := bd_some hf
  refine gg_si S hM hl [.int x1, .int (0 : Int32), .int (2 : Int32)] (metX7_in hc) hdX7_in q1437 q1438 q69 q1439 ⟨rfl, rfl⟩ ⟨rfl, rfl⟩ rfl rfl rfl ⟨Nat.zero_le _, Nat.zero_le _⟩ dX7_setMethod_8 (fun H locs hM => ?_)
  refine lv_if_ne (tgt := 20) S.x S.b dX7_setMethod_11 rfl (fun cn => ?_) (fun cn => ?_)
  · have hf := if_f cn hf
    refine lv_aload_n S.x S.b dX7_setMethod_20 rfl (lv_at hl 0 rfl) ?_
    refine mm_g S hM 0 rfl q1448 rfl dX7_setMethod_21 ?_
    refine lv_iconst (v := (1 : Int32)) S.x S.b dX7_setMethod_24 ki_1 ?_
    obtain ⟨hi, hf⟩ := ck_some hf
    refine mm_ld S hM 0 rfl hi dX7_setMethod_25 ?_
    obtain ⟨x2_3, ex, hf⟩ := lt_some hf
    refine g_istn S (x' := x2_3) ex hl dX7_setMethod_26 rfl rfl (lv' := [(2, .int x2_3), (0, .ref h), (1, .int x1)]) rfl (fun ls hl => ?_)
    refine lv_aload_n S.x S.b dX7_setMethod_27 rfl (lv_at hl 1 rfl) ?_
    refine mm_g S hM 0 rfl q1448 rfl dX7_setMethod_28 ?_
    refine lv_iconst (v := (1 : Int32)) S.x S.b dX7_setMethod_31 ki_1 ?_
    refine lv_iload_n S.x S.b dX7_setMethod_32 rfl (lv_at hl 2 rfl) ?_
    obtain ⟨hi, hf⟩ := ck_some hf
    obtain ⟨w_4, ew, hf⟩ := lt_some hf
    refine mm_st S hM 0 rfl hi ew dX7_setMethod_33 (fun H locs hM => ?_)
    refine lv_aload_n S.x S.b dX7_setMethod_34 rfl (lv_at hl 1 rfl) ?_
    refine lv_aload_n S.x S.b dX7_setMethod_35 rfl (lv_at hl 1 rfl) ?_
    refine mm_g S hM 0 rfl q1448 rfl dX7_setMethod_36 ?_
    obtain ⟨w_5, hc, hf⟩ := bd_some hf
    refine mm_cv S hM hl [.ref (ad 0)] rfl (metX7_rests (jr := 0) rfl hc) hdX7_rests q1433 q1435 qs29 q69 q1436 ⟨rfl, rfl⟩ ⟨rfl, rfl⟩ rfl rfl rfl ⟨Nat.zero_le _, Nat.zero_le _⟩ dX7_setMethod_39 (fun H locs hM => ?_)
    refine lv_iload_n S.x S.b dX7_setMethod_42 rfl (lv_at hl 0 rfl) ?_
    obtain ⟨rfl, rfl⟩ := rt2 hf
    exact g_iret S hM rfl dX7_setMethod_43
  · have hf := if_t cn hf
    refine lv_aload_n S.x S.b dX7_setMethod_14 rfl (lv_at hl 0 rfl) ?_
    refine lv_iconst (v := (1 : Int32)) S.x S.b dX7_setMethod_15 ki_1 ?_
    obtain ⟨r_7, w_6, hc, hf⟩ := bd2_some hf
    refine mm_ci S hM hl [.int (1 : Int32)] rfl (metX7_fails hc) hdX7_fails q1517 q1519 qs32 q69 q1520 ⟨rfl, rfl⟩ ⟨rfl, rfl⟩ rfl rfl rfl ⟨Nat.zero_le _, Nat.zero_le _⟩ dX7_setMethod_16 (fun H locs hM => ?_)
    obtain ⟨rfl, rfl⟩ := rt2 hf
    exact g_iret S hM rfl dX7_setMethod_19
/-! SequenceBenchModel.setStart(Z)Z -/
theorem hdX7_setStart : gHd yX7_setStart 1 := by decide +kernel
def gX7_setStart_20 (x1 : Int32) (s0 : Int32) (w : MW) : Option (Int32 × MW) :=
  if x1 = 0 then (
  ck (2 : Int32) 140 <|
  lt (setA w 0 (2 : Int32).toNatClampNeg (0 : Int32)) fun w_2 =>
  bz s0 (some (s0, w_2)))
  else (
  ck (2 : Int32) 140 <|
  lt (setA w 0 (2 : Int32).toNatClampNeg (1 : Int32)) fun w_3 =>
  bz s0 (some (s0, w_3)))
def gX7_setStart (x1 : Int32) (w : MW) : Option (Int32 × MW) :=
  lt (setF w 3 (0 : Int32)) fun w_1 =>
  ck (2 : Int32) 140 <|
  if (w_1.2 0 (2 : Int32).toNatClampNeg) = (1 : Int32) then (
  gX7_setStart_20 x1 (1 : Int32) w_1)
  else (
  gX7_setStart_20 x1 (0 : Int32) w_1)
abbrev rmX7_setStart : Room := { frames := 1, cells := 0, slots := 0, locals := 12 }
set_option maxHeartbeats 4000000 in
theorem wX7_setStart_20 {p : Program} {l : Launch} {e : Env} {s : State} {m : MethodId} {args : Array Value} {below : List Frame} {meth : Method} {c : Code} {D : va_G} {T : Nat → ClassId} {A : Nat → Prop} {h : Nat} {ad : Nat → Nat} {rr : Int32} {wr : MW} (S : gS p s m args meth c cX7_setStart 3 (some .boolean) RX7 D T) : ∀ (x1 : Int32) (s0 : Int32) (w : MW) (H : Heap) (locs : List Loc) (ls : Array Slot), gM D A s.heap (mmW h ad (T 0) w) H locs → lv_has ls 3 [(0, .ref h), (1, .int x1)] → gX7_setStart_20 x1 s0 w = some (rr, wr) → W p l e rmX7_setStart s m args below meth c H locs 0 0 (MQ below (gQi D T A rr (mmW h ad (T 0) wr)) args s 0 0 A) (F0 m 20 ls [.int s0]) := by
  intro x1 s0 w H locs ls hM hl hf
  refine g_istn S (x' := s0) rfl hl dX7_setStart_20 rfl rfl (lv' := [(2, .int s0), (0, .ref h), (1, .int x1)]) rfl (fun ls hl => ?_)
  refine lv_aload_n S.x S.b dX7_setStart_21 rfl (lv_at hl 1 rfl) ?_
  refine mm_g S hM 0 rfl q1448 rfl dX7_setStart_22 ?_
  refine lv_iconst (v := (2 : Int32)) S.x S.b dX7_setStart_25 ki_2 ?_
  refine lv_iload_n S.x S.b dX7_setStart_26 rfl (lv_at hl 2 rfl) ?_
  refine lv_if_eq (tgt := 34) S.x S.b dX7_setStart_27 rfl (fun cn => ?_) (fun cn => ?_)
  · have hf := if_t cn hf
    refine lv_iconst (v := (0 : Int32)) S.x S.b dX7_setStart_34 ki_0 ?_
    obtain ⟨hi, hf⟩ := ck_some hf
    obtain ⟨w_2, ew, hf⟩ := lt_some hf
    refine mm_st S hM 0 rfl hi ew dX7_setStart_35 (fun H locs hM => ?_)
    refine lv_iload_n S.x S.b dX7_setStart_36 rfl (lv_at hl 0 rfl) ?_
    obtain ⟨hz, hf⟩ := bz_some hf
    obtain ⟨rfl, rfl⟩ := rt2 hf
    exact g_zret S hM rfl hz dX7_setStart_37
  · have hf := if_f cn hf
    refine lv_iconst (v := (1 : Int32)) S.x S.b dX7_setStart_30 ki_1 ?_
    refine lv_goto (tgt := 35) S.x S.b dX7_setStart_31 rfl ?_
    obtain ⟨hi, hf⟩ := ck_some hf
    obtain ⟨w_3, ew, hf⟩ := lt_some hf
    refine mm_st S hM 0 rfl hi ew dX7_setStart_35 (fun H locs hM => ?_)
    refine lv_iload_n S.x S.b dX7_setStart_36 rfl (lv_at hl 0 rfl) ?_
    obtain ⟨hz, hf⟩ := bz_some hf
    obtain ⟨rfl, rfl⟩ := rt2 hf
    exact g_zret S hM rfl hz dX7_setStart_37
set_option maxHeartbeats 4000000 in
theorem metX7_setStart {l : Launch} {D : va_G} {T : Nat → ClassId} {h : Nat} {ad : Nat → Nat} {rr : Int32} {wr : MW} {x1 : Int32} {w : MW} (hf : gX7_setStart x1 w = some (rr, wr)) (sz : Nat) : MetI l yX7_setStart (ws_ yX7_setStart cX7_setStart 3 (some .boolean)) rmX7_setStart D T (mmW h ad (T 0) w) sz [.ref h, .int x1] rr (mmW h ad (T 0) wr) := by
  refine g_entry (Qc := fun A => gQi D T A rr (mmW h ad (T 0) wr)) (by decide) rfl ?_
  intro p e s m below meth c ls S hM hl
  have hl : lv_has ls 3 [(0, .ref h), (1, .int x1)] := hl
  refine lv_aload_n S.x S.b dX7_setStart_0 rfl (lv_at hl 0 rfl) ?_
  refine lv_iconst (v := (0 : Int32)) S.x S.b dX7_setStart_1 ki_0 ?_
  obtain ⟨w_1, ew, hf⟩ := lt_some hf
  refine mm_p S hM 3 rfl ew q1451 dX7_setStart_2 (fun H locs hM => ?_)
  refine lv_aload_n S.x S.b dX7_setStart_5 rfl (lv_at hl 0 rfl) ?_
  refine mm_g S hM 0 rfl q1448 rfl dX7_setStart_6 ?_
  refine lv_iconst (v := (2 : Int32)) S.x S.b dX7_setStart_9 ki_2 ?_
  obtain ⟨hi, hf⟩ := ck_some hf
  refine mm_ld S hM 0 rfl hi dX7_setStart_10 ?_
  refine lv_iconst (v := (1 : Int32)) S.x S.b dX7_setStart_11 ki_1 ?_
  refine lv_icmp_ne (tgt := 19) S.x S.b dX7_setStart_12 rfl (fun cn => ?_) (fun cn => ?_)
  · have hf := if_f cn hf
    refine lv_iconst (v := (0 : Int32)) S.x S.b dX7_setStart_19 ki_0 ?_
    exact wX7_setStart_20 S x1 (0 : Int32) w_1 _ _ _ hM (lv_sub hl [0, 1] rfl) hf
  · have hf := if_t cn hf
    refine lv_iconst (v := (1 : Int32)) S.x S.b dX7_setStart_15 ki_1 ?_
    refine lv_goto (tgt := 20) S.x S.b dX7_setStart_16 rfl ?_
    exact wX7_setStart_20 S x1 (1 : Int32) w_1 _ _ _ hM (lv_sub hl [0, 1] rfl) hf
/-! SequenceBenchModel.setStroke(II)I -/
theorem hdX7_setStroke : gHd yX7_setStroke 2 := by decide +kernel
def gX7_setStroke (N : Nat) (x1 : Int32) (x2 : Int32) (w : MW) : Option (Int32 × MW) :=
  lt (setF w 3 (0 : Int32)) fun w_1 =>
  bd (gX7_in x1 (0 : Int32) (5 : Int32)) fun r_2 =>
  if r_2 = 0 then (
  bd2 (gX7_fails (1 : Int32) w_1) fun r_10 w_9 =>
  some (r_10, w_9))
  else (
  bd (gX7_in x2 (1 : Int32) (20 : Int32)) fun r_3 =>
  if r_3 = 0 then (
  bd2 (gX7_fails (2 : Int32) w_1) fun r_8 w_7 =>
  some (r_8, w_7))
  else (
  ck x1 6 <|
  lt ((w_1.2 2 x1.toNatClampNeg)) fun x3_4 =>
  ck x1 6 <|
  lt (setA w_1 2 x1.toNatClampNeg x2) fun w_5 =>
  bd (gX7_rests N 0 w_5) fun w_6 =>
  some (x3_4, w_6)))
abbrev rmX7_setStroke : Room := { frames := 3, cells := 0, slots := 0, locals := 57 }
set_option maxHeartbeats 4000000 in
theorem metX7_setStroke {l : Launch} {D : va_G} {T : Nat → ClassId} {h : Nat} {ad : Nat → Nat} {rr : Int32} {wr : MW} {N : Nat} {x1 : Int32} {x2 : Int32} {w : MW} (hf : gX7_setStroke N x1 x2 w = some (rr, wr)) (sz : Nat) : MetI l yX7_setStroke (ws_ yX7_setStroke cX7_setStroke 4 (some .int)) rmX7_setStroke D T (mmW h ad (T 0) w) sz [.ref h, .int x1, .int x2] rr (mmW h ad (T 0) wr) := by
  refine g_entry (Qc := fun A => gQi D T A rr (mmW h ad (T 0) wr)) (by decide) rfl ?_
  intro p e s m below meth c ls S hM hl
  have hl : lv_has ls 4 [(0, .ref h), (1, .int x1), (2, .int x2)] := hl
  refine lv_aload_n S.x S.b dX7_setStroke_0 rfl (lv_at hl 0 rfl) ?_
  refine lv_iconst (v := (0 : Int32)) S.x S.b dX7_setStroke_1 ki_0 ?_
  obtain ⟨w_1, ew, hf⟩ := lt_some hf
  refine mm_p S hM 3 rfl ew q1451 dX7_setStroke_2 (fun H locs hM => ?_)
  refine lv_iload_n S.x S.b dX7_setStroke_5 rfl (lv_at hl 1 rfl) ?_
  refine lv_iconst (v := (0 : Int32)) S.x S.b dX7_setStroke_6 ki_0 ?_
  refine lv_iconst (v := (5 : Int32)) S.x S.b dX7_setStroke_7 ki_5 ?_
  obtain ⟨r_2, hc, hf⟩ := bd_some hf
  refine gg_si S hM hl [.int x1, .int (0 : Int32), .int (5 : Int32)] (metX7_in hc) hdX7_in q1437 q1438 q69 q1439 ⟨rfl, rfl⟩ ⟨rfl, rfl⟩ rfl rfl rfl ⟨Nat.zero_le _, Nat.zero_le _⟩ dX7_setStroke_8 (fun H locs hM => ?_)
  refine lv_if_ne (tgt := 20) S.x S.b dX7_setStroke_11 rfl (fun cn => ?_) (fun cn => ?_)
  · have hf := if_f cn hf
    refine lv_iload_n S.x S.b dX7_setStroke_20 rfl (lv_at hl 2 rfl) ?_
    refine lv_iconst (v := (1 : Int32)) S.x S.b dX7_setStroke_21 ki_1 ?_
    refine lv_bipush (v := (20 : Int32)) S.x S.b dX7_setStroke_22 kb_20 ?_
    obtain ⟨r_3, hc, hf⟩ := bd_some hf
    refine gg_si S hM hl [.int x2, .int (1 : Int32), .int (20 : Int32)] (metX7_in hc) hdX7_in q1437 q1438 q69 q1439 ⟨rfl, rfl⟩ ⟨rfl, rfl⟩ rfl rfl rfl ⟨Nat.zero_le _, Nat.zero_le _⟩ dX7_setStroke_24 (fun H locs hM => ?_)
    refine lv_if_ne (tgt := 36) S.x S.b dX7_setStroke_27 rfl (fun cn => ?_) (fun cn => ?_)
    · have hf := if_f cn hf
      refine lv_aload_n S.x S.b dX7_setStroke_36 rfl (lv_at hl 0 rfl) ?_
      refine mm_g S hM 2 rfl q1450 rfl dX7_setStroke_37 ?_
      refine lv_iload_n S.x S.b dX7_setStroke_40 rfl (lv_at hl 1 rfl) ?_
      obtain ⟨hi, hf⟩ := ck_some hf
      refine mm_ld S hM 2 rfl hi dX7_setStroke_41 ?_
      obtain ⟨x3_4, ex, hf⟩ := lt_some hf
      refine g_istn S (x' := x3_4) ex hl dX7_setStroke_42 rfl rfl (lv' := [(3, .int x3_4), (0, .ref h), (1, .int x1), (2, .int x2)]) rfl (fun ls hl => ?_)
      refine lv_aload_n S.x S.b dX7_setStroke_43 rfl (lv_at hl 1 rfl) ?_
      refine mm_g S hM 2 rfl q1450 rfl dX7_setStroke_44 ?_
      refine lv_iload_n S.x S.b dX7_setStroke_47 rfl (lv_at hl 2 rfl) ?_
      refine lv_iload_n S.x S.b dX7_setStroke_48 rfl (lv_at hl 3 rfl) ?_
      obtain ⟨hi, hf⟩ := ck_some hf
      obtain ⟨w_5, ew, hf⟩ := lt_some hf
      refine mm_st S hM 2 rfl hi ew dX7_setStroke_49 (fun H locs hM => ?_)
      refine lv_aload_n S.x S.b dX7_setStroke_50 rfl (lv_at hl 1 rfl) ?_
      refine lv_aload_n S.x S.b dX7_setStroke_51 rfl (lv_at hl 1 rfl) ?_
      refine mm_g S hM 0 rfl q1448 rfl dX7_setStroke_52 ?_
      obtain ⟨w_6, hc, hf⟩ := bd_some hf
      refine mm_cv S hM hl [.ref (ad 0)] rfl (metX7_rests (jr := 0) rfl hc) hdX7_rests q1433 q1435 qs29 q69 q1436 ⟨rfl, rfl⟩ ⟨rfl, rfl⟩ rfl rfl rfl ⟨Nat.zero_le _, Nat.zero_le _⟩ dX7_setStroke_55 (fun H locs hM => ?_)
      refine lv_iload_n S.x S.b dX7_setStroke_58 rfl (lv_at hl 0 rfl) ?_
      obtain ⟨rfl, rfl⟩ := rt2 hf
      exact g_iret S hM rfl dX7_setStroke_59
    · have hf := if_t cn hf
      refine lv_aload_n S.x S.b dX7_setStroke_30 rfl (lv_at hl 0 rfl) ?_
      refine lv_iconst (v := (2 : Int32)) S.x S.b dX7_setStroke_31 ki_2 ?_
      obtain ⟨r_8, w_7, hc, hf⟩ := bd2_some hf
      refine mm_ci S hM hl [.int (2 : Int32)] rfl (metX7_fails hc) hdX7_fails q1517 q1519 qs32 q69 q1520 ⟨rfl, rfl⟩ ⟨rfl, rfl⟩ rfl rfl rfl ⟨Nat.zero_le _, Nat.zero_le _⟩ dX7_setStroke_32 (fun H locs hM => ?_)
      obtain ⟨rfl, rfl⟩ := rt2 hf
      exact g_iret S hM rfl dX7_setStroke_35
  · have hf := if_t cn hf
    refine lv_aload_n S.x S.b dX7_setStroke_14 rfl (lv_at hl 0 rfl) ?_
    refine lv_iconst (v := (1 : Int32)) S.x S.b dX7_setStroke_15 ki_1 ?_
    obtain ⟨r_10, w_9, hc, hf⟩ := bd2_some hf
    refine mm_ci S hM hl [.int (1 : Int32)] rfl (metX7_fails hc) hdX7_fails q1517 q1519 qs32 q69 q1520 ⟨rfl, rfl⟩ ⟨rfl, rfl⟩ rfl rfl rfl ⟨Nat.zero_le _, Nat.zero_le _⟩ dX7_setStroke_16 (fun H locs hM => ?_)
    obtain ⟨rfl, rfl⟩ := rt2 hf
    exact g_iret S hM rfl dX7_setStroke_19
/-! SequenceBenchModel.steps()I -/
theorem hdX7_steps : gHd yX7_steps 0 := by decide +kernel
def gX7_steps (w : MW) : Option (Int32 × MW) :=
  lt (setF w 3 (0 : Int32)) fun w_1 =>
  some ((w_1.1 4), w_1)
abbrev rmX7_steps : Room := { frames := 1, cells := 0, slots := 0, locals := 12 }
set_option maxHeartbeats 4000000 in
theorem metX7_steps {l : Launch} {D : va_G} {T : Nat → ClassId} {h : Nat} {ad : Nat → Nat} {rr : Int32} {wr : MW} {w : MW} (hf : gX7_steps w = some (rr, wr)) (sz : Nat) : MetI l yX7_steps (ws_ yX7_steps cX7_steps 1 (some .int)) rmX7_steps D T (mmW h ad (T 0) w) sz [.ref h] rr (mmW h ad (T 0) wr) := by
  refine g_entry (Qc := fun A => gQi D T A rr (mmW h ad (T 0) wr)) (by decide) rfl ?_
  intro p e s m below meth c ls S hM hl
  have hl : lv_has ls 1 [(0, .ref h)] := hl
  refine lv_aload_n S.x S.b dX7_steps_0 rfl (lv_at hl 0 rfl) ?_
  refine lv_iconst (v := (0 : Int32)) S.x S.b dX7_steps_1 ki_0 ?_
  obtain ⟨w_1, ew, hf⟩ := lt_some hf
  refine mm_p S hM 3 rfl ew q1451 dX7_steps_2 (fun H locs hM => ?_)
  refine lv_aload_n S.x S.b dX7_steps_5 rfl (lv_at hl 0 rfl) ?_
  refine mm_g S hM 4 rfl q1452 rfl dX7_steps_6 ?_
  obtain ⟨rfl, rfl⟩ := rt2 hf
  exact g_iret S hM rfl dX7_steps_9
/-! SequenceBenchModel.suspect(I)I -/
theorem hdX7_suspect : gHd yX7_suspect 1 := by decide +kernel
def gX7_suspect_32 (N : Nat) : Nat → Int32 → Int32 → MW → Option (Int32 × MW)
  | 0, _, _, _ => none
  | n + 1, x2, x3, w =>
    if (30 : Int32) ≤ x3 then (
    some ((-1 : Int32), w))
    else (
    if x2 < 0 then (
    some ((-1 : Int32), w))
    else (
    bd2 (gX7_explains N (x3 / (5 : Int32)) (x3 - x3 / (5 : Int32) * (5 : Int32)) w) fun r_7 w_6 =>
    if r_7 = 0 then (
    lt (x3 + (1 : Int32)) fun x3_8 =>
    gX7_suspect_32 N n x2 x3_8 w_6)
    else (
    if x2 = 0 then (
    some ((((10 : Int32) * (x3 / (5 : Int32))) + (x3 - x3 / (5 : Int32) * (5 : Int32))), w_6))
    else (
    lt (x2 + (-1 : Int32)) fun x2_9 =>
    lt (x3 + (1 : Int32)) fun x3_10 =>
    gX7_suspect_32 N n x2_9 x3_10 w_6))))
def gX7_suspect (N : Nat) (x1 : Int32) (w : MW) : Option (Int32 × MW) :=
  lt (setF w 3 (0 : Int32)) fun w_1 =>
  if 0 ≤ x1 then (
  if (w_1.1 4) = 0 then (
  bd2 (gX7_fails (2 : Int32) w_1) fun r_3 w_2 =>
  some (r_3, w_2))
  else (
  gX7_suspect_32 N N x1 (0 : Int32) w_1))
  else (
  bd2 (gX7_fails (1 : Int32) w_1) fun r_5 w_4 =>
  some (r_5, w_4))
abbrev rmX7_suspect : Room := { frames := 7, cells := 0, slots := 0, locals := 166 }
set_option maxHeartbeats 4000000 in
theorem wX7_suspect_32 {p : Program} {l : Launch} {e : Env} {s : State} {m : MethodId} {args : Array Value} {below : List Frame} {meth : Method} {c : Code} {D : va_G} {T : Nat → ClassId} {A : Nat → Prop} {h : Nat} {ad : Nat → Nat} {rr : Int32} {wr : MW} {N : Nat} (S : gS p s m args meth c cX7_suspect 4 (some .int) RX7 D T) : ∀ (n : Nat) (x2 : Int32) (x3 : Int32) (w : MW) (H : Heap) (locs : List Loc) (ls : Array Slot), gM D A s.heap (mmW h ad (T 0) w) H locs → lv_has ls 4 [(0, .ref h), (2, .int x2), (3, .int x3)] → gX7_suspect_32 N n x2 x3 w = some (rr, wr) → W p l e rmX7_suspect s m args below meth c H locs 0 0 (MQ below (gQi D T A rr (mmW h ad (T 0) wr)) args s 0 0 A) (F0 m 32 ls []) := by
  intro n
  induction n with
  | zero =>
    intro x2 x3 w H locs ls hM hl hf
    cases hf
  | succ n ih =>
    intro x2 x3 w H locs ls hM hl hf
    refine lv_iload_n S.x S.b dX7_suspect_32 rfl (lv_at hl 2 rfl) ?_
    refine lv_bipush (v := (30 : Int32)) S.x S.b dX7_suspect_33 kb_30 ?_
    refine lv_icmp_ge (tgt := 79) S.x S.b dX7_suspect_35 rfl (fun cn => ?_) (fun cn => ?_)
    · have hf := if_t cn hf
      refine lv_iconst (v := (-1 : Int32)) S.x S.b dX7_suspect_79 ki_m1 ?_
      obtain ⟨rfl, rfl⟩ := rt2 hf
      exact g_iret S hM rfl dX7_suspect_80
    · have hf := if_f cn hf
      refine lv_iload_n S.x S.b dX7_suspect_38 rfl (lv_at hl 1 rfl) ?_
      refine lv_if_lt (tgt := 79) S.x S.b dX7_suspect_39 rfl (fun cn => ?_) (fun cn => ?_)
      · have hf := if_t cn hf
        refine lv_iconst (v := (-1 : Int32)) S.x S.b dX7_suspect_79 ki_m1 ?_
        obtain ⟨rfl, rfl⟩ := rt2 hf
        exact g_iret S hM rfl dX7_suspect_80
      · have hf := if_f cn hf
        refine lv_aload_n S.x S.b dX7_suspect_42 rfl (lv_at hl 0 rfl) ?_
        refine lv_iload_n S.x S.b dX7_suspect_43 rfl (lv_at hl 2 rfl) ?_
        refine lv_iconst (v := (5 : Int32)) S.x S.b dX7_suspect_44 ki_5 ?_
        refine lv_idiv S.x S.b dX7_suspect_45 (by decide) ?_
        refine lv_iload_n S.x S.b dX7_suspect_46 rfl (lv_at hl 2 rfl) ?_
        refine lv_iconst (v := (5 : Int32)) S.x S.b dX7_suspect_47 ki_5 ?_
        refine lv_irem S.x S.b dX7_suspect_48 (by decide) ?_
        obtain ⟨r_7, w_6, hc, hf⟩ := bd2_some hf
        refine mm_ci S hM hl [.int (x3 / (5 : Int32)), .int (x3 - x3 / (5 : Int32) * (5 : Int32))] rfl (metX7_explains hc) hdX7_explains q1783 q1785 qs60 q69 q1786 ⟨rfl, rfl⟩ ⟨rfl, rfl⟩ rfl rfl rfl ⟨Nat.zero_le _, Nat.zero_le _⟩ dX7_suspect_49 (fun H locs hM => ?_)
        refine lv_if_eq (tgt := 73) S.x S.b dX7_suspect_52 rfl (fun cn => ?_) (fun cn => ?_)
        · have hf := if_t cn hf
          obtain ⟨x3_8, ex, hf⟩ := lt_some hf
          refine g_inc S (x' := x3_8) (d := (1 : Int32)) hl (k := 2) rfl ki_1 ex dX7_suspect_73 rfl (lv' := [(3, .int x3_8), (0, .ref h), (2, .int x2)]) rfl (fun ls hl => ?_)
          refine lv_goto (tgt := 32) S.x S.b dX7_suspect_76 rfl ?_
          exact ih x2 x3_8 w_6 _ _ _ hM (lv_sub hl [1, 2, 0] rfl) hf
        · have hf := if_f cn hf
          refine lv_iload_n S.x S.b dX7_suspect_55 rfl (lv_at hl 1 rfl) ?_
          refine lv_if_ne (tgt := 70) S.x S.b dX7_suspect_56 rfl (fun cn => ?_) (fun cn => ?_)
          · have hf := if_f cn hf
            obtain ⟨x2_9, ex, hf⟩ := lt_some hf
            refine g_inc S (x' := x2_9) (d := (-1 : Int32)) hl (k := 1) rfl ki_m1 ex dX7_suspect_70 rfl (lv' := [(2, .int x2_9), (0, .ref h), (3, .int x3)]) rfl (fun ls hl => ?_)
            obtain ⟨x3_10, ex, hf⟩ := lt_some hf
            refine g_inc S (x' := x3_10) (d := (1 : Int32)) hl (k := 2) rfl ki_1 ex dX7_suspect_73 rfl (lv' := [(3, .int x3_10), (2, .int x2_9), (0, .ref h)]) rfl (fun ls hl => ?_)
            refine lv_goto (tgt := 32) S.x S.b dX7_suspect_76 rfl ?_
            exact ih x2_9 x3_10 w_6 _ _ _ hM (lv_sub hl [2, 1, 0] rfl) hf
          · have hf := if_t cn hf
            refine lv_bipush (v := (10 : Int32)) S.x S.b dX7_suspect_59 kb_10 ?_
            refine lv_iload_n S.x S.b dX7_suspect_61 rfl (lv_at hl 2 rfl) ?_
            refine lv_iconst (v := (5 : Int32)) S.x S.b dX7_suspect_62 ki_5 ?_
            refine lv_idiv S.x S.b dX7_suspect_63 (by decide) ?_
            refine lv_imul S.x S.b dX7_suspect_64 ?_
            refine lv_iload_n S.x S.b dX7_suspect_65 rfl (lv_at hl 2 rfl) ?_
            refine lv_iconst (v := (5 : Int32)) S.x S.b dX7_suspect_66 ki_5 ?_
            refine lv_irem S.x S.b dX7_suspect_67 (by decide) ?_
            refine lv_iadd S.x S.b dX7_suspect_68 ?_
            obtain ⟨rfl, rfl⟩ := rt2 hf
            exact g_iret S hM rfl dX7_suspect_69
set_option maxHeartbeats 4000000 in
theorem metX7_suspect {l : Launch} {D : va_G} {T : Nat → ClassId} {h : Nat} {ad : Nat → Nat} {rr : Int32} {wr : MW} {N : Nat} {x1 : Int32} {w : MW} (hf : gX7_suspect N x1 w = some (rr, wr)) (sz : Nat) : MetI l yX7_suspect (ws_ yX7_suspect cX7_suspect 4 (some .int)) rmX7_suspect D T (mmW h ad (T 0) w) sz [.ref h, .int x1] rr (mmW h ad (T 0) wr) := by
  refine g_entry (Qc := fun A => gQi D T A rr (mmW h ad (T 0) wr)) (by decide) rfl ?_
  intro p e s m below meth c ls S hM hl
  have hl : lv_has ls 4 [(0, .ref h), (1, .int x1)] := hl
  refine lv_aload_n S.x S.b dX7_suspect_0 rfl (lv_at hl 0 rfl) ?_
  refine lv_iconst (v := (0 : Int32)) S.x S.b dX7_suspect_1 ki_0 ?_
  obtain ⟨w_1, ew, hf⟩ := lt_some hf
  refine mm_p S hM 3 rfl ew q1451 dX7_suspect_2 (fun H locs hM => ?_)
  refine lv_iload_n S.x S.b dX7_suspect_5 rfl (lv_at hl 1 rfl) ?_
  refine lv_if_ge (tgt := 15) S.x S.b dX7_suspect_6 rfl (fun cn => ?_) (fun cn => ?_)
  · have hf := if_t cn hf
    refine lv_aload_n S.x S.b dX7_suspect_15 rfl (lv_at hl 0 rfl) ?_
    refine mm_g S hM 4 rfl q1452 rfl dX7_suspect_16 ?_
    refine lv_if_ne (tgt := 28) S.x S.b dX7_suspect_19 rfl (fun cn => ?_) (fun cn => ?_)
    · have hf := if_f cn hf
      refine lv_iload_n S.x S.b dX7_suspect_28 rfl (lv_at hl 1 rfl) ?_
      refine g_istn S (x' := x1) rfl hl dX7_suspect_29 rfl rfl (lv' := [(2, .int x1), (0, .ref h), (1, .int x1)]) rfl (fun ls hl => ?_)
      refine lv_iconst (v := (0 : Int32)) S.x S.b dX7_suspect_30 ki_0 ?_
      refine g_istn S (x' := (0 : Int32)) rfl hl dX7_suspect_31 rfl rfl (lv' := [(3, .int (0 : Int32)), (2, .int x1), (0, .ref h), (1, .int x1)]) rfl (fun ls hl => ?_)
      exact wX7_suspect_32 S N x1 (0 : Int32) w_1 _ _ _ hM (lv_sub hl [2, 1, 0] rfl) hf
    · have hf := if_t cn hf
      refine lv_aload_n S.x S.b dX7_suspect_22 rfl (lv_at hl 0 rfl) ?_
      refine lv_iconst (v := (2 : Int32)) S.x S.b dX7_suspect_23 ki_2 ?_
      obtain ⟨r_3, w_2, hc, hf⟩ := bd2_some hf
      refine mm_ci S hM hl [.int (2 : Int32)] rfl (metX7_fails hc) hdX7_fails q1517 q1519 qs32 q69 q1520 ⟨rfl, rfl⟩ ⟨rfl, rfl⟩ rfl rfl rfl ⟨Nat.zero_le _, Nat.zero_le _⟩ dX7_suspect_24 (fun H locs hM => ?_)
      obtain ⟨rfl, rfl⟩ := rt2 hf
      exact g_iret S hM rfl dX7_suspect_27
  · have hf := if_f cn hf
    refine lv_aload_n S.x S.b dX7_suspect_9 rfl (lv_at hl 0 rfl) ?_
    refine lv_iconst (v := (1 : Int32)) S.x S.b dX7_suspect_10 ki_1 ?_
    obtain ⟨r_5, w_4, hc, hf⟩ := bd2_some hf
    refine mm_ci S hM hl [.int (1 : Int32)] rfl (metX7_fails hc) hdX7_fails q1517 q1519 qs32 q69 q1520 ⟨rfl, rfl⟩ ⟨rfl, rfl⟩ rfl rfl rfl ⟨Nat.zero_le _, Nat.zero_le _⟩ dX7_suspect_11 (fun H locs hM => ?_)
    obtain ⟨rfl, rfl⟩ := rt2 hf
    exact g_iret S hM rfl dX7_suspect_14
/-! SequenceBenchModel.thrown()I -/
theorem hdX7_thrown : gHd yX7_thrown 0 := by decide +kernel
def gX7_thrown (w : MW) : Option (Int32 × MW) :=
  some ((w.1 3), w)
abbrev rmX7_thrown : Room := { frames := 1, cells := 0, slots := 0, locals := 12 }
set_option maxHeartbeats 4000000 in
theorem metX7_thrown {l : Launch} {D : va_G} {T : Nat → ClassId} {h : Nat} {ad : Nat → Nat} {rr : Int32} {wr : MW} {w : MW} (hf : gX7_thrown w = some (rr, wr)) (sz : Nat) : MetI l yX7_thrown (ws_ yX7_thrown cX7_thrown 1 (some .int)) rmX7_thrown D T (mmW h ad (T 0) w) sz [.ref h] rr (mmW h ad (T 0) wr) := by
  refine g_entry (Qc := fun A => gQi D T A rr (mmW h ad (T 0) wr)) (by decide) rfl ?_
  intro p e s m below meth c ls S hM hl
  have hl : lv_has ls 1 [(0, .ref h)] := hl
  refine lv_aload_n S.x S.b dX7_thrown_0 rfl (lv_at hl 0 rfl) ?_
  refine mm_g S hM 3 rfl q1451 rfl dX7_thrown_1 ?_
  obtain ⟨rfl, rfl⟩ := rt2 hf
  exact g_iret S hM rfl dX7_thrown_4
/-! SequenceBenchModel.ticks(I)I -/
theorem hdX7_ticks : gHd yX7_ticks 1 := by decide +kernel
def gX7_ticks_44 (N : Nat) : Nat → Int32 → Int32 → Int32 → MW → Option (Int32 × MW)
  | 0, _, _, _, _ => none
  | n + 1, x1, x2, x3, w =>
    if x1 ≤ x3 then (
    ck (4 : Int32) 140 <|
    some (((w.2 0 (4 : Int32).toNatClampNeg) - x2), w))
    else (
    bd (gX7_ticksOnce N 0 w) fun w_8 =>
    lt (x3 + (1 : Int32)) fun x3_9 =>
    gX7_ticks_44 N n x1 x2 x3_9 w_8)
def gX7_ticks (N : Nat) (x1 : Int32) (w : MW) : Option (Int32 × MW) :=
  lt (setF w 3 (0 : Int32)) fun w_1 =>
  bd (gX7_in x1 (0 : Int32) (5000 : Int32)) fun r_2 =>
  if r_2 = 0 then (
  bd2 (gX7_fails (1 : Int32) w_1) fun r_7 w_6 =>
  some (r_7, w_6))
  else (
  if (w_1.1 4) = 0 then (
  bd2 (gX7_fails (2 : Int32) w_1) fun r_5 w_4 =>
  some (r_5, w_4))
  else (
  ck (4 : Int32) 140 <|
  lt ((w_1.2 0 (4 : Int32).toNatClampNeg)) fun x2_3 =>
  gX7_ticks_44 N N x1 x2_3 (0 : Int32) w_1))
abbrev rmX7_ticks : Room := { frames := 5, cells := 0, slots := 0, locals := 116 }
set_option maxHeartbeats 4000000 in
theorem wX7_ticks_44 {p : Program} {l : Launch} {e : Env} {s : State} {m : MethodId} {args : Array Value} {below : List Frame} {meth : Method} {c : Code} {D : va_G} {T : Nat → ClassId} {A : Nat → Prop} {h : Nat} {ad : Nat → Nat} {rr : Int32} {wr : MW} {N : Nat} (S : gS p s m args meth c cX7_ticks 4 (some .int) RX7 D T) : ∀ (n : Nat) (x1 : Int32) (x2 : Int32) (x3 : Int32) (w : MW) (H : Heap) (locs : List Loc) (ls : Array Slot), gM D A s.heap (mmW h ad (T 0) w) H locs → lv_has ls 4 [(0, .ref h), (1, .int x1), (2, .int x2), (3, .int x3)] → gX7_ticks_44 N n x1 x2 x3 w = some (rr, wr) → W p l e rmX7_ticks s m args below meth c H locs 0 0 (MQ below (gQi D T A rr (mmW h ad (T 0) wr)) args s 0 0 A) (F0 m 44 ls []) := by
  intro n
  induction n with
  | zero =>
    intro x1 x2 x3 w H locs ls hM hl hf
    cases hf
  | succ n ih =>
    intro x1 x2 x3 w H locs ls hM hl hf
    refine lv_iload_n S.x S.b dX7_ticks_44 rfl (lv_at hl 3 rfl) ?_
    refine lv_iload_n S.x S.b dX7_ticks_45 rfl (lv_at hl 1 rfl) ?_
    refine lv_icmp_ge (tgt := 63) S.x S.b dX7_ticks_46 rfl (fun cn => ?_) (fun cn => ?_)
    · have hf := if_t cn hf
      refine lv_aload_n S.x S.b dX7_ticks_63 rfl (lv_at hl 0 rfl) ?_
      refine mm_g S hM 0 rfl q1448 rfl dX7_ticks_64 ?_
      refine lv_iconst (v := (4 : Int32)) S.x S.b dX7_ticks_67 ki_4 ?_
      obtain ⟨hi, hf⟩ := ck_some hf
      refine mm_ld S hM 0 rfl hi dX7_ticks_68 ?_
      refine lv_iload_n S.x S.b dX7_ticks_69 rfl (lv_at hl 2 rfl) ?_
      refine lv_isub S.x S.b dX7_ticks_70 ?_
      obtain ⟨rfl, rfl⟩ := rt2 hf
      exact g_iret S hM rfl dX7_ticks_71
    · have hf := if_f cn hf
      refine lv_aload_n S.x S.b dX7_ticks_49 rfl (lv_at hl 0 rfl) ?_
      refine lv_aload_n S.x S.b dX7_ticks_50 rfl (lv_at hl 0 rfl) ?_
      refine mm_g S hM 0 rfl q1448 rfl dX7_ticks_51 ?_
      obtain ⟨w_8, hc, hf⟩ := bd_some hf
      refine mm_cv S hM hl [.ref (ad 0)] rfl (metX7_ticksOnce (jr := 0) rfl hc) hdX7_ticksOnce q1675 q1677 qs51 q69 q1678 ⟨rfl, rfl⟩ ⟨rfl, rfl⟩ rfl rfl rfl ⟨Nat.zero_le _, Nat.zero_le _⟩ dX7_ticks_54 (fun H locs hM => ?_)
      obtain ⟨x3_9, ex, hf⟩ := lt_some hf
      refine g_inc S (x' := x3_9) (d := (1 : Int32)) hl (k := 3) rfl ki_1 ex dX7_ticks_57 rfl (lv' := [(3, .int x3_9), (0, .ref h), (1, .int x1), (2, .int x2)]) rfl (fun ls hl => ?_)
      refine lv_goto (tgt := 44) S.x S.b dX7_ticks_60 rfl ?_
      exact ih x1 x2 x3_9 w_8 _ _ _ hM (lv_sub hl [1, 2, 3, 0] rfl) hf
set_option maxHeartbeats 4000000 in
theorem metX7_ticks {l : Launch} {D : va_G} {T : Nat → ClassId} {h : Nat} {ad : Nat → Nat} {rr : Int32} {wr : MW} {N : Nat} {x1 : Int32} {w : MW} (hf : gX7_ticks N x1 w = some (rr, wr)) (sz : Nat) : MetI l yX7_ticks (ws_ yX7_ticks cX7_ticks 4 (some .int)) rmX7_ticks D T (mmW h ad (T 0) w) sz [.ref h, .int x1] rr (mmW h ad (T 0) wr) := by
  refine g_entry (Qc := fun A => gQi D T A rr (mmW h ad (T 0) wr)) (by decide) rfl ?_
  intro p e s m below meth c ls S hM hl
  have hl : lv_has ls 4 [(0, .ref h), (1, .int x1)] := hl
  refine lv_aload_n S.x S.b dX7_ticks_0 rfl (lv_at hl 0 rfl) ?_
  refine lv_iconst (v := (0 : Int32)) S.x S.b dX7_ticks_1 ki_0 ?_
  obtain ⟨w_1, ew, hf⟩ := lt_some hf
  refine mm_p S hM 3 rfl ew q1451 dX7_ticks_2 (fun H locs hM => ?_)
  refine lv_iload_n S.x S.b dX7_ticks_5 rfl (lv_at hl 1 rfl) ?_
  refine lv_iconst (v := (0 : Int32)) S.x S.b dX7_ticks_6 ki_0 ?_
  refine lv_sipush (v := (5000 : Int32)) S.x S.b dX7_ticks_7 ks_5000 ?_
  obtain ⟨r_2, hc, hf⟩ := bd_some hf
  refine gg_si S hM hl [.int x1, .int (0 : Int32), .int (5000 : Int32)] (metX7_in hc) hdX7_in q1437 q1438 q69 q1439 ⟨rfl, rfl⟩ ⟨rfl, rfl⟩ rfl rfl rfl ⟨Nat.zero_le _, Nat.zero_le _⟩ dX7_ticks_10 (fun H locs hM => ?_)
  refine lv_if_ne (tgt := 22) S.x S.b dX7_ticks_13 rfl (fun cn => ?_) (fun cn => ?_)
  · have hf := if_f cn hf
    refine lv_aload_n S.x S.b dX7_ticks_22 rfl (lv_at hl 0 rfl) ?_
    refine mm_g S hM 4 rfl q1452 rfl dX7_ticks_23 ?_
    refine lv_if_ne (tgt := 35) S.x S.b dX7_ticks_26 rfl (fun cn => ?_) (fun cn => ?_)
    · have hf := if_f cn hf
      refine lv_aload_n S.x S.b dX7_ticks_35 rfl (lv_at hl 0 rfl) ?_
      refine mm_g S hM 0 rfl q1448 rfl dX7_ticks_36 ?_
      refine lv_iconst (v := (4 : Int32)) S.x S.b dX7_ticks_39 ki_4 ?_
      obtain ⟨hi, hf⟩ := ck_some hf
      refine mm_ld S hM 0 rfl hi dX7_ticks_40 ?_
      obtain ⟨x2_3, ex, hf⟩ := lt_some hf
      refine g_istn S (x' := x2_3) ex hl dX7_ticks_41 rfl rfl (lv' := [(2, .int x2_3), (0, .ref h), (1, .int x1)]) rfl (fun ls hl => ?_)
      refine lv_iconst (v := (0 : Int32)) S.x S.b dX7_ticks_42 ki_0 ?_
      refine g_istn S (x' := (0 : Int32)) rfl hl dX7_ticks_43 rfl rfl (lv' := [(3, .int (0 : Int32)), (2, .int x2_3), (0, .ref h), (1, .int x1)]) rfl (fun ls hl => ?_)
      exact wX7_ticks_44 S N x1 x2_3 (0 : Int32) w_1 _ _ _ hM (lv_sub hl [2, 3, 1, 0] rfl) hf
    · have hf := if_t cn hf
      refine lv_aload_n S.x S.b dX7_ticks_29 rfl (lv_at hl 0 rfl) ?_
      refine lv_iconst (v := (2 : Int32)) S.x S.b dX7_ticks_30 ki_2 ?_
      obtain ⟨r_5, w_4, hc, hf⟩ := bd2_some hf
      refine mm_ci S hM hl [.int (2 : Int32)] rfl (metX7_fails hc) hdX7_fails q1517 q1519 qs32 q69 q1520 ⟨rfl, rfl⟩ ⟨rfl, rfl⟩ rfl rfl rfl ⟨Nat.zero_le _, Nat.zero_le _⟩ dX7_ticks_31 (fun H locs hM => ?_)
      obtain ⟨rfl, rfl⟩ := rt2 hf
      exact g_iret S hM rfl dX7_ticks_34
  · have hf := if_t cn hf
    refine lv_aload_n S.x S.b dX7_ticks_16 rfl (lv_at hl 0 rfl) ?_
    refine lv_iconst (v := (1 : Int32)) S.x S.b dX7_ticks_17 ki_1 ?_
    obtain ⟨r_7, w_6, hc, hf⟩ := bd2_some hf
    refine mm_ci S hM hl [.int (1 : Int32)] rfl (metX7_fails hc) hdX7_fails q1517 q1519 qs32 q69 q1520 ⟨rfl, rfl⟩ ⟨rfl, rfl⟩ rfl rfl rfl ⟨Nat.zero_le _, Nat.zero_le _⟩ dX7_ticks_18 (fun H locs hM => ?_)
    obtain ⟨rfl, rfl⟩ := rt2 hf
    exact g_iret S hM rfl dX7_ticks_21
