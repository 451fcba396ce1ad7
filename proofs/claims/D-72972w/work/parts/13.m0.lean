set_option maxRecDepth 100000
/-! SequenceBenchModel.active()I -/
theorem hdX7_active : gHd yX7_active 0 := by decide +kernel
def gX7_active (w : MW) : Option (Int32 × MW) :=
  lt (setF w 3 (0 : Int32)) fun w_1 =>
  ck (3 : Int32) 140 <|
  some ((w_1.2 0 (3 : Int32).toNatClampNeg), w_1)
abbrev rmX7_active : Room := { frames := 1, cells := 0, slots := 0, locals := 12 }
set_option maxHeartbeats 4000000 in
theorem metX7_active {l : Launch} {D : va_G} {T : Nat → ClassId} {h : Nat} {ad : Nat → Nat} {rr : Int32} {wr : MW} {w : MW} (hf : gX7_active w = some (rr, wr)) (sz : Nat) : MetI l yX7_active (ws_ yX7_active cX7_active 1 (some .int)) rmX7_active D T (mmW h ad (T 0) w) sz [.ref h] rr (mmW h ad (T 0) wr) := by
  refine g_entry (Qc := fun A => gQi D T A rr (mmW h ad (T 0) wr)) (by decide) rfl ?_
  intro p e s m below meth c ls S hM hl
  have hl : lv_has ls 1 [(0, .ref h)] := hl
  refine lv_aload_n S.x S.b dX7_active_0 rfl (lv_at hl 0 rfl) ?_
  refine lv_iconst (v := (0 : Int32)) S.x S.b dX7_active_1 ki_0 ?_
  obtain ⟨w_1, ew, hf⟩ := lt_some hf
  refine mm_p S hM 3 rfl ew q1451 dX7_active_2 (fun H locs hM => ?_)
  refine lv_aload_n S.x S.b dX7_active_5 rfl (lv_at hl 0 rfl) ?_
  refine mm_g S hM 0 rfl q1448 rfl dX7_active_6 ?_
  refine lv_iconst (v := (3 : Int32)) S.x S.b dX7_active_9 ki_3 ?_
  obtain ⟨hi, hf⟩ := ck_some hf
  refine mm_ld S hM 0 rfl hi dX7_active_10 ?_
  obtain ⟨rfl, rfl⟩ := rt2 hf
  exact g_iret S hM rfl dX7_active_11
/-! SequenceBenchModel.areGroups(I)Z -/
theorem hdX7_areGroups : gHd yX7_areGroups 1 := by decide +kernel
def gX7_areGroups_56 (N : Nat) (k21 : Int32 → Int32 → Int32 → Int32 → MW → Option (Int32 × MW)) (x1 : Int32) (x2 : Int32) (x4 : Int32) (x5 : Int32) (s0 : Int32) (w : MW) : Option (Int32 × MW) :=
  ck x5 16 <|
  ck x5 16 <|
  lt (((w.2 3 x5.toNatClampNeg) ||| (w.2 4 x5.toNatClampNeg))) fun x6_3 =>
  if (s0 &&& x6_3) = 0 then (
  lt ((s0 ||| x6_3)) fun x3_4 =>
  lt (x4 + (1 : Int32)) fun x4_5 =>
  k21 x1 x2 x3_4 x4_5 w)
  else (
  some ((0 : Int32), w))
def gX7_areGroups_21 (N : Nat) : Nat → Int32 → Int32 → Int32 → Int32 → MW → Option (Int32 × MW)
  | 0, _, _, _, _, _ => none
  | n + 1, x1, x2, x3, x4, w =>
    if (w.1 4) ≤ x4 then (
    some ((1 : Int32), w))
    else (
    nz (w.1 4) <|
    lt (((x2 + x4) - (x2 + x4) / (w.1 4) * (w.1 4))) fun x5_2 =>
    if ((x1 >>> (x5_2 &&& 31)) &&& (1 : Int32)) = (1 : Int32) then (
    gX7_areGroups_56 N (gX7_areGroups_21 N n) x1 x2 x4 x5_2 (0 : Int32) w)
    else (
    gX7_areGroups_56 N (gX7_areGroups_21 N n) x1 x2 x4 x5_2 x3 w))
def gX7_areGroups_2 (N : Nat) : Nat → Int32 → Int32 → MW → Option (Int32 × MW)
  | 0, _, _, _ => none
  | n + 1, x1, x2, w =>
    if ((x1 >>> (x2 &&& 31)) &&& (1 : Int32)) = 0 then (
    lt (x2 + (1 : Int32)) fun x2_1 =>
    gX7_areGroups_2 N n x1 x2_1 w)
    else (
    gX7_areGroups_21 N N x1 x2 (0 : Int32) (0 : Int32) w)
def gX7_areGroups (N : Nat) (x1 : Int32) (w : MW) : Option (Int32 × MW) :=
  gX7_areGroups_2 N N x1 (0 : Int32) w
abbrev rmX7_areGroups : Room := { frames := 1, cells := 0, slots := 0, locals := 12 }
set_option maxHeartbeats 4000000 in
theorem wX7_areGroups_56 {p : Program} {l : Launch} {e : Env} {s : State} {m : MethodId} {args : Array Value} {below : List Frame} {meth : Method} {c : Code} {D : va_G} {T : Nat → ClassId} {A : Nat → Prop} {h : Nat} {ad : Nat → Nat} {rr : Int32} {wr : MW} {N : Nat} (S : gS p s m args meth c cX7_areGroups 7 (some .boolean) RX7 D T) {k21 : Int32 → Int32 → Int32 → Int32 → MW → Option (Int32 × MW)} (hk21 : ∀ (x1 : Int32) (x2 : Int32) (x3 : Int32) (x4 : Int32) (w : MW) (H : Heap) (locs : List Loc) (ls : Array Slot), gM D A s.heap (mmW h ad (T 0) w) H locs → lv_has ls 7 [(0, .ref h), (1, .int x1), (2, .int x2), (3, .int x3), (4, .int x4)] → k21 x1 x2 x3 x4 w = some (rr, wr) → W p l e rmX7_areGroups s m args below meth c H locs 0 0 (MQ below (gQi D T A rr (mmW h ad (T 0) wr)) args s 0 0 A) (F0 m 21 ls [])) : ∀ (x1 : Int32) (x2 : Int32) (x4 : Int32) (x5 : Int32) (s0 : Int32) (w : MW) (H : Heap) (locs : List Loc) (ls : Array Slot), gM D A s.heap (mmW h ad (T 0) w) H locs → lv_has ls 7 [(0, .ref h), (1, .int x1), (2, .int x2), (4, .int x4), (5, .int x5)] → gX7_areGroups_56 N k21 x1 x2 x4 x5 s0 w = some (rr, wr) → W p l e rmX7_areGroups s m args below meth c H locs 0 0 (MQ below (gQi D T A rr (mmW h ad (T 0) wr)) args s 0 0 A) (F0 m 56 ls [.int s0]) := by
  intro x1 x2 x4 x5 s0 w H locs ls hM hl hf
  refine g_istn S (x' := s0) rfl hl dX7_areGroups_56 rfl rfl (lv' := [(3, .int s0), (0, .ref h), (1, .int x1), (2, .int x2), (4, .int x4), (5, .int x5)]) rfl (fun ls hl => ?_)
  refine lv_aload_n S.x S.b dX7_areGroups_57 rfl (lv_at hl 1 rfl) ?_
  refine mm_g S hM 5 rfl q1453 rfl dX7_areGroups_58 ?_
  refine lv_iload S.x S.b dX7_areGroups_61 (lv_at hl 5 rfl) ?_
  obtain ⟨hi, hf⟩ := ck_some hf
  refine mm_ld S hM 3 rfl hi dX7_areGroups_63 ?_
  refine lv_aload_n S.x S.b dX7_areGroups_64 rfl (lv_at hl 1 rfl) ?_
  refine mm_g S hM 6 rfl q1454 rfl dX7_areGroups_65 ?_
  refine lv_iload S.x S.b dX7_areGroups_68 (lv_at hl 5 rfl) ?_
  obtain ⟨hi, hf⟩ := ck_some hf
  refine mm_ld S hM 4 rfl hi dX7_areGroups_70 ?_
  refine lv_ior S.x S.b dX7_areGroups_71 ?_
  obtain ⟨x6_3, ex, hf⟩ := lt_some hf
  refine g_ist S (x' := x6_3) ex hl dX7_areGroups_72 rfl (lv' := [(6, .int x6_3), (3, .int s0), (0, .ref h), (1, .int x1), (2, .int x2), (4, .int x4), (5, .int x5)]) rfl (fun ls hl => ?_)
  refine lv_iload_n S.x S.b dX7_areGroups_74 rfl (lv_at hl 1 rfl) ?_
  refine lv_iload S.x S.b dX7_areGroups_75 (lv_at hl 0 rfl) ?_
  refine lv_iand S.x S.b dX7_areGroups_77 ?_
  refine lv_if_eq (tgt := 83) S.x S.b dX7_areGroups_78 rfl (fun cn => ?_) (fun cn => ?_)
  · have hf := if_t cn hf
    refine lv_iload_n S.x S.b dX7_areGroups_83 rfl (lv_at hl 1 rfl) ?_
    refine lv_iload S.x S.b dX7_areGroups_84 (lv_at hl 0 rfl) ?_
    refine lv_ior S.x S.b dX7_areGroups_86 ?_
    obtain ⟨x3_4, ex, hf⟩ := lt_some hf
    refine g_istn S (x' := x3_4) ex hl dX7_areGroups_87 rfl rfl (lv' := [(3, .int x3_4), (6, .int x6_3), (0, .ref h), (1, .int x1), (2, .int x2), (4, .int x4), (5, .int x5)]) rfl (fun ls hl => ?_)
    obtain ⟨x4_5, ex, hf⟩ := lt_some hf
    refine g_inc S (x' := x4_5) (d := (1 : Int32)) hl (k := 5) rfl ki_1 ex dX7_areGroups_88 rfl (lv' := [(4, .int x4_5), (3, .int x3_4), (6, .int x6_3), (0, .ref h), (1, .int x1), (2, .int x2), (5, .int x5)]) rfl (fun ls hl => ?_)
    refine lv_goto (tgt := 21) S.x S.b dX7_areGroups_91 rfl ?_
    exact hk21 x1 x2 x3_4 x4_5 w _ _ _ hM (lv_sub hl [3, 4, 5, 1, 0] rfl) hf
  · have hf := if_f cn hf
    refine lv_iconst (v := (0 : Int32)) S.x S.b dX7_areGroups_81 ki_0 ?_
    obtain ⟨rfl, rfl⟩ := rt2 hf
    exact g_zret S hM rfl rfl dX7_areGroups_82
set_option maxHeartbeats 4000000 in
theorem wX7_areGroups_21 {p : Program} {l : Launch} {e : Env} {s : State} {m : MethodId} {args : Array Value} {below : List Frame} {meth : Method} {c : Code} {D : va_G} {T : Nat → ClassId} {A : Nat → Prop} {h : Nat} {ad : Nat → Nat} {rr : Int32} {wr : MW} {N : Nat} (S : gS p s m args meth c cX7_areGroups 7 (some .boolean) RX7 D T) : ∀ (n : Nat) (x1 : Int32) (x2 : Int32) (x3 : Int32) (x4 : Int32) (w : MW) (H : Heap) (locs : List Loc) (ls : Array Slot), gM D A s.heap (mmW h ad (T 0) w) H locs → lv_has ls 7 [(0, .ref h), (1, .int x1), (2, .int x2), (3, .int x3), (4, .int x4)] → gX7_areGroups_21 N n x1 x2 x3 x4 w = some (rr, wr) → W p l e rmX7_areGroups s m args below meth c H locs 0 0 (MQ below (gQi D T A rr (mmW h ad (T 0) wr)) args s 0 0 A) (F0 m 21 ls []) := by
  intro n
  induction n with
  | zero =>
    intro x1 x2 x3 x4 w H locs ls hM hl hf
    cases hf
  | succ n ih =>
    intro x1 x2 x3 x4 w H locs ls hM hl hf
    refine lv_iload S.x S.b dX7_areGroups_21 (lv_at hl 4 rfl) ?_
    refine lv_aload_n S.x S.b dX7_areGroups_23 rfl (lv_at hl 0 rfl) ?_
    refine mm_g S hM 4 rfl q1452 rfl dX7_areGroups_24 ?_
    refine lv_icmp_ge (tgt := 94) S.x S.b dX7_areGroups_27 rfl (fun cn => ?_) (fun cn => ?_)
    · have hf := if_t cn hf
      refine lv_iconst (v := (1 : Int32)) S.x S.b dX7_areGroups_94 ki_1 ?_
      obtain ⟨rfl, rfl⟩ := rt2 hf
      exact g_zret S hM rfl rfl dX7_areGroups_95
    · have hf := if_f cn hf
      refine lv_iload_n S.x S.b dX7_areGroups_30 rfl (lv_at hl 2 rfl) ?_
      refine lv_iload S.x S.b dX7_areGroups_31 (lv_at hl 4 rfl) ?_
      refine lv_iadd S.x S.b dX7_areGroups_33 ?_
      refine lv_aload_n S.x S.b dX7_areGroups_34 rfl (lv_at hl 0 rfl) ?_
      refine mm_g S hM 4 rfl q1452 rfl dX7_areGroups_35 ?_
      obtain ⟨hz, hf⟩ := nz_some hf
      refine lv_irem S.x S.b dX7_areGroups_38 hz ?_
      obtain ⟨x5_2, ex, hf⟩ := lt_some hf
      refine g_ist S (x' := x5_2) ex hl dX7_areGroups_39 rfl (lv' := [(5, .int x5_2), (0, .ref h), (1, .int x1), (2, .int x2), (3, .int x3), (4, .int x4)]) rfl (fun ls hl => ?_)
      refine lv_iload_n S.x S.b dX7_areGroups_41 rfl (lv_at hl 2 rfl) ?_
      refine lv_iload S.x S.b dX7_areGroups_42 (lv_at hl 0 rfl) ?_
      refine lv_ishr S.x S.b dX7_areGroups_44 ?_
      refine lv_iconst (v := (1 : Int32)) S.x S.b dX7_areGroups_45 ki_1 ?_
      refine lv_iand S.x S.b dX7_areGroups_46 ?_
      refine lv_iconst (v := (1 : Int32)) S.x S.b dX7_areGroups_47 ki_1 ?_
      refine lv_icmp_ne (tgt := 55) S.x S.b dX7_areGroups_48 rfl (fun cn => ?_) (fun cn => ?_)
      · have hf := if_f cn hf
        refine lv_iload_n S.x S.b dX7_areGroups_55 rfl (lv_at hl 4 rfl) ?_
        exact wX7_areGroups_56 S ih x1 x2 x4 x5_2 x3 w _ _ _ hM (lv_sub hl [1, 2, 3, 5, 0] rfl) hf
      · have hf := if_t cn hf
        refine lv_iconst (v := (0 : Int32)) S.x S.b dX7_areGroups_51 ki_0 ?_
        refine lv_goto (tgt := 56) S.x S.b dX7_areGroups_52 rfl ?_
        exact wX7_areGroups_56 S ih x1 x2 x4 x5_2 (0 : Int32) w _ _ _ hM (lv_sub hl [1, 2, 3, 5, 0] rfl) hf
set_option maxHeartbeats 4000000 in
theorem wX7_areGroups_2 {p : Program} {l : Launch} {e : Env} {s : State} {m : MethodId} {args : Array Value} {below : List Frame} {meth : Method} {c : Code} {D : va_G} {T : Nat → ClassId} {A : Nat → Prop} {h : Nat} {ad : Nat → Nat} {rr : Int32} {wr : MW} {N : Nat} (S : gS p s m args meth c cX7_areGroups 7 (some .boolean) RX7 D T) : ∀ (n : Nat) (x1 : Int32) (x2 : Int32) (w : MW) (H : Heap) (locs : List Loc) (ls : Array Slot), gM D A s.heap (mmW h ad (T 0) w) H locs → lv_has ls 7 [(0, .ref h), (1, .int x1), (2, .int x2)] → gX7_areGroups_2 N n x1 x2 w = some (rr, wr) → W p l e rmX7_areGroups s m args below meth c H locs 0 0 (MQ below (gQi D T A rr (mmW h ad (T 0) wr)) args s 0 0 A) (F0 m 2 ls []) := by
  intro n
  induction n with
  | zero =>
    intro x1 x2 w H locs ls hM hl hf
    cases hf
  | succ n ih =>
    intro x1 x2 w H locs ls hM hl hf
    refine lv_iload_n S.x S.b dX7_areGroups_2 rfl (lv_at hl 1 rfl) ?_
    refine lv_iload_n S.x S.b dX7_areGroups_3 rfl (lv_at hl 2 rfl) ?_
    refine lv_ishr S.x S.b dX7_areGroups_4 ?_
    refine lv_iconst (v := (1 : Int32)) S.x S.b dX7_areGroups_5 ki_1 ?_
    refine lv_iand S.x S.b dX7_areGroups_6 ?_
    refine lv_if_ne (tgt := 16) S.x S.b dX7_areGroups_7 rfl (fun cn => ?_) (fun cn => ?_)
    · have hf := if_f cn hf
      refine lv_iconst (v := (0 : Int32)) S.x S.b dX7_areGroups_16 ki_0 ?_
      refine g_istn S (x' := (0 : Int32)) rfl hl dX7_areGroups_17 rfl rfl (lv' := [(3, .int (0 : Int32)), (0, .ref h), (1, .int x1), (2, .int x2)]) rfl (fun ls hl => ?_)
      refine lv_iconst (v := (0 : Int32)) S.x S.b dX7_areGroups_18 ki_0 ?_
      refine g_ist S (x' := (0 : Int32)) rfl hl dX7_areGroups_19 rfl (lv' := [(4, .int (0 : Int32)), (3, .int (0 : Int32)), (0, .ref h), (1, .int x1), (2, .int x2)]) rfl (fun ls hl => ?_)
      exact wX7_areGroups_21 S N x1 x2 (0 : Int32) (0 : Int32) w _ _ _ hM (lv_sub hl [2, 3, 4, 1, 0] rfl) hf
    · have hf := if_t cn hf
      obtain ⟨x2_1, ex, hf⟩ := lt_some hf
      refine g_inc S (x' := x2_1) (d := (1 : Int32)) hl (k := 2) rfl ki_1 ex dX7_areGroups_10 rfl (lv' := [(2, .int x2_1), (0, .ref h), (1, .int x1)]) rfl (fun ls hl => ?_)
      refine lv_goto (tgt := 2) S.x S.b dX7_areGroups_13 rfl ?_
      exact ih x1 x2_1 w _ _ _ hM (lv_sub hl [1, 2, 0] rfl) hf
set_option maxHeartbeats 4000000 in
theorem metX7_areGroups {l : Launch} {D : va_G} {T : Nat → ClassId} {h : Nat} {ad : Nat → Nat} {rr : Int32} {wr : MW} {N : Nat} {x1 : Int32} {w : MW} (hf : gX7_areGroups N x1 w = some (rr, wr)) (sz : Nat) : MetI l yX7_areGroups (ws_ yX7_areGroups cX7_areGroups 7 (some .boolean)) rmX7_areGroups D T (mmW h ad (T 0) w) sz [.ref h, .int x1] rr (mmW h ad (T 0) wr) := by
  refine g_entry (Qc := fun A => gQi D T A rr (mmW h ad (T 0) wr)) (by decide) rfl ?_
  intro p e s m below meth c ls S hM hl
  have hl : lv_has ls 7 [(0, .ref h), (1, .int x1)] := hl
  refine lv_iconst (v := (0 : Int32)) S.x S.b dX7_areGroups_0 ki_0 ?_
  refine g_istn S (x' := (0 : Int32)) rfl hl dX7_areGroups_1 rfl rfl (lv' := [(2, .int (0 : Int32)), (0, .ref h), (1, .int x1)]) rfl (fun ls hl => ?_)
  exact wX7_areGroups_2 S N x1 (0 : Int32) w _ _ _ hM (lv_sub hl [1, 2, 0] rfl) hf
/-! SequenceBenchModel.before(I)I -/
theorem hdX7_before : gHd yX7_before 1 := by decide +kernel
def gX7_before (x1 : Int32) (w : MW) : Option (Int32 × MW) :=
  if x1 = 0 then (
  some (((w.1 4) - (1 : Int32)), w))
  else (
  some ((x1 - (1 : Int32)), w))
abbrev rmX7_before : Room := { frames := 1, cells := 0, slots := 0, locals := 12 }
set_option maxHeartbeats 4000000 in
theorem metX7_before {l : Launch} {D : va_G} {T : Nat → ClassId} {h : Nat} {ad : Nat → Nat} {rr : Int32} {wr : MW} {x1 : Int32} {w : MW} (hf : gX7_before x1 w = some (rr, wr)) (sz : Nat) : MetI l yX7_before (ws_ yX7_before cX7_before 2 (some .int)) rmX7_before D T (mmW h ad (T 0) w) sz [.ref h, .int x1] rr (mmW h ad (T 0) wr) := by
  refine g_entry (Qc := fun A => gQi D T A rr (mmW h ad (T 0) wr)) (by decide) rfl ?_
  intro p e s m below meth c ls S hM hl
  have hl : lv_has ls 2 [(0, .ref h), (1, .int x1)] := hl
  refine lv_iload_n S.x S.b dX7_before_0 rfl (lv_at hl 1 rfl) ?_
  refine lv_if_ne (tgt := 13) S.x S.b dX7_before_1 rfl (fun cn => ?_) (fun cn => ?_)
  · have hf := if_f cn hf
    refine lv_iload_n S.x S.b dX7_before_13 rfl (lv_at hl 1 rfl) ?_
    refine lv_iconst (v := (1 : Int32)) S.x S.b dX7_before_14 ki_1 ?_
    refine lv_isub S.x S.b dX7_before_15 ?_
    obtain ⟨rfl, rfl⟩ := rt2 hf
    exact g_iret S hM rfl dX7_before_16
  · have hf := if_t cn hf
    refine lv_aload_n S.x S.b dX7_before_4 rfl (lv_at hl 0 rfl) ?_
    refine mm_g S hM 4 rfl q1452 rfl dX7_before_5 ?_
    refine lv_iconst (v := (1 : Int32)) S.x S.b dX7_before_8 ki_1 ?_
    refine lv_isub S.x S.b dX7_before_9 ?_
    refine lv_goto (tgt := 16) S.x S.b dX7_before_10 rfl ?_
    obtain ⟨rfl, rfl⟩ := rt2 hf
    exact g_iret S hM rfl dX7_before_16
/-! SequenceBenchModel.fails(I)I -/
theorem hdX7_fails : gHd yX7_fails 1 := by decide +kernel
def gX7_fails (x1 : Int32) (w : MW) : Option (Int32 × MW) :=
  lt (setF w 3 x1) fun w_1 =>
  some ((0 : Int32), w_1)
abbrev rmX7_fails : Room := { frames := 1, cells := 0, slots := 0, locals := 12 }
set_option maxHeartbeats 4000000 in
theorem metX7_fails {l : Launch} {D : va_G} {T : Nat → ClassId} {h : Nat} {ad : Nat → Nat} {rr : Int32} {wr : MW} {x1 : Int32} {w : MW} (hf : gX7_fails x1 w = some (rr, wr)) (sz : Nat) : MetI l yX7_fails (ws_ yX7_fails cX7_fails 2 (some .int)) rmX7_fails D T (mmW h ad (T 0) w) sz [.ref h, .int x1] rr (mmW h ad (T 0) wr) := by
  refine g_entry (Qc := fun A => gQi D T A rr (mmW h ad (T 0) wr)) (by decide) rfl ?_
  intro p e s m below meth c ls S hM hl
  have hl : lv_has ls 2 [(0, .ref h), (1, .int x1)] := hl
  refine lv_aload_n S.x S.b dX7_fails_0 rfl (lv_at hl 0 rfl) ?_
  refine lv_iload_n S.x S.b dX7_fails_1 rfl (lv_at hl 1 rfl) ?_
  obtain ⟨w_1, ew, hf⟩ := lt_some hf
  refine mm_p S hM 3 rfl ew q1451 dX7_fails_2 (fun H locs hM => ?_)
  refine lv_iconst (v := (0 : Int32)) S.x S.b dX7_fails_5 ki_0 ?_
  obtain ⟨rfl, rfl⟩ := rt2 hf
  exact g_iret S hM rfl dX7_fails_6
/-! SequenceBenchModel.in(III)Z -/
theorem hdX7_in : gHd yX7_in 3 := by decide +kernel
def gX7_in (x0 : Int32) (x1 : Int32) (x2 : Int32) : Option (Int32) :=
  if x0 < x1 then (
  some (0 : Int32))
  else (
  if x2 < x0 then (
  some (0 : Int32))
  else (
  some (1 : Int32)))
abbrev rmX7_in : Room := { frames := 1, cells := 0, slots := 0, locals := 12 }
set_option maxHeartbeats 4000000 in
theorem metX7_in {l : Launch} {D : va_G} {T : Nat → ClassId} {rr : Int32} {x0 : Int32} {x1 : Int32} {x2 : Int32} (hf : gX7_in x0 x1 x2 = some rr) (sz : Nat) : MetI l yX7_in (ws_ yX7_in cX7_in 3 (some .boolean)) rmX7_in D T ([]) sz [.int x0, .int x1, .int x2] rr ([]) := by
  refine g_entry (Qc := fun A => gQi D T A rr ([])) (by decide) rfl ?_
  intro p e s m below meth c ls S hM hl
  have hl : lv_has ls 3 [(0, .int x0), (1, .int x1), (2, .int x2)] := hl
  refine lv_iload_n S.x S.b dX7_in_0 rfl (lv_at hl 0 rfl) ?_
  refine lv_iload_n S.x S.b dX7_in_1 rfl (lv_at hl 1 rfl) ?_
  refine lv_icmp_lt (tgt := 14) S.x S.b dX7_in_2 rfl (fun cn => ?_) (fun cn => ?_)
  · have hf := if_t cn hf
    refine lv_iconst (v := (0 : Int32)) S.x S.b dX7_in_14 ki_0 ?_
    obtain rfl := rt1 hf
    exact g_zret S hM rfl rfl dX7_in_15
  · have hf := if_f cn hf
    refine lv_iload_n S.x S.b dX7_in_5 rfl (lv_at hl 0 rfl) ?_
    refine lv_iload_n S.x S.b dX7_in_6 rfl (lv_at hl 2 rfl) ?_
    refine lv_icmp_gt (tgt := 14) S.x S.b dX7_in_7 rfl (fun cn => ?_) (fun cn => ?_)
    · have hf := if_t cn hf
      refine lv_iconst (v := (0 : Int32)) S.x S.b dX7_in_14 ki_0 ?_
      obtain rfl := rt1 hf
      exact g_zret S hM rfl rfl dX7_in_15
    · have hf := if_f cn hf
      refine lv_iconst (v := (1 : Int32)) S.x S.b dX7_in_10 ki_1 ?_
      refine lv_goto (tgt := 15) S.x S.b dX7_in_11 rfl ?_
      obtain rfl := rt1 hf
      exact g_zret S hM rfl rfl dX7_in_15
/-! SequenceBenchModel.firstWithMoves()I -/
theorem hdX7_firstWithMoves : gHd yX7_firstWithMoves 0 := by decide +kernel
def gX7_firstWithMoves_2 (N : Nat) : Nat → Int32 → MW → Option (Int32 × MW)
  | 0, _, _ => none
  | n + 1, x1, w =>
    if (w.1 4) ≤ x1 then (
    some (x1, w))
    else (
    ck x1 16 <|
    if (w.2 5 x1.toNatClampNeg) ≤ 0 then (
    some (x1, w))
    else (
    lt (x1 + (1 : Int32)) fun x1_1 =>
    gX7_firstWithMoves_2 N n x1_1 w))
def gX7_firstWithMoves (N : Nat) (w : MW) : Option (Int32 × MW) :=
  gX7_firstWithMoves_2 N N (0 : Int32) w
abbrev rmX7_firstWithMoves : Room := { frames := 1, cells := 0, slots := 0, locals := 12 }
set_option maxHeartbeats 4000000 in
theorem wX7_firstWithMoves_2 {p : Program} {l : Launch} {e : Env} {s : State} {m : MethodId} {args : Array Value} {below : List Frame} {meth : Method} {c : Code} {D : va_G} {T : Nat → ClassId} {A : Nat → Prop} {h : Nat} {ad : Nat → Nat} {rr : Int32} {wr : MW} {N : Nat} (S : gS p s m args meth c cX7_firstWithMoves 2 (some .int) RX7 D T) : ∀ (n : Nat) (x1 : Int32) (w : MW) (H : Heap) (locs : List Loc) (ls : Array Slot), gM D A s.heap (mmW h ad (T 0) w) H locs → lv_has ls 2 [(0, .ref h), (1, .int x1)] → gX7_firstWithMoves_2 N n x1 w = some (rr, wr) → W p l e rmX7_firstWithMoves s m args below meth c H locs 0 0 (MQ below (gQi D T A rr (mmW h ad (T 0) wr)) args s 0 0 A) (F0 m 2 ls []) := by
  intro n
  induction n with
  | zero =>
    intro x1 w H locs ls hM hl hf
    cases hf
  | succ n ih =>
    intro x1 w H locs ls hM hl hf
    refine lv_iload_n S.x S.b dX7_firstWithMoves_2 rfl (lv_at hl 1 rfl) ?_
    refine lv_aload_n S.x S.b dX7_firstWithMoves_3 rfl (lv_at hl 0 rfl) ?_
    refine mm_g S hM 4 rfl q1452 rfl dX7_firstWithMoves_4 ?_
    refine lv_icmp_ge (tgt := 25) S.x S.b dX7_firstWithMoves_7 rfl (fun cn => ?_) (fun cn => ?_)
    · have hf := if_t cn hf
      refine lv_iload_n S.x S.b dX7_firstWithMoves_25 rfl (lv_at hl 1 rfl) ?_
      obtain ⟨rfl, rfl⟩ := rt2 hf
      exact g_iret S hM rfl dX7_firstWithMoves_26
    · have hf := if_f cn hf
      refine lv_aload_n S.x S.b dX7_firstWithMoves_10 rfl (lv_at hl 0 rfl) ?_
      refine mm_g S hM 7 rfl q1455 rfl dX7_firstWithMoves_11 ?_
      refine lv_iload_n S.x S.b dX7_firstWithMoves_14 rfl (lv_at hl 1 rfl) ?_
      obtain ⟨hi, hf⟩ := ck_some hf
      refine mm_ld S hM 5 rfl hi dX7_firstWithMoves_15 ?_
      refine lv_if_le (tgt := 25) S.x S.b dX7_firstWithMoves_16 rfl (fun cn => ?_) (fun cn => ?_)
      · have hf := if_t cn hf
        refine lv_iload_n S.x S.b dX7_firstWithMoves_25 rfl (lv_at hl 1 rfl) ?_
        obtain ⟨rfl, rfl⟩ := rt2 hf
        exact g_iret S hM rfl dX7_firstWithMoves_26
      · have hf := if_f cn hf
        obtain ⟨x1_1, ex, hf⟩ := lt_some hf
        refine g_inc S (x' := x1_1) (d := (1 : Int32)) hl (k := 1) rfl ki_1 ex dX7_firstWithMoves_19 rfl (lv' := [(1, .int x1_1), (0, .ref h)]) rfl (fun ls hl => ?_)
        refine lv_goto (tgt := 2) S.x S.b dX7_firstWithMoves_22 rfl ?_
        exact ih x1_1 w _ _ _ hM (lv_sub hl [1, 0] rfl) hf
set_option maxHeartbeats 4000000 in
theorem metX7_firstWithMoves {l : Launch} {D : va_G} {T : Nat → ClassId} {h : Nat} {ad : Nat → Nat} {rr : Int32} {wr : MW} {N : Nat} {w : MW} (hf : gX7_firstWithMoves N w = some (rr, wr)) (sz : Nat) : MetI l yX7_firstWithMoves (ws_ yX7_firstWithMoves cX7_firstWithMoves 2 (some .int)) rmX7_firstWithMoves D T (mmW h ad (T 0) w) sz [.ref h] rr (mmW h ad (T 0) wr) := by
  refine g_entry (Qc := fun A => gQi D T A rr (mmW h ad (T 0) wr)) (by decide) rfl ?_
  intro p e s m below meth c ls S hM hl
  have hl : lv_has ls 2 [(0, .ref h)] := hl
  refine lv_iconst (v := (0 : Int32)) S.x S.b dX7_firstWithMoves_0 ki_0 ?_
  refine g_istn S (x' := (0 : Int32)) rfl hl dX7_firstWithMoves_1 rfl rfl (lv' := [(1, .int (0 : Int32)), (0, .ref h)]) rfl (fun ls hl => ?_)
  exact wX7_firstWithMoves_2 S N (0 : Int32) w _ _ _ hM (lv_sub hl [1, 0] rfl) hf
/-! SequenceBenchModel.movesOf(I)I -/
theorem hdX7_movesOf : gHd yX7_movesOf 1 := by decide +kernel
def gX7_movesOf (x1 : Int32) (w : MW) : Option (Int32 × MW) :=
  if (w.1 4) = 0 then (
  some ((0 : Int32), w))
  else (
  ck x1 16 <|
  ck x1 16 <|
  some (((w.2 3 x1.toNatClampNeg) ||| ((w.2 4 x1.toNatClampNeg) <<< ((6 : Int32) &&& 31))), w))
abbrev rmX7_movesOf : Room := { frames := 1, cells := 0, slots := 0, locals := 12 }
set_option maxHeartbeats 4000000 in
theorem metX7_movesOf {l : Launch} {D : va_G} {T : Nat → ClassId} {h : Nat} {ad : Nat → Nat} {rr : Int32} {wr : MW} {x1 : Int32} {w : MW} (hf : gX7_movesOf x1 w = some (rr, wr)) (sz : Nat) : MetI l yX7_movesOf (ws_ yX7_movesOf cX7_movesOf 2 (some .int)) rmX7_movesOf D T (mmW h ad (T 0) w) sz [.ref h, .int x1] rr (mmW h ad (T 0) wr) := by
  refine g_entry (Qc := fun A => gQi D T A rr (mmW h ad (T 0) wr)) (by decide) rfl ?_
  intro p e s m below meth c ls S hM hl
  have hl : lv_has ls 2 [(0, .ref h), (1, .int x1)] := hl
  refine lv_aload_n S.x S.b dX7_movesOf_0 rfl (lv_at hl 0 rfl) ?_
  refine mm_g S hM 4 rfl q1452 rfl dX7_movesOf_1 ?_
  refine lv_if_ne (tgt := 11) S.x S.b dX7_movesOf_4 rfl (fun cn => ?_) (fun cn => ?_)
  · have hf := if_f cn hf
    refine lv_aload_n S.x S.b dX7_movesOf_11 rfl (lv_at hl 0 rfl) ?_
    refine mm_g S hM 5 rfl q1453 rfl dX7_movesOf_12 ?_
    refine lv_iload_n S.x S.b dX7_movesOf_15 rfl (lv_at hl 1 rfl) ?_
    obtain ⟨hi, hf⟩ := ck_some hf
    refine mm_ld S hM 3 rfl hi dX7_movesOf_16 ?_
    refine lv_aload_n S.x S.b dX7_movesOf_17 rfl (lv_at hl 0 rfl) ?_
    refine mm_g S hM 6 rfl q1454 rfl dX7_movesOf_18 ?_
    refine lv_iload_n S.x S.b dX7_movesOf_21 rfl (lv_at hl 1 rfl) ?_
    obtain ⟨hi, hf⟩ := ck_some hf
    refine mm_ld S hM 4 rfl hi dX7_movesOf_22 ?_
    refine lv_bipush (v := (6 : Int32)) S.x S.b dX7_movesOf_23 kb_6 ?_
    refine lv_ishl S.x S.b dX7_movesOf_25 ?_
    refine lv_ior S.x S.b dX7_movesOf_26 ?_
    obtain ⟨rfl, rfl⟩ := rt2 hf
    exact g_iret S hM rfl dX7_movesOf_27
  · have hf := if_t cn hf
    refine lv_iconst (v := (0 : Int32)) S.x S.b dX7_movesOf_7 ki_0 ?_
    refine lv_goto (tgt := 27) S.x S.b dX7_movesOf_8 rfl ?_
    obtain ⟨rfl, rfl⟩ := rt2 hf
    exact g_iret S hM rfl dX7_movesOf_27
/-! SequenceBenchModel.rests([I)V -/
theorem hdX7_rests : gHd yX7_rests 1 := by decide +kernel
def gX7_rests_35 (N : Nat) (jr : Nat) (k2 : Int32 → MW → Option (MW)) (x2 : Int32) (s0 : Int32) (w : MW) : Option (MW) :=
  if s0 = 0 then (
  ck x2 140 <|
  lt (setA w jr x2.toNatClampNeg (0 : Int32)) fun w_2 =>
  lt (x2 + (1 : Int32)) fun x2_3 =>
  k2 x2_3 w_2)
  else (
  ck x2 140 <|
  ck x2 140 <|
  lt (setA w jr x2.toNatClampNeg (w.2 jr x2.toNatClampNeg)) fun w_4 =>
  lt (x2 + (1 : Int32)) fun x2_5 =>
  k2 x2_5 w_4)
def gX7_rests_30 (N : Nat) (jr : Nat) (k2 : Int32 → MW → Option (MW)) (x2 : Int32) (w : MW) : Option (MW) :=
  gX7_rests_35 N jr k2 x2 (1 : Int32) w
def gX7_rests_82 (N : Nat) (jr : Nat) (s0 : Int32) (s1 : Int32) (w : MW) : Option (MW) :=
  ck s1 140 <|
  lt (setA w jr s1.toNatClampNeg s0) fun w_6 =>
  bd2 (gX7_firstWithMoves N w_6) fun r_8 w_7 =>
  ck (7 : Int32) 140 <|
  lt (setA w_7 jr (7 : Int32).toNatClampNeg r_8) fun w_9 =>
  ck (7 : Int32) 140 <|
  bd2 (gX7_movesOf (w_9.2 jr (7 : Int32).toNatClampNeg) w_9) fun r_11 w_10 =>
  ck (8 : Int32) 140 <|
  lt (setA w_10 jr (8 : Int32).toNatClampNeg r_11) fun w_12 =>
  ck (11 : Int32) 140 <|
  lt (setA w_12 jr (11 : Int32).toNatClampNeg (-1 : Int32)) fun w_13 =>
  ck (12 : Int32) 140 <|
  lt (setA w_13 jr (12 : Int32).toNatClampNeg (-1 : Int32)) fun w_14 =>
  some w_14
def gX7_rests_81 (N : Nat) (jr : Nat) (s0 : Int32) (w : MW) : Option (MW) :=
  gX7_rests_82 N jr (-1 : Int32) s0 w
def gX7_rests_2 (N : Nat) (jr : Nat) : Nat → Int32 → MW → Option (MW)
  | 0, _, _ => none
  | n + 1, x2, w =>
    if (140 : Int32) ≤ x2 then (
    if (w.1 4) ≤ 0 then (
    gX7_rests_81 N jr (3 : Int32) w)
    else (
    ck (1 : Int32) 140 <|
    if (w.2 jr (1 : Int32).toNatClampNeg) = (1 : Int32) then (
    gX7_rests_82 N jr ((w.1 8) - (1 : Int32)) (3 : Int32) w)
    else (
    gX7_rests_81 N jr (3 : Int32) w)))
    else (
    if x2 = (1 : Int32) then (
    gX7_rests_30 N jr (gX7_rests_2 N jr n) x2 w)
    else (
    if x2 = (2 : Int32) then (
    gX7_rests_30 N jr (gX7_rests_2 N jr n) x2 w)
    else (
    bd (gX7_in x2 (38 : Int32) (43 : Int32)) fun r_1 =>
    if r_1 = 0 then (
    gX7_rests_35 N jr (gX7_rests_2 N jr n) x2 (0 : Int32) w)
    else (
    gX7_rests_30 N jr (gX7_rests_2 N jr n) x2 w))))
def gX7_rests (N : Nat) (jr : Nat) (w : MW) : Option (MW) :=
  gX7_rests_2 N jr N (0 : Int32) w
abbrev rmX7_rests : Room := { frames := 2, cells := 0, slots := 0, locals := 34 }
set_option maxHeartbeats 4000000 in
theorem wX7_rests_35 {p : Program} {l : Launch} {e : Env} {s : State} {m : MethodId} {args : Array Value} {below : List Frame} {meth : Method} {c : Code} {D : va_G} {T : Nat → ClassId} {A : Nat → Prop} {h : Nat} {ad : Nat → Nat} {wr : MW} {N : Nat} {jr : Nat} (S : gS p s m args meth c cX7_rests 4 (none) RX7 D T) (hj : Nat.ble (jr + 1) 2 = true) {k2 : Int32 → MW → Option (MW)} (hk2 : ∀ (x2 : Int32) (w : MW) (H : Heap) (locs : List Loc) (ls : Array Slot), gM D A s.heap (mmW h ad (T 0) w) H locs → lv_has ls 4 [(0, .ref h), (1, .ref (ad jr)), (2, .int x2)] → k2 x2 w = some wr → W p l e rmX7_rests s m args below meth c H locs 0 0 (MQ below (gQv D T A (mmW h ad (T 0) wr)) args s 0 0 A) (F0 m 2 ls [])) : ∀ (x2 : Int32) (s0 : Int32) (w : MW) (H : Heap) (locs : List Loc) (ls : Array Slot), gM D A s.heap (mmW h ad (T 0) w) H locs → lv_has ls 4 [(0, .ref h), (1, .ref (ad jr)), (2, .int x2)] → gX7_rests_35 N jr k2 x2 s0 w = some wr → W p l e rmX7_rests s m args below meth c H locs 0 0 (MQ below (gQv D T A (mmW h ad (T 0) wr)) args s 0 0 A) (F0 m 35 ls [.int s0]) := by
  intro x2 s0 w H locs ls hM hl hf
  refine g_istn S (x' := s0) rfl hl dX7_rests_35 rfl rfl (lv' := [(3, .int s0), (0, .ref h), (1, .ref (ad jr)), (2, .int x2)]) rfl (fun ls hl => ?_)
  refine lv_aload_n S.x S.b dX7_rests_36 rfl (lv_at hl 2 rfl) ?_
  refine lv_iload_n S.x S.b dX7_rests_37 rfl (lv_at hl 3 rfl) ?_
  refine lv_iload_n S.x S.b dX7_rests_38 rfl (lv_at hl 0 rfl) ?_
  refine lv_if_eq (tgt := 48) S.x S.b dX7_rests_39 rfl (fun cn => ?_) (fun cn => ?_)
  · have hf := if_t cn hf
    refine lv_iconst (v := (0 : Int32)) S.x S.b dX7_rests_48 ki_0 ?_
    obtain ⟨hi, hf⟩ := ck_some hf
    obtain ⟨w_2, ew, hf⟩ := lt_some hf
    refine mm_str S hM jr hj hi ew dX7_rests_49 (fun H locs hM => ?_)
    obtain ⟨x2_3, ex, hf⟩ := lt_some hf
    refine g_inc S (x' := x2_3) (d := (1 : Int32)) hl (k := 3) rfl ki_1 ex dX7_rests_50 rfl (lv' := [(2, .int x2_3), (3, .int s0), (0, .ref h), (1, .ref (ad jr))]) rfl (fun ls hl => ?_)
    refine lv_goto (tgt := 2) S.x S.b dX7_rests_53 rfl ?_
    exact hk2 x2_3 w_2 _ _ _ hM (lv_sub hl [2, 3, 0] rfl) hf
  · have hf := if_f cn hf
    refine lv_aload_n S.x S.b dX7_rests_42 rfl (lv_at hl 2 rfl) ?_
    refine lv_iload_n S.x S.b dX7_rests_43 rfl (lv_at hl 3 rfl) ?_
    obtain ⟨hi, hf⟩ := ck_some hf
    refine mm_ldr S hM jr hj hi dX7_rests_44 ?_
    refine lv_goto (tgt := 49) S.x S.b dX7_rests_45 rfl ?_
    obtain ⟨hi, hf⟩ := ck_some hf
    obtain ⟨w_4, ew, hf⟩ := lt_some hf
    refine mm_str S hM jr hj hi ew dX7_rests_49 (fun H locs hM => ?_)
    obtain ⟨x2_5, ex, hf⟩ := lt_some hf
    refine g_inc S (x' := x2_5) (d := (1 : Int32)) hl (k := 3) rfl ki_1 ex dX7_rests_50 rfl (lv' := [(2, .int x2_5), (3, .int s0), (0, .ref h), (1, .ref (ad jr))]) rfl (fun ls hl => ?_)
    refine lv_goto (tgt := 2) S.x S.b dX7_rests_53 rfl ?_
    exact hk2 x2_5 w_4 _ _ _ hM (lv_sub hl [2, 3, 0] rfl) hf
set_option maxHeartbeats 4000000 in
theorem wX7_rests_30 {p : Program} {l : Launch} {e : Env} {s : State} {m : MethodId} {args : Array Value} {below : List Frame} {meth : Method} {c : Code} {D : va_G} {T : Nat → ClassId} {A : Nat → Prop} {h : Nat} {ad : Nat → Nat} {wr : MW} {N : Nat} {jr : Nat} (S : gS p s m args meth c cX7_rests 4 (none) RX7 D T) (hj : Nat.ble (jr + 1) 2 = true) {k2 : Int32 → MW → Option (MW)} (hk2 : ∀ (x2 : Int32) (w : MW) (H : Heap) (locs : List Loc) (ls : Array Slot), gM D A s.heap (mmW h ad (T 0) w) H locs → lv_has ls 4 [(0, .ref h), (1, .ref (ad jr)), (2, .int x2)] → k2 x2 w = some wr → W p l e rmX7_rests s m args below meth c H locs 0 0 (MQ below (gQv D T A (mmW h ad (T 0) wr)) args s 0 0 A) (F0 m 2 ls [])) : ∀ (x2 : Int32) (w : MW) (H : Heap) (locs : List Loc) (ls : Array Slot), gM D A s.heap (mmW h ad (T 0) w) H locs → lv_has ls 4 [(0, .ref h), (1, .ref (ad jr)), (2, .int x2)] → gX7_rests_30 N jr k2 x2 w = some wr → W p l e rmX7_rests s m args below meth c H locs 0 0 (MQ below (gQv D T A (mmW h ad (T 0) wr)) args s 0 0 A) (F0 m 30 ls []) := by
  intro x2 w H locs ls hM hl hf
  refine lv_iconst (v := (1 : Int32)) S.x S.b dX7_rests_30 ki_1 ?_
  refine lv_goto (tgt := 35) S.x S.b dX7_rests_31 rfl ?_
  exact wX7_rests_35 S hj hk2 x2 (1 : Int32) w _ _ _ hM (lv_sub hl [0, 1, 2] rfl) hf
set_option maxHeartbeats 4000000 in
theorem wX7_rests_82 {p : Program} {l : Launch} {e : Env} {s : State} {m : MethodId} {args : Array Value} {below : List Frame} {meth : Method} {c : Code} {D : va_G} {T : Nat → ClassId} {A : Nat → Prop} {h : Nat} {ad : Nat → Nat} {wr : MW} {N : Nat} {jr : Nat} (S : gS p s m args meth c cX7_rests 4 (none) RX7 D T) (hj : Nat.ble (jr + 1) 2 = true) : ∀ (s0 : Int32) (s1 : Int32) (w : MW) (H : Heap) (locs : List Loc) (ls : Array Slot), gM D A s.heap (mmW h ad (T 0) w) H locs → lv_has ls 4 [(0, .ref h), (1, .ref (ad jr))] → gX7_rests_82 N jr s0 s1 w = some wr → W p l e rmX7_rests s m args below meth c H locs 0 0 (MQ below (gQv D T A (mmW h ad (T 0) wr)) args s 0 0 A) (F0 m 82 ls [.int s0, .int s1, .ref (ad jr)]) := by
  intro s0 s1 w H locs ls hM hl hf
  obtain ⟨hi, hf⟩ := ck_some hf
  obtain ⟨w_6, ew, hf⟩ := lt_some hf
  refine mm_str S hM jr hj hi ew dX7_rests_82 (fun H locs hM => ?_)
  refine lv_aload_n S.x S.b dX7_rests_83 rfl (lv_at hl 1 rfl) ?_
  refine lv_bipush (v := (7 : Int32)) S.x S.b dX7_rests_84 kb_7 ?_
  refine lv_aload_n S.x S.b dX7_rests_86 rfl (lv_at hl 0 rfl) ?_
  obtain ⟨r_8, w_7, hc, hf⟩ := bd2_some hf
  refine mm_ci S hM hl [] rfl (metX7_firstWithMoves hc) hdX7_firstWithMoves q1440 q1442 qs30 q69 q1443 ⟨rfl, rfl⟩ ⟨rfl, rfl⟩ rfl rfl rfl ⟨Nat.zero_le _, Nat.zero_le _⟩ dX7_rests_87 (fun H locs hM => ?_)
  obtain ⟨hi, hf⟩ := ck_some hf
  obtain ⟨w_9, ew, hf⟩ := lt_some hf
  refine mm_str S hM jr hj hi ew dX7_rests_90 (fun H locs hM => ?_)
  refine lv_aload_n S.x S.b dX7_rests_91 rfl (lv_at hl 1 rfl) ?_
  refine lv_bipush (v := (8 : Int32)) S.x S.b dX7_rests_92 kb_8 ?_
  refine lv_aload_n S.x S.b dX7_rests_94 rfl (lv_at hl 0 rfl) ?_
  refine lv_aload_n S.x S.b dX7_rests_95 rfl (lv_at hl 1 rfl) ?_
  refine lv_bipush (v := (7 : Int32)) S.x S.b dX7_rests_96 kb_7 ?_
  obtain ⟨hi, hf⟩ := ck_some hf
  refine mm_ldr S hM jr hj hi dX7_rests_98 ?_
  obtain ⟨r_11, w_10, hc, hf⟩ := bd2_some hf
  refine mm_ci S hM hl [.int (w_9.2 jr (7 : Int32).toNatClampNeg)] rfl (metX7_movesOf hc) hdX7_movesOf q1444 q1446 qs31 q69 q1447 ⟨rfl, rfl⟩ ⟨rfl, rfl⟩ rfl rfl rfl ⟨Nat.zero_le _, Nat.zero_le _⟩ dX7_rests_99 (fun H locs hM => ?_)
  obtain ⟨hi, hf⟩ := ck_some hf
  obtain ⟨w_12, ew, hf⟩ := lt_some hf
  refine mm_str S hM jr hj hi ew dX7_rests_102 (fun H locs hM => ?_)
  refine lv_aload_n S.x S.b dX7_rests_103 rfl (lv_at hl 1 rfl) ?_
  refine lv_bipush (v := (11 : Int32)) S.x S.b dX7_rests_104 kb_11 ?_
  refine lv_iconst (v := (-1 : Int32)) S.x S.b dX7_rests_106 ki_m1 ?_
  obtain ⟨hi, hf⟩ := ck_some hf
  obtain ⟨w_13, ew, hf⟩ := lt_some hf
  refine mm_str S hM jr hj hi ew dX7_rests_107 (fun H locs hM => ?_)
  refine lv_aload_n S.x S.b dX7_rests_108 rfl (lv_at hl 1 rfl) ?_
  refine lv_bipush (v := (12 : Int32)) S.x S.b dX7_rests_109 kb_12 ?_
  refine lv_iconst (v := (-1 : Int32)) S.x S.b dX7_rests_111 ki_m1 ?_
  obtain ⟨hi, hf⟩ := ck_some hf
  obtain ⟨w_14, ew, hf⟩ := lt_some hf
  refine mm_str S hM jr hj hi ew dX7_rests_112 (fun H locs hM => ?_)
  obtain rfl := rt1 hf
  exact g_vret S hM dX7_rests_113
set_option maxHeartbeats 4000000 in
theorem wX7_rests_81 {p : Program} {l : Launch} {e : Env} {s : State} {m : MethodId} {args : Array Value} {below : List Frame} {meth : Method} {c : Code} {D : va_G} {T : Nat → ClassId} {A : Nat → Prop} {h : Nat} {ad : Nat → Nat} {wr : MW} {N : Nat} {jr : Nat} (S : gS p s m args meth c cX7_rests 4 (none) RX7 D T) (hj : Nat.ble (jr + 1) 2 = true) : ∀ (s0 : Int32) (w : MW) (H : Heap) (locs : List Loc) (ls : Array Slot), gM D A s.heap (mmW h ad (T 0) w) H locs → lv_has ls 4 [(0, .ref h), (1, .ref (ad jr))] → gX7_rests_81 N jr s0 w = some wr → W p l e rmX7_rests s m args below meth c H locs 0 0 (MQ below (gQv D T A (mmW h ad (T 0) wr)) args s 0 0 A) (F0 m 81 ls [.int s0, .ref (ad jr)]) := by
  intro s0 w H locs ls hM hl hf
  refine lv_iconst (v := (-1 : Int32)) S.x S.b dX7_rests_81 ki_m1 ?_
  exact wX7_rests_82 S hj (-1 : Int32) s0 w _ _ _ hM (lv_sub hl [0, 1] rfl) hf
set_option maxHeartbeats 4000000 in
theorem wX7_rests_2 {p : Program} {l : Launch} {e : Env} {s : State} {m : MethodId} {args : Array Value} {below : List Frame} {meth : Method} {c : Code} {D : va_G} {T : Nat → ClassId} {A : Nat → Prop} {h : Nat} {ad : Nat → Nat} {wr : MW} {N : Nat} {jr : Nat} (S : gS p s m args meth c cX7_rests 4 (none) RX7 D T) (hj : Nat.ble (jr + 1) 2 = true) : ∀ (n : Nat) (x2 : Int32) (w : MW) (H : Heap) (locs : List Loc) (ls : Array Slot), gM D A s.heap (mmW h ad (T 0) w) H locs → lv_has ls 4 [(0, .ref h), (1, .ref (ad jr)), (2, .int x2)] → gX7_rests_2 N jr n x2 w = some wr → W p l e rmX7_rests s m args below meth c H locs 0 0 (MQ below (gQv D T A (mmW h ad (T 0) wr)) args s 0 0 A) (F0 m 2 ls []) := by
  intro n
  induction n with
  | zero =>
    intro x2 w H locs ls hM hl hf
    cases hf
  | succ n ih =>
    intro x2 w H locs ls hM hl hf
    refine lv_iload_n S.x S.b dX7_rests_2 rfl (lv_at hl 2 rfl) ?_
    refine lv_sipush (v := (140 : Int32)) S.x S.b dX7_rests_3 ks_140 ?_
    refine lv_icmp_ge (tgt := 56) S.x S.b dX7_rests_6 rfl (fun cn => ?_) (fun cn => ?_)
    · have hf := if_t cn hf
      refine lv_aload_n S.x S.b dX7_rests_56 rfl (lv_at hl 1 rfl) ?_
      refine lv_iconst (v := (3 : Int32)) S.x S.b dX7_rests_57 ki_3 ?_
      refine lv_aload_n S.x S.b dX7_rests_58 rfl (lv_at hl 0 rfl) ?_
      refine mm_g S hM 4 rfl q1452 rfl dX7_rests_59 ?_
      refine lv_if_le (tgt := 81) S.x S.b dX7_rests_62 rfl (fun cn => ?_) (fun cn => ?_)
      · have hf := if_t cn hf
        exact wX7_rests_81 S hj (3 : Int32) w _ _ _ hM (lv_sub hl [0, 1] rfl) hf
      · have hf := if_f cn hf
        refine lv_aload_n S.x S.b dX7_rests_65 rfl (lv_at hl 1 rfl) ?_
        refine lv_iconst (v := (1 : Int32)) S.x S.b dX7_rests_66 ki_1 ?_
        obtain ⟨hi, hf⟩ := ck_some hf
        refine mm_ldr S hM jr hj hi dX7_rests_67 ?_
        refine lv_iconst (v := (1 : Int32)) S.x S.b dX7_rests_68 ki_1 ?_
        refine lv_icmp_ne (tgt := 81) S.x S.b dX7_rests_69 rfl (fun cn => ?_) (fun cn => ?_)
        · have hf := if_f cn hf
          exact wX7_rests_81 S hj (3 : Int32) w _ _ _ hM (lv_sub hl [0, 1] rfl) hf
        · have hf := if_t cn hf
          refine lv_aload_n S.x S.b dX7_rests_72 rfl (lv_at hl 0 rfl) ?_
          refine mm_g S hM 8 rfl q1456 rfl dX7_rests_73 ?_
          refine lv_iconst (v := (1 : Int32)) S.x S.b dX7_rests_76 ki_1 ?_
          refine lv_isub S.x S.b dX7_rests_77 ?_
          refine lv_goto (tgt := 82) S.x S.b dX7_rests_78 rfl ?_
          exact wX7_rests_82 S hj ((w.1 8) - (1 : Int32)) (3 : Int32) w _ _ _ hM (lv_sub hl [0, 1] rfl) hf
    · have hf := if_f cn hf
      refine lv_iload_n S.x S.b dX7_rests_9 rfl (lv_at hl 2 rfl) ?_
      refine lv_iconst (v := (1 : Int32)) S.x S.b dX7_rests_10 ki_1 ?_
      refine lv_icmp_eq (tgt := 30) S.x S.b dX7_rests_11 rfl (fun cn => ?_) (fun cn => ?_)
      · have hf := if_t cn hf
        exact wX7_rests_30 S hj ih x2 w _ _ _ hM (lv_sub hl [0, 1, 2] rfl) hf
      · have hf := if_f cn hf
        refine lv_iload_n S.x S.b dX7_rests_14 rfl (lv_at hl 2 rfl) ?_
        refine lv_iconst (v := (2 : Int32)) S.x S.b dX7_rests_15 ki_2 ?_
        refine lv_icmp_eq (tgt := 30) S.x S.b dX7_rests_16 rfl (fun cn => ?_) (fun cn => ?_)
        · have hf := if_t cn hf
          exact wX7_rests_30 S hj ih x2 w _ _ _ hM (lv_sub hl [0, 1, 2] rfl) hf
        · have hf := if_f cn hf
          refine lv_iload_n S.x S.b dX7_rests_19 rfl (lv_at hl 2 rfl) ?_
          refine lv_bipush (v := (38 : Int32)) S.x S.b dX7_rests_20 kb_38 ?_
          refine lv_bipush (v := (43 : Int32)) S.x S.b dX7_rests_22 kb_43 ?_
          obtain ⟨r_1, hc, hf⟩ := bd_some hf
          refine gg_si S hM hl [.int x2, .int (38 : Int32), .int (43 : Int32)] (metX7_in hc) hdX7_in q1437 q1438 q69 q1439 ⟨rfl, rfl⟩ ⟨rfl, rfl⟩ rfl rfl rfl ⟨Nat.zero_le _, Nat.zero_le _⟩ dX7_rests_24 (fun H locs hM => ?_)
          refine lv_if_eq (tgt := 34) S.x S.b dX7_rests_27 rfl (fun cn => ?_) (fun cn => ?_)
          · have hf := if_t cn hf
            refine lv_iconst (v := (0 : Int32)) S.x S.b dX7_rests_34 ki_0 ?_
            exact wX7_rests_35 S hj ih x2 (0 : Int32) w _ _ _ hM (lv_sub hl [0, 1, 2] rfl) hf
          · have hf := if_f cn hf
            exact wX7_rests_30 S hj ih x2 w _ _ _ hM (lv_sub hl [0, 1, 2] rfl) hf
set_option maxHeartbeats 4000000 in
theorem metX7_rests {l : Launch} {D : va_G} {T : Nat → ClassId} {h : Nat} {ad : Nat → Nat} {wr : MW} {N : Nat} {w : MW} {jr : Nat} (hj : Nat.ble (jr + 1) 2 = true) (hf : gX7_rests N jr w = some wr) (sz : Nat) : MetV l yX7_rests (ws_ yX7_rests cX7_rests 4 (none)) rmX7_rests D T (mmW h ad (T 0) w) sz [.ref h, .ref (ad jr)] (mmW h ad (T 0) wr) := by
  refine g_entry (Qc := fun A => gQv D T A (mmW h ad (T 0) wr)) (by decide) rfl ?_
  intro p e s m below meth c ls S hM hl
  have hl : lv_has ls 4 [(0, .ref h), (1, .ref (ad jr))] := hl
  refine lv_iconst (v := (0 : Int32)) S.x S.b dX7_rests_0 ki_0 ?_
  refine g_istn S (x' := (0 : Int32)) rfl hl dX7_rests_1 rfl rfl (lv' := [(2, .int (0 : Int32)), (0, .ref h), (1, .ref (ad jr))]) rfl (fun ls hl => ?_)
  exact wX7_rests_2 S hj N (0 : Int32) w _ _ _ hM (lv_sub hl [1, 2, 0] rfl) hf
/-! SequenceBenchModel.directionOf(II)I -/
theorem hdX7_directionOf : gHd yX7_directionOf 2 := by decide +kernel
def gX7_directionOf (x1 : Int32) (x2 : Int32) (w : MW) : Option (Int32 × MW) :=
  ck x1 16 <|
  ck x1 16 <|
  some (((((w.2 3 x1.toNatClampNeg) >>> (x2 &&& 31)) &&& (1 : Int32)) - (((w.2 4 x1.toNatClampNeg) >>> (x2 &&& 31)) &&& (1 : Int32))), w)
abbrev rmX7_directionOf : Room := { frames := 1, cells := 0, slots := 0, locals := 12 }
set_option maxHeartbeats 4000000 in
theorem metX7_directionOf {l : Launch} {D : va_G} {T : Nat → ClassId} {h : Nat} {ad : Nat → Nat} {rr : Int32} {wr : MW} {x1 : Int32} {x2 : Int32} {w : MW} (hf : gX7_directionOf x1 x2 w = some (rr, wr)) (sz : Nat) : MetI l yX7_directionOf (ws_ yX7_directionOf cX7_directionOf 3 (some .int)) rmX7_directionOf D T (mmW h ad (T 0) w) sz [.ref h, .int x1, .int x2] rr (mmW h ad (T 0) wr) := by
  refine g_entry (Qc := fun A => gQi D T A rr (mmW h ad (T 0) wr)) (by decide) rfl ?_
  intro p e s m below meth c ls S hM hl
  have hl : lv_has ls 3 [(0, .ref h), (1, .int x1), (2, .int x2)] := hl
  refine lv_aload_n S.x S.b dX7_directionOf_0 rfl (lv_at hl 0 rfl) ?_
  refine mm_g S hM 5 rfl q1453 rfl dX7_directionOf_1 ?_
  refine lv_iload_n S.x S.b dX7_directionOf_4 rfl (lv_at hl 1 rfl) ?_
  obtain ⟨hi, hf⟩ := ck_some hf
  refine mm_ld S hM 3 rfl hi dX7_directionOf_5 ?_
  refine lv_iload_n S.x S.b dX7_directionOf_6 rfl (lv_at hl 2 rfl) ?_
  refine lv_ishr S.x S.b dX7_directionOf_7 ?_
  refine lv_iconst (v := (1 : Int32)) S.x S.b dX7_directionOf_8 ki_1 ?_
  refine lv_iand S.x S.b dX7_directionOf_9 ?_
  refine lv_aload_n S.x S.b dX7_directionOf_10 rfl (lv_at hl 0 rfl) ?_
  refine mm_g S hM 6 rfl q1454 rfl dX7_directionOf_11 ?_
  refine lv_iload_n S.x S.b dX7_directionOf_14 rfl (lv_at hl 1 rfl) ?_
  obtain ⟨hi, hf⟩ := ck_some hf
  refine mm_ld S hM 4 rfl hi dX7_directionOf_15 ?_
  refine lv_iload_n S.x S.b dX7_directionOf_16 rfl (lv_at hl 2 rfl) ?_
  refine lv_ishr S.x S.b dX7_directionOf_17 ?_
  refine lv_iconst (v := (1 : Int32)) S.x S.b dX7_directionOf_18 ki_1 ?_
  refine lv_iand S.x S.b dX7_directionOf_19 ?_
  refine lv_isub S.x S.b dX7_directionOf_20 ?_
  obtain ⟨rfl, rfl⟩ := rt2 hf
  exact g_iret S hM rfl dX7_directionOf_21
/-! SequenceBenchModel.senses([III)Z -/
theorem hdX7_senses : gHd yX7_senses 3 := by decide +kernel
def gX7_senses_28 (jr : Nat) (x2 : Int32) (x3 : Int32) (s0 : Int32) (w : MW) : Option (Int32 × MW) :=
  ck ((38 : Int32) + x2) 140 <|
  lt (((w.2 jr ((38 : Int32) + x2).toNatClampNeg) >>> (((1 : Int32) + ((2 : Int32) * x3)) &&& 31))) fun x5_1 =>
  if (x5_1 &&& (1 : Int32)) = 0 then (
  if s0 = 0 then (
  if (x5_1 &&& (2 : Int32)) = 0 then (
  some ((0 : Int32), w))
  else (
  some ((1 : Int32), w)))
  else (
  some ((1 : Int32), w)))
  else (
  some ((0 : Int32), w))
def gX7_senses_20 (jr : Nat) (x2 : Int32) (x3 : Int32) (s0 : Int32) (s1 : Int32) (w : MW) : Option (Int32 × MW) :=
  if s1 = s0 then (
  gX7_senses_28 jr x2 x3 (1 : Int32) w)
  else (
  gX7_senses_28 jr x2 x3 (0 : Int32) w)
def gX7_senses (jr : Nat) (x2 : Int32) (x3 : Int32) (w : MW) : Option (Int32 × MW) :=
  ck ((20 : Int32) + x2) 140 <|
  if x3 = 0 then (
  gX7_senses_20 jr x2 x3 (0 : Int32) (w.2 jr ((20 : Int32) + x2).toNatClampNeg) w)
  else (
  ck x2 6 <|
  gX7_senses_20 jr x2 x3 (w.2 2 x2.toNatClampNeg) (w.2 jr ((20 : Int32) + x2).toNatClampNeg) w)
abbrev rmX7_senses : Room := { frames := 1, cells := 0, slots := 0, locals := 12 }
set_option maxHeartbeats 4000000 in
theorem wX7_senses_28 {p : Program} {l : Launch} {e : Env} {s : State} {m : MethodId} {args : Array Value} {below : List Frame} {meth : Method} {c : Code} {D : va_G} {T : Nat → ClassId} {A : Nat → Prop} {h : Nat} {ad : Nat → Nat} {rr : Int32} {wr : MW} {jr : Nat} (S : gS p s m args meth c cX7_senses 6 (some .boolean) RX7 D T) (hj : Nat.ble (jr + 1) 2 = true) : ∀ (x2 : Int32) (x3 : Int32) (s0 : Int32) (w : MW) (H : Heap) (locs : List Loc) (ls : Array Slot), gM D A s.heap (mmW h ad (T 0) w) H locs → lv_has ls 6 [(1, .ref (ad jr)), (2, .int x2), (3, .int x3)] → gX7_senses_28 jr x2 x3 s0 w = some (rr, wr) → W p l e rmX7_senses s m args below meth c H locs 0 0 (MQ below (gQi D T A rr (mmW h ad (T 0) wr)) args s 0 0 A) (F0 m 28 ls [.int s0]) := by
  intro x2 x3 s0 w H locs ls hM hl hf
  refine g_ist S (x' := s0) rfl hl dX7_senses_28 rfl (lv' := [(4, .int s0), (1, .ref (ad jr)), (2, .int x2), (3, .int x3)]) rfl (fun ls hl => ?_)
  refine lv_aload_n S.x S.b dX7_senses_30 rfl (lv_at hl 1 rfl) ?_
  refine lv_bipush (v := (38 : Int32)) S.x S.b dX7_senses_31 kb_38 ?_
  refine lv_iload_n S.x S.b dX7_senses_33 rfl (lv_at hl 2 rfl) ?_
  refine lv_iadd S.x S.b dX7_senses_34 ?_
  obtain ⟨hi, hf⟩ := ck_some hf
  refine mm_ldr S hM jr hj hi dX7_senses_35 ?_
  refine lv_iconst (v := (1 : Int32)) S.x S.b dX7_senses_36 ki_1 ?_
  refine lv_iconst (v := (2 : Int32)) S.x S.b dX7_senses_37 ki_2 ?_
  refine lv_iload_n S.x S.b dX7_senses_38 rfl (lv_at hl 3 rfl) ?_
  refine lv_imul S.x S.b dX7_senses_39 ?_
  refine lv_iadd S.x S.b dX7_senses_40 ?_
  refine lv_ishr S.x S.b dX7_senses_41 ?_
  obtain ⟨x5_1, ex, hf⟩ := lt_some hf
  refine g_ist S (x' := x5_1) ex hl dX7_senses_42 rfl (lv' := [(5, .int x5_1), (4, .int s0), (1, .ref (ad jr)), (2, .int x2), (3, .int x3)]) rfl (fun ls hl => ?_)
  refine lv_iload S.x S.b dX7_senses_44 (lv_at hl 0 rfl) ?_
  refine lv_iconst (v := (1 : Int32)) S.x S.b dX7_senses_46 ki_1 ?_
  refine lv_iand S.x S.b dX7_senses_47 ?_
  refine lv_if_ne (tgt := 67) S.x S.b dX7_senses_48 rfl (fun cn => ?_) (fun cn => ?_)
  · have hf := if_f cn hf
    refine lv_iconst (v := (0 : Int32)) S.x S.b dX7_senses_67 ki_0 ?_
    obtain ⟨rfl, rfl⟩ := rt2 hf
    exact g_zret S hM rfl rfl dX7_senses_68
  · have hf := if_t cn hf
    refine lv_iload S.x S.b dX7_senses_51 (lv_at hl 1 rfl) ?_
    refine lv_if_ne (tgt := 63) S.x S.b dX7_senses_53 rfl (fun cn => ?_) (fun cn => ?_)
    · have hf := if_f cn hf
      refine lv_iconst (v := (1 : Int32)) S.x S.b dX7_senses_63 ki_1 ?_
      refine lv_goto (tgt := 68) S.x S.b dX7_senses_64 rfl ?_
      obtain ⟨rfl, rfl⟩ := rt2 hf
      exact g_zret S hM rfl rfl dX7_senses_68
    · have hf := if_t cn hf
      refine lv_iload S.x S.b dX7_senses_56 (lv_at hl 0 rfl) ?_
      refine lv_iconst (v := (2 : Int32)) S.x S.b dX7_senses_58 ki_2 ?_
      refine lv_iand S.x S.b dX7_senses_59 ?_
      refine lv_if_eq (tgt := 67) S.x S.b dX7_senses_60 rfl (fun cn => ?_) (fun cn => ?_)
      · have hf := if_t cn hf
        refine lv_iconst (v := (0 : Int32)) S.x S.b dX7_senses_67 ki_0 ?_
        obtain ⟨rfl, rfl⟩ := rt2 hf
        exact g_zret S hM rfl rfl dX7_senses_68
      · have hf := if_f cn hf
        refine lv_iconst (v := (1 : Int32)) S.x S.b dX7_senses_63 ki_1 ?_
        refine lv_goto (tgt := 68) S.x S.b dX7_senses_64 rfl ?_
        obtain ⟨rfl, rfl⟩ := rt2 hf
        exact g_zret S hM rfl rfl dX7_senses_68
set_option maxHeartbeats 4000000 in
theorem wX7_senses_20 {p : Program} {l : Launch} {e : Env} {s : State} {m : MethodId} {args : Array Value} {below : List Frame} {meth : Method} {c : Code} {D : va_G} {T : Nat → ClassId} {A : Nat → Prop} {h : Nat} {ad : Nat → Nat} {rr : Int32} {wr : MW} {jr : Nat} (S : gS p s m args meth c cX7_senses 6 (some .boolean) RX7 D T) (hj : Nat.ble (jr + 1) 2 = true) : ∀ (x2 : Int32) (x3 : Int32) (s0 : Int32) (s1 : Int32) (w : MW) (H : Heap) (locs : List Loc) (ls : Array Slot), gM D A s.heap (mmW h ad (T 0) w) H locs → lv_has ls 6 [(1, .ref (ad jr)), (2, .int x2), (3, .int x3)] → gX7_senses_20 jr x2 x3 s0 s1 w = some (rr, wr) → W p l e rmX7_senses s m args below meth c H locs 0 0 (MQ below (gQi D T A rr (mmW h ad (T 0) wr)) args s 0 0 A) (F0 m 20 ls [.int s0, .int s1]) := by
  intro x2 x3 s0 s1 w H locs ls hM hl hf
  refine lv_icmp_ne (tgt := 27) S.x S.b dX7_senses_20 rfl (fun cn => ?_) (fun cn => ?_)
  · have hf := if_f cn hf
    refine lv_iconst (v := (0 : Int32)) S.x S.b dX7_senses_27 ki_0 ?_
    exact wX7_senses_28 S hj x2 x3 (0 : Int32) w _ _ _ hM (lv_sub hl [0, 1, 2] rfl) hf
  · have hf := if_t cn hf
    refine lv_iconst (v := (1 : Int32)) S.x S.b dX7_senses_23 ki_1 ?_
    refine lv_goto (tgt := 28) S.x S.b dX7_senses_24 rfl ?_
    exact wX7_senses_28 S hj x2 x3 (1 : Int32) w _ _ _ hM (lv_sub hl [0, 1, 2] rfl) hf
set_option maxHeartbeats 4000000 in
theorem metX7_senses {l : Launch} {D : va_G} {T : Nat → ClassId} {h : Nat} {ad : Nat → Nat} {rr : Int32} {wr : MW} {x2 : Int32} {x3 : Int32} {w : MW} {jr : Nat} (hj : Nat.ble (jr + 1) 2 = true) (hf : gX7_senses jr x2 x3 w = some (rr, wr)) (sz : Nat) : MetI l yX7_senses (ws_ yX7_senses cX7_senses 6 (some .boolean)) rmX7_senses D T (mmW h ad (T 0) w) sz [.ref h, .ref (ad jr), .int x2, .int x3] rr (mmW h ad (T 0) wr) := by
  refine g_entry (Qc := fun A => gQi D T A rr (mmW h ad (T 0) wr)) (by decide) rfl ?_
  intro p e s m below meth c ls S hM hl
  have hl : lv_has ls 6 [(0, .ref h), (1, .ref (ad jr)), (2, .int x2), (3, .int x3)] := hl
  refine lv_aload_n S.x S.b dX7_senses_0 rfl (lv_at hl 1 rfl) ?_
  refine lv_bipush (v := (20 : Int32)) S.x S.b dX7_senses_1 kb_20 ?_
  refine lv_iload_n S.x S.b dX7_senses_3 rfl (lv_at hl 2 rfl) ?_
  refine lv_iadd S.x S.b dX7_senses_4 ?_
  obtain ⟨hi, hf⟩ := ck_some hf
  refine mm_ldr S hM jr hj hi dX7_senses_5 ?_
  refine lv_iload_n S.x S.b dX7_senses_6 rfl (lv_at hl 3 rfl) ?_
  refine lv_if_ne (tgt := 14) S.x S.b dX7_senses_7 rfl (fun cn => ?_) (fun cn => ?_)
  · have hf := if_f cn hf
    refine lv_aload_n S.x S.b dX7_senses_14 rfl (lv_at hl 0 rfl) ?_
    refine mm_g S hM 2 rfl q1450 rfl dX7_senses_15 ?_
    refine lv_iload_n S.x S.b dX7_senses_18 rfl (lv_at hl 2 rfl) ?_
    obtain ⟨hi, hf⟩ := ck_some hf
    refine mm_ld S hM 2 rfl hi dX7_senses_19 ?_
    exact wX7_senses_20 S hj x2 x3 (w.2 2 x2.toNatClampNeg) (w.2 jr ((20 : Int32) + x2).toNatClampNeg) w _ _ _ hM (lv_sub hl [1, 2, 3] rfl) hf
  · have hf := if_t cn hf
    refine lv_iconst (v := (0 : Int32)) S.x S.b dX7_senses_10 ki_0 ?_
    refine lv_goto (tgt := 20) S.x S.b dX7_senses_11 rfl ?_
    exact wX7_senses_20 S hj x2 x3 (0 : Int32) (w.2 jr ((20 : Int32) + x2).toNatClampNeg) w _ _ _ hM (lv_sub hl [1, 2, 3] rfl) hf
/-! SequenceBenchModel.isComplete([II)Z -/
theorem hdX7_isComplete : gHd yX7_isComplete 2 := by decide +kernel
def gX7_isComplete_63 (N : Nat) (jr : Nat) (k24 : Int32 → Int32 → Int32 → MW → Option (Int32 × MW)) (x2 : Int32) (x4 : Int32) (s0 : Int32) (s1 : Int32) (w : MW) : Option (Int32 × MW) :=
  bd2 (gX7_senses jr s1 s0 w) fun r_6 w_5 =>
  if r_6 = 0 then (
  lt (x4 + (1 : Int32)) fun x4_7 =>
  k24 x2 (0 : Int32) x4_7 w_5)
  else (
  lt (x4 + (1 : Int32)) fun x4_8 =>
  k24 x2 (1 : Int32) x4_8 w_5)
def gX7_isComplete_24 (N : Nat) (jr : Nat) : Nat → Int32 → Int32 → Int32 → MW → Option (Int32 × MW)
  | 0, _, _, _, _ => none
  | n + 1, x2, x3, x4, w =>
    if (6 : Int32) ≤ x4 then (
    bz x3 (some (x3, w)))
    else (
    bd2 (gX7_directionOf x2 x4 w) fun r_2 w_1 =>
    if x3 = 0 then (
    lt (x4 + (1 : Int32)) fun x4_3 =>
    gX7_isComplete_24 N jr n x2 (0 : Int32) x4_3 w_1)
    else (
    if r_2 = 0 then (
    lt (x4 + (1 : Int32)) fun x4_4 =>
    gX7_isComplete_24 N jr n x2 (1 : Int32) x4_4 w_1)
    else (
    if r_2 ≤ 0 then (
    gX7_isComplete_63 N jr (gX7_isComplete_24 N jr n) x2 x4 (0 : Int32) x4 w_1)
    else (
    gX7_isComplete_63 N jr (gX7_isComplete_24 N jr n) x2 x4 (1 : Int32) x4 w_1))))
def gX7_isComplete (N : Nat) (jr : Nat) (x2 : Int32) (w : MW) : Option (Int32 × MW) :=
  ck ((44 : Int32) + x2) 140 <|
  ck x2 16 <|
  if (w.2 jr ((44 : Int32) + x2).toNatClampNeg) < (w.2 5 x2.toNatClampNeg) then (
  gX7_isComplete_24 N jr N x2 (0 : Int32) (0 : Int32) w)
  else (
  gX7_isComplete_24 N jr N x2 (1 : Int32) (0 : Int32) w)
abbrev rmX7_isComplete : Room := { frames := 2, cells := 0, slots := 0, locals := 37 }
set_option maxHeartbeats 4000000 in
theorem wX7_isComplete_63 {p : Program} {l : Launch} {e : Env} {s : State} {m : MethodId} {args : Array Value} {below : List Frame} {meth : Method} {c : Code} {D : va_G} {T : Nat → ClassId} {A : Nat → Prop} {h : Nat} {ad : Nat → Nat} {rr : Int32} {wr : MW} {N : Nat} {jr : Nat} (S : gS p s m args meth c cX7_isComplete 6 (some .boolean) RX7 D T) (hj : Nat.ble (jr + 1) 2 = true) {k24 : Int32 → Int32 → Int32 → MW → Option (Int32 × MW)} (hk24 : ∀ (x2 : Int32) (x3 : Int32) (x4 : Int32) (w : MW) (H : Heap) (locs : List Loc) (ls : Array Slot), gM D A s.heap (mmW h ad (T 0) w) H locs → lv_has ls 6 [(0, .ref h), (1, .ref (ad jr)), (2, .int x2), (3, .int x3), (4, .int x4)] → k24 x2 x3 x4 w = some (rr, wr) → W p l e rmX7_isComplete s m args below meth c H locs 0 0 (MQ below (gQi D T A rr (mmW h ad (T 0) wr)) args s 0 0 A) (F0 m 24 ls [])) : ∀ (x2 : Int32) (x4 : Int32) (s0 : Int32) (s1 : Int32) (w : MW) (H : Heap) (locs : List Loc) (ls : Array Slot), gM D A s.heap (mmW h ad (T 0) w) H locs → lv_has ls 6 [(0, .ref h), (1, .ref (ad jr)), (2, .int x2), (4, .int x4)] → gX7_isComplete_63 N jr k24 x2 x4 s0 s1 w = some (rr, wr) → W p l e rmX7_isComplete s m args below meth c H locs 0 0 (MQ below (gQi D T A rr (mmW h ad (T 0) wr)) args s 0 0 A) (F0 m 63 ls [.int s0, .int s1, .ref (ad jr), .ref h]) := by
  intro x2 x4 s0 s1 w H locs ls hM hl hf
  obtain ⟨r_6, w_5, hc, hf⟩ := bd2_some hf
  refine mm_ci S hM hl [.ref (ad jr), .int s1, .int s0] rfl (metX7_senses (jr := jr) hj hc) hdX7_senses q1687 q1689 qs54 q69 q1690 ⟨rfl, rfl⟩ ⟨rfl, rfl⟩ rfl rfl rfl ⟨Nat.zero_le _, Nat.zero_le _⟩ dX7_isComplete_63 (fun H locs hM => ?_)
  refine lv_if_eq (tgt := 73) S.x S.b dX7_isComplete_66 rfl (fun cn => ?_) (fun cn => ?_)
  · have hf := if_t cn hf
    refine lv_iconst (v := (0 : Int32)) S.x S.b dX7_isComplete_73 ki_0 ?_
    refine g_istn S (x' := (0 : Int32)) rfl hl dX7_isComplete_74 rfl rfl (lv' := [(3, .int (0 : Int32)), (0, .ref h), (1, .ref (ad jr)), (2, .int x2), (4, .int x4)]) rfl (fun ls hl => ?_)
    obtain ⟨x4_7, ex, hf⟩ := lt_some hf
    refine g_inc S (x' := x4_7) (d := (1 : Int32)) hl (k := 4) rfl ki_1 ex dX7_isComplete_75 rfl (lv' := [(4, .int x4_7), (3, .int (0 : Int32)), (0, .ref h), (1, .ref (ad jr)), (2, .int x2)]) rfl (fun ls hl => ?_)
    refine lv_goto (tgt := 24) S.x S.b dX7_isComplete_78 rfl ?_
    exact hk24 x2 (0 : Int32) x4_7 w_5 _ _ _ hM (lv_sub hl [2, 3, 4, 1, 0] rfl) hf
  · have hf := if_f cn hf
    refine lv_iconst (v := (1 : Int32)) S.x S.b dX7_isComplete_69 ki_1 ?_
    refine lv_goto (tgt := 74) S.x S.b dX7_isComplete_70 rfl ?_
    refine g_istn S (x' := (1 : Int32)) rfl hl dX7_isComplete_74 rfl rfl (lv' := [(3, .int (1 : Int32)), (0, .ref h), (1, .ref (ad jr)), (2, .int x2), (4, .int x4)]) rfl (fun ls hl => ?_)
    obtain ⟨x4_8, ex, hf⟩ := lt_some hf
    refine g_inc S (x' := x4_8) (d := (1 : Int32)) hl (k := 4) rfl ki_1 ex dX7_isComplete_75 rfl (lv' := [(4, .int x4_8), (3, .int (1 : Int32)), (0, .ref h), (1, .ref (ad jr)), (2, .int x2)]) rfl (fun ls hl => ?_)
    refine lv_goto (tgt := 24) S.x S.b dX7_isComplete_78 rfl ?_
    exact hk24 x2 (1 : Int32) x4_8 w_5 _ _ _ hM (lv_sub hl [2, 3, 4, 1, 0] rfl) hf
set_option maxHeartbeats 4000000 in
theorem wX7_isComplete_24 {p : Program} {l : Launch} {e : Env} {s : State} {m : MethodId} {args : Array Value} {below : List Frame} {meth : Method} {c : Code} {D : va_G} {T : Nat → ClassId} {A : Nat → Prop} {h : Nat} {ad : Nat → Nat} {rr : Int32} {wr : MW} {N : Nat} {jr : Nat} (S : gS p s m args meth c cX7_isComplete 6 (some .boolean) RX7 D T) (hj : Nat.ble (jr + 1) 2 = true) : ∀ (n : Nat) (x2 : Int32) (x3 : Int32) (x4 : Int32) (w : MW) (H : Heap) (locs : List Loc) (ls : Array Slot), gM D A s.heap (mmW h ad (T 0) w) H locs → lv_has ls 6 [(0, .ref h), (1, .ref (ad jr)), (2, .int x2), (3, .int x3), (4, .int x4)] → gX7_isComplete_24 N jr n x2 x3 x4 w = some (rr, wr) → W p l e rmX7_isComplete s m args below meth c H locs 0 0 (MQ below (gQi D T A rr (mmW h ad (T 0) wr)) args s 0 0 A) (F0 m 24 ls []) := by
  intro n
  induction n with
  | zero =>
    intro x2 x3 x4 w H locs ls hM hl hf
    cases hf
  | succ n ih =>
    intro x2 x3 x4 w H locs ls hM hl hf
    refine lv_iload S.x S.b dX7_isComplete_24 (lv_at hl 4 rfl) ?_
    refine lv_bipush (v := (6 : Int32)) S.x S.b dX7_isComplete_26 kb_6 ?_
    refine lv_icmp_ge (tgt := 81) S.x S.b dX7_isComplete_28 rfl (fun cn => ?_) (fun cn => ?_)
    · have hf := if_t cn hf
      refine lv_iload_n S.x S.b dX7_isComplete_81 rfl (lv_at hl 3 rfl) ?_
      obtain ⟨hz, hf⟩ := bz_some hf
      obtain ⟨rfl, rfl⟩ := rt2 hf
      exact g_zret S hM rfl hz dX7_isComplete_82
    · have hf := if_f cn hf
      refine lv_aload_n S.x S.b dX7_isComplete_31 rfl (lv_at hl 0 rfl) ?_
      refine lv_iload_n S.x S.b dX7_isComplete_32 rfl (lv_at hl 2 rfl) ?_
      refine lv_iload S.x S.b dX7_isComplete_33 (lv_at hl 4 rfl) ?_
      obtain ⟨r_2, w_1, hc, hf⟩ := bd2_some hf
      refine mm_ci S hM hl [.int x2, .int x4] rfl (metX7_directionOf hc) hdX7_directionOf q1595 q1597 qs44 q69 q1598 ⟨rfl, rfl⟩ ⟨rfl, rfl⟩ rfl rfl rfl ⟨Nat.zero_le _, Nat.zero_le _⟩ dX7_isComplete_35 (fun H locs hM => ?_)
      refine g_ist S (x' := r_2) rfl hl dX7_isComplete_38 rfl (lv' := [(5, .int r_2), (0, .ref h), (1, .ref (ad jr)), (2, .int x2), (3, .int x3), (4, .int x4)]) rfl (fun ls hl => ?_)
      refine lv_iload_n S.x S.b dX7_isComplete_40 rfl (lv_at hl 4 rfl) ?_
      refine lv_if_eq (tgt := 73) S.x S.b dX7_isComplete_41 rfl (fun cn => ?_) (fun cn => ?_)
      · have hf := if_t cn hf
        refine lv_iconst (v := (0 : Int32)) S.x S.b dX7_isComplete_73 ki_0 ?_
        refine g_istn S (x' := (0 : Int32)) rfl hl dX7_isComplete_74 rfl rfl (lv' := [(3, .int (0 : Int32)), (5, .int r_2), (0, .ref h), (1, .ref (ad jr)), (2, .int x2), (4, .int x4)]) rfl (fun ls hl => ?_)
        obtain ⟨x4_3, ex, hf⟩ := lt_some hf
        refine g_inc S (x' := x4_3) (d := (1 : Int32)) hl (k := 5) rfl ki_1 ex dX7_isComplete_75 rfl (lv' := [(4, .int x4_3), (3, .int (0 : Int32)), (5, .int r_2), (0, .ref h), (1, .ref (ad jr)), (2, .int x2)]) rfl (fun ls hl => ?_)
        refine lv_goto (tgt := 24) S.x S.b dX7_isComplete_78 rfl ?_
        exact ih x2 (0 : Int32) x4_3 w_1 _ _ _ hM (lv_sub hl [3, 4, 5, 1, 0] rfl) hf
      · have hf := if_f cn hf
        refine lv_iload S.x S.b dX7_isComplete_44 (lv_at hl 0 rfl) ?_
        refine lv_if_eq (tgt := 69) S.x S.b dX7_isComplete_46 rfl (fun cn => ?_) (fun cn => ?_)
        · have hf := if_t cn hf
          refine lv_iconst (v := (1 : Int32)) S.x S.b dX7_isComplete_69 ki_1 ?_
          refine lv_goto (tgt := 74) S.x S.b dX7_isComplete_70 rfl ?_
          refine g_istn S (x' := (1 : Int32)) rfl hl dX7_isComplete_74 rfl rfl (lv' := [(3, .int (1 : Int32)), (5, .int r_2), (0, .ref h), (1, .ref (ad jr)), (2, .int x2), (4, .int x4)]) rfl (fun ls hl => ?_)
          obtain ⟨x4_4, ex, hf⟩ := lt_some hf
          refine g_inc S (x' := x4_4) (d := (1 : Int32)) hl (k := 5) rfl ki_1 ex dX7_isComplete_75 rfl (lv' := [(4, .int x4_4), (3, .int (1 : Int32)), (5, .int r_2), (0, .ref h), (1, .ref (ad jr)), (2, .int x2)]) rfl (fun ls hl => ?_)
          refine lv_goto (tgt := 24) S.x S.b dX7_isComplete_78 rfl ?_
          exact ih x2 (1 : Int32) x4_4 w_1 _ _ _ hM (lv_sub hl [3, 4, 5, 1, 0] rfl) hf
        · have hf := if_f cn hf
          refine lv_aload_n S.x S.b dX7_isComplete_49 rfl (lv_at hl 1 rfl) ?_
          refine lv_aload_n S.x S.b dX7_isComplete_50 rfl (lv_at hl 2 rfl) ?_
          refine lv_iload S.x S.b dX7_isComplete_51 (lv_at hl 5 rfl) ?_
          refine lv_iload S.x S.b dX7_isComplete_53 (lv_at hl 0 rfl) ?_
          refine lv_if_le (tgt := 62) S.x S.b dX7_isComplete_55 rfl (fun cn => ?_) (fun cn => ?_)
          · have hf := if_t cn hf
            refine lv_iconst (v := (0 : Int32)) S.x S.b dX7_isComplete_62 ki_0 ?_
            exact wX7_isComplete_63 S hj ih x2 x4 (0 : Int32) x4 w_1 _ _ _ hM (lv_sub hl [1, 2, 3, 5] rfl) hf
          · have hf := if_f cn hf
            refine lv_iconst (v := (1 : Int32)) S.x S.b dX7_isComplete_58 ki_1 ?_
            refine lv_goto (tgt := 63) S.x S.b dX7_isComplete_59 rfl ?_
            exact wX7_isComplete_63 S hj ih x2 x4 (1 : Int32) x4 w_1 _ _ _ hM (lv_sub hl [1, 2, 3, 5] rfl) hf
set_option maxHeartbeats 4000000 in
theorem metX7_isComplete {l : Launch} {D : va_G} {T : Nat → ClassId} {h : Nat} {ad : Nat → Nat} {rr : Int32} {wr : MW} {N : Nat} {x2 : Int32} {w : MW} {jr : Nat} (hj : Nat.ble (jr + 1) 2 = true) (hf : gX7_isComplete N jr x2 w = some (rr, wr)) (sz : Nat) : MetI l yX7_isComplete (ws_ yX7_isComplete cX7_isComplete 6 (some .boolean)) rmX7_isComplete D T (mmW h ad (T 0) w) sz [.ref h, .ref (ad jr), .int x2] rr (mmW h ad (T 0) wr) := by
  refine g_entry (Qc := fun A => gQi D T A rr (mmW h ad (T 0) wr)) (by decide) rfl ?_
  intro p e s m below meth c ls S hM hl
  have hl : lv_has ls 6 [(0, .ref h), (1, .ref (ad jr)), (2, .int x2)] := hl
  refine lv_aload_n S.x S.b dX7_isComplete_0 rfl (lv_at hl 1 rfl) ?_
  refine lv_bipush (v := (44 : Int32)) S.x S.b dX7_isComplete_1 kb_44 ?_
  refine lv_iload_n S.x S.b dX7_isComplete_3 rfl (lv_at hl 2 rfl) ?_
  refine lv_iadd S.x S.b dX7_isComplete_4 ?_
  obtain ⟨hi, hf⟩ := ck_some hf
  refine mm_ldr S hM jr hj hi dX7_isComplete_5 ?_
  refine lv_aload_n S.x S.b dX7_isComplete_6 rfl (lv_at hl 0 rfl) ?_
  refine mm_g S hM 7 rfl q1455 rfl dX7_isComplete_7 ?_
  refine lv_iload_n S.x S.b dX7_isComplete_10 rfl (lv_at hl 2 rfl) ?_
  obtain ⟨hi, hf⟩ := ck_some hf
  refine mm_ld S hM 5 rfl hi dX7_isComplete_11 ?_
  refine lv_icmp_lt (tgt := 19) S.x S.b dX7_isComplete_12 rfl (fun cn => ?_) (fun cn => ?_)
  · have hf := if_t cn hf
    refine lv_iconst (v := (0 : Int32)) S.x S.b dX7_isComplete_19 ki_0 ?_
    refine g_istn S (x' := (0 : Int32)) rfl hl dX7_isComplete_20 rfl rfl (lv' := [(3, .int (0 : Int32)), (0, .ref h), (1, .ref (ad jr)), (2, .int x2)]) rfl (fun ls hl => ?_)
    refine lv_iconst (v := (0 : Int32)) S.x S.b dX7_isComplete_21 ki_0 ?_
    refine g_ist S (x' := (0 : Int32)) rfl hl dX7_isComplete_22 rfl (lv' := [(4, .int (0 : Int32)), (3, .int (0 : Int32)), (0, .ref h), (1, .ref (ad jr)), (2, .int x2)]) rfl (fun ls hl => ?_)
    exact wX7_isComplete_24 S hj N x2 (0 : Int32) (0 : Int32) w _ _ _ hM (lv_sub hl [2, 3, 4, 1, 0] rfl) hf
  · have hf := if_f cn hf
    refine lv_iconst (v := (1 : Int32)) S.x S.b dX7_isComplete_15 ki_1 ?_
    refine lv_goto (tgt := 20) S.x S.b dX7_isComplete_16 rfl ?_
    refine g_istn S (x' := (1 : Int32)) rfl hl dX7_isComplete_20 rfl rfl (lv' := [(3, .int (1 : Int32)), (0, .ref h), (1, .ref (ad jr)), (2, .int x2)]) rfl (fun ls hl => ?_)
    refine lv_iconst (v := (0 : Int32)) S.x S.b dX7_isComplete_21 ki_0 ?_
    refine g_ist S (x' := (0 : Int32)) rfl hl dX7_isComplete_22 rfl (lv' := [(4, .int (0 : Int32)), (3, .int (1 : Int32)), (0, .ref h), (1, .ref (ad jr)), (2, .int x2)]) rfl (fun ls hl => ?_)
    exact wX7_isComplete_24 S hj N x2 (1 : Int32) (0 : Int32) w _ _ _ hM (lv_sub hl [2, 3, 4, 1, 0] rfl) hf
/-! SequenceBenchModel.groupFor(I)I -/
theorem hdX7_groupFor : gHd yX7_groupFor 1 := by decide +kernel
def gX7_groupFor_9 (N : Nat) : Nat → Int32 → Int32 → Int32 → MW → Option (Int32 × MW)
  | 0, _, _, _, _ => none
  | n + 1, x1, x2, x3, w =>
    if (w.1 8) ≤ x3 then (
    some (x2, w))
    else (
    ck x3 16 <|
    if x1 < (w.2 6 x3.toNatClampNeg) then (
    lt (x3 + (1 : Int32)) fun x3_2 =>
    gX7_groupFor_9 N n x1 x2 x3_2 w)
    else (
    lt (x3 + (1 : Int32)) fun x3_3 =>
    gX7_groupFor_9 N n x1 x3 x3_3 w))
def gX7_groupFor (N : Nat) (x1 : Int32) (w : MW) : Option (Int32 × MW) :=
  lt (((w.1 8) - (1 : Int32))) fun x2_1 =>
  gX7_groupFor_9 N N x1 x2_1 (0 : Int32) w
abbrev rmX7_groupFor : Room := { frames := 1, cells := 0, slots := 0, locals := 12 }
set_option maxHeartbeats 4000000 in
theorem wX7_groupFor_9 {p : Program} {l : Launch} {e : Env} {s : State} {m : MethodId} {args : Array Value} {below : List Frame} {meth : Method} {c : Code} {D : va_G} {T : Nat → ClassId} {A : Nat → Prop} {h : Nat} {ad : Nat → Nat} {rr : Int32} {wr : MW} {N : Nat} (S : gS p s m args meth c cX7_groupFor 4 (some .int) RX7 D T) : ∀ (n : Nat) (x1 : Int32) (x2 : Int32) (x3 : Int32) (w : MW) (H : Heap) (locs : List Loc) (ls : Array Slot), gM D A s.heap (mmW h ad (T 0) w) H locs → lv_has ls 4 [(0, .ref h), (1, .int x1), (2, .int x2), (3, .int x3)] → gX7_groupFor_9 N n x1 x2 x3 w = some (rr, wr) → W p l e rmX7_groupFor s m args below meth c H locs 0 0 (MQ below (gQi D T A rr (mmW h ad (T 0) wr)) args s 0 0 A) (F0 m 9 ls []) := by
  intro n
  induction n with
  | zero =>
    intro x1 x2 x3 w H locs ls hM hl hf
    cases hf
  | succ n ih =>
    intro x1 x2 x3 w H locs ls hM hl hf
    refine lv_iload_n S.x S.b dX7_groupFor_9 rfl (lv_at hl 3 rfl) ?_
    refine lv_aload_n S.x S.b dX7_groupFor_10 rfl (lv_at hl 0 rfl) ?_
    refine mm_g S hM 8 rfl q1456 rfl dX7_groupFor_11 ?_
    refine lv_icmp_ge (tgt := 39) S.x S.b dX7_groupFor_14 rfl (fun cn => ?_) (fun cn => ?_)
    · have hf := if_t cn hf
      refine lv_iload_n S.x S.b dX7_groupFor_39 rfl (lv_at hl 2 rfl) ?_
      obtain ⟨rfl, rfl⟩ := rt2 hf
      exact g_iret S hM rfl dX7_groupFor_40
    · have hf := if_f cn hf
      refine lv_aload_n S.x S.b dX7_groupFor_17 rfl (lv_at hl 0 rfl) ?_
      refine mm_g S hM 9 rfl q1457 rfl dX7_groupFor_18 ?_
      refine lv_iload_n S.x S.b dX7_groupFor_21 rfl (lv_at hl 3 rfl) ?_
      obtain ⟨hi, hf⟩ := ck_some hf
      refine mm_ld S hM 6 rfl hi dX7_groupFor_22 ?_
      refine lv_iload_n S.x S.b dX7_groupFor_23 rfl (lv_at hl 1 rfl) ?_
      refine lv_icmp_gt (tgt := 31) S.x S.b dX7_groupFor_24 rfl (fun cn => ?_) (fun cn => ?_)
      · have hf := if_t cn hf
        refine lv_iload_n S.x S.b dX7_groupFor_31 rfl (lv_at hl 2 rfl) ?_
        refine g_istn S (x' := x2) rfl hl dX7_groupFor_32 rfl rfl (lv' := [(2, .int x2), (0, .ref h), (1, .int x1), (3, .int x3)]) rfl (fun ls hl => ?_)
        obtain ⟨x3_2, ex, hf⟩ := lt_some hf
        refine g_inc S (x' := x3_2) (d := (1 : Int32)) hl (k := 3) rfl ki_1 ex dX7_groupFor_33 rfl (lv' := [(3, .int x3_2), (2, .int x2), (0, .ref h), (1, .int x1)]) rfl (fun ls hl => ?_)
        refine lv_goto (tgt := 9) S.x S.b dX7_groupFor_36 rfl ?_
        exact ih x1 x2 x3_2 w _ _ _ hM (lv_sub hl [2, 3, 1, 0] rfl) hf
      · have hf := if_f cn hf
        refine lv_iload_n S.x S.b dX7_groupFor_27 rfl (lv_at hl 3 rfl) ?_
        refine lv_goto (tgt := 32) S.x S.b dX7_groupFor_28 rfl ?_
        refine g_istn S (x' := x3) rfl hl dX7_groupFor_32 rfl rfl (lv' := [(2, .int x3), (0, .ref h), (1, .int x1), (3, .int x3)]) rfl (fun ls hl => ?_)
        obtain ⟨x3_3, ex, hf⟩ := lt_some hf
        refine g_inc S (x' := x3_3) (d := (1 : Int32)) hl (k := 3) rfl ki_1 ex dX7_groupFor_33 rfl (lv' := [(3, .int x3_3), (2, .int x3), (0, .ref h), (1, .int x1)]) rfl (fun ls hl => ?_)
        refine lv_goto (tgt := 9) S.x S.b dX7_groupFor_36 rfl ?_
        exact ih x1 x3 x3_3 w _ _ _ hM (lv_sub hl [2, 3, 1, 0] rfl) hf
set_option maxHeartbeats 4000000 in
theorem metX7_groupFor {l : Launch} {D : va_G} {T : Nat → ClassId} {h : Nat} {ad : Nat → Nat} {rr : Int32} {wr : MW} {N : Nat} {x1 : Int32} {w : MW} (hf : gX7_groupFor N x1 w = some (rr, wr)) (sz : Nat) : MetI l yX7_groupFor (ws_ yX7_groupFor cX7_groupFor 4 (some .int)) rmX7_groupFor D T (mmW h ad (T 0) w) sz [.ref h, .int x1] rr (mmW h ad (T 0) wr) := by
  refine g_entry (Qc := fun A => gQi D T A rr (mmW h ad (T 0) wr)) (by decide) rfl ?_
  intro p e s m below meth c ls S hM hl
  have hl : lv_has ls 4 [(0, .ref h), (1, .int x1)] := hl
  refine lv_aload_n S.x S.b dX7_groupFor_0 rfl (lv_at hl 0 rfl) ?_
  refine mm_g S hM 8 rfl q1456 rfl dX7_groupFor_1 ?_
  refine lv_iconst (v := (1 : Int32)) S.x S.b dX7_groupFor_4 ki_1 ?_
  refine lv_isub S.x S.b dX7_groupFor_5 ?_
  obtain ⟨x2_1, ex, hf⟩ := lt_some hf
  refine g_istn S (x' := x2_1) ex hl dX7_groupFor_6 rfl rfl (lv' := [(2, .int x2_1), (0, .ref h), (1, .int x1)]) rfl (fun ls hl => ?_)
  refine lv_iconst (v := (0 : Int32)) S.x S.b dX7_groupFor_7 ki_0 ?_
  refine g_istn S (x' := (0 : Int32)) rfl hl dX7_groupFor_8 rfl rfl (lv' := [(3, .int (0 : Int32)), (2, .int x2_1), (0, .ref h), (1, .int x1)]) rfl (fun ls hl => ?_)
  exact wX7_groupFor_9 S N x1 x2_1 (0 : Int32) w _ _ _ hM (lv_sub hl [2, 3, 1, 0] rfl) hf
/-! SequenceBenchModel.decides([I)I -/
theorem hdX7_decides : gHd yX7_decides 1 := by decide +kernel
def gX7_decides_57 (N : Nat) (jr : Nat) (k24 : Int32 → Int32 → Int32 → MW → Option (Int32 × MW)) (x3 : Int32) (x4 : Int32) (s0 : Int32) (w : MW) : Option (Int32 × MW) :=
  lt ((s0 ||| ((1 : Int32) <<< (x4 &&& 31)))) fun x2_21 =>
  lt (x4 + (1 : Int32)) fun x4_22 =>
  k24 x2_21 x3 x4_22 w
def gX7_decides_24 (N : Nat) (jr : Nat) : Nat → Int32 → Int32 → Int32 → MW → Option (Int32 × MW)
  | 0, _, _, _, _ => none
  | n + 1, x2, x3, x4, w =>
    if (w.1 4) ≤ x4 then (
    some (x2, w))
    else (
    bd2 (gX7_before x4 w) fun r_10 w_9 =>
    bd2 (gX7_isComplete N jr r_10 w_9) fun r_12 w_11 =>
    if r_12 = 0 then (
    lt ((x2 ||| (0 : Int32))) fun x2_13 =>
    lt (x4 + (1 : Int32)) fun x4_14 =>
    gX7_decides_24 N jr n x2_13 x3 x4_14 w_11)
    else (
    if 0 < x4 then (
    gX7_decides_57 N jr (gX7_decides_24 N jr n) x3 x4 x2 w_11)
    else (
    if x3 = 0 then (
    lt ((x2 ||| (0 : Int32))) fun x2_15 =>
    lt (x4 + (1 : Int32)) fun x4_16 =>
    gX7_decides_24 N jr n x2_15 x3 x4_16 w_11)
    else (
    gX7_decides_57 N jr (gX7_decides_24 N jr n) x3 x4 x2 w_11))))
def gX7_decides_139 (N : Nat) (jr : Nat) (w : MW) : Option (Int32 × MW) :=
  ck (3 : Int32) 140 <|
  if 0 ≤ (w.2 jr (3 : Int32).toNatClampNeg) then (
  ck (3 : Int32) 140 <|
  some (((1 : Int32) <<< ((w.2 jr (3 : Int32).toNatClampNeg) &&& 31)), w))
  else (
  some ((0 : Int32), w))
def gX7_decides_103 (N : Nat) (jr : Nat) (s0 : Int32) (s1 : Int32) (w : MW) : Option (Int32 × MW) :=
  ck s1 140 <|
  lt (setA w jr s1.toNatClampNeg s0) fun w_17 =>
  gX7_decides_139 N jr w_17
def gX7_decides_138 (N : Nat) (jr : Nat) (s0 : Int32) (s1 : Int32) (w : MW) : Option (Int32 × MW) :=
  ck s1 140 <|
  lt (setA w jr s1.toNatClampNeg s0) fun w_18 =>
  gX7_decides_139 N jr w_18
def gX7_decides_262 (N : Nat) (jr : Nat) (k218 : Int32 → Int32 → Int32 → Int32 → MW → Option (Int32 × MW)) (x2 : Int32) (x3 : Int32) (x5 : Int32) (x6 : Int32) (s0 : Int32) (w : MW) : Option (Int32 × MW) :=
  bd2 (gX7_groupFor N x6 w) fun r_28 w_27 =>
  ck (3 : Int32) 140 <|
  if r_28 = (w_27.2 jr (3 : Int32).toNatClampNeg) then (
  if s0 = 0 then (
  lt ((x2 ||| (0 : Int32))) fun x2_31 =>
  lt (x6 + (1 : Int32)) fun x6_32 =>
  k218 x2_31 x3 x5 x6_32 w_27)
  else (
  lt ((x2 ||| ((1 : Int32) <<< (x6 &&& 31)))) fun x2_33 =>
  lt (x6 + (1 : Int32)) fun x6_34 =>
  k218 x2_33 x3 x5 x6_34 w_27))
  else (
  lt ((x2 ||| (0 : Int32))) fun x2_29 =>
  lt (x6 + (1 : Int32)) fun x6_30 =>
  k218 x2_29 x3 x5 x6_30 w_27)
def gX7_decides_257 (N : Nat) (jr : Nat) (k218 : Int32 → Int32 → Int32 → Int32 → MW → Option (Int32 × MW)) (x2 : Int32) (x3 : Int32) (x5 : Int32) (x6 : Int32) (w : MW) : Option (Int32 × MW) :=
  gX7_decides_262 N jr k218 x2 x3 x5 x6 (1 : Int32) w
def gX7_decides_261 (N : Nat) (jr : Nat) (k218 : Int32 → Int32 → Int32 → Int32 → MW → Option (Int32 × MW)) (x2 : Int32) (x3 : Int32) (x5 : Int32) (x6 : Int32) (w : MW) : Option (Int32 × MW) :=
  gX7_decides_262 N jr k218 x2 x3 x5 x6 (0 : Int32) w
def gX7_decides_218 (N : Nat) (jr : Nat) : Nat → Int32 → Int32 → Int32 → Int32 → MW → Option (Int32 × MW)
  | 0, _, _, _, _, _ => none
  | n + 1, x2, x3, x5, x6, w =>
    if (w.1 4) ≤ x6 then (
    some (x2, w))
    else (
    if x6 = x5 then (
    gX7_decides_257 N jr (gX7_decides_218 N jr n) x2 x3 x5 x6 w)
    else (
    bd2 (gX7_before x6 w) fun r_24 w_23 =>
    bd2 (gX7_isComplete N jr r_24 w_23) fun r_26 w_25 =>
    if r_26 = 0 then (
    gX7_decides_261 N jr (gX7_decides_218 N jr n) x2 x3 x5 x6 w_25)
    else (
    if 0 < x6 then (
    gX7_decides_257 N jr (gX7_decides_218 N jr n) x2 x3 x5 x6 w_25)
    else (
    if x3 = 0 then (
    gX7_decides_261 N jr (gX7_decides_218 N jr n) x2 x3 x5 x6 w_25)
    else (
    gX7_decides_257 N jr (gX7_decides_218 N jr n) x2 x3 x5 x6 w_25)))))
def gX7_decides_205 (N : Nat) (jr : Nat) (x2 : Int32) (x3 : Int32) (w : MW) : Option (Int32 × MW) :=
  ck (3 : Int32) 140 <|
  ck (w.2 jr (3 : Int32).toNatClampNeg) 16 <|
  lt ((w.2 6 (w.2 jr (3 : Int32).toNatClampNeg).toNatClampNeg)) fun x5_20 =>
  gX7_decides_218 N jr N x2 x3 x5_20 (0 : Int32) w
def gX7_decides_200 (N : Nat) (jr : Nat) (x2 : Int32) (x3 : Int32) (x4 : Int32) (w : MW) : Option (Int32 × MW) :=
  ck (3 : Int32) 140 <|
  lt (setA w jr (3 : Int32).toNatClampNeg x4) fun w_19 =>
  gX7_decides_205 N jr x2 x3 w_19
def gX7_decides_14 (N : Nat) (jr : Nat) (x2 : Int32) (s0 : Int32) (w : MW) : Option (Int32 × MW) :=
  ck (1 : Int32) 140 <|
  if (w.2 jr (1 : Int32).toNatClampNeg) = 0 then (
  gX7_decides_24 N jr N x2 s0 (0 : Int32) w)
  else (
  ck (1 : Int32) 140 <|
  if (w.2 jr (1 : Int32).toNatClampNeg) = (2 : Int32) then (
  ck (3 : Int32) 140 <|
  lt ((w.2 jr (3 : Int32).toNatClampNeg)) fun x4_6 =>
  if 0 ≤ x4_6 then (
  bd2 (gX7_isComplete N jr x4_6 w) fun r_8 w_7 =>
  if r_8 = 0 then (
  gX7_decides_139 N jr w_7)
  else (
  if (w_7.1 4) ≤ (x4_6 + (1 : Int32)) then (
  gX7_decides_138 N jr (-1 : Int32) (3 : Int32) w_7)
  else (
  gX7_decides_138 N jr (x4_6 + (1 : Int32)) (3 : Int32) w_7)))
  else (
  if s0 = 0 then (
  gX7_decides_103 N jr (-1 : Int32) (3 : Int32) w)
  else (
  gX7_decides_103 N jr (0 : Int32) (3 : Int32) w)))
  else (
  ck (3 : Int32) 140 <|
  nz (w.1 8) <|
  lt ((((w.2 jr (3 : Int32).toNatClampNeg) + (1 : Int32)) - ((w.2 jr (3 : Int32).toNatClampNeg) + (1 : Int32)) / (w.1 8) * (w.1 8))) fun x4_1 =>
  ck x4_1 16 <|
  bd2 (gX7_before (w.2 6 x4_1.toNatClampNeg) w) fun r_3 w_2 =>
  bd2 (gX7_isComplete N jr r_3 w_2) fun r_5 w_4 =>
  if r_5 = 0 then (
  gX7_decides_205 N jr x2 s0 w_4)
  else (
  ck x4_1 16 <|
  if 0 < (w_4.2 6 x4_1.toNatClampNeg) then (
  gX7_decides_200 N jr x2 s0 x4_1 w_4)
  else (
  if s0 = 0 then (
  gX7_decides_205 N jr x2 s0 w_4)
  else (
  gX7_decides_200 N jr x2 s0 x4_1 w_4)))))
def gX7_decides (N : Nat) (jr : Nat) (w : MW) : Option (Int32 × MW) :=
  ck (2 : Int32) 140 <|
  if (w.2 jr (2 : Int32).toNatClampNeg) = (1 : Int32) then (
  gX7_decides_14 N jr (0 : Int32) (1 : Int32) w)
  else (
  gX7_decides_14 N jr (0 : Int32) (0 : Int32) w)
abbrev rmX7_decides : Room := { frames := 3, cells := 0, slots := 0, locals := 62 }
set_option maxHeartbeats 4000000 in
theorem wX7_decides_57 {p : Program} {l : Launch} {e : Env} {s : State} {m : MethodId} {args : Array Value} {below : List Frame} {meth : Method} {c : Code} {D : va_G} {T : Nat → ClassId} {A : Nat → Prop} {h : Nat} {ad : Nat → Nat} {rr : Int32} {wr : MW} {N : Nat} {jr : Nat} (S : gS p s m args meth c cX7_decides 8 (some .int) RX7 D T) (hj : Nat.ble (jr + 1) 2 = true) {k24 : Int32 → Int32 → Int32 → MW → Option (Int32 × MW)} (hk24 : ∀ (x2 : Int32) (x3 : Int32) (x4 : Int32) (w : MW) (H : Heap) (locs : List Loc) (ls : Array Slot), gM D A s.heap (mmW h ad (T 0) w) H locs → lv_has ls 8 [(0, .ref h), (1, .ref (ad jr)), (2, .int x2), (3, .int x3), (4, .int x4)] → k24 x2 x3 x4 w = some (rr, wr) → W p l e rmX7_decides s m args below meth c H locs 0 0 (MQ below (gQi D T A rr (mmW h ad (T 0) wr)) args s 0 0 A) (F0 m 24 ls [])) : ∀ (x3 : Int32) (x4 : Int32) (s0 : Int32) (w : MW) (H : Heap) (locs : List Loc) (ls : Array Slot), gM D A s.heap (mmW h ad (T 0) w) H locs → lv_has ls 8 [(0, .ref h), (1, .ref (ad jr)), (3, .int x3), (4, .int x4)] → gX7_decides_57 N jr k24 x3 x4 s0 w = some (rr, wr) → W p l e rmX7_decides s m args below meth c H locs 0 0 (MQ below (gQi D T A rr (mmW h ad (T 0) wr)) args s 0 0 A) (F0 m 57 ls [.int s0]) := by
  intro x3 x4 s0 w H locs ls hM hl hf
  refine lv_iconst (v := (1 : Int32)) S.x S.b dX7_decides_57 ki_1 ?_
  refine lv_iload S.x S.b dX7_decides_58 (lv_at hl 3 rfl) ?_
  refine lv_ishl S.x S.b dX7_decides_60 ?_
  refine lv_goto (tgt := 65) S.x S.b dX7_decides_61 rfl ?_
  refine lv_ior S.x S.b dX7_decides_65 ?_
  obtain ⟨x2_21, ex, hf⟩ := lt_some hf
  refine g_istn S (x' := x2_21) ex hl dX7_decides_66 rfl rfl (lv' := [(2, .int x2_21), (0, .ref h), (1, .ref (ad jr)), (3, .int x3), (4, .int x4)]) rfl (fun ls hl => ?_)
  obtain ⟨x4_22, ex, hf⟩ := lt_some hf
  refine g_inc S (x' := x4_22) (d := (1 : Int32)) hl (k := 4) rfl ki_1 ex dX7_decides_67 rfl (lv' := [(4, .int x4_22), (2, .int x2_21), (0, .ref h), (1, .ref (ad jr)), (3, .int x3)]) rfl (fun ls hl => ?_)
  refine lv_goto (tgt := 24) S.x S.b dX7_decides_70 rfl ?_
  exact hk24 x2_21 x3 x4_22 w _ _ _ hM (lv_sub hl [2, 3, 1, 4, 0] rfl) hf
set_option maxHeartbeats 4000000 in
theorem wX7_decides_24 {p : Program} {l : Launch} {e : Env} {s : State} {m : MethodId} {args : Array Value} {below : List Frame} {meth : Method} {c : Code} {D : va_G} {T : Nat → ClassId} {A : Nat → Prop} {h : Nat} {ad : Nat → Nat} {rr : Int32} {wr : MW} {N : Nat} {jr : Nat} (S : gS p s m args meth c cX7_decides 8 (some .int) RX7 D T) (hj : Nat.ble (jr + 1) 2 = true) : ∀ (n : Nat) (x2 : Int32) (x3 : Int32) (x4 : Int32) (w : MW) (H : Heap) (locs : List Loc) (ls : Array Slot), gM D A s.heap (mmW h ad (T 0) w) H locs → lv_has ls 8 [(0, .ref h), (1, .ref (ad jr)), (2, .int x2), (3, .int x3), (4, .int x4)] → gX7_decides_24 N jr n x2 x3 x4 w = some (rr, wr) → W p l e rmX7_decides s m args below meth c H locs 0 0 (MQ below (gQi D T A rr (mmW h ad (T 0) wr)) args s 0 0 A) (F0 m 24 ls []) := by
  intro n
  induction n with
  | zero =>
    intro x2 x3 x4 w H locs ls hM hl hf
    cases hf
  | succ n ih =>
    intro x2 x3 x4 w H locs ls hM hl hf
    refine lv_iload S.x S.b dX7_decides_24 (lv_at hl 4 rfl) ?_
    refine lv_aload_n S.x S.b dX7_decides_26 rfl (lv_at hl 0 rfl) ?_
    refine mm_g S hM 4 rfl q1452 rfl dX7_decides_27 ?_
    refine lv_icmp_ge (tgt := 73) S.x S.b dX7_decides_30 rfl (fun cn => ?_) (fun cn => ?_)
    · have hf := if_t cn hf
      refine lv_iload_n S.x S.b dX7_decides_73 rfl (lv_at hl 2 rfl) ?_
      obtain ⟨rfl, rfl⟩ := rt2 hf
      exact g_iret S hM rfl dX7_decides_74
    · have hf := if_f cn hf
      refine lv_iload_n S.x S.b dX7_decides_33 rfl (lv_at hl 2 rfl) ?_
      refine lv_aload_n S.x S.b dX7_decides_34 rfl (lv_at hl 0 rfl) ?_
      refine lv_aload_n S.x S.b dX7_decides_35 rfl (lv_at hl 1 rfl) ?_
      refine lv_aload_n S.x S.b dX7_decides_36 rfl (lv_at hl 0 rfl) ?_
      refine lv_iload S.x S.b dX7_decides_37 (lv_at hl 4 rfl) ?_
      obtain ⟨r_10, w_9, hc, hf⟩ := bd2_some hf
      refine mm_ci S hM hl [.int x4] rfl (metX7_before hc) hdX7_before q1615 q1617 qs47 q69 q1618 ⟨rfl, rfl⟩ ⟨rfl, rfl⟩ rfl rfl rfl ⟨Nat.zero_le _, Nat.zero_le _⟩ dX7_decides_39 (fun H locs hM => ?_)
      obtain ⟨r_12, w_11, hc, hf⟩ := bd2_some hf
      refine mm_ci S hM hl [.ref (ad jr), .int r_10] rfl (metX7_isComplete (jr := jr) hj hc) hdX7_isComplete q1683 q1685 qs53 q69 q1686 ⟨rfl, rfl⟩ ⟨rfl, rfl⟩ rfl rfl rfl ⟨Nat.zero_le _, Nat.zero_le _⟩ dX7_decides_42 (fun H locs hM => ?_)
      refine lv_if_eq (tgt := 64) S.x S.b dX7_decides_45 rfl (fun cn => ?_) (fun cn => ?_)
      · have hf := if_t cn hf
        refine lv_iconst (v := (0 : Int32)) S.x S.b dX7_decides_64 ki_0 ?_
        refine lv_ior S.x S.b dX7_decides_65 ?_
        obtain ⟨x2_13, ex, hf⟩ := lt_some hf
        refine g_istn S (x' := x2_13) ex hl dX7_decides_66 rfl rfl (lv' := [(2, .int x2_13), (0, .ref h), (1, .ref (ad jr)), (3, .int x3), (4, .int x4)]) rfl (fun ls hl => ?_)
        obtain ⟨x4_14, ex, hf⟩ := lt_some hf
        refine g_inc S (x' := x4_14) (d := (1 : Int32)) hl (k := 4) rfl ki_1 ex dX7_decides_67 rfl (lv' := [(4, .int x4_14), (2, .int x2_13), (0, .ref h), (1, .ref (ad jr)), (3, .int x3)]) rfl (fun ls hl => ?_)
        refine lv_goto (tgt := 24) S.x S.b dX7_decides_70 rfl ?_
        exact ih x2_13 x3 x4_14 w_11 _ _ _ hM (lv_sub hl [2, 3, 1, 4, 0] rfl) hf
      · have hf := if_f cn hf
        refine lv_iload S.x S.b dX7_decides_48 (lv_at hl 4 rfl) ?_
        refine lv_if_gt (tgt := 57) S.x S.b dX7_decides_50 rfl (fun cn => ?_) (fun cn => ?_)
        · have hf := if_t cn hf
          exact wX7_decides_57 S hj ih x3 x4 x2 w_11 _ _ _ hM (lv_sub hl [0, 1, 3, 4] rfl) hf
        · have hf := if_f cn hf
          refine lv_iload_n S.x S.b dX7_decides_53 rfl (lv_at hl 3 rfl) ?_
          refine lv_if_eq (tgt := 64) S.x S.b dX7_decides_54 rfl (fun cn => ?_) (fun cn => ?_)
          · have hf := if_t cn hf
            refine lv_iconst (v := (0 : Int32)) S.x S.b dX7_decides_64 ki_0 ?_
            refine lv_ior S.x S.b dX7_decides_65 ?_
            obtain ⟨x2_15, ex, hf⟩ := lt_some hf
            refine g_istn S (x' := x2_15) ex hl dX7_decides_66 rfl rfl (lv' := [(2, .int x2_15), (0, .ref h), (1, .ref (ad jr)), (3, .int x3), (4, .int x4)]) rfl (fun ls hl => ?_)
            obtain ⟨x4_16, ex, hf⟩ := lt_some hf
            refine g_inc S (x' := x4_16) (d := (1 : Int32)) hl (k := 4) rfl ki_1 ex dX7_decides_67 rfl (lv' := [(4, .int x4_16), (2, .int x2_15), (0, .ref h), (1, .ref (ad jr)), (3, .int x3)]) rfl (fun ls hl => ?_)
            refine lv_goto (tgt := 24) S.x S.b dX7_decides_70 rfl ?_
            exact ih x2_15 x3 x4_16 w_11 _ _ _ hM (lv_sub hl [2, 3, 1, 4, 0] rfl) hf
          · have hf := if_f cn hf
            exact wX7_decides_57 S hj ih x3 x4 x2 w_11 _ _ _ hM (lv_sub hl [0, 1, 3, 4] rfl) hf
set_option maxHeartbeats 4000000 in
theorem wX7_decides_139 {p : Program} {l : Launch} {e : Env} {s : State} {m : MethodId} {args : Array Value} {below : List Frame} {meth : Method} {c : Code} {D : va_G} {T : Nat → ClassId} {A : Nat → Prop} {h : Nat} {ad : Nat → Nat} {rr : Int32} {wr : MW} {N : Nat} {jr : Nat} (S : gS p s m args meth c cX7_decides 8 (some .int) RX7 D T) (hj : Nat.ble (jr + 1) 2 = true) : ∀ (w : MW) (H : Heap) (locs : List Loc) (ls : Array Slot), gM D A s.heap (mmW h ad (T 0) w) H locs → lv_has ls 8 [(1, .ref (ad jr))] → gX7_decides_139 N jr w = some (rr, wr) → W p l e rmX7_decides s m args below meth c H locs 0 0 (MQ below (gQi D T A rr (mmW h ad (T 0) wr)) args s 0 0 A) (F0 m 139 ls []) := by
  intro w H locs ls hM hl hf
  refine lv_aload_n S.x S.b dX7_decides_139 rfl (lv_at hl 0 rfl) ?_
  refine lv_iconst (v := (3 : Int32)) S.x S.b dX7_decides_140 ki_3 ?_
  obtain ⟨hi, hf⟩ := ck_some hf
  refine mm_ldr S hM jr hj hi dX7_decides_141 ?_
  refine lv_if_ge (tgt := 149) S.x S.b dX7_decides_142 rfl (fun cn => ?_) (fun cn => ?_)
  · have hf := if_t cn hf
    refine lv_iconst (v := (1 : Int32)) S.x S.b dX7_decides_149 ki_1 ?_
    refine lv_aload_n S.x S.b dX7_decides_150 rfl (lv_at hl 0 rfl) ?_
    refine lv_iconst (v := (3 : Int32)) S.x S.b dX7_decides_151 ki_3 ?_
    obtain ⟨hi, hf⟩ := ck_some hf
    refine mm_ldr S hM jr hj hi dX7_decides_152 ?_
    refine lv_ishl S.x S.b dX7_decides_153 ?_
    obtain ⟨rfl, rfl⟩ := rt2 hf
    exact g_iret S hM rfl dX7_decides_154
  · have hf := if_f cn hf
    refine lv_iconst (v := (0 : Int32)) S.x S.b dX7_decides_145 ki_0 ?_
    refine lv_goto (tgt := 154) S.x S.b dX7_decides_146 rfl ?_
    obtain ⟨rfl, rfl⟩ := rt2 hf
    exact g_iret S hM rfl dX7_decides_154
set_option maxHeartbeats 4000000 in
theorem wX7_decides_103 {p : Program} {l : Launch} {e : Env} {s : State} {m : MethodId} {args : Array Value} {below : List Frame} {meth : Method} {c : Code} {D : va_G} {T : Nat → ClassId} {A : Nat → Prop} {h : Nat} {ad : Nat → Nat} {rr : Int32} {wr : MW} {N : Nat} {jr : Nat} (S : gS p s m args meth c cX7_decides 8 (some .int) RX7 D T) (hj : Nat.ble (jr + 1) 2 = true) : ∀ (s0 : Int32) (s1 : Int32) (w : MW) (H : Heap) (locs : List Loc) (ls : Array Slot), gM D A s.heap (mmW h ad (T 0) w) H locs → lv_has ls 8 [(1, .ref (ad jr))] → gX7_decides_103 N jr s0 s1 w = some (rr, wr) → W p l e rmX7_decides s m args below meth c H locs 0 0 (MQ below (gQi D T A rr (mmW h ad (T 0) wr)) args s 0 0 A) (F0 m 103 ls [.int s0, .int s1, .ref (ad jr)]) := by
  intro s0 s1 w H locs ls hM hl hf
  obtain ⟨hi, hf⟩ := ck_some hf
  obtain ⟨w_17, ew, hf⟩ := lt_some hf
  refine mm_str S hM jr hj hi ew dX7_decides_103 (fun H locs hM => ?_)
  refine lv_goto (tgt := 139) S.x S.b dX7_decides_104 rfl ?_
  exact wX7_decides_139 S hj w_17 _ _ _ hM (lv_sub hl [0] rfl) hf
set_option maxHeartbeats 4000000 in
theorem wX7_decides_138 {p : Program} {l : Launch} {e : Env} {s : State} {m : MethodId} {args : Array Value} {below : List Frame} {meth : Method} {c : Code} {D : va_G} {T : Nat → ClassId} {A : Nat → Prop} {h : Nat} {ad : Nat → Nat} {rr : Int32} {wr : MW} {N : Nat} {jr : Nat} (S : gS p s m args meth c cX7_decides 8 (some .int) RX7 D T) (hj : Nat.ble (jr + 1) 2 = true) : ∀ (s0 : Int32) (s1 : Int32) (w : MW) (H : Heap) (locs : List Loc) (ls : Array Slot), gM D A s.heap (mmW h ad (T 0) w) H locs → lv_has ls 8 [(1, .ref (ad jr))] → gX7_decides_138 N jr s0 s1 w = some (rr, wr) → W p l e rmX7_decides s m args below meth c H locs 0 0 (MQ below (gQi D T A rr (mmW h ad (T 0) wr)) args s 0 0 A) (F0 m 138 ls [.int s0, .int s1, .ref (ad jr)]) := by
  intro s0 s1 w H locs ls hM hl hf
  obtain ⟨hi, hf⟩ := ck_some hf
  obtain ⟨w_18, ew, hf⟩ := lt_some hf
  refine mm_str S hM jr hj hi ew dX7_decides_138 (fun H locs hM => ?_)
  exact wX7_decides_139 S hj w_18 _ _ _ hM (lv_sub hl [0] rfl) hf
set_option maxHeartbeats 4000000 in
theorem wX7_decides_262 {p : Program} {l : Launch} {e : Env} {s : State} {m : MethodId} {args : Array Value} {below : List Frame} {meth : Method} {c : Code} {D : va_G} {T : Nat → ClassId} {A : Nat → Prop} {h : Nat} {ad : Nat → Nat} {rr : Int32} {wr : MW} {N : Nat} {jr : Nat} (S : gS p s m args meth c cX7_decides 8 (some .int) RX7 D T) (hj : Nat.ble (jr + 1) 2 = true) {k218 : Int32 → Int32 → Int32 → Int32 → MW → Option (Int32 × MW)} (hk218 : ∀ (x2 : Int32) (x3 : Int32) (x5 : Int32) (x6 : Int32) (w : MW) (H : Heap) (locs : List Loc) (ls : Array Slot), gM D A s.heap (mmW h ad (T 0) w) H locs → lv_has ls 8 [(0, .ref h), (1, .ref (ad jr)), (2, .int x2), (3, .int x3), (5, .int x5), (6, .int x6)] → k218 x2 x3 x5 x6 w = some (rr, wr) → W p l e rmX7_decides s m args below meth c H locs 0 0 (MQ below (gQi D T A rr (mmW h ad (T 0) wr)) args s 0 0 A) (F0 m 218 ls [])) : ∀ (x2 : Int32) (x3 : Int32) (x5 : Int32) (x6 : Int32) (s0 : Int32) (w : MW) (H : Heap) (locs : List Loc) (ls : Array Slot), gM D A s.heap (mmW h ad (T 0) w) H locs → lv_has ls 8 [(0, .ref h), (1, .ref (ad jr)), (2, .int x2), (3, .int x3), (5, .int x5), (6, .int x6)] → gX7_decides_262 N jr k218 x2 x3 x5 x6 s0 w = some (rr, wr) → W p l e rmX7_decides s m args below meth c H locs 0 0 (MQ below (gQi D T A rr (mmW h ad (T 0) wr)) args s 0 0 A) (F0 m 262 ls [.int s0]) := by
  intro x2 x3 x5 x6 s0 w H locs ls hM hl hf
  refine g_ist S (x' := s0) rfl hl dX7_decides_262 rfl (lv' := [(7, .int s0), (0, .ref h), (1, .ref (ad jr)), (2, .int x2), (3, .int x3), (5, .int x5), (6, .int x6)]) rfl (fun ls hl => ?_)
  refine lv_iload_n S.x S.b dX7_decides_264 rfl (lv_at hl 3 rfl) ?_
  refine lv_aload_n S.x S.b dX7_decides_265 rfl (lv_at hl 1 rfl) ?_
  refine lv_iload S.x S.b dX7_decides_266 (lv_at hl 6 rfl) ?_
  obtain ⟨r_28, w_27, hc, hf⟩ := bd2_some hf
  refine mm_ci S hM hl [.int x6] rfl (metX7_groupFor hc) hdX7_groupFor q1635 q1637 qs48 q69 q1638 ⟨rfl, rfl⟩ ⟨rfl, rfl⟩ rfl rfl rfl ⟨Nat.zero_le _, Nat.zero_le _⟩ dX7_decides_268 (fun H locs hM => ?_)
  refine lv_aload_n S.x S.b dX7_decides_271 rfl (lv_at hl 2 rfl) ?_
  refine lv_iconst (v := (3 : Int32)) S.x S.b dX7_decides_272 ki_3 ?_
  obtain ⟨hi, hf⟩ := ck_some hf
  refine mm_ldr S hM jr hj hi dX7_decides_273 ?_
  refine lv_icmp_ne (tgt := 289) S.x S.b dX7_decides_274 rfl (fun cn => ?_) (fun cn => ?_)
  · have hf := if_f cn hf
    refine lv_iconst (v := (0 : Int32)) S.x S.b dX7_decides_289 ki_0 ?_
    refine lv_ior S.x S.b dX7_decides_290 ?_
    obtain ⟨x2_29, ex, hf⟩ := lt_some hf
    refine g_istn S (x' := x2_29) ex hl dX7_decides_291 rfl rfl (lv' := [(2, .int x2_29), (7, .int s0), (0, .ref h), (1, .ref (ad jr)), (3, .int x3), (5, .int x5), (6, .int x6)]) rfl (fun ls hl => ?_)
    obtain ⟨x6_30, ex, hf⟩ := lt_some hf
    refine g_inc S (x' := x6_30) (d := (1 : Int32)) hl (k := 6) rfl ki_1 ex dX7_decides_292 rfl (lv' := [(6, .int x6_30), (2, .int x2_29), (7, .int s0), (0, .ref h), (1, .ref (ad jr)), (3, .int x3), (5, .int x5)]) rfl (fun ls hl => ?_)
    refine lv_goto (tgt := 218) S.x S.b dX7_decides_295 rfl ?_
    exact hk218 x2_29 x3 x5 x6_30 w_27 _ _ _ hM (lv_sub hl [3, 4, 1, 5, 6, 0] rfl) hf
  · have hf := if_t cn hf
    refine lv_iload S.x S.b dX7_decides_277 (lv_at hl 0 rfl) ?_
    refine lv_if_eq (tgt := 289) S.x S.b dX7_decides_279 rfl (fun cn => ?_) (fun cn => ?_)
    · have hf := if_t cn hf
      refine lv_iconst (v := (0 : Int32)) S.x S.b dX7_decides_289 ki_0 ?_
      refine lv_ior S.x S.b dX7_decides_290 ?_
      obtain ⟨x2_31, ex, hf⟩ := lt_some hf
      refine g_istn S (x' := x2_31) ex hl dX7_decides_291 rfl rfl (lv' := [(2, .int x2_31), (7, .int s0), (0, .ref h), (1, .ref (ad jr)), (3, .int x3), (5, .int x5), (6, .int x6)]) rfl (fun ls hl => ?_)
      obtain ⟨x6_32, ex, hf⟩ := lt_some hf
      refine g_inc S (x' := x6_32) (d := (1 : Int32)) hl (k := 6) rfl ki_1 ex dX7_decides_292 rfl (lv' := [(6, .int x6_32), (2, .int x2_31), (7, .int s0), (0, .ref h), (1, .ref (ad jr)), (3, .int x3), (5, .int x5)]) rfl (fun ls hl => ?_)
      refine lv_goto (tgt := 218) S.x S.b dX7_decides_295 rfl ?_
      exact hk218 x2_31 x3 x5 x6_32 w_27 _ _ _ hM (lv_sub hl [3, 4, 1, 5, 6, 0] rfl) hf
    · have hf := if_f cn hf
      refine lv_iconst (v := (1 : Int32)) S.x S.b dX7_decides_282 ki_1 ?_
      refine lv_iload S.x S.b dX7_decides_283 (lv_at hl 6 rfl) ?_
      refine lv_ishl S.x S.b dX7_decides_285 ?_
      refine lv_goto (tgt := 290) S.x S.b dX7_decides_286 rfl ?_
      refine lv_ior S.x S.b dX7_decides_290 ?_
      obtain ⟨x2_33, ex, hf⟩ := lt_some hf
      refine g_istn S (x' := x2_33) ex hl dX7_decides_291 rfl rfl (lv' := [(2, .int x2_33), (7, .int s0), (0, .ref h), (1, .ref (ad jr)), (3, .int x3), (5, .int x5), (6, .int x6)]) rfl (fun ls hl => ?_)
      obtain ⟨x6_34, ex, hf⟩ := lt_some hf
      refine g_inc S (x' := x6_34) (d := (1 : Int32)) hl (k := 6) rfl ki_1 ex dX7_decides_292 rfl (lv' := [(6, .int x6_34), (2, .int x2_33), (7, .int s0), (0, .ref h), (1, .ref (ad jr)), (3, .int x3), (5, .int x5)]) rfl (fun ls hl => ?_)
      refine lv_goto (tgt := 218) S.x S.b dX7_decides_295 rfl ?_
      exact hk218 x2_33 x3 x5 x6_34 w_27 _ _ _ hM (lv_sub hl [3, 4, 1, 5, 6, 0] rfl) hf
set_option maxHeartbeats 4000000 in
theorem wX7_decides_257 {p : Program} {l : Launch} {e : Env} {s : State} {m : MethodId} {args : Array Value} {below : List Frame} {meth : Method} {c : Code} {D : va_G} {T : Nat → ClassId} {A : Nat → Prop} {h : Nat} {ad : Nat → Nat} {rr : Int32} {wr : MW} {N : Nat} {jr : Nat} (S : gS p s m args meth c cX7_decides 8 (some .int) RX7 D T) (hj : Nat.ble (jr + 1) 2 = true) {k218 : Int32 → Int32 → Int32 → Int32 → MW → Option (Int32 × MW)} (hk218 : ∀ (x2 : Int32) (x3 : Int32) (x5 : Int32) (x6 : Int32) (w : MW) (H : Heap) (locs : List Loc) (ls : Array Slot), gM D A s.heap (mmW h ad (T 0) w) H locs → lv_has ls 8 [(0, .ref h), (1, .ref (ad jr)), (2, .int x2), (3, .int x3), (5, .int x5), (6, .int x6)] → k218 x2 x3 x5 x6 w = some (rr, wr) → W p l e rmX7_decides s m args below meth c H locs 0 0 (MQ below (gQi D T A rr (mmW h ad (T 0) wr)) args s 0 0 A) (F0 m 218 ls [])) : ∀ (x2 : Int32) (x3 : Int32) (x5 : Int32) (x6 : Int32) (w : MW) (H : Heap) (locs : List Loc) (ls : Array Slot), gM D A s.heap (mmW h ad (T 0) w) H locs → lv_has ls 8 [(0, .ref h), (1, .ref (ad jr)), (2, .int x2), (3, .int x3), (5, .int x5), (6, .int x6)] → gX7_decides_257 N jr k218 x2 x3 x5 x6 w = some (rr, wr) → W p l e rmX7_decides s m args below meth c H locs 0 0 (MQ below (gQi D T A rr (mmW h ad (T 0) wr)) args s 0 0 A) (F0 m 257 ls []) := by
  intro x2 x3 x5 x6 w H locs ls hM hl hf
  refine lv_iconst (v := (1 : Int32)) S.x S.b dX7_decides_257 ki_1 ?_
  refine lv_goto (tgt := 262) S.x S.b dX7_decides_258 rfl ?_
  exact wX7_decides_262 S hj hk218 x2 x3 x5 x6 (1 : Int32) w _ _ _ hM (lv_sub hl [0, 1, 2, 3, 4, 5] rfl) hf
set_option maxHeartbeats 4000000 in
theorem wX7_decides_261 {p : Program} {l : Launch} {e : Env} {s : State} {m : MethodId} {args : Array Value} {below : List Frame} {meth : Method} {c : Code} {D : va_G} {T : Nat → ClassId} {A : Nat → Prop} {h : Nat} {ad : Nat → Nat} {rr : Int32} {wr : MW} {N : Nat} {jr : Nat} (S : gS p s m args meth c cX7_decides 8 (some .int) RX7 D T) (hj : Nat.ble (jr + 1) 2 = true) {k218 : Int32 → Int32 → Int32 → Int32 → MW → Option (Int32 × MW)} (hk218 : ∀ (x2 : Int32) (x3 : Int32) (x5 : Int32) (x6 : Int32) (w : MW) (H : Heap) (locs : List Loc) (ls : Array Slot), gM D A s.heap (mmW h ad (T 0) w) H locs → lv_has ls 8 [(0, .ref h), (1, .ref (ad jr)), (2, .int x2), (3, .int x3), (5, .int x5), (6, .int x6)] → k218 x2 x3 x5 x6 w = some (rr, wr) → W p l e rmX7_decides s m args below meth c H locs 0 0 (MQ below (gQi D T A rr (mmW h ad (T 0) wr)) args s 0 0 A) (F0 m 218 ls [])) : ∀ (x2 : Int32) (x3 : Int32) (x5 : Int32) (x6 : Int32) (w : MW) (H : Heap) (locs : List Loc) (ls : Array Slot), gM D A s.heap (mmW h ad (T 0) w) H locs → lv_has ls 8 [(0, .ref h), (1, .ref (ad jr)), (2, .int x2), (3, .int x3), (5, .int x5), (6, .int x6)] → gX7_decides_261 N jr k218 x2 x3 x5 x6 w = some (rr, wr) → W p l e rmX7_decides s m args below meth c H locs 0 0 (MQ below (gQi D T A rr (mmW h ad (T 0) wr)) args s 0 0 A) (F0 m 261 ls []) := by
  intro x2 x3 x5 x6 w H locs ls hM hl hf
  refine lv_iconst (v := (0 : Int32)) S.x S.b dX7_decides_261 ki_0 ?_
  exact wX7_decides_262 S hj hk218 x2 x3 x5 x6 (0 : Int32) w _ _ _ hM (lv_sub hl [0, 1, 2, 3, 4, 5] rfl) hf
set_option maxHeartbeats 4000000 in
theorem wX7_decides_218 {p : Program} {l : Launch} {e : Env} {s : State} {m : MethodId} {args : Array Value} {below : List Frame} {meth : Method} {c : Code} {D : va_G} {T : Nat → ClassId} {A : Nat → Prop} {h : Nat} {ad : Nat → Nat} {rr : Int32} {wr : MW} {N : Nat} {jr : Nat} (S : gS p s m args meth c cX7_decides 8 (some .int) RX7 D T) (hj : Nat.ble (jr + 1) 2 = true) : ∀ (n : Nat) (x2 : Int32) (x3 : Int32) (x5 : Int32) (x6 : Int32) (w : MW) (H : Heap) (locs : List Loc) (ls : Array Slot), gM D A s.heap (mmW h ad (T 0) w) H locs → lv_has ls 8 [(0, .ref h), (1, .ref (ad jr)), (2, .int x2), (3, .int x3), (5, .int x5), (6, .int x6)] → gX7_decides_218 N jr n x2 x3 x5 x6 w = some (rr, wr) → W p l e rmX7_decides s m args below meth c H locs 0 0 (MQ below (gQi D T A rr (mmW h ad (T 0) wr)) args s 0 0 A) (F0 m 218 ls []) := by
  intro n
  induction n with
  | zero =>
    intro x2 x3 x5 x6 w H locs ls hM hl hf
    cases hf
  | succ n ih =>
    intro x2 x3 x5 x6 w H locs ls hM hl hf
    refine lv_iload S.x S.b dX7_decides_218 (lv_at hl 5 rfl) ?_
    refine lv_aload_n S.x S.b dX7_decides_220 rfl (lv_at hl 0 rfl) ?_
    refine mm_g S hM 4 rfl q1452 rfl dX7_decides_221 ?_
    refine lv_icmp_ge (tgt := 298) S.x S.b dX7_decides_224 rfl (fun cn => ?_) (fun cn => ?_)
    · have hf := if_t cn hf
      refine lv_iload_n S.x S.b dX7_decides_298 rfl (lv_at hl 2 rfl) ?_
      obtain ⟨rfl, rfl⟩ := rt2 hf
      exact g_iret S hM rfl dX7_decides_299
    · have hf := if_f cn hf
      refine lv_iload S.x S.b dX7_decides_227 (lv_at hl 5 rfl) ?_
      refine lv_iload S.x S.b dX7_decides_229 (lv_at hl 4 rfl) ?_
      refine lv_icmp_eq (tgt := 257) S.x S.b dX7_decides_231 rfl (fun cn => ?_) (fun cn => ?_)
      · have hf := if_t cn hf
        exact wX7_decides_257 S hj ih x2 x3 x5 x6 w _ _ _ hM (lv_sub hl [0, 1, 2, 3, 4, 5] rfl) hf
      · have hf := if_f cn hf
        refine lv_aload_n S.x S.b dX7_decides_234 rfl (lv_at hl 0 rfl) ?_
        refine lv_aload_n S.x S.b dX7_decides_235 rfl (lv_at hl 1 rfl) ?_
        refine lv_aload_n S.x S.b dX7_decides_236 rfl (lv_at hl 0 rfl) ?_
        refine lv_iload S.x S.b dX7_decides_237 (lv_at hl 5 rfl) ?_
        obtain ⟨r_24, w_23, hc, hf⟩ := bd2_some hf
        refine mm_ci S hM hl [.int x6] rfl (metX7_before hc) hdX7_before q1615 q1617 qs47 q69 q1618 ⟨rfl, rfl⟩ ⟨rfl, rfl⟩ rfl rfl rfl ⟨Nat.zero_le _, Nat.zero_le _⟩ dX7_decides_239 (fun H locs hM => ?_)
        obtain ⟨r_26, w_25, hc, hf⟩ := bd2_some hf
        refine mm_ci S hM hl [.ref (ad jr), .int r_24] rfl (metX7_isComplete (jr := jr) hj hc) hdX7_isComplete q1683 q1685 qs53 q69 q1686 ⟨rfl, rfl⟩ ⟨rfl, rfl⟩ rfl rfl rfl ⟨Nat.zero_le _, Nat.zero_le _⟩ dX7_decides_242 (fun H locs hM => ?_)
        refine lv_if_eq (tgt := 261) S.x S.b dX7_decides_245 rfl (fun cn => ?_) (fun cn => ?_)
        · have hf := if_t cn hf
          exact wX7_decides_261 S hj ih x2 x3 x5 x6 w_25 _ _ _ hM (lv_sub hl [0, 1, 2, 3, 4, 5] rfl) hf
        · have hf := if_f cn hf
          refine lv_iload S.x S.b dX7_decides_248 (lv_at hl 5 rfl) ?_
          refine lv_if_gt (tgt := 257) S.x S.b dX7_decides_250 rfl (fun cn => ?_) (fun cn => ?_)
          · have hf := if_t cn hf
            exact wX7_decides_257 S hj ih x2 x3 x5 x6 w_25 _ _ _ hM (lv_sub hl [0, 1, 2, 3, 4, 5] rfl) hf
          · have hf := if_f cn hf
            refine lv_iload_n S.x S.b dX7_decides_253 rfl (lv_at hl 3 rfl) ?_
            refine lv_if_eq (tgt := 261) S.x S.b dX7_decides_254 rfl (fun cn => ?_) (fun cn => ?_)
            · have hf := if_t cn hf
              exact wX7_decides_261 S hj ih x2 x3 x5 x6 w_25 _ _ _ hM (lv_sub hl [0, 1, 2, 3, 4, 5] rfl) hf
            · have hf := if_f cn hf
              exact wX7_decides_257 S hj ih x2 x3 x5 x6 w_25 _ _ _ hM (lv_sub hl [0, 1, 2, 3, 4, 5] rfl) hf
set_option maxHeartbeats 4000000 in
theorem wX7_decides_205 {p : Program} {l : Launch} {e : Env} {s : State} {m : MethodId} {args : Array Value} {below : List Frame} {meth : Method} {c : Code} {D : va_G} {T : Nat → ClassId} {A : Nat → Prop} {h : Nat} {ad : Nat → Nat} {rr : Int32} {wr : MW} {N : Nat} {jr : Nat} (S : gS p s m args meth c cX7_decides 8 (some .int) RX7 D T) (hj : Nat.ble (jr + 1) 2 = true) : ∀ (x2 : Int32) (x3 : Int32) (w : MW) (H : Heap) (locs : List Loc) (ls : Array Slot), gM D A s.heap (mmW h ad (T 0) w) H locs → lv_has ls 8 [(0, .ref h), (1, .ref (ad jr)), (2, .int x2), (3, .int x3)] → gX7_decides_205 N jr x2 x3 w = some (rr, wr) → W p l e rmX7_decides s m args below meth c H locs 0 0 (MQ below (gQi D T A rr (mmW h ad (T 0) wr)) args s 0 0 A) (F0 m 205 ls []) := by
  intro x2 x3 w H locs ls hM hl hf
  refine lv_aload_n S.x S.b dX7_decides_205 rfl (lv_at hl 0 rfl) ?_
  refine mm_g S hM 9 rfl q1457 rfl dX7_decides_206 ?_
  refine lv_aload_n S.x S.b dX7_decides_209 rfl (lv_at hl 1 rfl) ?_
  refine lv_iconst (v := (3 : Int32)) S.x S.b dX7_decides_210 ki_3 ?_
  obtain ⟨hi, hf⟩ := ck_some hf
  refine mm_ldr S hM jr hj hi dX7_decides_211 ?_
  obtain ⟨hi, hf⟩ := ck_some hf
  refine mm_ld S hM 6 rfl hi dX7_decides_212 ?_
  obtain ⟨x5_20, ex, hf⟩ := lt_some hf
  refine g_ist S (x' := x5_20) ex hl dX7_decides_213 rfl (lv' := [(5, .int x5_20), (0, .ref h), (1, .ref (ad jr)), (2, .int x2), (3, .int x3)]) rfl (fun ls hl => ?_)
  refine lv_iconst (v := (0 : Int32)) S.x S.b dX7_decides_215 ki_0 ?_
  refine g_ist S (x' := (0 : Int32)) rfl hl dX7_decides_216 rfl (lv' := [(6, .int (0 : Int32)), (5, .int x5_20), (0, .ref h), (1, .ref (ad jr)), (2, .int x2), (3, .int x3)]) rfl (fun ls hl => ?_)
  exact wX7_decides_218 S hj N x2 x3 x5_20 (0 : Int32) w _ _ _ hM (lv_sub hl [2, 3, 4, 5, 1, 0] rfl) hf
set_option maxHeartbeats 4000000 in
theorem wX7_decides_200 {p : Program} {l : Launch} {e : Env} {s : State} {m : MethodId} {args : Array Value} {below : List Frame} {meth : Method} {c : Code} {D : va_G} {T : Nat → ClassId} {A : Nat → Prop} {h : Nat} {ad : Nat → Nat} {rr : Int32} {wr : MW} {N : Nat} {jr : Nat} (S : gS p s m args meth c cX7_decides 8 (some .int) RX7 D T) (hj : Nat.ble (jr + 1) 2 = true) : ∀ (x2 : Int32) (x3 : Int32) (x4 : Int32) (w : MW) (H : Heap) (locs : List Loc) (ls : Array Slot), gM D A s.heap (mmW h ad (T 0) w) H locs → lv_has ls 8 [(0, .ref h), (1, .ref (ad jr)), (2, .int x2), (3, .int x3), (4, .int x4)] → gX7_decides_200 N jr x2 x3 x4 w = some (rr, wr) → W p l e rmX7_decides s m args below meth c H locs 0 0 (MQ below (gQi D T A rr (mmW h ad (T 0) wr)) args s 0 0 A) (F0 m 200 ls []) := by
  intro x2 x3 x4 w H locs ls hM hl hf
  refine lv_aload_n S.x S.b dX7_decides_200 rfl (lv_at hl 1 rfl) ?_
  refine lv_iconst (v := (3 : Int32)) S.x S.b dX7_decides_201 ki_3 ?_
  refine lv_iload S.x S.b dX7_decides_202 (lv_at hl 4 rfl) ?_
  obtain ⟨hi, hf⟩ := ck_some hf
  obtain ⟨w_19, ew, hf⟩ := lt_some hf
  refine mm_str S hM jr hj hi ew dX7_decides_204 (fun H locs hM => ?_)
  exact wX7_decides_205 S hj x2 x3 w_19 _ _ _ hM (lv_sub hl [0, 1, 2, 3] rfl) hf
set_option maxHeartbeats 4000000 in
theorem wX7_decides_14 {p : Program} {l : Launch} {e : Env} {s : State} {m : MethodId} {args : Array Value} {below : List Frame} {meth : Method} {c : Code} {D : va_G} {T : Nat → ClassId} {A : Nat → Prop} {h : Nat} {ad : Nat → Nat} {rr : Int32} {wr : MW} {N : Nat} {jr : Nat} (S : gS p s m args meth c cX7_decides 8 (some .int) RX7 D T) (hj : Nat.ble (jr + 1) 2 = true) : ∀ (x2 : Int32) (s0 : Int32) (w : MW) (H : Heap) (locs : List Loc) (ls : Array Slot), gM D A s.heap (mmW h ad (T 0) w) H locs → lv_has ls 8 [(0, .ref h), (1, .ref (ad jr)), (2, .int x2)] → gX7_decides_14 N jr x2 s0 w = some (rr, wr) → W p l e rmX7_decides s m args below meth c H locs 0 0 (MQ below (gQi D T A rr (mmW h ad (T 0) wr)) args s 0 0 A) (F0 m 14 ls [.int s0]) := by
  intro x2 s0 w H locs ls hM hl hf
  refine g_istn S (x' := s0) rfl hl dX7_decides_14 rfl rfl (lv' := [(3, .int s0), (0, .ref h), (1, .ref (ad jr)), (2, .int x2)]) rfl (fun ls hl => ?_)
  refine lv_aload_n S.x S.b dX7_decides_15 rfl (lv_at hl 2 rfl) ?_
  refine lv_iconst (v := (1 : Int32)) S.x S.b dX7_decides_16 ki_1 ?_
  obtain ⟨hi, hf⟩ := ck_some hf
  refine mm_ldr S hM jr hj hi dX7_decides_17 ?_
  refine lv_if_ne (tgt := 75) S.x S.b dX7_decides_18 rfl (fun cn => ?_) (fun cn => ?_)
  · have hf := if_f cn hf
    refine lv_aload_n S.x S.b dX7_decides_75 rfl (lv_at hl 2 rfl) ?_
    refine lv_iconst (v := (1 : Int32)) S.x S.b dX7_decides_76 ki_1 ?_
    obtain ⟨hi, hf⟩ := ck_some hf
    refine mm_ldr S hM jr hj hi dX7_decides_77 ?_
    refine lv_iconst (v := (2 : Int32)) S.x S.b dX7_decides_78 ki_2 ?_
    refine lv_icmp_ne (tgt := 155) S.x S.b dX7_decides_79 rfl (fun cn => ?_) (fun cn => ?_)
    · have hf := if_f cn hf
      refine lv_aload_n S.x S.b dX7_decides_155 rfl (lv_at hl 2 rfl) ?_
      refine lv_iconst (v := (3 : Int32)) S.x S.b dX7_decides_156 ki_3 ?_
      obtain ⟨hi, hf⟩ := ck_some hf
      refine mm_ldr S hM jr hj hi dX7_decides_157 ?_
      refine lv_iconst (v := (1 : Int32)) S.x S.b dX7_decides_158 ki_1 ?_
      refine lv_iadd S.x S.b dX7_decides_159 ?_
      refine lv_aload_n S.x S.b dX7_decides_160 rfl (lv_at hl 1 rfl) ?_
      refine mm_g S hM 8 rfl q1456 rfl dX7_decides_161 ?_
      obtain ⟨hz, hf⟩ := nz_some hf
      refine lv_irem S.x S.b dX7_decides_164 hz ?_
      obtain ⟨x4_1, ex, hf⟩ := lt_some hf
      refine g_ist S (x' := x4_1) ex hl dX7_decides_165 rfl (lv' := [(4, .int x4_1), (3, .int s0), (0, .ref h), (1, .ref (ad jr)), (2, .int x2)]) rfl (fun ls hl => ?_)
      refine lv_aload_n S.x S.b dX7_decides_167 rfl (lv_at hl 2 rfl) ?_
      refine lv_aload_n S.x S.b dX7_decides_168 rfl (lv_at hl 3 rfl) ?_
      refine lv_aload_n S.x S.b dX7_decides_169 rfl (lv_at hl 2 rfl) ?_
      refine lv_aload_n S.x S.b dX7_decides_170 rfl (lv_at hl 2 rfl) ?_
      refine mm_g S hM 9 rfl q1457 rfl dX7_decides_171 ?_
      refine lv_iload S.x S.b dX7_decides_174 (lv_at hl 0 rfl) ?_
      obtain ⟨hi, hf⟩ := ck_some hf
      refine mm_ld S hM 6 rfl hi dX7_decides_176 ?_
      obtain ⟨r_3, w_2, hc, hf⟩ := bd2_some hf
      refine mm_ci S hM hl [.int (w.2 6 x4_1.toNatClampNeg)] rfl (metX7_before hc) hdX7_before q1615 q1617 qs47 q69 q1618 ⟨rfl, rfl⟩ ⟨rfl, rfl⟩ rfl rfl rfl ⟨Nat.zero_le _, Nat.zero_le _⟩ dX7_decides_177 (fun H locs hM => ?_)
      obtain ⟨r_5, w_4, hc, hf⟩ := bd2_some hf
      refine mm_ci S hM hl [.ref (ad jr), .int r_3] rfl (metX7_isComplete (jr := jr) hj hc) hdX7_isComplete q1683 q1685 qs53 q69 q1686 ⟨rfl, rfl⟩ ⟨rfl, rfl⟩ rfl rfl rfl ⟨Nat.zero_le _, Nat.zero_le _⟩ dX7_decides_180 (fun H locs hM => ?_)
      refine lv_if_eq (tgt := 205) S.x S.b dX7_decides_183 rfl (fun cn => ?_) (fun cn => ?_)
      · have hf := if_t cn hf
        exact wX7_decides_205 S hj x2 s0 w_4 _ _ _ hM (lv_sub hl [2, 3, 4, 1] rfl) hf
      · have hf := if_f cn hf
        refine lv_aload_n S.x S.b dX7_decides_186 rfl (lv_at hl 2 rfl) ?_
        refine mm_g S hM 9 rfl q1457 rfl dX7_decides_187 ?_
        refine lv_iload S.x S.b dX7_decides_190 (lv_at hl 0 rfl) ?_
        obtain ⟨hi, hf⟩ := ck_some hf
        refine mm_ld S hM 6 rfl hi dX7_decides_192 ?_
        refine lv_if_gt (tgt := 200) S.x S.b dX7_decides_193 rfl (fun cn => ?_) (fun cn => ?_)
        · have hf := if_t cn hf
          exact wX7_decides_200 S hj x2 s0 x4_1 w_4 _ _ _ hM (lv_sub hl [2, 3, 4, 1, 0] rfl) hf
        · have hf := if_f cn hf
          refine lv_iload_n S.x S.b dX7_decides_196 rfl (lv_at hl 1 rfl) ?_
          refine lv_if_eq (tgt := 205) S.x S.b dX7_decides_197 rfl (fun cn => ?_) (fun cn => ?_)
          · have hf := if_t cn hf
            exact wX7_decides_205 S hj x2 s0 w_4 _ _ _ hM (lv_sub hl [2, 3, 4, 1] rfl) hf
          · have hf := if_f cn hf
            exact wX7_decides_200 S hj x2 s0 x4_1 w_4 _ _ _ hM (lv_sub hl [2, 3, 4, 1, 0] rfl) hf
    · have hf := if_t cn hf
      refine lv_aload_n S.x S.b dX7_decides_82 rfl (lv_at hl 2 rfl) ?_
      refine lv_iconst (v := (3 : Int32)) S.x S.b dX7_decides_83 ki_3 ?_
      obtain ⟨hi, hf⟩ := ck_some hf
      refine mm_ldr S hM jr hj hi dX7_decides_84 ?_
      obtain ⟨x4_6, ex, hf⟩ := lt_some hf
      refine g_ist S (x' := x4_6) ex hl dX7_decides_85 rfl (lv' := [(4, .int x4_6), (3, .int s0), (0, .ref h), (1, .ref (ad jr)), (2, .int x2)]) rfl (fun ls hl => ?_)
      refine lv_iload S.x S.b dX7_decides_87 (lv_at hl 0 rfl) ?_
      refine lv_if_ge (tgt := 107) S.x S.b dX7_decides_89 rfl (fun cn => ?_) (fun cn => ?_)
      · have hf := if_t cn hf
        refine lv_aload_n S.x S.b dX7_decides_107 rfl (lv_at hl 2 rfl) ?_
        refine lv_aload_n S.x S.b dX7_decides_108 rfl (lv_at hl 3 rfl) ?_
        refine lv_iload S.x S.b dX7_decides_109 (lv_at hl 0 rfl) ?_
        obtain ⟨r_8, w_7, hc, hf⟩ := bd2_some hf
        refine mm_ci S hM hl [.ref (ad jr), .int x4_6] rfl (metX7_isComplete (jr := jr) hj hc) hdX7_isComplete q1683 q1685 qs53 q69 q1686 ⟨rfl, rfl⟩ ⟨rfl, rfl⟩ rfl rfl rfl ⟨Nat.zero_le _, Nat.zero_le _⟩ dX7_decides_111 (fun H locs hM => ?_)
        refine lv_if_eq (tgt := 139) S.x S.b dX7_decides_114 rfl (fun cn => ?_) (fun cn => ?_)
        · have hf := if_t cn hf
          exact wX7_decides_139 S hj w_7 _ _ _ hM (lv_sub hl [3] rfl) hf
        · have hf := if_f cn hf
          refine lv_aload_n S.x S.b dX7_decides_117 rfl (lv_at hl 3 rfl) ?_
          refine lv_iconst (v := (3 : Int32)) S.x S.b dX7_decides_118 ki_3 ?_
          refine lv_iload S.x S.b dX7_decides_119 (lv_at hl 0 rfl) ?_
          refine lv_iconst (v := (1 : Int32)) S.x S.b dX7_decides_121 ki_1 ?_
          refine lv_iadd S.x S.b dX7_decides_122 ?_
          refine lv_aload_n S.x S.b dX7_decides_123 rfl (lv_at hl 2 rfl) ?_
          refine mm_g S hM 4 rfl q1452 rfl dX7_decides_124 ?_
          refine lv_icmp_ge (tgt := 137) S.x S.b dX7_decides_127 rfl (fun cn => ?_) (fun cn => ?_)
          · have hf := if_t cn hf
            refine lv_iconst (v := (-1 : Int32)) S.x S.b dX7_decides_137 ki_m1 ?_
            exact wX7_decides_138 S hj (-1 : Int32) (3 : Int32) w_7 _ _ _ hM (lv_sub hl [3] rfl) hf
          · have hf := if_f cn hf
            refine lv_iload S.x S.b dX7_decides_130 (lv_at hl 0 rfl) ?_
            refine lv_iconst (v := (1 : Int32)) S.x S.b dX7_decides_132 ki_1 ?_
            refine lv_iadd S.x S.b dX7_decides_133 ?_
            refine lv_goto (tgt := 138) S.x S.b dX7_decides_134 rfl ?_
            exact wX7_decides_138 S hj (x4_6 + (1 : Int32)) (3 : Int32) w_7 _ _ _ hM (lv_sub hl [3] rfl) hf
      · have hf := if_f cn hf
        refine lv_aload_n S.x S.b dX7_decides_92 rfl (lv_at hl 3 rfl) ?_
        refine lv_iconst (v := (3 : Int32)) S.x S.b dX7_decides_93 ki_3 ?_
        refine lv_iload_n S.x S.b dX7_decides_94 rfl (lv_at hl 1 rfl) ?_
        refine lv_if_eq (tgt := 102) S.x S.b dX7_decides_95 rfl (fun cn => ?_) (fun cn => ?_)
        · have hf := if_t cn hf
          refine lv_iconst (v := (-1 : Int32)) S.x S.b dX7_decides_102 ki_m1 ?_
          exact wX7_decides_103 S hj (-1 : Int32) (3 : Int32) w _ _ _ hM (lv_sub hl [3] rfl) hf
        · have hf := if_f cn hf
          refine lv_iconst (v := (0 : Int32)) S.x S.b dX7_decides_98 ki_0 ?_
          refine lv_goto (tgt := 103) S.x S.b dX7_decides_99 rfl ?_
          exact wX7_decides_103 S hj (0 : Int32) (3 : Int32) w _ _ _ hM (lv_sub hl [3] rfl) hf
  · have hf := if_t cn hf
    refine lv_iconst (v := (0 : Int32)) S.x S.b dX7_decides_21 ki_0 ?_
    refine g_ist S (x' := (0 : Int32)) rfl hl dX7_decides_22 rfl (lv' := [(4, .int (0 : Int32)), (3, .int s0), (0, .ref h), (1, .ref (ad jr)), (2, .int x2)]) rfl (fun ls hl => ?_)
    exact wX7_decides_24 S hj N x2 s0 (0 : Int32) w _ _ _ hM (lv_sub hl [2, 3, 4, 1, 0] rfl) hf
set_option maxHeartbeats 4000000 in
theorem metX7_decides {l : Launch} {D : va_G} {T : Nat → ClassId} {h : Nat} {ad : Nat → Nat} {rr : Int32} {wr : MW} {N : Nat} {w : MW} {jr : Nat} (hj : Nat.ble (jr + 1) 2 = true) (hf : gX7_decides N jr w = some (rr, wr)) (sz : Nat) : MetI l yX7_decides (ws_ yX7_decides cX7_decides 8 (some .int)) rmX7_decides D T (mmW h ad (T 0) w) sz [.ref h, .ref (ad jr)] rr (mmW h ad (T 0) wr) := by
  refine g_entry (Qc := fun A => gQi D T A rr (mmW h ad (T 0) wr)) (by decide) rfl ?_
  intro p e s m below meth c ls S hM hl
  have hl : lv_has ls 8 [(0, .ref h), (1, .ref (ad jr))] := hl
  refine lv_iconst (v := (0 : Int32)) S.x S.b dX7_decides_0 ki_0 ?_
  refine g_istn S (x' := (0 : Int32)) rfl hl dX7_decides_1 rfl rfl (lv' := [(2, .int (0 : Int32)), (0, .ref h), (1, .ref (ad jr))]) rfl (fun ls hl => ?_)
  refine lv_aload_n S.x S.b dX7_decides_2 rfl (lv_at hl 2 rfl) ?_
  refine lv_iconst (v := (2 : Int32)) S.x S.b dX7_decides_3 ki_2 ?_
  obtain ⟨hi, hf⟩ := ck_some hf
  refine mm_ldr S hM jr hj hi dX7_decides_4 ?_
  refine lv_iconst (v := (1 : Int32)) S.x S.b dX7_decides_5 ki_1 ?_
  refine lv_icmp_ne (tgt := 13) S.x S.b dX7_decides_6 rfl (fun cn => ?_) (fun cn => ?_)
  · have hf := if_f cn hf
    refine lv_iconst (v := (0 : Int32)) S.x S.b dX7_decides_13 ki_0 ?_
    exact wX7_decides_14 S hj (0 : Int32) (0 : Int32) w _ _ _ hM (lv_sub hl [1, 2, 0] rfl) hf
  · have hf := if_t cn hf
    refine lv_iconst (v := (1 : Int32)) S.x S.b dX7_decides_9 ki_1 ?_
    refine lv_goto (tgt := 14) S.x S.b dX7_decides_10 rfl ?_
    exact wX7_decides_14 S hj (0 : Int32) (1 : Int32) w _ _ _ hM (lv_sub hl [1, 2, 0] rfl) hf
