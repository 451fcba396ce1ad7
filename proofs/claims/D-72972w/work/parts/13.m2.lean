set_option maxRecDepth 100000
/-! SequenceBenchModel.countOf(I)I -/
theorem hdX7_countOf : gHd yX7_countOf 1 := by decide +kernel
def gX7_countOf_4 (N : Nat) : Nat → Int32 → Int32 → Int32 → Option (Int32)
  | 0, _, _, _ => none
  | n + 1, x0, x1, x2 =>
    if (16 : Int32) ≤ x2 then (
    some x1)
    else (
    lt ((x1 + ((x0 >>> (x2 &&& 31)) &&& (1 : Int32)))) fun x1_1 =>
    lt (x2 + (1 : Int32)) fun x2_2 =>
    gX7_countOf_4 N n x0 x1_1 x2_2)
def gX7_countOf (N : Nat) (x0 : Int32) : Option (Int32) :=
  gX7_countOf_4 N N x0 (0 : Int32) (0 : Int32)
abbrev rmX7_countOf : Room := { frames := 1, cells := 0, slots := 0, locals := 12 }
set_option maxHeartbeats 4000000 in
theorem wX7_countOf_4 {p : Program} {l : Launch} {e : Env} {s : State} {m : MethodId} {args : Array Value} {below : List Frame} {meth : Method} {c : Code} {D : va_G} {T : Nat → ClassId} {A : Nat → Prop} {rr : Int32} {N : Nat} (S : gS p s m args meth c cX7_countOf 3 (some .int) RX7 D T) : ∀ (n : Nat) (x0 : Int32) (x1 : Int32) (x2 : Int32) (H : Heap) (locs : List Loc) (ls : Array Slot), gM D A s.heap ([]) H locs → lv_has ls 3 [(0, .int x0), (1, .int x1), (2, .int x2)] → gX7_countOf_4 N n x0 x1 x2 = some rr → W p l e rmX7_countOf s m args below meth c H locs 0 0 (MQ below (gQi D T A rr ([])) args s 0 0 A) (F0 m 4 ls []) := by
  intro n
  induction n with
  | zero =>
    intro x0 x1 x2 H locs ls hM hl hf
    cases hf
  | succ n ih =>
    intro x0 x1 x2 H locs ls hM hl hf
    refine lv_iload_n S.x S.b dX7_countOf_4 rfl (lv_at hl 2 rfl) ?_
    refine lv_bipush (v := (16 : Int32)) S.x S.b dX7_countOf_5 kb_16 ?_
    refine lv_icmp_ge (tgt := 24) S.x S.b dX7_countOf_7 rfl (fun cn => ?_) (fun cn => ?_)
    · have hf := if_t cn hf
      refine lv_iload_n S.x S.b dX7_countOf_24 rfl (lv_at hl 1 rfl) ?_
      obtain rfl := rt1 hf
      exact g_iret S hM rfl dX7_countOf_25
    · have hf := if_f cn hf
      refine lv_iload_n S.x S.b dX7_countOf_10 rfl (lv_at hl 1 rfl) ?_
      refine lv_iload_n S.x S.b dX7_countOf_11 rfl (lv_at hl 0 rfl) ?_
      refine lv_iload_n S.x S.b dX7_countOf_12 rfl (lv_at hl 2 rfl) ?_
      refine lv_ishr S.x S.b dX7_countOf_13 ?_
      refine lv_iconst (v := (1 : Int32)) S.x S.b dX7_countOf_14 ki_1 ?_
      refine lv_iand S.x S.b dX7_countOf_15 ?_
      refine lv_iadd S.x S.b dX7_countOf_16 ?_
      obtain ⟨x1_1, ex, hf⟩ := lt_some hf
      refine g_istn S (x' := x1_1) ex hl dX7_countOf_17 rfl rfl (lv' := [(1, .int x1_1), (0, .int x0), (2, .int x2)]) rfl (fun ls hl => ?_)
      obtain ⟨x2_2, ex, hf⟩ := lt_some hf
      refine g_inc S (x' := x2_2) (d := (1 : Int32)) hl (k := 2) rfl ki_1 ex dX7_countOf_18 rfl (lv' := [(2, .int x2_2), (1, .int x1_1), (0, .int x0)]) rfl (fun ls hl => ?_)
      refine lv_goto (tgt := 4) S.x S.b dX7_countOf_21 rfl ?_
      exact ih x0 x1_1 x2_2 _ _ _ hM (lv_sub hl [2, 1, 0] rfl) hf
set_option maxHeartbeats 4000000 in
theorem metX7_countOf {l : Launch} {D : va_G} {T : Nat → ClassId} {rr : Int32} {N : Nat} {x0 : Int32} (hf : gX7_countOf N x0 = some rr) (sz : Nat) : MetI l yX7_countOf (ws_ yX7_countOf cX7_countOf 3 (some .int)) rmX7_countOf D T ([]) sz [.int x0] rr ([]) := by
  refine g_entry (Qc := fun A => gQi D T A rr ([])) (by decide) rfl ?_
  intro p e s m below meth c ls S hM hl
  have hl : lv_has ls 3 [(0, .int x0)] := hl
  refine lv_iconst (v := (0 : Int32)) S.x S.b dX7_countOf_0 ki_0 ?_
  refine g_istn S (x' := (0 : Int32)) rfl hl dX7_countOf_1 rfl rfl (lv' := [(1, .int (0 : Int32)), (0, .int x0)]) rfl (fun ls hl => ?_)
  refine lv_iconst (v := (0 : Int32)) S.x S.b dX7_countOf_2 ki_0 ?_
  refine g_istn S (x' := (0 : Int32)) rfl hl dX7_countOf_3 rfl rfl (lv' := [(2, .int (0 : Int32)), (1, .int (0 : Int32)), (0, .int x0)]) rfl (fun ls hl => ?_)
  exact wX7_countOf_4 S N x0 (0 : Int32) (0 : Int32) _ _ _ hM (lv_sub hl [2, 1, 0] rfl) hf
/-! SequenceBenchModel.valvesOf(I)I -/
theorem hdX7_valvesOf : gHd yX7_valvesOf 1 := by decide +kernel
def gX7_valvesOf_4 (N : Nat) : Nat → Int32 → Int32 → Int32 → MW → Option (Int32 × MW)
  | 0, _, _, _, _ => none
  | n + 1, x1, x2, x3, w =>
    if (w.1 4) ≤ x3 then (
    bd (gX7_countOf N x2) fun r_1 =>
    if x1 = (1 : Int32) then (
    some ((r_1 + ((w.1 8) - (1 : Int32))), w))
    else (
    if x1 = (2 : Int32) then (
    some ((r_1 + (w.1 4)), w))
    else (
    some ((r_1 + (0 : Int32)), w))))
    else (
    ck x3 16 <|
    lt ((x2 ||| (w.2 3 x3.toNatClampNeg))) fun x2_2 =>
    lt (x3 + (1 : Int32)) fun x3_3 =>
    gX7_valvesOf_4 N n x1 x2_2 x3_3 w)
def gX7_valvesOf (N : Nat) (x1 : Int32) (w : MW) : Option (Int32 × MW) :=
  gX7_valvesOf_4 N N x1 (0 : Int32) (0 : Int32) w
abbrev rmX7_valvesOf : Room := { frames := 2, cells := 0, slots := 0, locals := 34 }
set_option maxHeartbeats 4000000 in
theorem wX7_valvesOf_4 {p : Program} {l : Launch} {e : Env} {s : State} {m : MethodId} {args : Array Value} {below : List Frame} {meth : Method} {c : Code} {D : va_G} {T : Nat → ClassId} {A : Nat → Prop} {h : Nat} {ad : Nat → Nat} {rr : Int32} {wr : MW} {N : Nat} (S : gS p s m args meth c cX7_valvesOf 4 (some .int) RX7 D T) : ∀ (n : Nat) (x1 : Int32) (x2 : Int32) (x3 : Int32) (w : MW) (H : Heap) (locs : List Loc) (ls : Array Slot), gM D A s.heap (mmW h ad (T 0) w) H locs → lv_has ls 4 [(0, .ref h), (1, .int x1), (2, .int x2), (3, .int x3)] → gX7_valvesOf_4 N n x1 x2 x3 w = some (rr, wr) → W p l e rmX7_valvesOf s m args below meth c H locs 0 0 (MQ below (gQi D T A rr (mmW h ad (T 0) wr)) args s 0 0 A) (F0 m 4 ls []) := by
  intro n
  induction n with
  | zero =>
    intro x1 x2 x3 w H locs ls hM hl hf
    cases hf
  | succ n ih =>
    intro x1 x2 x3 w H locs ls hM hl hf
    refine lv_iload_n S.x S.b dX7_valvesOf_4 rfl (lv_at hl 3 rfl) ?_
    refine lv_aload_n S.x S.b dX7_valvesOf_5 rfl (lv_at hl 0 rfl) ?_
    refine mm_g S hM 4 rfl q1452 rfl dX7_valvesOf_6 ?_
    refine lv_icmp_ge (tgt := 27) S.x S.b dX7_valvesOf_9 rfl (fun cn => ?_) (fun cn => ?_)
    · have hf := if_t cn hf
      refine lv_iload_n S.x S.b dX7_valvesOf_27 rfl (lv_at hl 2 rfl) ?_
      obtain ⟨r_1, hc, hf⟩ := bd_some hf
      refine gg_si S hM hl [.int x2] (metX7_countOf hc) hdX7_countOf q1565 q1566 q69 q1567 ⟨rfl, rfl⟩ ⟨rfl, rfl⟩ rfl rfl rfl ⟨Nat.zero_le _, Nat.zero_le _⟩ dX7_valvesOf_28 (fun H locs hM => ?_)
      refine lv_iload_n S.x S.b dX7_valvesOf_31 rfl (lv_at hl 1 rfl) ?_
      refine lv_iconst (v := (1 : Int32)) S.x S.b dX7_valvesOf_32 ki_1 ?_
      refine lv_icmp_ne (tgt := 45) S.x S.b dX7_valvesOf_33 rfl (fun cn => ?_) (fun cn => ?_)
      · have hf := if_f cn hf
        refine lv_iload_n S.x S.b dX7_valvesOf_45 rfl (lv_at hl 1 rfl) ?_
        refine lv_iconst (v := (2 : Int32)) S.x S.b dX7_valvesOf_46 ki_2 ?_
        refine lv_icmp_ne (tgt := 57) S.x S.b dX7_valvesOf_47 rfl (fun cn => ?_) (fun cn => ?_)
        · have hf := if_f cn hf
          refine lv_iconst (v := (0 : Int32)) S.x S.b dX7_valvesOf_57 ki_0 ?_
          refine lv_iadd S.x S.b dX7_valvesOf_58 ?_
          obtain ⟨rfl, rfl⟩ := rt2 hf
          exact g_iret S hM rfl dX7_valvesOf_59
        · have hf := if_t cn hf
          refine lv_aload_n S.x S.b dX7_valvesOf_50 rfl (lv_at hl 0 rfl) ?_
          refine mm_g S hM 4 rfl q1452 rfl dX7_valvesOf_51 ?_
          refine lv_goto (tgt := 58) S.x S.b dX7_valvesOf_54 rfl ?_
          refine lv_iadd S.x S.b dX7_valvesOf_58 ?_
          obtain ⟨rfl, rfl⟩ := rt2 hf
          exact g_iret S hM rfl dX7_valvesOf_59
      · have hf := if_t cn hf
        refine lv_aload_n S.x S.b dX7_valvesOf_36 rfl (lv_at hl 0 rfl) ?_
        refine mm_g S hM 8 rfl q1456 rfl dX7_valvesOf_37 ?_
        refine lv_iconst (v := (1 : Int32)) S.x S.b dX7_valvesOf_40 ki_1 ?_
        refine lv_isub S.x S.b dX7_valvesOf_41 ?_
        refine lv_goto (tgt := 58) S.x S.b dX7_valvesOf_42 rfl ?_
        refine lv_iadd S.x S.b dX7_valvesOf_58 ?_
        obtain ⟨rfl, rfl⟩ := rt2 hf
        exact g_iret S hM rfl dX7_valvesOf_59
    · have hf := if_f cn hf
      refine lv_iload_n S.x S.b dX7_valvesOf_12 rfl (lv_at hl 2 rfl) ?_
      refine lv_aload_n S.x S.b dX7_valvesOf_13 rfl (lv_at hl 0 rfl) ?_
      refine mm_g S hM 5 rfl q1453 rfl dX7_valvesOf_14 ?_
      refine lv_iload_n S.x S.b dX7_valvesOf_17 rfl (lv_at hl 3 rfl) ?_
      obtain ⟨hi, hf⟩ := ck_some hf
      refine mm_ld S hM 3 rfl hi dX7_valvesOf_18 ?_
      refine lv_ior S.x S.b dX7_valvesOf_19 ?_
      obtain ⟨x2_2, ex, hf⟩ := lt_some hf
      refine g_istn S (x' := x2_2) ex hl dX7_valvesOf_20 rfl rfl (lv' := [(2, .int x2_2), (0, .ref h), (1, .int x1), (3, .int x3)]) rfl (fun ls hl => ?_)
      obtain ⟨x3_3, ex, hf⟩ := lt_some hf
      refine g_inc S (x' := x3_3) (d := (1 : Int32)) hl (k := 3) rfl ki_1 ex dX7_valvesOf_21 rfl (lv' := [(3, .int x3_3), (2, .int x2_2), (0, .ref h), (1, .int x1)]) rfl (fun ls hl => ?_)
      refine lv_goto (tgt := 4) S.x S.b dX7_valvesOf_24 rfl ?_
      exact ih x1 x2_2 x3_3 w _ _ _ hM (lv_sub hl [2, 3, 1, 0] rfl) hf
set_option maxHeartbeats 4000000 in
theorem metX7_valvesOf {l : Launch} {D : va_G} {T : Nat → ClassId} {h : Nat} {ad : Nat → Nat} {rr : Int32} {wr : MW} {N : Nat} {x1 : Int32} {w : MW} (hf : gX7_valvesOf N x1 w = some (rr, wr)) (sz : Nat) : MetI l yX7_valvesOf (ws_ yX7_valvesOf cX7_valvesOf 4 (some .int)) rmX7_valvesOf D T (mmW h ad (T 0) w) sz [.ref h, .int x1] rr (mmW h ad (T 0) wr) := by
  refine g_entry (Qc := fun A => gQi D T A rr (mmW h ad (T 0) wr)) (by decide) rfl ?_
  intro p e s m below meth c ls S hM hl
  have hl : lv_has ls 4 [(0, .ref h), (1, .int x1)] := hl
  refine lv_iconst (v := (0 : Int32)) S.x S.b dX7_valvesOf_0 ki_0 ?_
  refine g_istn S (x' := (0 : Int32)) rfl hl dX7_valvesOf_1 rfl rfl (lv' := [(2, .int (0 : Int32)), (0, .ref h), (1, .int x1)]) rfl (fun ls hl => ?_)
  refine lv_iconst (v := (0 : Int32)) S.x S.b dX7_valvesOf_2 ki_0 ?_
  refine g_istn S (x' := (0 : Int32)) rfl hl dX7_valvesOf_3 rfl rfl (lv' := [(3, .int (0 : Int32)), (2, .int (0 : Int32)), (0, .ref h), (1, .int x1)]) rfl (fun ls hl => ?_)
  exact wX7_valvesOf_4 S N x1 (0 : Int32) (0 : Int32) w _ _ _ hM (lv_sub hl [2, 3, 1, 0] rfl) hf
/-! SequenceBenchModel.cheapest()I -/
theorem hdX7_cheapest : gHd yX7_cheapest 0 := by decide +kernel
def gX7_cheapest_22 (N : Nat) : Nat → Int32 → Int32 → MW → Option (Int32 × MW)
  | 0, _, _, _ => none
  | n + 1, x1, x2, w =>
    if (3 : Int32) ≤ x2 then (
    some (x1, w))
    else (
    bd2 (gX7_cycleOf N x2 w) fun r_5 w_4 =>
    if r_5 < 0 then (
    lt (x2 + (1 : Int32)) fun x2_6 =>
    gX7_cheapest_22 N n x1 x2_6 w_4)
    else (
    if x1 < 0 then (
    lt (x2 + (1 : Int32)) fun x2_7 =>
    gX7_cheapest_22 N n x2 x2_7 w_4)
    else (
    bd2 (gX7_valvesOf N x2 w_4) fun r_9 w_8 =>
    bd2 (gX7_valvesOf N x1 w_8) fun r_11 w_10 =>
    if r_11 ≤ r_9 then (
    lt (x2 + (1 : Int32)) fun x2_12 =>
    gX7_cheapest_22 N n x1 x2_12 w_10)
    else (
    lt (x2 + (1 : Int32)) fun x2_13 =>
    gX7_cheapest_22 N n x2 x2_13 w_10))))
def gX7_cheapest (N : Nat) (w : MW) : Option (Int32 × MW) :=
  lt (setF w 3 (0 : Int32)) fun w_1 =>
  if (w_1.1 4) = 0 then (
  bd2 (gX7_fails (1 : Int32) w_1) fun r_3 w_2 =>
  some (r_3, w_2))
  else (
  gX7_cheapest_22 N N (-1 : Int32) (0 : Int32) w_1)
abbrev rmX7_cheapest : Room := { frames := 7, cells := 0, slots := 0, locals := 163 }
set_option maxHeartbeats 4000000 in
theorem wX7_cheapest_22 {p : Program} {l : Launch} {e : Env} {s : State} {m : MethodId} {args : Array Value} {below : List Frame} {meth : Method} {c : Code} {D : va_G} {T : Nat → ClassId} {A : Nat → Prop} {h : Nat} {ad : Nat → Nat} {rr : Int32} {wr : MW} {N : Nat} (S : gS p s m args meth c cX7_cheapest 3 (some .int) RX7 D T) : ∀ (n : Nat) (x1 : Int32) (x2 : Int32) (w : MW) (H : Heap) (locs : List Loc) (ls : Array Slot), gM D A s.heap (mmW h ad (T 0) w) H locs → lv_has ls 3 [(0, .ref h), (1, .int x1), (2, .int x2)] → gX7_cheapest_22 N n x1 x2 w = some (rr, wr) → W p l e rmX7_cheapest s m args below meth c H locs 0 0 (MQ below (gQi D T A rr (mmW h ad (T 0) wr)) args s 0 0 A) (F0 m 22 ls []) := by
  intro n
  induction n with
  | zero =>
    intro x1 x2 w H locs ls hM hl hf
    cases hf
  | succ n ih =>
    intro x1 x2 w H locs ls hM hl hf
    refine lv_iload_n S.x S.b dX7_cheapest_22 rfl (lv_at hl 2 rfl) ?_
    refine lv_iconst (v := (3 : Int32)) S.x S.b dX7_cheapest_23 ki_3 ?_
    refine lv_icmp_ge (tgt := 64) S.x S.b dX7_cheapest_24 rfl (fun cn => ?_) (fun cn => ?_)
    · have hf := if_t cn hf
      refine lv_iload_n S.x S.b dX7_cheapest_64 rfl (lv_at hl 1 rfl) ?_
      obtain ⟨rfl, rfl⟩ := rt2 hf
      exact g_iret S hM rfl dX7_cheapest_65
    · have hf := if_f cn hf
      refine lv_aload_n S.x S.b dX7_cheapest_27 rfl (lv_at hl 0 rfl) ?_
      refine lv_iload_n S.x S.b dX7_cheapest_28 rfl (lv_at hl 2 rfl) ?_
      obtain ⟨r_5, w_4, hc, hf⟩ := bd2_some hf
      refine mm_ci S hM hl [.int x2] rfl (metX7_cycleOf hc) hdX7_cycleOf q1759 q1761 qs58 q69 q1762 ⟨rfl, rfl⟩ ⟨rfl, rfl⟩ rfl rfl rfl ⟨Nat.zero_le _, Nat.zero_le _⟩ dX7_cheapest_29 (fun H locs hM => ?_)
      refine lv_if_lt (tgt := 56) S.x S.b dX7_cheapest_32 rfl (fun cn => ?_) (fun cn => ?_)
      · have hf := if_t cn hf
        refine lv_iload_n S.x S.b dX7_cheapest_56 rfl (lv_at hl 1 rfl) ?_
        refine g_istn S (x' := x1) rfl hl dX7_cheapest_57 rfl rfl (lv' := [(1, .int x1), (0, .ref h), (2, .int x2)]) rfl (fun ls hl => ?_)
        obtain ⟨x2_6, ex, hf⟩ := lt_some hf
        refine g_inc S (x' := x2_6) (d := (1 : Int32)) hl (k := 2) rfl ki_1 ex dX7_cheapest_58 rfl (lv' := [(2, .int x2_6), (1, .int x1), (0, .ref h)]) rfl (fun ls hl => ?_)
        refine lv_goto (tgt := 22) S.x S.b dX7_cheapest_61 rfl ?_
        exact ih x1 x2_6 w_4 _ _ _ hM (lv_sub hl [2, 1, 0] rfl) hf
      · have hf := if_f cn hf
        refine lv_iload_n S.x S.b dX7_cheapest_35 rfl (lv_at hl 1 rfl) ?_
        refine lv_if_lt (tgt := 52) S.x S.b dX7_cheapest_36 rfl (fun cn => ?_) (fun cn => ?_)
        · have hf := if_t cn hf
          refine lv_iload_n S.x S.b dX7_cheapest_52 rfl (lv_at hl 2 rfl) ?_
          refine lv_goto (tgt := 57) S.x S.b dX7_cheapest_53 rfl ?_
          refine g_istn S (x' := x2) rfl hl dX7_cheapest_57 rfl rfl (lv' := [(1, .int x2), (0, .ref h), (2, .int x2)]) rfl (fun ls hl => ?_)
          obtain ⟨x2_7, ex, hf⟩ := lt_some hf
          refine g_inc S (x' := x2_7) (d := (1 : Int32)) hl (k := 2) rfl ki_1 ex dX7_cheapest_58 rfl (lv' := [(2, .int x2_7), (1, .int x2), (0, .ref h)]) rfl (fun ls hl => ?_)
          refine lv_goto (tgt := 22) S.x S.b dX7_cheapest_61 rfl ?_
          exact ih x2 x2_7 w_4 _ _ _ hM (lv_sub hl [2, 1, 0] rfl) hf
        · have hf := if_f cn hf
          refine lv_aload_n S.x S.b dX7_cheapest_39 rfl (lv_at hl 0 rfl) ?_
          refine lv_iload_n S.x S.b dX7_cheapest_40 rfl (lv_at hl 2 rfl) ?_
          obtain ⟨r_9, w_8, hc, hf⟩ := bd2_some hf
          refine mm_ci S hM hl [.int x2] rfl (metX7_valvesOf hc) hdX7_valvesOf q1647 q1649 qs50 q69 q1650 ⟨rfl, rfl⟩ ⟨rfl, rfl⟩ rfl rfl rfl ⟨Nat.zero_le _, Nat.zero_le _⟩ dX7_cheapest_41 (fun H locs hM => ?_)
          refine lv_aload_n S.x S.b dX7_cheapest_44 rfl (lv_at hl 0 rfl) ?_
          refine lv_iload_n S.x S.b dX7_cheapest_45 rfl (lv_at hl 1 rfl) ?_
          obtain ⟨r_11, w_10, hc, hf⟩ := bd2_some hf
          refine mm_ci S hM hl [.int x1] rfl (metX7_valvesOf hc) hdX7_valvesOf q1647 q1649 qs50 q69 q1650 ⟨rfl, rfl⟩ ⟨rfl, rfl⟩ rfl rfl rfl ⟨Nat.zero_le _, Nat.zero_le _⟩ dX7_cheapest_46 (fun H locs hM => ?_)
          refine lv_icmp_ge (tgt := 56) S.x S.b dX7_cheapest_49 rfl (fun cn => ?_) (fun cn => ?_)
          · have hf := if_t cn hf
            refine lv_iload_n S.x S.b dX7_cheapest_56 rfl (lv_at hl 1 rfl) ?_
            refine g_istn S (x' := x1) rfl hl dX7_cheapest_57 rfl rfl (lv' := [(1, .int x1), (0, .ref h), (2, .int x2)]) rfl (fun ls hl => ?_)
            obtain ⟨x2_12, ex, hf⟩ := lt_some hf
            refine g_inc S (x' := x2_12) (d := (1 : Int32)) hl (k := 2) rfl ki_1 ex dX7_cheapest_58 rfl (lv' := [(2, .int x2_12), (1, .int x1), (0, .ref h)]) rfl (fun ls hl => ?_)
            refine lv_goto (tgt := 22) S.x S.b dX7_cheapest_61 rfl ?_
            exact ih x1 x2_12 w_10 _ _ _ hM (lv_sub hl [2, 1, 0] rfl) hf
          · have hf := if_f cn hf
            refine lv_iload_n S.x S.b dX7_cheapest_52 rfl (lv_at hl 2 rfl) ?_
            refine lv_goto (tgt := 57) S.x S.b dX7_cheapest_53 rfl ?_
            refine g_istn S (x' := x2) rfl hl dX7_cheapest_57 rfl rfl (lv' := [(1, .int x2), (0, .ref h), (2, .int x2)]) rfl (fun ls hl => ?_)
            obtain ⟨x2_13, ex, hf⟩ := lt_some hf
            refine g_inc S (x' := x2_13) (d := (1 : Int32)) hl (k := 2) rfl ki_1 ex dX7_cheapest_58 rfl (lv' := [(2, .int x2_13), (1, .int x2), (0, .ref h)]) rfl (fun ls hl => ?_)
            refine lv_goto (tgt := 22) S.x S.b dX7_cheapest_61 rfl ?_
            exact ih x2 x2_13 w_10 _ _ _ hM (lv_sub hl [2, 1, 0] rfl) hf
set_option maxHeartbeats 4000000 in
theorem metX7_cheapest {l : Launch} {D : va_G} {T : Nat → ClassId} {h : Nat} {ad : Nat → Nat} {rr : Int32} {wr : MW} {N : Nat} {w : MW} (hf : gX7_cheapest N w = some (rr, wr)) (sz : Nat) : MetI l yX7_cheapest (ws_ yX7_cheapest cX7_cheapest 3 (some .int)) rmX7_cheapest D T (mmW h ad (T 0) w) sz [.ref h] rr (mmW h ad (T 0) wr) := by
  refine g_entry (Qc := fun A => gQi D T A rr (mmW h ad (T 0) wr)) (by decide) rfl ?_
  intro p e s m below meth c ls S hM hl
  have hl : lv_has ls 3 [(0, .ref h)] := hl
  refine lv_aload_n S.x S.b dX7_cheapest_0 rfl (lv_at hl 0 rfl) ?_
  refine lv_iconst (v := (0 : Int32)) S.x S.b dX7_cheapest_1 ki_0 ?_
  obtain ⟨w_1, ew, hf⟩ := lt_some hf
  refine mm_p S hM 3 rfl ew q1451 dX7_cheapest_2 (fun H locs hM => ?_)
  refine lv_aload_n S.x S.b dX7_cheapest_5 rfl (lv_at hl 0 rfl) ?_
  refine mm_g S hM 4 rfl q1452 rfl dX7_cheapest_6 ?_
  refine lv_if_ne (tgt := 18) S.x S.b dX7_cheapest_9 rfl (fun cn => ?_) (fun cn => ?_)
  · have hf := if_f cn hf
    refine lv_iconst (v := (-1 : Int32)) S.x S.b dX7_cheapest_18 ki_m1 ?_
    refine g_istn S (x' := (-1 : Int32)) rfl hl dX7_cheapest_19 rfl rfl (lv' := [(1, .int (-1 : Int32)), (0, .ref h)]) rfl (fun ls hl => ?_)
    refine lv_iconst (v := (0 : Int32)) S.x S.b dX7_cheapest_20 ki_0 ?_
    refine g_istn S (x' := (0 : Int32)) rfl hl dX7_cheapest_21 rfl rfl (lv' := [(2, .int (0 : Int32)), (1, .int (-1 : Int32)), (0, .ref h)]) rfl (fun ls hl => ?_)
    exact wX7_cheapest_22 S N (-1 : Int32) (0 : Int32) w_1 _ _ _ hM (lv_sub hl [2, 1, 0] rfl) hf
  · have hf := if_t cn hf
    refine lv_aload_n S.x S.b dX7_cheapest_12 rfl (lv_at hl 0 rfl) ?_
    refine lv_iconst (v := (1 : Int32)) S.x S.b dX7_cheapest_13 ki_1 ?_
    obtain ⟨r_3, w_2, hc, hf⟩ := bd2_some hf
    refine mm_ci S hM hl [.int (1 : Int32)] rfl (metX7_fails hc) hdX7_fails q1517 q1519 qs32 q69 q1520 ⟨rfl, rfl⟩ ⟨rfl, rfl⟩ rfl rfl rfl ⟨Nat.zero_le _, Nat.zero_le _⟩ dX7_cheapest_14 (fun H locs hM => ?_)
    obtain ⟨rfl, rfl⟩ := rt2 hf
    exact g_iret S hM rfl dX7_cheapest_17
/-! SequenceBenchModel.isStep(I)Z -/
theorem hdX7_isStep : gHd yX7_isStep 1 := by decide +kernel
def gX7_isStep (x1 : Int32) (w : MW) : Option (Int32 × MW) :=
  bd (gX7_in x1 (0 : Int32) ((w.1 4) - (1 : Int32))) fun r_1 =>
  bz r_1 (some (r_1, w))
abbrev rmX7_isStep : Room := { frames := 2, cells := 0, slots := 0, locals := 34 }
set_option maxHeartbeats 4000000 in
theorem metX7_isStep {l : Launch} {D : va_G} {T : Nat → ClassId} {h : Nat} {ad : Nat → Nat} {rr : Int32} {wr : MW} {x1 : Int32} {w : MW} (hf : gX7_isStep x1 w = some (rr, wr)) (sz : Nat) : MetI l yX7_isStep (ws_ yX7_isStep cX7_isStep 2 (some .boolean)) rmX7_isStep D T (mmW h ad (T 0) w) sz [.ref h, .int x1] rr (mmW h ad (T 0) wr) := by
  refine g_entry (Qc := fun A => gQi D T A rr (mmW h ad (T 0) wr)) (by decide) rfl ?_
  intro p e s m below meth c ls S hM hl
  have hl : lv_has ls 2 [(0, .ref h), (1, .int x1)] := hl
  refine lv_iload_n S.x S.b dX7_isStep_0 rfl (lv_at hl 1 rfl) ?_
  refine lv_iconst (v := (0 : Int32)) S.x S.b dX7_isStep_1 ki_0 ?_
  refine lv_aload_n S.x S.b dX7_isStep_2 rfl (lv_at hl 0 rfl) ?_
  refine mm_g S hM 4 rfl q1452 rfl dX7_isStep_3 ?_
  refine lv_iconst (v := (1 : Int32)) S.x S.b dX7_isStep_6 ki_1 ?_
  refine lv_isub S.x S.b dX7_isStep_7 ?_
  obtain ⟨r_1, hc, hf⟩ := bd_some hf
  refine gg_si S hM hl [.int x1, .int (0 : Int32), .int ((w.1 4) - (1 : Int32))] (metX7_in hc) hdX7_in q1437 q1438 q69 q1439 ⟨rfl, rfl⟩ ⟨rfl, rfl⟩ rfl rfl rfl ⟨Nat.zero_le _, Nat.zero_le _⟩ dX7_isStep_8 (fun H locs hM => ?_)
  obtain ⟨hz, hf⟩ := bz_some hf
  obtain ⟨rfl, rfl⟩ := rt2 hf
  exact g_zret S hM rfl hz dX7_isStep_11
/-! SequenceBenchModel.outBehind(I)I -/
theorem hdX7_outBehind : gHd yX7_outBehind 1 := by decide +kernel
def gX7_outBehind_4 (N : Nat) : Nat → Int32 → Int32 → Int32 → MW → Option (Int32 × MW)
  | 0, _, _, _, _ => none
  | n + 1, x1, x2, x3, w =>
    if x1 ≤ x3 then (
    some (x2, w))
    else (
    ck x3 16 <|
    ck x3 16 <|
    lt (((x2 ||| (w.2 3 x3.toNatClampNeg)) &&& ((w.2 4 x3.toNatClampNeg) ^^^ (-1 : Int32)))) fun x2_1 =>
    lt (x3 + (1 : Int32)) fun x3_2 =>
    gX7_outBehind_4 N n x1 x2_1 x3_2 w)
def gX7_outBehind (N : Nat) (x1 : Int32) (w : MW) : Option (Int32 × MW) :=
  gX7_outBehind_4 N N x1 (0 : Int32) (0 : Int32) w
abbrev rmX7_outBehind : Room := { frames := 1, cells := 0, slots := 0, locals := 12 }
set_option maxHeartbeats 4000000 in
theorem wX7_outBehind_4 {p : Program} {l : Launch} {e : Env} {s : State} {m : MethodId} {args : Array Value} {below : List Frame} {meth : Method} {c : Code} {D : va_G} {T : Nat → ClassId} {A : Nat → Prop} {h : Nat} {ad : Nat → Nat} {rr : Int32} {wr : MW} {N : Nat} (S : gS p s m args meth c cX7_outBehind 4 (some .int) RX7 D T) : ∀ (n : Nat) (x1 : Int32) (x2 : Int32) (x3 : Int32) (w : MW) (H : Heap) (locs : List Loc) (ls : Array Slot), gM D A s.heap (mmW h ad (T 0) w) H locs → lv_has ls 4 [(0, .ref h), (1, .int x1), (2, .int x2), (3, .int x3)] → gX7_outBehind_4 N n x1 x2 x3 w = some (rr, wr) → W p l e rmX7_outBehind s m args below meth c H locs 0 0 (MQ below (gQi D T A rr (mmW h ad (T 0) wr)) args s 0 0 A) (F0 m 4 ls []) := by
  intro n
  induction n with
  | zero =>
    intro x1 x2 x3 w H locs ls hM hl hf
    cases hf
  | succ n ih =>
    intro x1 x2 x3 w H locs ls hM hl hf
    refine lv_iload_n S.x S.b dX7_outBehind_4 rfl (lv_at hl 3 rfl) ?_
    refine lv_iload_n S.x S.b dX7_outBehind_5 rfl (lv_at hl 1 rfl) ?_
    refine lv_icmp_ge (tgt := 33) S.x S.b dX7_outBehind_6 rfl (fun cn => ?_) (fun cn => ?_)
    · have hf := if_t cn hf
      refine lv_iload_n S.x S.b dX7_outBehind_33 rfl (lv_at hl 2 rfl) ?_
      obtain ⟨rfl, rfl⟩ := rt2 hf
      exact g_iret S hM rfl dX7_outBehind_34
    · have hf := if_f cn hf
      refine lv_iload_n S.x S.b dX7_outBehind_9 rfl (lv_at hl 2 rfl) ?_
      refine lv_aload_n S.x S.b dX7_outBehind_10 rfl (lv_at hl 0 rfl) ?_
      refine mm_g S hM 5 rfl q1453 rfl dX7_outBehind_11 ?_
      refine lv_iload_n S.x S.b dX7_outBehind_14 rfl (lv_at hl 3 rfl) ?_
      obtain ⟨hi, hf⟩ := ck_some hf
      refine mm_ld S hM 3 rfl hi dX7_outBehind_15 ?_
      refine lv_ior S.x S.b dX7_outBehind_16 ?_
      refine lv_aload_n S.x S.b dX7_outBehind_17 rfl (lv_at hl 0 rfl) ?_
      refine mm_g S hM 6 rfl q1454 rfl dX7_outBehind_18 ?_
      refine lv_iload_n S.x S.b dX7_outBehind_21 rfl (lv_at hl 3 rfl) ?_
      obtain ⟨hi, hf⟩ := ck_some hf
      refine mm_ld S hM 4 rfl hi dX7_outBehind_22 ?_
      refine lv_iconst (v := (-1 : Int32)) S.x S.b dX7_outBehind_23 ki_m1 ?_
      refine lv_ixor S.x S.b dX7_outBehind_24 ?_
      refine lv_iand S.x S.b dX7_outBehind_25 ?_
      obtain ⟨x2_1, ex, hf⟩ := lt_some hf
      refine g_istn S (x' := x2_1) ex hl dX7_outBehind_26 rfl rfl (lv' := [(2, .int x2_1), (0, .ref h), (1, .int x1), (3, .int x3)]) rfl (fun ls hl => ?_)
      obtain ⟨x3_2, ex, hf⟩ := lt_some hf
      refine g_inc S (x' := x3_2) (d := (1 : Int32)) hl (k := 3) rfl ki_1 ex dX7_outBehind_27 rfl (lv' := [(3, .int x3_2), (2, .int x2_1), (0, .ref h), (1, .int x1)]) rfl (fun ls hl => ?_)
      refine lv_goto (tgt := 4) S.x S.b dX7_outBehind_30 rfl ?_
      exact ih x1 x2_1 x3_2 w _ _ _ hM (lv_sub hl [2, 3, 1, 0] rfl) hf
set_option maxHeartbeats 4000000 in
theorem metX7_outBehind {l : Launch} {D : va_G} {T : Nat → ClassId} {h : Nat} {ad : Nat → Nat} {rr : Int32} {wr : MW} {N : Nat} {x1 : Int32} {w : MW} (hf : gX7_outBehind N x1 w = some (rr, wr)) (sz : Nat) : MetI l yX7_outBehind (ws_ yX7_outBehind cX7_outBehind 4 (some .int)) rmX7_outBehind D T (mmW h ad (T 0) w) sz [.ref h, .int x1] rr (mmW h ad (T 0) wr) := by
  refine g_entry (Qc := fun A => gQi D T A rr (mmW h ad (T 0) wr)) (by decide) rfl ?_
  intro p e s m below meth c ls S hM hl
  have hl : lv_has ls 4 [(0, .ref h), (1, .int x1)] := hl
  refine lv_iconst (v := (0 : Int32)) S.x S.b dX7_outBehind_0 ki_0 ?_
  refine g_istn S (x' := (0 : Int32)) rfl hl dX7_outBehind_1 rfl rfl (lv' := [(2, .int (0 : Int32)), (0, .ref h), (1, .int x1)]) rfl (fun ls hl => ?_)
  refine lv_iconst (v := (0 : Int32)) S.x S.b dX7_outBehind_2 ki_0 ?_
  refine g_istn S (x' := (0 : Int32)) rfl hl dX7_outBehind_3 rfl rfl (lv' := [(3, .int (0 : Int32)), (2, .int (0 : Int32)), (0, .ref h), (1, .int x1)]) rfl (fun ls hl => ?_)
  exact wX7_outBehind_4 S N x1 (0 : Int32) (0 : Int32) w _ _ _ hM (lv_sub hl [2, 3, 1, 0] rfl) hf
/-! SequenceBenchModel.clashOf(II)I -/
theorem hdX7_clashOf : gHd yX7_clashOf 2 := by decide +kernel
def gX7_clashOf_67 (N : Nat) (k9 : Int32 → Int32 → Int32 → Int32 → MW → Option (Int32 × MW)) (x1 : Int32) (x2 : Int32) (x3 : Int32) (x4 : Int32) (s0 : Int32) (w : MW) : Option (Int32 × MW) :=
  bd2 (gX7_directionOf x4 x2 w) fun r_6 w_5 =>
  bd2 (gX7_directionOf x1 x2 w_5) fun r_8 w_7 =>
  if r_6 = (-r_8) then (
  bd2 (gX7_directionOf x1 x2 w_7) fun r_11 w_10 =>
  if r_11 = 0 then (
  lt (x4 + (1 : Int32)) fun x4_12 =>
  k9 x1 x2 x3 x4_12 w_10)
  else (
  if s0 = 0 then (
  lt (x4 + (1 : Int32)) fun x4_13 =>
  k9 x1 x2 x3 x4_13 w_10)
  else (
  some (x4, w_10))))
  else (
  lt (x4 + (1 : Int32)) fun x4_9 =>
  k9 x1 x2 x3 x4_9 w_7)
def gX7_clashOf_66 (N : Nat) (k9 : Int32 → Int32 → Int32 → Int32 → MW → Option (Int32 × MW)) (x1 : Int32) (x2 : Int32) (x3 : Int32) (x4 : Int32) (w : MW) : Option (Int32 × MW) :=
  gX7_clashOf_67 N k9 x1 x2 x3 x4 (0 : Int32) w
def gX7_clashOf_9 (N : Nat) : Nat → Int32 → Int32 → Int32 → Int32 → MW → Option (Int32 × MW)
  | 0, _, _, _, _, _ => none
  | n + 1, x1, x2, x3, x4, w =>
    if (w.1 4) ≤ x4 then (
    some ((-1 : Int32), w))
    else (
    bd2 (gX7_before x4 w) fun r_4 w_3 =>
    ck r_4 16 <|
    if (w_3.2 5 r_4.toNatClampNeg) = 0 then (
    ck r_4 16 <|
    if ((w_3.2 3 r_4.toNatClampNeg) &&& (x3 ^^^ (-1 : Int32))) = 0 then (
    ck r_4 16 <|
    if ((w_3.2 4 r_4.toNatClampNeg) &&& x3) = 0 then (
    gX7_clashOf_67 N (gX7_clashOf_9 N n) x1 x2 x3 x4 (1 : Int32) w_3)
    else (
    gX7_clashOf_66 N (gX7_clashOf_9 N n) x1 x2 x3 x4 w_3))
    else (
    gX7_clashOf_66 N (gX7_clashOf_9 N n) x1 x2 x3 x4 w_3))
    else (
    gX7_clashOf_66 N (gX7_clashOf_9 N n) x1 x2 x3 x4 w_3))
def gX7_clashOf (N : Nat) (x1 : Int32) (x2 : Int32) (w : MW) : Option (Int32 × MW) :=
  bd2 (gX7_outBehind N x1 w) fun r_2 w_1 =>
  gX7_clashOf_9 N N x1 x2 r_2 (0 : Int32) w_1
abbrev rmX7_clashOf : Room := { frames := 2, cells := 0, slots := 0, locals := 35 }
set_option maxHeartbeats 4000000 in
theorem wX7_clashOf_67 {p : Program} {l : Launch} {e : Env} {s : State} {m : MethodId} {args : Array Value} {below : List Frame} {meth : Method} {c : Code} {D : va_G} {T : Nat → ClassId} {A : Nat → Prop} {h : Nat} {ad : Nat → Nat} {rr : Int32} {wr : MW} {N : Nat} (S : gS p s m args meth c cX7_clashOf 7 (some .int) RX7 D T) {k9 : Int32 → Int32 → Int32 → Int32 → MW → Option (Int32 × MW)} (hk9 : ∀ (x1 : Int32) (x2 : Int32) (x3 : Int32) (x4 : Int32) (w : MW) (H : Heap) (locs : List Loc) (ls : Array Slot), gM D A s.heap (mmW h ad (T 0) w) H locs → lv_has ls 7 [(0, .ref h), (1, .int x1), (2, .int x2), (3, .int x3), (4, .int x4)] → k9 x1 x2 x3 x4 w = some (rr, wr) → W p l e rmX7_clashOf s m args below meth c H locs 0 0 (MQ below (gQi D T A rr (mmW h ad (T 0) wr)) args s 0 0 A) (F0 m 9 ls [])) : ∀ (x1 : Int32) (x2 : Int32) (x3 : Int32) (x4 : Int32) (s0 : Int32) (w : MW) (H : Heap) (locs : List Loc) (ls : Array Slot), gM D A s.heap (mmW h ad (T 0) w) H locs → lv_has ls 7 [(0, .ref h), (1, .int x1), (2, .int x2), (3, .int x3), (4, .int x4)] → gX7_clashOf_67 N k9 x1 x2 x3 x4 s0 w = some (rr, wr) → W p l e rmX7_clashOf s m args below meth c H locs 0 0 (MQ below (gQi D T A rr (mmW h ad (T 0) wr)) args s 0 0 A) (F0 m 67 ls [.int s0]) := by
  intro x1 x2 x3 x4 s0 w H locs ls hM hl hf
  refine g_ist S (x' := s0) rfl hl dX7_clashOf_67 rfl (lv' := [(6, .int s0), (0, .ref h), (1, .int x1), (2, .int x2), (3, .int x3), (4, .int x4)]) rfl (fun ls hl => ?_)
  refine lv_aload_n S.x S.b dX7_clashOf_69 rfl (lv_at hl 1 rfl) ?_
  refine lv_iload S.x S.b dX7_clashOf_70 (lv_at hl 5 rfl) ?_
  refine lv_iload_n S.x S.b dX7_clashOf_72 rfl (lv_at hl 3 rfl) ?_
  obtain ⟨r_6, w_5, hc, hf⟩ := bd2_some hf
  refine mm_ci S hM hl [.int x4, .int x2] rfl (metX7_directionOf hc) hdX7_directionOf q1595 q1597 qs44 q69 q1598 ⟨rfl, rfl⟩ ⟨rfl, rfl⟩ rfl rfl rfl ⟨Nat.zero_le _, Nat.zero_le _⟩ dX7_clashOf_73 (fun H locs hM => ?_)
  refine lv_aload_n S.x S.b dX7_clashOf_76 rfl (lv_at hl 1 rfl) ?_
  refine lv_iload_n S.x S.b dX7_clashOf_77 rfl (lv_at hl 2 rfl) ?_
  refine lv_iload_n S.x S.b dX7_clashOf_78 rfl (lv_at hl 3 rfl) ?_
  obtain ⟨r_8, w_7, hc, hf⟩ := bd2_some hf
  refine mm_ci S hM hl [.int x1, .int x2] rfl (metX7_directionOf hc) hdX7_directionOf q1595 q1597 qs44 q69 q1598 ⟨rfl, rfl⟩ ⟨rfl, rfl⟩ rfl rfl rfl ⟨Nat.zero_le _, Nat.zero_le _⟩ dX7_clashOf_79 (fun H locs hM => ?_)
  refine lv_ineg S.x S.b dX7_clashOf_82 ?_
  refine lv_icmp_ne (tgt := 103) S.x S.b dX7_clashOf_83 rfl (fun cn => ?_) (fun cn => ?_)
  · have hf := if_f cn hf
    obtain ⟨x4_9, ex, hf⟩ := lt_some hf
    refine g_inc S (x' := x4_9) (d := (1 : Int32)) hl (k := 5) rfl ki_1 ex dX7_clashOf_103 rfl (lv' := [(4, .int x4_9), (6, .int s0), (0, .ref h), (1, .int x1), (2, .int x2), (3, .int x3)]) rfl (fun ls hl => ?_)
    refine lv_goto (tgt := 9) S.x S.b dX7_clashOf_106 rfl ?_
    exact hk9 x1 x2 x3 x4_9 w_7 _ _ _ hM (lv_sub hl [2, 3, 4, 5, 0] rfl) hf
  · have hf := if_t cn hf
    refine lv_aload_n S.x S.b dX7_clashOf_86 rfl (lv_at hl 1 rfl) ?_
    refine lv_iload_n S.x S.b dX7_clashOf_87 rfl (lv_at hl 2 rfl) ?_
    refine lv_iload_n S.x S.b dX7_clashOf_88 rfl (lv_at hl 3 rfl) ?_
    obtain ⟨r_11, w_10, hc, hf⟩ := bd2_some hf
    refine mm_ci S hM hl [.int x1, .int x2] rfl (metX7_directionOf hc) hdX7_directionOf q1595 q1597 qs44 q69 q1598 ⟨rfl, rfl⟩ ⟨rfl, rfl⟩ rfl rfl rfl ⟨Nat.zero_le _, Nat.zero_le _⟩ dX7_clashOf_89 (fun H locs hM => ?_)
    refine lv_if_eq (tgt := 103) S.x S.b dX7_clashOf_92 rfl (fun cn => ?_) (fun cn => ?_)
    · have hf := if_t cn hf
      obtain ⟨x4_12, ex, hf⟩ := lt_some hf
      refine g_inc S (x' := x4_12) (d := (1 : Int32)) hl (k := 5) rfl ki_1 ex dX7_clashOf_103 rfl (lv' := [(4, .int x4_12), (6, .int s0), (0, .ref h), (1, .int x1), (2, .int x2), (3, .int x3)]) rfl (fun ls hl => ?_)
      refine lv_goto (tgt := 9) S.x S.b dX7_clashOf_106 rfl ?_
      exact hk9 x1 x2 x3 x4_12 w_10 _ _ _ hM (lv_sub hl [2, 3, 4, 5, 0] rfl) hf
    · have hf := if_f cn hf
      refine lv_iload S.x S.b dX7_clashOf_95 (lv_at hl 0 rfl) ?_
      refine lv_if_eq (tgt := 103) S.x S.b dX7_clashOf_97 rfl (fun cn => ?_) (fun cn => ?_)
      · have hf := if_t cn hf
        obtain ⟨x4_13, ex, hf⟩ := lt_some hf
        refine g_inc S (x' := x4_13) (d := (1 : Int32)) hl (k := 5) rfl ki_1 ex dX7_clashOf_103 rfl (lv' := [(4, .int x4_13), (6, .int s0), (0, .ref h), (1, .int x1), (2, .int x2), (3, .int x3)]) rfl (fun ls hl => ?_)
        refine lv_goto (tgt := 9) S.x S.b dX7_clashOf_106 rfl ?_
        exact hk9 x1 x2 x3 x4_13 w_10 _ _ _ hM (lv_sub hl [2, 3, 4, 5, 0] rfl) hf
      · have hf := if_f cn hf
        refine lv_iload S.x S.b dX7_clashOf_100 (lv_at hl 5 rfl) ?_
        obtain ⟨rfl, rfl⟩ := rt2 hf
        exact g_iret S hM rfl dX7_clashOf_102
set_option maxHeartbeats 4000000 in
theorem wX7_clashOf_66 {p : Program} {l : Launch} {e : Env} {s : State} {m : MethodId} {args : Array Value} {below : List Frame} {meth : Method} {c : Code} {D : va_G} {T : Nat → ClassId} {A : Nat → Prop} {h : Nat} {ad : Nat → Nat} {rr : Int32} {wr : MW} {N : Nat} (S : gS p s m args meth c cX7_clashOf 7 (some .int) RX7 D T) {k9 : Int32 → Int32 → Int32 → Int32 → MW → Option (Int32 × MW)} (hk9 : ∀ (x1 : Int32) (x2 : Int32) (x3 : Int32) (x4 : Int32) (w : MW) (H : Heap) (locs : List Loc) (ls : Array Slot), gM D A s.heap (mmW h ad (T 0) w) H locs → lv_has ls 7 [(0, .ref h), (1, .int x1), (2, .int x2), (3, .int x3), (4, .int x4)] → k9 x1 x2 x3 x4 w = some (rr, wr) → W p l e rmX7_clashOf s m args below meth c H locs 0 0 (MQ below (gQi D T A rr (mmW h ad (T 0) wr)) args s 0 0 A) (F0 m 9 ls [])) : ∀ (x1 : Int32) (x2 : Int32) (x3 : Int32) (x4 : Int32) (w : MW) (H : Heap) (locs : List Loc) (ls : Array Slot), gM D A s.heap (mmW h ad (T 0) w) H locs → lv_has ls 7 [(0, .ref h), (1, .int x1), (2, .int x2), (3, .int x3), (4, .int x4)] → gX7_clashOf_66 N k9 x1 x2 x3 x4 w = some (rr, wr) → W p l e rmX7_clashOf s m args below meth c H locs 0 0 (MQ below (gQi D T A rr (mmW h ad (T 0) wr)) args s 0 0 A) (F0 m 66 ls []) := by
  intro x1 x2 x3 x4 w H locs ls hM hl hf
  refine lv_iconst (v := (0 : Int32)) S.x S.b dX7_clashOf_66 ki_0 ?_
  exact wX7_clashOf_67 S hk9 x1 x2 x3 x4 (0 : Int32) w _ _ _ hM (lv_sub hl [0, 1, 2, 3, 4] rfl) hf
set_option maxHeartbeats 4000000 in
theorem wX7_clashOf_9 {p : Program} {l : Launch} {e : Env} {s : State} {m : MethodId} {args : Array Value} {below : List Frame} {meth : Method} {c : Code} {D : va_G} {T : Nat → ClassId} {A : Nat → Prop} {h : Nat} {ad : Nat → Nat} {rr : Int32} {wr : MW} {N : Nat} (S : gS p s m args meth c cX7_clashOf 7 (some .int) RX7 D T) : ∀ (n : Nat) (x1 : Int32) (x2 : Int32) (x3 : Int32) (x4 : Int32) (w : MW) (H : Heap) (locs : List Loc) (ls : Array Slot), gM D A s.heap (mmW h ad (T 0) w) H locs → lv_has ls 7 [(0, .ref h), (1, .int x1), (2, .int x2), (3, .int x3), (4, .int x4)] → gX7_clashOf_9 N n x1 x2 x3 x4 w = some (rr, wr) → W p l e rmX7_clashOf s m args below meth c H locs 0 0 (MQ below (gQi D T A rr (mmW h ad (T 0) wr)) args s 0 0 A) (F0 m 9 ls []) := by
  intro n
  induction n with
  | zero =>
    intro x1 x2 x3 x4 w H locs ls hM hl hf
    cases hf
  | succ n ih =>
    intro x1 x2 x3 x4 w H locs ls hM hl hf
    refine lv_iload S.x S.b dX7_clashOf_9 (lv_at hl 4 rfl) ?_
    refine lv_aload_n S.x S.b dX7_clashOf_11 rfl (lv_at hl 0 rfl) ?_
    refine mm_g S hM 4 rfl q1452 rfl dX7_clashOf_12 ?_
    refine lv_icmp_ge (tgt := 109) S.x S.b dX7_clashOf_15 rfl (fun cn => ?_) (fun cn => ?_)
    · have hf := if_t cn hf
      refine lv_iconst (v := (-1 : Int32)) S.x S.b dX7_clashOf_109 ki_m1 ?_
      obtain ⟨rfl, rfl⟩ := rt2 hf
      exact g_iret S hM rfl dX7_clashOf_110
    · have hf := if_f cn hf
      refine lv_aload_n S.x S.b dX7_clashOf_18 rfl (lv_at hl 0 rfl) ?_
      refine lv_iload S.x S.b dX7_clashOf_19 (lv_at hl 4 rfl) ?_
      obtain ⟨r_4, w_3, hc, hf⟩ := bd2_some hf
      refine mm_ci S hM hl [.int x4] rfl (metX7_before hc) hdX7_before q1615 q1617 qs47 q69 q1618 ⟨rfl, rfl⟩ ⟨rfl, rfl⟩ rfl rfl rfl ⟨Nat.zero_le _, Nat.zero_le _⟩ dX7_clashOf_21 (fun H locs hM => ?_)
      refine g_ist S (x' := r_4) rfl hl dX7_clashOf_24 rfl (lv' := [(5, .int r_4), (0, .ref h), (1, .int x1), (2, .int x2), (3, .int x3), (4, .int x4)]) rfl (fun ls hl => ?_)
      refine lv_aload_n S.x S.b dX7_clashOf_26 rfl (lv_at hl 1 rfl) ?_
      refine mm_g S hM 7 rfl q1455 rfl dX7_clashOf_27 ?_
      refine lv_iload S.x S.b dX7_clashOf_30 (lv_at hl 0 rfl) ?_
      obtain ⟨hi, hf⟩ := ck_some hf
      refine mm_ld S hM 5 rfl hi dX7_clashOf_32 ?_
      refine lv_if_ne (tgt := 66) S.x S.b dX7_clashOf_33 rfl (fun cn => ?_) (fun cn => ?_)
      · have hf := if_f cn hf
        exact wX7_clashOf_66 S ih x1 x2 x3 x4 w_3 _ _ _ hM (lv_sub hl [1, 2, 3, 4, 5] rfl) hf
      · have hf := if_t cn hf
        refine lv_aload_n S.x S.b dX7_clashOf_36 rfl (lv_at hl 1 rfl) ?_
        refine mm_g S hM 5 rfl q1453 rfl dX7_clashOf_37 ?_
        refine lv_iload S.x S.b dX7_clashOf_40 (lv_at hl 0 rfl) ?_
        obtain ⟨hi, hf⟩ := ck_some hf
        refine mm_ld S hM 3 rfl hi dX7_clashOf_42 ?_
        refine lv_iload_n S.x S.b dX7_clashOf_43 rfl (lv_at hl 4 rfl) ?_
        refine lv_iconst (v := (-1 : Int32)) S.x S.b dX7_clashOf_44 ki_m1 ?_
        refine lv_ixor S.x S.b dX7_clashOf_45 ?_
        refine lv_iand S.x S.b dX7_clashOf_46 ?_
        refine lv_if_ne (tgt := 66) S.x S.b dX7_clashOf_47 rfl (fun cn => ?_) (fun cn => ?_)
        · have hf := if_f cn hf
          exact wX7_clashOf_66 S ih x1 x2 x3 x4 w_3 _ _ _ hM (lv_sub hl [1, 2, 3, 4, 5] rfl) hf
        · have hf := if_t cn hf
          refine lv_aload_n S.x S.b dX7_clashOf_50 rfl (lv_at hl 1 rfl) ?_
          refine mm_g S hM 6 rfl q1454 rfl dX7_clashOf_51 ?_
          refine lv_iload S.x S.b dX7_clashOf_54 (lv_at hl 0 rfl) ?_
          obtain ⟨hi, hf⟩ := ck_some hf
          refine mm_ld S hM 4 rfl hi dX7_clashOf_56 ?_
          refine lv_iload_n S.x S.b dX7_clashOf_57 rfl (lv_at hl 4 rfl) ?_
          refine lv_iand S.x S.b dX7_clashOf_58 ?_
          refine lv_if_ne (tgt := 66) S.x S.b dX7_clashOf_59 rfl (fun cn => ?_) (fun cn => ?_)
          · have hf := if_f cn hf
            exact wX7_clashOf_66 S ih x1 x2 x3 x4 w_3 _ _ _ hM (lv_sub hl [1, 2, 3, 4, 5] rfl) hf
          · have hf := if_t cn hf
            refine lv_iconst (v := (1 : Int32)) S.x S.b dX7_clashOf_62 ki_1 ?_
            refine lv_goto (tgt := 67) S.x S.b dX7_clashOf_63 rfl ?_
            exact wX7_clashOf_67 S ih x1 x2 x3 x4 (1 : Int32) w_3 _ _ _ hM (lv_sub hl [1, 2, 3, 4, 5] rfl) hf
set_option maxHeartbeats 4000000 in
theorem metX7_clashOf {l : Launch} {D : va_G} {T : Nat → ClassId} {h : Nat} {ad : Nat → Nat} {rr : Int32} {wr : MW} {N : Nat} {x1 : Int32} {x2 : Int32} {w : MW} (hf : gX7_clashOf N x1 x2 w = some (rr, wr)) (sz : Nat) : MetI l yX7_clashOf (ws_ yX7_clashOf cX7_clashOf 7 (some .int)) rmX7_clashOf D T (mmW h ad (T 0) w) sz [.ref h, .int x1, .int x2] rr (mmW h ad (T 0) wr) := by
  refine g_entry (Qc := fun A => gQi D T A rr (mmW h ad (T 0) wr)) (by decide) rfl ?_
  intro p e s m below meth c ls S hM hl
  have hl : lv_has ls 7 [(0, .ref h), (1, .int x1), (2, .int x2)] := hl
  refine lv_aload_n S.x S.b dX7_clashOf_0 rfl (lv_at hl 0 rfl) ?_
  refine lv_iload_n S.x S.b dX7_clashOf_1 rfl (lv_at hl 1 rfl) ?_
  obtain ⟨r_2, w_1, hc, hf⟩ := bd2_some hf
  refine mm_ci S hM hl [.int x1] rfl (metX7_outBehind hc) hdX7_outBehind q1611 q1613 qs46 q69 q1614 ⟨rfl, rfl⟩ ⟨rfl, rfl⟩ rfl rfl rfl ⟨Nat.zero_le _, Nat.zero_le _⟩ dX7_clashOf_2 (fun H locs hM => ?_)
  refine g_istn S (x' := r_2) rfl hl dX7_clashOf_5 rfl rfl (lv' := [(3, .int r_2), (0, .ref h), (1, .int x1), (2, .int x2)]) rfl (fun ls hl => ?_)
  refine lv_iconst (v := (0 : Int32)) S.x S.b dX7_clashOf_6 ki_0 ?_
  refine g_ist S (x' := (0 : Int32)) rfl hl dX7_clashOf_7 rfl (lv' := [(4, .int (0 : Int32)), (3, .int r_2), (0, .ref h), (1, .int x1), (2, .int x2)]) rfl (fun ls hl => ?_)
  exact wX7_clashOf_9 S N x1 x2 r_2 (0 : Int32) w_1 _ _ _ hM (lv_sub hl [2, 3, 4, 1, 0] rfl) hf
/-! SequenceBenchModel.clash(II)I -/
theorem hdX7_clash : gHd yX7_clash 2 := by decide +kernel
def gX7_clash (N : Nat) (x1 : Int32) (x2 : Int32) (w : MW) : Option (Int32 × MW) :=
  lt (setF w 3 (0 : Int32)) fun w_1 =>
  bd2 (gX7_isStep x1 w_1) fun r_3 w_2 =>
  if r_3 = 0 then (
  bd2 (gX7_fails (1 : Int32) w_2) fun r_5 w_4 =>
  some (r_5, w_4))
  else (
  bd (gX7_in x2 (0 : Int32) (5 : Int32)) fun r_6 =>
  if r_6 = 0 then (
  bd2 (gX7_fails (1 : Int32) w_2) fun r_8 w_7 =>
  some (r_8, w_7))
  else (
  bd2 (gX7_clashOf N x1 x2 w_2) fun r_10 w_9 =>
  some (r_10, w_9)))
abbrev rmX7_clash : Room := { frames := 3, cells := 0, slots := 0, locals := 61 }
set_option maxHeartbeats 4000000 in
theorem metX7_clash {l : Launch} {D : va_G} {T : Nat → ClassId} {h : Nat} {ad : Nat → Nat} {rr : Int32} {wr : MW} {N : Nat} {x1 : Int32} {x2 : Int32} {w : MW} (hf : gX7_clash N x1 x2 w = some (rr, wr)) (sz : Nat) : MetI l yX7_clash (ws_ yX7_clash cX7_clash 3 (some .int)) rmX7_clash D T (mmW h ad (T 0) w) sz [.ref h, .int x1, .int x2] rr (mmW h ad (T 0) wr) := by
  refine g_entry (Qc := fun A => gQi D T A rr (mmW h ad (T 0) wr)) (by decide) rfl ?_
  intro p e s m below meth c ls S hM hl
  have hl : lv_has ls 3 [(0, .ref h), (1, .int x1), (2, .int x2)] := hl
  refine lv_aload_n S.x S.b dX7_clash_0 rfl (lv_at hl 0 rfl) ?_
  refine lv_iconst (v := (0 : Int32)) S.x S.b dX7_clash_1 ki_0 ?_
  obtain ⟨w_1, ew, hf⟩ := lt_some hf
  refine mm_p S hM 3 rfl ew q1451 dX7_clash_2 (fun H locs hM => ?_)
  refine lv_aload_n S.x S.b dX7_clash_5 rfl (lv_at hl 0 rfl) ?_
  refine lv_iload_n S.x S.b dX7_clash_6 rfl (lv_at hl 1 rfl) ?_
  obtain ⟨r_3, w_2, hc, hf⟩ := bd2_some hf
  refine mm_ci S hM hl [.int x1] rfl (metX7_isStep hc) hdX7_isStep q1587 q1589 qs43 q69 q1590 ⟨rfl, rfl⟩ ⟨rfl, rfl⟩ rfl rfl rfl ⟨Nat.zero_le _, Nat.zero_le _⟩ dX7_clash_7 (fun H locs hM => ?_)
  refine lv_if_eq (tgt := 31) S.x S.b dX7_clash_10 rfl (fun cn => ?_) (fun cn => ?_)
  · have hf := if_t cn hf
    refine lv_aload_n S.x S.b dX7_clash_31 rfl (lv_at hl 0 rfl) ?_
    refine lv_iconst (v := (1 : Int32)) S.x S.b dX7_clash_32 ki_1 ?_
    obtain ⟨r_5, w_4, hc, hf⟩ := bd2_some hf
    refine mm_ci S hM hl [.int (1 : Int32)] rfl (metX7_fails hc) hdX7_fails q1517 q1519 qs32 q69 q1520 ⟨rfl, rfl⟩ ⟨rfl, rfl⟩ rfl rfl rfl ⟨Nat.zero_le _, Nat.zero_le _⟩ dX7_clash_33 (fun H locs hM => ?_)
    obtain ⟨rfl, rfl⟩ := rt2 hf
    exact g_iret S hM rfl dX7_clash_36
  · have hf := if_f cn hf
    refine lv_iload_n S.x S.b dX7_clash_13 rfl (lv_at hl 2 rfl) ?_
    refine lv_iconst (v := (0 : Int32)) S.x S.b dX7_clash_14 ki_0 ?_
    refine lv_iconst (v := (5 : Int32)) S.x S.b dX7_clash_15 ki_5 ?_
    obtain ⟨r_6, hc, hf⟩ := bd_some hf
    refine gg_si S hM hl [.int x2, .int (0 : Int32), .int (5 : Int32)] (metX7_in hc) hdX7_in q1437 q1438 q69 q1439 ⟨rfl, rfl⟩ ⟨rfl, rfl⟩ rfl rfl rfl ⟨Nat.zero_le _, Nat.zero_le _⟩ dX7_clash_16 (fun H locs hM => ?_)
    refine lv_if_eq (tgt := 31) S.x S.b dX7_clash_19 rfl (fun cn => ?_) (fun cn => ?_)
    · have hf := if_t cn hf
      refine lv_aload_n S.x S.b dX7_clash_31 rfl (lv_at hl 0 rfl) ?_
      refine lv_iconst (v := (1 : Int32)) S.x S.b dX7_clash_32 ki_1 ?_
      obtain ⟨r_8, w_7, hc, hf⟩ := bd2_some hf
      refine mm_ci S hM hl [.int (1 : Int32)] rfl (metX7_fails hc) hdX7_fails q1517 q1519 qs32 q69 q1520 ⟨rfl, rfl⟩ ⟨rfl, rfl⟩ rfl rfl rfl ⟨Nat.zero_le _, Nat.zero_le _⟩ dX7_clash_33 (fun H locs hM => ?_)
      obtain ⟨rfl, rfl⟩ := rt2 hf
      exact g_iret S hM rfl dX7_clash_36
    · have hf := if_f cn hf
      refine lv_aload_n S.x S.b dX7_clash_22 rfl (lv_at hl 0 rfl) ?_
      refine lv_iload_n S.x S.b dX7_clash_23 rfl (lv_at hl 1 rfl) ?_
      refine lv_iload_n S.x S.b dX7_clash_24 rfl (lv_at hl 2 rfl) ?_
      obtain ⟨r_10, w_9, hc, hf⟩ := bd2_some hf
      refine mm_ci S hM hl [.int x1, .int x2] rfl (metX7_clashOf hc) hdX7_clashOf q1607 q1609 qs45 q69 q1610 ⟨rfl, rfl⟩ ⟨rfl, rfl⟩ rfl rfl rfl ⟨Nat.zero_le _, Nat.zero_le _⟩ dX7_clash_25 (fun H locs hM => ?_)
      refine lv_goto (tgt := 36) S.x S.b dX7_clash_28 rfl ?_
      obtain ⟨rfl, rfl⟩ := rt2 hf
      exact g_iret S hM rfl dX7_clash_36
/-! SequenceBenchModel.clashes()I -/
theorem hdX7_clashes : gHd yX7_clashes 0 := by decide +kernel
def gX7_clashes_32 (N : Nat) (k22 : Int32 → Int32 → MW → Option (Int32 × MW)) : Nat → Int32 → Int32 → Int32 → MW → Option (Int32 × MW)
  | 0, _, _, _, _ => none
  | n + 1, x1, x2, x3, w =>
    if (6 : Int32) ≤ x3 then (
    lt (x2 + (1 : Int32)) fun x2_4 =>
    k22 x1 x2_4 w)
    else (
    bd2 (gX7_clashOf N x2 x3 w) fun r_6 w_5 =>
    if r_6 < 0 then (
    lt ((x1 + (0 : Int32))) fun x1_7 =>
    lt (x3 + (1 : Int32)) fun x3_8 =>
    gX7_clashes_32 N k22 n x1_7 x2 x3_8 w_5)
    else (
    lt ((x1 + (1 : Int32))) fun x1_9 =>
    lt (x3 + (1 : Int32)) fun x3_10 =>
    gX7_clashes_32 N k22 n x1_9 x2 x3_10 w_5))
def gX7_clashes_22 (N : Nat) : Nat → Int32 → Int32 → MW → Option (Int32 × MW)
  | 0, _, _, _ => none
  | n + 1, x1, x2, w =>
    if (w.1 4) ≤ x2 then (
    some (x1, w))
    else (
    gX7_clashes_32 N (gX7_clashes_22 N n) N x1 x2 (0 : Int32) w)
def gX7_clashes (N : Nat) (w : MW) : Option (Int32 × MW) :=
  lt (setF w 3 (0 : Int32)) fun w_1 =>
  if (w_1.1 4) = 0 then (
  bd2 (gX7_fails (1 : Int32) w_1) fun r_3 w_2 =>
  some (r_3, w_2))
  else (
  gX7_clashes_22 N N (0 : Int32) (0 : Int32) w_1)
abbrev rmX7_clashes : Room := { frames := 3, cells := 0, slots := 0, locals := 61 }
set_option maxHeartbeats 4000000 in
theorem wX7_clashes_32 {p : Program} {l : Launch} {e : Env} {s : State} {m : MethodId} {args : Array Value} {below : List Frame} {meth : Method} {c : Code} {D : va_G} {T : Nat → ClassId} {A : Nat → Prop} {h : Nat} {ad : Nat → Nat} {rr : Int32} {wr : MW} {N : Nat} (S : gS p s m args meth c cX7_clashes 4 (some .int) RX7 D T) {k22 : Int32 → Int32 → MW → Option (Int32 × MW)} (hk22 : ∀ (x1 : Int32) (x2 : Int32) (w : MW) (H : Heap) (locs : List Loc) (ls : Array Slot), gM D A s.heap (mmW h ad (T 0) w) H locs → lv_has ls 4 [(0, .ref h), (1, .int x1), (2, .int x2)] → k22 x1 x2 w = some (rr, wr) → W p l e rmX7_clashes s m args below meth c H locs 0 0 (MQ below (gQi D T A rr (mmW h ad (T 0) wr)) args s 0 0 A) (F0 m 22 ls [])) : ∀ (n : Nat) (x1 : Int32) (x2 : Int32) (x3 : Int32) (w : MW) (H : Heap) (locs : List Loc) (ls : Array Slot), gM D A s.heap (mmW h ad (T 0) w) H locs → lv_has ls 4 [(0, .ref h), (1, .int x1), (2, .int x2), (3, .int x3)] → gX7_clashes_32 N k22 n x1 x2 x3 w = some (rr, wr) → W p l e rmX7_clashes s m args below meth c H locs 0 0 (MQ below (gQi D T A rr (mmW h ad (T 0) wr)) args s 0 0 A) (F0 m 32 ls []) := by
  intro n
  induction n with
  | zero =>
    intro x1 x2 x3 w H locs ls hM hl hf
    cases hf
  | succ n ih =>
    intro x1 x2 x3 w H locs ls hM hl hf
    refine lv_iload_n S.x S.b dX7_clashes_32 rfl (lv_at hl 3 rfl) ?_
    refine lv_bipush (v := (6 : Int32)) S.x S.b dX7_clashes_33 kb_6 ?_
    refine lv_icmp_ge (tgt := 61) S.x S.b dX7_clashes_35 rfl (fun cn => ?_) (fun cn => ?_)
    · have hf := if_t cn hf
      obtain ⟨x2_4, ex, hf⟩ := lt_some hf
      refine g_inc S (x' := x2_4) (d := (1 : Int32)) hl (k := 2) rfl ki_1 ex dX7_clashes_61 rfl (lv' := [(2, .int x2_4), (0, .ref h), (1, .int x1), (3, .int x3)]) rfl (fun ls hl => ?_)
      refine lv_goto (tgt := 22) S.x S.b dX7_clashes_64 rfl ?_
      exact hk22 x1 x2_4 w _ _ _ hM (lv_sub hl [1, 2, 0] rfl) hf
    · have hf := if_f cn hf
      refine lv_iload_n S.x S.b dX7_clashes_38 rfl (lv_at hl 1 rfl) ?_
      refine lv_aload_n S.x S.b dX7_clashes_39 rfl (lv_at hl 0 rfl) ?_
      refine lv_iload_n S.x S.b dX7_clashes_40 rfl (lv_at hl 2 rfl) ?_
      refine lv_iload_n S.x S.b dX7_clashes_41 rfl (lv_at hl 3 rfl) ?_
      obtain ⟨r_6, w_5, hc, hf⟩ := bd2_some hf
      refine mm_ci S hM hl [.int x2, .int x3] rfl (metX7_clashOf hc) hdX7_clashOf q1607 q1609 qs45 q69 q1610 ⟨rfl, rfl⟩ ⟨rfl, rfl⟩ rfl rfl rfl ⟨Nat.zero_le _, Nat.zero_le _⟩ dX7_clashes_42 (fun H locs hM => ?_)
      refine lv_if_lt (tgt := 52) S.x S.b dX7_clashes_45 rfl (fun cn => ?_) (fun cn => ?_)
      · have hf := if_t cn hf
        refine lv_iconst (v := (0 : Int32)) S.x S.b dX7_clashes_52 ki_0 ?_
        refine lv_iadd S.x S.b dX7_clashes_53 ?_
        obtain ⟨x1_7, ex, hf⟩ := lt_some hf
        refine g_istn S (x' := x1_7) ex hl dX7_clashes_54 rfl rfl (lv' := [(1, .int x1_7), (0, .ref h), (2, .int x2), (3, .int x3)]) rfl (fun ls hl => ?_)
        obtain ⟨x3_8, ex, hf⟩ := lt_some hf
        refine g_inc S (x' := x3_8) (d := (1 : Int32)) hl (k := 3) rfl ki_1 ex dX7_clashes_55 rfl (lv' := [(3, .int x3_8), (1, .int x1_7), (0, .ref h), (2, .int x2)]) rfl (fun ls hl => ?_)
        refine lv_goto (tgt := 32) S.x S.b dX7_clashes_58 rfl ?_
        exact ih x1_7 x2 x3_8 w_5 _ _ _ hM (lv_sub hl [2, 1, 3, 0] rfl) hf
      · have hf := if_f cn hf
        refine lv_iconst (v := (1 : Int32)) S.x S.b dX7_clashes_48 ki_1 ?_
        refine lv_goto (tgt := 53) S.x S.b dX7_clashes_49 rfl ?_
        refine lv_iadd S.x S.b dX7_clashes_53 ?_
        obtain ⟨x1_9, ex, hf⟩ := lt_some hf
        refine g_istn S (x' := x1_9) ex hl dX7_clashes_54 rfl rfl (lv' := [(1, .int x1_9), (0, .ref h), (2, .int x2), (3, .int x3)]) rfl (fun ls hl => ?_)
        obtain ⟨x3_10, ex, hf⟩ := lt_some hf
        refine g_inc S (x' := x3_10) (d := (1 : Int32)) hl (k := 3) rfl ki_1 ex dX7_clashes_55 rfl (lv' := [(3, .int x3_10), (1, .int x1_9), (0, .ref h), (2, .int x2)]) rfl (fun ls hl => ?_)
        refine lv_goto (tgt := 32) S.x S.b dX7_clashes_58 rfl ?_
        exact ih x1_9 x2 x3_10 w_5 _ _ _ hM (lv_sub hl [2, 1, 3, 0] rfl) hf
set_option maxHeartbeats 4000000 in
theorem wX7_clashes_22 {p : Program} {l : Launch} {e : Env} {s : State} {m : MethodId} {args : Array Value} {below : List Frame} {meth : Method} {c : Code} {D : va_G} {T : Nat → ClassId} {A : Nat → Prop} {h : Nat} {ad : Nat → Nat} {rr : Int32} {wr : MW} {N : Nat} (S : gS p s m args meth c cX7_clashes 4 (some .int) RX7 D T) : ∀ (n : Nat) (x1 : Int32) (x2 : Int32) (w : MW) (H : Heap) (locs : List Loc) (ls : Array Slot), gM D A s.heap (mmW h ad (T 0) w) H locs → lv_has ls 4 [(0, .ref h), (1, .int x1), (2, .int x2)] → gX7_clashes_22 N n x1 x2 w = some (rr, wr) → W p l e rmX7_clashes s m args below meth c H locs 0 0 (MQ below (gQi D T A rr (mmW h ad (T 0) wr)) args s 0 0 A) (F0 m 22 ls []) := by
  intro n
  induction n with
  | zero =>
    intro x1 x2 w H locs ls hM hl hf
    cases hf
  | succ n ih =>
    intro x1 x2 w H locs ls hM hl hf
    refine lv_iload_n S.x S.b dX7_clashes_22 rfl (lv_at hl 2 rfl) ?_
    refine lv_aload_n S.x S.b dX7_clashes_23 rfl (lv_at hl 0 rfl) ?_
    refine mm_g S hM 4 rfl q1452 rfl dX7_clashes_24 ?_
    refine lv_icmp_ge (tgt := 67) S.x S.b dX7_clashes_27 rfl (fun cn => ?_) (fun cn => ?_)
    · have hf := if_t cn hf
      refine lv_iload_n S.x S.b dX7_clashes_67 rfl (lv_at hl 1 rfl) ?_
      obtain ⟨rfl, rfl⟩ := rt2 hf
      exact g_iret S hM rfl dX7_clashes_68
    · have hf := if_f cn hf
      refine lv_iconst (v := (0 : Int32)) S.x S.b dX7_clashes_30 ki_0 ?_
      refine g_istn S (x' := (0 : Int32)) rfl hl dX7_clashes_31 rfl rfl (lv' := [(3, .int (0 : Int32)), (0, .ref h), (1, .int x1), (2, .int x2)]) rfl (fun ls hl => ?_)
      exact wX7_clashes_32 S ih N x1 x2 (0 : Int32) w _ _ _ hM (lv_sub hl [1, 2, 3, 0] rfl) hf
set_option maxHeartbeats 4000000 in
theorem metX7_clashes {l : Launch} {D : va_G} {T : Nat → ClassId} {h : Nat} {ad : Nat → Nat} {rr : Int32} {wr : MW} {N : Nat} {w : MW} (hf : gX7_clashes N w = some (rr, wr)) (sz : Nat) : MetI l yX7_clashes (ws_ yX7_clashes cX7_clashes 4 (some .int)) rmX7_clashes D T (mmW h ad (T 0) w) sz [.ref h] rr (mmW h ad (T 0) wr) := by
  refine g_entry (Qc := fun A => gQi D T A rr (mmW h ad (T 0) wr)) (by decide) rfl ?_
  intro p e s m below meth c ls S hM hl
  have hl : lv_has ls 4 [(0, .ref h)] := hl
  refine lv_aload_n S.x S.b dX7_clashes_0 rfl (lv_at hl 0 rfl) ?_
  refine lv_iconst (v := (0 : Int32)) S.x S.b dX7_clashes_1 ki_0 ?_
  obtain ⟨w_1, ew, hf⟩ := lt_some hf
  refine mm_p S hM 3 rfl ew q1451 dX7_clashes_2 (fun H locs hM => ?_)
  refine lv_aload_n S.x S.b dX7_clashes_5 rfl (lv_at hl 0 rfl) ?_
  refine mm_g S hM 4 rfl q1452 rfl dX7_clashes_6 ?_
  refine lv_if_ne (tgt := 18) S.x S.b dX7_clashes_9 rfl (fun cn => ?_) (fun cn => ?_)
  · have hf := if_f cn hf
    refine lv_iconst (v := (0 : Int32)) S.x S.b dX7_clashes_18 ki_0 ?_
    refine g_istn S (x' := (0 : Int32)) rfl hl dX7_clashes_19 rfl rfl (lv' := [(1, .int (0 : Int32)), (0, .ref h)]) rfl (fun ls hl => ?_)
    refine lv_iconst (v := (0 : Int32)) S.x S.b dX7_clashes_20 ki_0 ?_
    refine g_istn S (x' := (0 : Int32)) rfl hl dX7_clashes_21 rfl rfl (lv' := [(2, .int (0 : Int32)), (1, .int (0 : Int32)), (0, .ref h)]) rfl (fun ls hl => ?_)
    exact wX7_clashes_22 S N (0 : Int32) (0 : Int32) w_1 _ _ _ hM (lv_sub hl [2, 1, 0] rfl) hf
  · have hf := if_t cn hf
    refine lv_aload_n S.x S.b dX7_clashes_12 rfl (lv_at hl 0 rfl) ?_
    refine lv_iconst (v := (1 : Int32)) S.x S.b dX7_clashes_13 ki_1 ?_
    obtain ⟨r_3, w_2, hc, hf⟩ := bd2_some hf
    refine mm_ci S hM hl [.int (1 : Int32)] rfl (metX7_fails hc) hdX7_fails q1517 q1519 qs32 q69 q1520 ⟨rfl, rfl⟩ ⟨rfl, rfl⟩ rfl rfl rfl ⟨Nat.zero_le _, Nat.zero_le _⟩ dX7_clashes_14 (fun H locs hM => ?_)
    obtain ⟨rfl, rfl⟩ := rt2 hf
    exact g_iret S hM rfl dX7_clashes_17
/-! SequenceBenchModel.clearText()I -/
theorem hdX7_clearText : gHd yX7_clearText 0 := by decide +kernel
def gX7_clearText (w : MW) : Option (Int32 × MW) :=
  lt (setF w 3 (0 : Int32)) fun w_1 =>
  lt ((w_1.1 11)) fun x1_2 =>
  lt (setF w_1 11 (0 : Int32)) fun w_3 =>
  some (x1_2, w_3)
abbrev rmX7_clearText : Room := { frames := 1, cells := 0, slots := 0, locals := 12 }
set_option maxHeartbeats 4000000 in
theorem metX7_clearText {l : Launch} {D : va_G} {T : Nat → ClassId} {h : Nat} {ad : Nat → Nat} {rr : Int32} {wr : MW} {w : MW} (hf : gX7_clearText w = some (rr, wr)) (sz : Nat) : MetI l yX7_clearText (ws_ yX7_clearText cX7_clearText 2 (some .int)) rmX7_clearText D T (mmW h ad (T 0) w) sz [.ref h] rr (mmW h ad (T 0) wr) := by
  refine g_entry (Qc := fun A => gQi D T A rr (mmW h ad (T 0) wr)) (by decide) rfl ?_
  intro p e s m below meth c ls S hM hl
  have hl : lv_has ls 2 [(0, .ref h)] := hl
  refine lv_aload_n S.x S.b dX7_clearText_0 rfl (lv_at hl 0 rfl) ?_
  refine lv_iconst (v := (0 : Int32)) S.x S.b dX7_clearText_1 ki_0 ?_
  obtain ⟨w_1, ew, hf⟩ := lt_some hf
  refine mm_p S hM 3 rfl ew q1451 dX7_clearText_2 (fun H locs hM => ?_)
  refine lv_aload_n S.x S.b dX7_clearText_5 rfl (lv_at hl 0 rfl) ?_
  refine mm_g S hM 11 rfl q1459 rfl dX7_clearText_6 ?_
  obtain ⟨x1_2, ex, hf⟩ := lt_some hf
  refine g_istn S (x' := x1_2) ex hl dX7_clearText_9 rfl rfl (lv' := [(1, .int x1_2), (0, .ref h)]) rfl (fun ls hl => ?_)
  refine lv_aload_n S.x S.b dX7_clearText_10 rfl (lv_at hl 1 rfl) ?_
  refine lv_iconst (v := (0 : Int32)) S.x S.b dX7_clearText_11 ki_0 ?_
  obtain ⟨w_3, ew, hf⟩ := lt_some hf
  refine mm_p S hM 11 rfl ew q1459 dX7_clearText_12 (fun H locs hM => ?_)
  refine lv_iload_n S.x S.b dX7_clearText_15 rfl (lv_at hl 0 rfl) ?_
  obtain ⟨rfl, rfl⟩ := rt2 hf
  exact g_iret S hM rfl dX7_clearText_16
/-! SequenceBenchModel.ofCylinder(II)I -/
theorem hdX7_ofCylinder : gHd yX7_ofCylinder 2 := by decide +kernel
def gX7_ofCylinder_15 (x1 : Int32) (x2 : Int32) (s0 : Int32) (w : MW) : Option (Int32 × MW) :=
  lt (setF w 3 s0) fun w_2 =>
  if (w_2.1 3) = 0 then (
  ck (x2 + x1) 140 <|
  some ((w_2.2 0 (x2 + x1).toNatClampNeg), w_2))
  else (
  some ((0 : Int32), w_2))
def gX7_ofCylinder (x1 : Int32) (x2 : Int32) (w : MW) : Option (Int32 × MW) :=
  bd (gX7_in x1 (0 : Int32) (5 : Int32)) fun r_1 =>
  if r_1 = 0 then (
  gX7_ofCylinder_15 x1 x2 (1 : Int32) w)
  else (
  gX7_ofCylinder_15 x1 x2 (0 : Int32) w)
abbrev rmX7_ofCylinder : Room := { frames := 2, cells := 0, slots := 0, locals := 34 }
set_option maxHeartbeats 4000000 in
theorem wX7_ofCylinder_15 {p : Program} {l : Launch} {e : Env} {s : State} {m : MethodId} {args : Array Value} {below : List Frame} {meth : Method} {c : Code} {D : va_G} {T : Nat → ClassId} {A : Nat → Prop} {h : Nat} {ad : Nat → Nat} {rr : Int32} {wr : MW} (S : gS p s m args meth c cX7_ofCylinder 3 (some .int) RX7 D T) : ∀ (x1 : Int32) (x2 : Int32) (s0 : Int32) (w : MW) (H : Heap) (locs : List Loc) (ls : Array Slot), gM D A s.heap (mmW h ad (T 0) w) H locs → lv_has ls 3 [(0, .ref h), (1, .int x1), (2, .int x2)] → gX7_ofCylinder_15 x1 x2 s0 w = some (rr, wr) → W p l e rmX7_ofCylinder s m args below meth c H locs 0 0 (MQ below (gQi D T A rr (mmW h ad (T 0) wr)) args s 0 0 A) (F0 m 15 ls [.int s0, .ref h]) := by
  intro x1 x2 s0 w H locs ls hM hl hf
  obtain ⟨w_2, ew, hf⟩ := lt_some hf
  refine mm_p S hM 3 rfl ew q1451 dX7_ofCylinder_15 (fun H locs hM => ?_)
  refine lv_aload_n S.x S.b dX7_ofCylinder_18 rfl (lv_at hl 0 rfl) ?_
  refine mm_g S hM 3 rfl q1451 rfl dX7_ofCylinder_19 ?_
  refine lv_if_ne (tgt := 36) S.x S.b dX7_ofCylinder_22 rfl (fun cn => ?_) (fun cn => ?_)
  · have hf := if_f cn hf
    refine lv_iconst (v := (0 : Int32)) S.x S.b dX7_ofCylinder_36 ki_0 ?_
    obtain ⟨rfl, rfl⟩ := rt2 hf
    exact g_iret S hM rfl dX7_ofCylinder_37
  · have hf := if_t cn hf
    refine lv_aload_n S.x S.b dX7_ofCylinder_25 rfl (lv_at hl 0 rfl) ?_
    refine mm_g S hM 0 rfl q1448 rfl dX7_ofCylinder_26 ?_
    refine lv_iload_n S.x S.b dX7_ofCylinder_29 rfl (lv_at hl 2 rfl) ?_
    refine lv_iload_n S.x S.b dX7_ofCylinder_30 rfl (lv_at hl 1 rfl) ?_
    refine lv_iadd S.x S.b dX7_ofCylinder_31 ?_
    obtain ⟨hi, hf⟩ := ck_some hf
    refine mm_ld S hM 0 rfl hi dX7_ofCylinder_32 ?_
    refine lv_goto (tgt := 37) S.x S.b dX7_ofCylinder_33 rfl ?_
    obtain ⟨rfl, rfl⟩ := rt2 hf
    exact g_iret S hM rfl dX7_ofCylinder_37
set_option maxHeartbeats 4000000 in
theorem metX7_ofCylinder {l : Launch} {D : va_G} {T : Nat → ClassId} {h : Nat} {ad : Nat → Nat} {rr : Int32} {wr : MW} {x1 : Int32} {x2 : Int32} {w : MW} (hf : gX7_ofCylinder x1 x2 w = some (rr, wr)) (sz : Nat) : MetI l yX7_ofCylinder (ws_ yX7_ofCylinder cX7_ofCylinder 3 (some .int)) rmX7_ofCylinder D T (mmW h ad (T 0) w) sz [.ref h, .int x1, .int x2] rr (mmW h ad (T 0) wr) := by
  refine g_entry (Qc := fun A => gQi D T A rr (mmW h ad (T 0) wr)) (by decide) rfl ?_
  intro p e s m below meth c ls S hM hl
  have hl : lv_has ls 3 [(0, .ref h), (1, .int x1), (2, .int x2)] := hl
  refine lv_aload_n S.x S.b dX7_ofCylinder_0 rfl (lv_at hl 0 rfl) ?_
  refine lv_iload_n S.x S.b dX7_ofCylinder_1 rfl (lv_at hl 1 rfl) ?_
  refine lv_iconst (v := (0 : Int32)) S.x S.b dX7_ofCylinder_2 ki_0 ?_
  refine lv_iconst (v := (5 : Int32)) S.x S.b dX7_ofCylinder_3 ki_5 ?_
  obtain ⟨r_1, hc, hf⟩ := bd_some hf
  refine gg_si S hM hl [.int x1, .int (0 : Int32), .int (5 : Int32)] (metX7_in hc) hdX7_in q1437 q1438 q69 q1439 ⟨rfl, rfl⟩ ⟨rfl, rfl⟩ rfl rfl rfl ⟨Nat.zero_le _, Nat.zero_le _⟩ dX7_ofCylinder_4 (fun H locs hM => ?_)
  refine lv_if_eq (tgt := 14) S.x S.b dX7_ofCylinder_7 rfl (fun cn => ?_) (fun cn => ?_)
  · have hf := if_t cn hf
    refine lv_iconst (v := (1 : Int32)) S.x S.b dX7_ofCylinder_14 ki_1 ?_
    exact wX7_ofCylinder_15 S x1 x2 (1 : Int32) w _ _ _ hM (lv_sub hl [0, 1, 2] rfl) hf
  · have hf := if_f cn hf
    refine lv_iconst (v := (0 : Int32)) S.x S.b dX7_ofCylinder_10 ki_0 ?_
    refine lv_goto (tgt := 15) S.x S.b dX7_ofCylinder_11 rfl ?_
    exact wX7_ofCylinder_15 S x1 x2 (0 : Int32) w _ _ _ hM (lv_sub hl [0, 1, 2] rfl) hf
/-! SequenceBenchModel.commands(I)I -/
theorem hdX7_commands : gHd yX7_commands 1 := by decide +kernel
def gX7_commands (x1 : Int32) (w : MW) : Option (Int32 × MW) :=
  bd2 (gX7_ofCylinder x1 (32 : Int32) w) fun r_2 w_1 =>
  some (r_2, w_1)
abbrev rmX7_commands : Room := { frames := 3, cells := 0, slots := 0, locals := 56 }
set_option maxHeartbeats 4000000 in
theorem metX7_commands {l : Launch} {D : va_G} {T : Nat → ClassId} {h : Nat} {ad : Nat → Nat} {rr : Int32} {wr : MW} {x1 : Int32} {w : MW} (hf : gX7_commands x1 w = some (rr, wr)) (sz : Nat) : MetI l yX7_commands (ws_ yX7_commands cX7_commands 2 (some .int)) rmX7_commands D T (mmW h ad (T 0) w) sz [.ref h, .int x1] rr (mmW h ad (T 0) wr) := by
  refine g_entry (Qc := fun A => gQi D T A rr (mmW h ad (T 0) wr)) (by decide) rfl ?_
  intro p e s m below meth c ls S hM hl
  have hl : lv_has ls 2 [(0, .ref h), (1, .int x1)] := hl
  refine lv_aload_n S.x S.b dX7_commands_0 rfl (lv_at hl 0 rfl) ?_
  refine lv_iload_n S.x S.b dX7_commands_1 rfl (lv_at hl 1 rfl) ?_
  refine lv_bipush (v := (32 : Int32)) S.x S.b dX7_commands_2 kb_32 ?_
  obtain ⟨r_2, w_1, hc, hf⟩ := bd2_some hf
  refine mm_ci S hM hl [.int x1, .int (32 : Int32)] rfl (metX7_ofCylinder hc) hdX7_ofCylinder q1703 q1705 qs56 q69 q1706 ⟨rfl, rfl⟩ ⟨rfl, rfl⟩ rfl rfl rfl ⟨Nat.zero_le _, Nat.zero_le _⟩ dX7_commands_4 (fun H locs hM => ?_)
  obtain ⟨rfl, rfl⟩ := rt2 hf
  exact g_iret S hM rfl dX7_commands_7
/-! SequenceBenchModel.cut(I)I -/
theorem hdX7_cut : gHd yX7_cut 1 := by decide +kernel
def gX7_cut (x1 : Int32) (w : MW) : Option (Int32 × MW) :=
  lt (setF w 3 (0 : Int32)) fun w_1 =>
  if (w_1.1 4) ≤ 0 then (
  bd2 (gX7_fails (1 : Int32) w_1) fun r_3 w_2 =>
  some (r_3, w_2))
  else (
  bd (gX7_in x1 (0 : Int32) ((w_1.1 8) - (1 : Int32))) fun r_4 =>
  if r_4 = 0 then (
  bd2 (gX7_fails (1 : Int32) w_1) fun r_6 w_5 =>
  some (r_6, w_5))
  else (
  ck x1 16 <|
  some ((w_1.2 6 x1.toNatClampNeg), w_1)))
abbrev rmX7_cut : Room := { frames := 2, cells := 0, slots := 0, locals := 34 }
set_option maxHeartbeats 4000000 in
theorem metX7_cut {l : Launch} {D : va_G} {T : Nat → ClassId} {h : Nat} {ad : Nat → Nat} {rr : Int32} {wr : MW} {x1 : Int32} {w : MW} (hf : gX7_cut x1 w = some (rr, wr)) (sz : Nat) : MetI l yX7_cut (ws_ yX7_cut cX7_cut 2 (some .int)) rmX7_cut D T (mmW h ad (T 0) w) sz [.ref h, .int x1] rr (mmW h ad (T 0) wr) := by
  refine g_entry (Qc := fun A => gQi D T A rr (mmW h ad (T 0) wr)) (by decide) rfl ?_
  intro p e s m below meth c ls S hM hl
  have hl : lv_has ls 2 [(0, .ref h), (1, .int x1)] := hl
  refine lv_aload_n S.x S.b dX7_cut_0 rfl (lv_at hl 0 rfl) ?_
  refine lv_iconst (v := (0 : Int32)) S.x S.b dX7_cut_1 ki_0 ?_
  obtain ⟨w_1, ew, hf⟩ := lt_some hf
  refine mm_p S hM 3 rfl ew q1451 dX7_cut_2 (fun H locs hM => ?_)
  refine lv_aload_n S.x S.b dX7_cut_5 rfl (lv_at hl 0 rfl) ?_
  refine mm_g S hM 4 rfl q1452 rfl dX7_cut_6 ?_
  refine lv_if_le (tgt := 35) S.x S.b dX7_cut_9 rfl (fun cn => ?_) (fun cn => ?_)
  · have hf := if_t cn hf
    refine lv_aload_n S.x S.b dX7_cut_35 rfl (lv_at hl 0 rfl) ?_
    refine lv_iconst (v := (1 : Int32)) S.x S.b dX7_cut_36 ki_1 ?_
    obtain ⟨r_3, w_2, hc, hf⟩ := bd2_some hf
    refine mm_ci S hM hl [.int (1 : Int32)] rfl (metX7_fails hc) hdX7_fails q1517 q1519 qs32 q69 q1520 ⟨rfl, rfl⟩ ⟨rfl, rfl⟩ rfl rfl rfl ⟨Nat.zero_le _, Nat.zero_le _⟩ dX7_cut_37 (fun H locs hM => ?_)
    obtain ⟨rfl, rfl⟩ := rt2 hf
    exact g_iret S hM rfl dX7_cut_40
  · have hf := if_f cn hf
    refine lv_iload_n S.x S.b dX7_cut_12 rfl (lv_at hl 1 rfl) ?_
    refine lv_iconst (v := (0 : Int32)) S.x S.b dX7_cut_13 ki_0 ?_
    refine lv_aload_n S.x S.b dX7_cut_14 rfl (lv_at hl 0 rfl) ?_
    refine mm_g S hM 8 rfl q1456 rfl dX7_cut_15 ?_
    refine lv_iconst (v := (1 : Int32)) S.x S.b dX7_cut_18 ki_1 ?_
    refine lv_isub S.x S.b dX7_cut_19 ?_
    obtain ⟨r_4, hc, hf⟩ := bd_some hf
    refine gg_si S hM hl [.int x1, .int (0 : Int32), .int ((w_1.1 8) - (1 : Int32))] (metX7_in hc) hdX7_in q1437 q1438 q69 q1439 ⟨rfl, rfl⟩ ⟨rfl, rfl⟩ rfl rfl rfl ⟨Nat.zero_le _, Nat.zero_le _⟩ dX7_cut_20 (fun H locs hM => ?_)
    refine lv_if_eq (tgt := 35) S.x S.b dX7_cut_23 rfl (fun cn => ?_) (fun cn => ?_)
    · have hf := if_t cn hf
      refine lv_aload_n S.x S.b dX7_cut_35 rfl (lv_at hl 0 rfl) ?_
      refine lv_iconst (v := (1 : Int32)) S.x S.b dX7_cut_36 ki_1 ?_
      obtain ⟨r_6, w_5, hc, hf⟩ := bd2_some hf
      refine mm_ci S hM hl [.int (1 : Int32)] rfl (metX7_fails hc) hdX7_fails q1517 q1519 qs32 q69 q1520 ⟨rfl, rfl⟩ ⟨rfl, rfl⟩ rfl rfl rfl ⟨Nat.zero_le _, Nat.zero_le _⟩ dX7_cut_37 (fun H locs hM => ?_)
      obtain ⟨rfl, rfl⟩ := rt2 hf
      exact g_iret S hM rfl dX7_cut_40
    · have hf := if_f cn hf
      refine lv_aload_n S.x S.b dX7_cut_26 rfl (lv_at hl 0 rfl) ?_
      refine mm_g S hM 9 rfl q1457 rfl dX7_cut_27 ?_
      refine lv_iload_n S.x S.b dX7_cut_30 rfl (lv_at hl 1 rfl) ?_
      obtain ⟨hi, hf⟩ := ck_some hf
      refine mm_ld S hM 6 rfl hi dX7_cut_31 ?_
      refine lv_goto (tgt := 40) S.x S.b dX7_cut_32 rfl ?_
      obtain ⟨rfl, rfl⟩ := rt2 hf
      exact g_iret S hM rfl dX7_cut_40
/-! SequenceBenchModel.lacks(I)Z -/
theorem hdX7_lacks : gHd yX7_lacks 1 := by decide +kernel
def gX7_lacks_26 (s0 : Int32) (w : MW) : Option (Int32 × MW) :=
  lt (setF w 3 s0) fun w_2 =>
  if (w_2.1 3) = 0 then (
  some ((0 : Int32), w_2))
  else (
  some ((1 : Int32), w_2))
def gX7_lacks (x1 : Int32) (w : MW) : Option (Int32 × MW) :=
  bd (gX7_in x1 (0 : Int32) (2 : Int32)) fun r_1 =>
  if r_1 = 0 then (
  gX7_lacks_26 (1 : Int32) w)
  else (
  if (w.1 4) = 0 then (
  gX7_lacks_26 (2 : Int32) w)
  else (
  gX7_lacks_26 (0 : Int32) w))
abbrev rmX7_lacks : Room := { frames := 2, cells := 0, slots := 0, locals := 34 }
set_option maxHeartbeats 4000000 in
theorem wX7_lacks_26 {p : Program} {l : Launch} {e : Env} {s : State} {m : MethodId} {args : Array Value} {below : List Frame} {meth : Method} {c : Code} {D : va_G} {T : Nat → ClassId} {A : Nat → Prop} {h : Nat} {ad : Nat → Nat} {rr : Int32} {wr : MW} (S : gS p s m args meth c cX7_lacks 2 (some .boolean) RX7 D T) : ∀ (s0 : Int32) (w : MW) (H : Heap) (locs : List Loc) (ls : Array Slot), gM D A s.heap (mmW h ad (T 0) w) H locs → lv_has ls 2 [(0, .ref h)] → gX7_lacks_26 s0 w = some (rr, wr) → W p l e rmX7_lacks s m args below meth c H locs 0 0 (MQ below (gQi D T A rr (mmW h ad (T 0) wr)) args s 0 0 A) (F0 m 26 ls [.int s0, .ref h]) := by
  intro s0 w H locs ls hM hl hf
  obtain ⟨w_2, ew, hf⟩ := lt_some hf
  refine mm_p S hM 3 rfl ew q1451 dX7_lacks_26 (fun H locs hM => ?_)
  refine lv_aload_n S.x S.b dX7_lacks_29 rfl (lv_at hl 0 rfl) ?_
  refine mm_g S hM 3 rfl q1451 rfl dX7_lacks_30 ?_
  refine lv_if_eq (tgt := 40) S.x S.b dX7_lacks_33 rfl (fun cn => ?_) (fun cn => ?_)
  · have hf := if_t cn hf
    refine lv_iconst (v := (0 : Int32)) S.x S.b dX7_lacks_40 ki_0 ?_
    obtain ⟨rfl, rfl⟩ := rt2 hf
    exact g_zret S hM rfl rfl dX7_lacks_41
  · have hf := if_f cn hf
    refine lv_iconst (v := (1 : Int32)) S.x S.b dX7_lacks_36 ki_1 ?_
    refine lv_goto (tgt := 41) S.x S.b dX7_lacks_37 rfl ?_
    obtain ⟨rfl, rfl⟩ := rt2 hf
    exact g_zret S hM rfl rfl dX7_lacks_41
set_option maxHeartbeats 4000000 in
theorem metX7_lacks {l : Launch} {D : va_G} {T : Nat → ClassId} {h : Nat} {ad : Nat → Nat} {rr : Int32} {wr : MW} {x1 : Int32} {w : MW} (hf : gX7_lacks x1 w = some (rr, wr)) (sz : Nat) : MetI l yX7_lacks (ws_ yX7_lacks cX7_lacks 2 (some .boolean)) rmX7_lacks D T (mmW h ad (T 0) w) sz [.ref h, .int x1] rr (mmW h ad (T 0) wr) := by
  refine g_entry (Qc := fun A => gQi D T A rr (mmW h ad (T 0) wr)) (by decide) rfl ?_
  intro p e s m below meth c ls S hM hl
  have hl : lv_has ls 2 [(0, .ref h), (1, .int x1)] := hl
  refine lv_aload_n S.x S.b dX7_lacks_0 rfl (lv_at hl 0 rfl) ?_
  refine lv_iload_n S.x S.b dX7_lacks_1 rfl (lv_at hl 1 rfl) ?_
  refine lv_iconst (v := (0 : Int32)) S.x S.b dX7_lacks_2 ki_0 ?_
  refine lv_iconst (v := (2 : Int32)) S.x S.b dX7_lacks_3 ki_2 ?_
  obtain ⟨r_1, hc, hf⟩ := bd_some hf
  refine gg_si S hM hl [.int x1, .int (0 : Int32), .int (2 : Int32)] (metX7_in hc) hdX7_in q1437 q1438 q69 q1439 ⟨rfl, rfl⟩ ⟨rfl, rfl⟩ rfl rfl rfl ⟨Nat.zero_le _, Nat.zero_le _⟩ dX7_lacks_4 (fun H locs hM => ?_)
  refine lv_if_ne (tgt := 14) S.x S.b dX7_lacks_7 rfl (fun cn => ?_) (fun cn => ?_)
  · have hf := if_f cn hf
    refine lv_aload_n S.x S.b dX7_lacks_14 rfl (lv_at hl 0 rfl) ?_
    refine mm_g S hM 4 rfl q1452 rfl dX7_lacks_15 ?_
    refine lv_if_ne (tgt := 25) S.x S.b dX7_lacks_18 rfl (fun cn => ?_) (fun cn => ?_)
    · have hf := if_f cn hf
      refine lv_iconst (v := (0 : Int32)) S.x S.b dX7_lacks_25 ki_0 ?_
      exact wX7_lacks_26 S (0 : Int32) w _ _ _ hM (lv_sub hl [0] rfl) hf
    · have hf := if_t cn hf
      refine lv_iconst (v := (2 : Int32)) S.x S.b dX7_lacks_21 ki_2 ?_
      refine lv_goto (tgt := 26) S.x S.b dX7_lacks_22 rfl ?_
      exact wX7_lacks_26 S (2 : Int32) w _ _ _ hM (lv_sub hl [0] rfl) hf
  · have hf := if_t cn hf
    refine lv_iconst (v := (1 : Int32)) S.x S.b dX7_lacks_10 ki_1 ?_
    refine lv_goto (tgt := 26) S.x S.b dX7_lacks_11 rfl ?_
    exact wX7_lacks_26 S (1 : Int32) w _ _ _ hM (lv_sub hl [0] rfl) hf
/-! SequenceBenchModel.cycleTime(I)I -/
theorem hdX7_cycleTime : gHd yX7_cycleTime 1 := by decide +kernel
def gX7_cycleTime (N : Nat) (x1 : Int32) (w : MW) : Option (Int32 × MW) :=
  bd2 (gX7_lacks x1 w) fun r_2 w_1 =>
  if r_2 = 0 then (
  bd2 (gX7_cycleOf N x1 w_1) fun r_4 w_3 =>
  some (r_4, w_3))
  else (
  some ((0 : Int32), w_1))
abbrev rmX7_cycleTime : Room := { frames := 7, cells := 0, slots := 0, locals := 163 }
set_option maxHeartbeats 4000000 in
theorem metX7_cycleTime {l : Launch} {D : va_G} {T : Nat → ClassId} {h : Nat} {ad : Nat → Nat} {rr : Int32} {wr : MW} {N : Nat} {x1 : Int32} {w : MW} (hf : gX7_cycleTime N x1 w = some (rr, wr)) (sz : Nat) : MetI l yX7_cycleTime (ws_ yX7_cycleTime cX7_cycleTime 2 (some .int)) rmX7_cycleTime D T (mmW h ad (T 0) w) sz [.ref h, .int x1] rr (mmW h ad (T 0) wr) := by
  refine g_entry (Qc := fun A => gQi D T A rr (mmW h ad (T 0) wr)) (by decide) rfl ?_
  intro p e s m below meth c ls S hM hl
  have hl : lv_has ls 2 [(0, .ref h), (1, .int x1)] := hl
  refine lv_aload_n S.x S.b dX7_cycleTime_0 rfl (lv_at hl 0 rfl) ?_
  refine lv_iload_n S.x S.b dX7_cycleTime_1 rfl (lv_at hl 1 rfl) ?_
  obtain ⟨r_2, w_1, hc, hf⟩ := bd2_some hf
  refine mm_ci S hM hl [.int x1] rfl (metX7_lacks hc) hdX7_lacks q1643 q1645 qs49 q69 q1646 ⟨rfl, rfl⟩ ⟨rfl, rfl⟩ rfl rfl rfl ⟨Nat.zero_le _, Nat.zero_le _⟩ dX7_cycleTime_2 (fun H locs hM => ?_)
  refine lv_if_eq (tgt := 12) S.x S.b dX7_cycleTime_5 rfl (fun cn => ?_) (fun cn => ?_)
  · have hf := if_t cn hf
    refine lv_aload_n S.x S.b dX7_cycleTime_12 rfl (lv_at hl 0 rfl) ?_
    refine lv_iload_n S.x S.b dX7_cycleTime_13 rfl (lv_at hl 1 rfl) ?_
    obtain ⟨r_4, w_3, hc, hf⟩ := bd2_some hf
    refine mm_ci S hM hl [.int x1] rfl (metX7_cycleOf hc) hdX7_cycleOf q1759 q1761 qs58 q69 q1762 ⟨rfl, rfl⟩ ⟨rfl, rfl⟩ rfl rfl rfl ⟨Nat.zero_le _, Nat.zero_le _⟩ dX7_cycleTime_14 (fun H locs hM => ?_)
    obtain ⟨rfl, rfl⟩ := rt2 hf
    exact g_iret S hM rfl dX7_cycleTime_17
  · have hf := if_f cn hf
    refine lv_iconst (v := (0 : Int32)) S.x S.b dX7_cycleTime_8 ki_0 ?_
    refine lv_goto (tgt := 17) S.x S.b dX7_cycleTime_9 rfl ?_
    obtain ⟨rfl, rfl⟩ := rt2 hf
    exact g_iret S hM rfl dX7_cycleTime_17
/-! SequenceBenchModel.cycles()I -/
theorem hdX7_cycles : gHd yX7_cycles 0 := by decide +kernel
def gX7_cycles (w : MW) : Option (Int32 × MW) :=
  lt (setF w 3 (0 : Int32)) fun w_1 =>
  ck (9 : Int32) 140 <|
  some ((w_1.2 0 (9 : Int32).toNatClampNeg), w_1)
abbrev rmX7_cycles : Room := { frames := 1, cells := 0, slots := 0, locals := 12 }
set_option maxHeartbeats 4000000 in
theorem metX7_cycles {l : Launch} {D : va_G} {T : Nat → ClassId} {h : Nat} {ad : Nat → Nat} {rr : Int32} {wr : MW} {w : MW} (hf : gX7_cycles w = some (rr, wr)) (sz : Nat) : MetI l yX7_cycles (ws_ yX7_cycles cX7_cycles 1 (some .int)) rmX7_cycles D T (mmW h ad (T 0) w) sz [.ref h] rr (mmW h ad (T 0) wr) := by
  refine g_entry (Qc := fun A => gQi D T A rr (mmW h ad (T 0) wr)) (by decide) rfl ?_
  intro p e s m below meth c ls S hM hl
  have hl : lv_has ls 1 [(0, .ref h)] := hl
  refine lv_aload_n S.x S.b dX7_cycles_0 rfl (lv_at hl 0 rfl) ?_
  refine lv_iconst (v := (0 : Int32)) S.x S.b dX7_cycles_1 ki_0 ?_
  obtain ⟨w_1, ew, hf⟩ := lt_some hf
  refine mm_p S hM 3 rfl ew q1451 dX7_cycles_2 (fun H locs hM => ?_)
  refine lv_aload_n S.x S.b dX7_cycles_5 rfl (lv_at hl 0 rfl) ?_
  refine mm_g S hM 0 rfl q1448 rfl dX7_cycles_6 ?_
  refine lv_bipush (v := (9 : Int32)) S.x S.b dX7_cycles_9 kb_9 ?_
  obtain ⟨hi, hf⟩ := ck_some hf
  refine mm_ld S hM 0 rfl hi dX7_cycles_11 ?_
  obtain ⟨rfl, rfl⟩ := rt2 hf
  exact g_iret S hM rfl dX7_cycles_12
/-! SequenceBenchModel.direction(II)I -/
theorem hdX7_direction : gHd yX7_direction 2 := by decide +kernel
def gX7_direction (x1 : Int32) (x2 : Int32) (w : MW) : Option (Int32 × MW) :=
  lt (setF w 3 (0 : Int32)) fun w_1 =>
  bd2 (gX7_isStep x1 w_1) fun r_3 w_2 =>
  if r_3 = 0 then (
  bd2 (gX7_fails (1 : Int32) w_2) fun r_5 w_4 =>
  some (r_5, w_4))
  else (
  bd (gX7_in x2 (0 : Int32) (5 : Int32)) fun r_6 =>
  if r_6 = 0 then (
  bd2 (gX7_fails (1 : Int32) w_2) fun r_8 w_7 =>
  some (r_8, w_7))
  else (
  bd2 (gX7_directionOf x1 x2 w_2) fun r_10 w_9 =>
  some (r_10, w_9)))
abbrev rmX7_direction : Room := { frames := 3, cells := 0, slots := 0, locals := 55 }
set_option maxHeartbeats 4000000 in
theorem metX7_direction {l : Launch} {D : va_G} {T : Nat → ClassId} {h : Nat} {ad : Nat → Nat} {rr : Int32} {wr : MW} {x1 : Int32} {x2 : Int32} {w : MW} (hf : gX7_direction x1 x2 w = some (rr, wr)) (sz : Nat) : MetI l yX7_direction (ws_ yX7_direction cX7_direction 3 (some .int)) rmX7_direction D T (mmW h ad (T 0) w) sz [.ref h, .int x1, .int x2] rr (mmW h ad (T 0) wr) := by
  refine g_entry (Qc := fun A => gQi D T A rr (mmW h ad (T 0) wr)) (by decide) rfl ?_
  intro p e s m below meth c ls S hM hl
  have hl : lv_has ls 3 [(0, .ref h), (1, .int x1), (2, .int x2)] := hl
  refine lv_aload_n S.x S.b dX7_direction_0 rfl (lv_at hl 0 rfl) ?_
  refine lv_iconst (v := (0 : Int32)) S.x S.b dX7_direction_1 ki_0 ?_
  obtain ⟨w_1, ew, hf⟩ := lt_some hf
  refine mm_p S hM 3 rfl ew q1451 dX7_direction_2 (fun H locs hM => ?_)
  refine lv_aload_n S.x S.b dX7_direction_5 rfl (lv_at hl 0 rfl) ?_
  refine lv_iload_n S.x S.b dX7_direction_6 rfl (lv_at hl 1 rfl) ?_
  obtain ⟨r_3, w_2, hc, hf⟩ := bd2_some hf
  refine mm_ci S hM hl [.int x1] rfl (metX7_isStep hc) hdX7_isStep q1587 q1589 qs43 q69 q1590 ⟨rfl, rfl⟩ ⟨rfl, rfl⟩ rfl rfl rfl ⟨Nat.zero_le _, Nat.zero_le _⟩ dX7_direction_7 (fun H locs hM => ?_)
  refine lv_if_eq (tgt := 31) S.x S.b dX7_direction_10 rfl (fun cn => ?_) (fun cn => ?_)
  · have hf := if_t cn hf
    refine lv_aload_n S.x S.b dX7_direction_31 rfl (lv_at hl 0 rfl) ?_
    refine lv_iconst (v := (1 : Int32)) S.x S.b dX7_direction_32 ki_1 ?_
    obtain ⟨r_5, w_4, hc, hf⟩ := bd2_some hf
    refine mm_ci S hM hl [.int (1 : Int32)] rfl (metX7_fails hc) hdX7_fails q1517 q1519 qs32 q69 q1520 ⟨rfl, rfl⟩ ⟨rfl, rfl⟩ rfl rfl rfl ⟨Nat.zero_le _, Nat.zero_le _⟩ dX7_direction_33 (fun H locs hM => ?_)
    obtain ⟨rfl, rfl⟩ := rt2 hf
    exact g_iret S hM rfl dX7_direction_36
  · have hf := if_f cn hf
    refine lv_iload_n S.x S.b dX7_direction_13 rfl (lv_at hl 2 rfl) ?_
    refine lv_iconst (v := (0 : Int32)) S.x S.b dX7_direction_14 ki_0 ?_
    refine lv_iconst (v := (5 : Int32)) S.x S.b dX7_direction_15 ki_5 ?_
    obtain ⟨r_6, hc, hf⟩ := bd_some hf
    refine gg_si S hM hl [.int x2, .int (0 : Int32), .int (5 : Int32)] (metX7_in hc) hdX7_in q1437 q1438 q69 q1439 ⟨rfl, rfl⟩ ⟨rfl, rfl⟩ rfl rfl rfl ⟨Nat.zero_le _, Nat.zero_le _⟩ dX7_direction_16 (fun H locs hM => ?_)
    refine lv_if_eq (tgt := 31) S.x S.b dX7_direction_19 rfl (fun cn => ?_) (fun cn => ?_)
    · have hf := if_t cn hf
      refine lv_aload_n S.x S.b dX7_direction_31 rfl (lv_at hl 0 rfl) ?_
      refine lv_iconst (v := (1 : Int32)) S.x S.b dX7_direction_32 ki_1 ?_
      obtain ⟨r_8, w_7, hc, hf⟩ := bd2_some hf
      refine mm_ci S hM hl [.int (1 : Int32)] rfl (metX7_fails hc) hdX7_fails q1517 q1519 qs32 q69 q1520 ⟨rfl, rfl⟩ ⟨rfl, rfl⟩ rfl rfl rfl ⟨Nat.zero_le _, Nat.zero_le _⟩ dX7_direction_33 (fun H locs hM => ?_)
      obtain ⟨rfl, rfl⟩ := rt2 hf
      exact g_iret S hM rfl dX7_direction_36
    · have hf := if_f cn hf
      refine lv_aload_n S.x S.b dX7_direction_22 rfl (lv_at hl 0 rfl) ?_
      refine lv_iload_n S.x S.b dX7_direction_23 rfl (lv_at hl 1 rfl) ?_
      refine lv_iload_n S.x S.b dX7_direction_24 rfl (lv_at hl 2 rfl) ?_
      obtain ⟨r_10, w_9, hc, hf⟩ := bd2_some hf
      refine mm_ci S hM hl [.int x1, .int x2] rfl (metX7_directionOf hc) hdX7_directionOf q1595 q1597 qs44 q69 q1598 ⟨rfl, rfl⟩ ⟨rfl, rfl⟩ rfl rfl rfl ⟨Nat.zero_le _, Nat.zero_le _⟩ dX7_direction_25 (fun H locs hM => ?_)
      refine lv_goto (tgt := 36) S.x S.b dX7_direction_28 rfl ?_
      obtain ⟨rfl, rfl⟩ := rt2 hf
      exact g_iret S hM rfl dX7_direction_36
/-! SequenceBenchModel.isAhead(II)Z -/
theorem hdX7_isAhead : gHd yX7_isAhead 2 := by decide +kernel
def gX7_isAhead (x0 : Int32) (x1 : Int32) : Option (Int32) :=
  lt ((x0 ^^^ x1)) fun x2_1 =>
  if x2_1 = 0 then (
  some (0 : Int32))
  else (
  if ((x0 &&& x2_1) &&& (-x2_1)) = 0 then (
  some (0 : Int32))
  else (
  some (1 : Int32)))
abbrev rmX7_isAhead : Room := { frames := 1, cells := 0, slots := 0, locals := 12 }
set_option maxHeartbeats 4000000 in
theorem metX7_isAhead {l : Launch} {D : va_G} {T : Nat → ClassId} {rr : Int32} {x0 : Int32} {x1 : Int32} (hf : gX7_isAhead x0 x1 = some rr) (sz : Nat) : MetI l yX7_isAhead (ws_ yX7_isAhead cX7_isAhead 3 (some .boolean)) rmX7_isAhead D T ([]) sz [.int x0, .int x1] rr ([]) := by
  refine g_entry (Qc := fun A => gQi D T A rr ([])) (by decide) rfl ?_
  intro p e s m below meth c ls S hM hl
  have hl : lv_has ls 3 [(0, .int x0), (1, .int x1)] := hl
  refine lv_iload_n S.x S.b dX7_isAhead_0 rfl (lv_at hl 0 rfl) ?_
  refine lv_iload_n S.x S.b dX7_isAhead_1 rfl (lv_at hl 1 rfl) ?_
  refine lv_ixor S.x S.b dX7_isAhead_2 ?_
  obtain ⟨x2_1, ex, hf⟩ := lt_some hf
  refine g_istn S (x' := x2_1) ex hl dX7_isAhead_3 rfl rfl (lv' := [(2, .int x2_1), (0, .int x0), (1, .int x1)]) rfl (fun ls hl => ?_)
  refine lv_iload_n S.x S.b dX7_isAhead_4 rfl (lv_at hl 0 rfl) ?_
  refine lv_if_eq (tgt := 21) S.x S.b dX7_isAhead_5 rfl (fun cn => ?_) (fun cn => ?_)
  · have hf := if_t cn hf
    refine lv_iconst (v := (0 : Int32)) S.x S.b dX7_isAhead_21 ki_0 ?_
    obtain rfl := rt1 hf
    exact g_zret S hM rfl rfl dX7_isAhead_22
  · have hf := if_f cn hf
    refine lv_iload_n S.x S.b dX7_isAhead_8 rfl (lv_at hl 1 rfl) ?_
    refine lv_iload_n S.x S.b dX7_isAhead_9 rfl (lv_at hl 0 rfl) ?_
    refine lv_iand S.x S.b dX7_isAhead_10 ?_
    refine lv_iload_n S.x S.b dX7_isAhead_11 rfl (lv_at hl 0 rfl) ?_
    refine lv_ineg S.x S.b dX7_isAhead_12 ?_
    refine lv_iand S.x S.b dX7_isAhead_13 ?_
    refine lv_if_eq (tgt := 21) S.x S.b dX7_isAhead_14 rfl (fun cn => ?_) (fun cn => ?_)
    · have hf := if_t cn hf
      refine lv_iconst (v := (0 : Int32)) S.x S.b dX7_isAhead_21 ki_0 ?_
      obtain rfl := rt1 hf
      exact g_zret S hM rfl rfl dX7_isAhead_22
    · have hf := if_f cn hf
      refine lv_iconst (v := (1 : Int32)) S.x S.b dX7_isAhead_17 ki_1 ?_
      refine lv_goto (tgt := 22) S.x S.b dX7_isAhead_18 rfl ?_
      obtain rfl := rt1 hf
      exact g_zret S hM rfl rfl dX7_isAhead_22
/-! SequenceBenchModel.divides()V -/
theorem hdX7_divides : gHd yX7_divides 0 := by decide +kernel
def gX7_divides_43 (N : Nat) (k7 : Int32 → Int32 → Int32 → MW → Option (MW)) (x1 : Int32) (x2 : Int32) (x3 : Int32) (x4 : Int32) (w : MW) : Option (MW) :=
  bd2 (gX7_areGroups N x3 w) fun r_7 w_6 =>
  if r_7 = 0 then (
  lt (x3 + (1 : Int32)) fun x3_8 =>
  k7 x1 x2 x3_8 w_6)
  else (
  lt (x3 + (1 : Int32)) fun x3_9 =>
  k7 x3 x4 x3_9 w_6)
def gX7_divides_69 (N : Nat) : Nat → Int32 → Int32 → MW → Option (MW)
  | 0, _, _, _ => none
  | n + 1, x1, x3, w =>
    if (w.1 4) ≤ x3 then (
    some w)
    else (
    if ((x1 >>> (x3 &&& 31)) &&& (1 : Int32)) = (1 : Int32) then (
    ck (w.1 8) 16 <|
    lt (setA w 6 (w.1 8).toNatClampNeg x3) fun w_11 =>
    lt (setF w_11 8 ((w_11.1 8) + (1 : Int32))) fun w_12 =>
    lt (x3 + (1 : Int32)) fun x3_13 =>
    gX7_divides_69 N n x1 x3_13 w_12)
    else (
    lt (x3 + (1 : Int32)) fun x3_10 =>
    gX7_divides_69 N n x1 x3_10 w))
def gX7_divides_7 (N : Nat) : Nat → Int32 → Int32 → Int32 → MW → Option (MW)
  | 0, _, _, _, _ => none
  | n + 1, x1, x2, x3, w =>
    if ((1 : Int32) <<< ((w.1 4) &&& 31)) ≤ x3 then (
    lt (setF w 8 (0 : Int32)) fun w_1 =>
    gX7_divides_69 N N x1 (0 : Int32) w_1)
    else (
    bd (gX7_countOf N x3) fun r_2 =>
    if r_2 < x2 then (
    gX7_divides_43 N (gX7_divides_7 N n) x1 x2 x3 r_2 w)
    else (
    if r_2 = x2 then (
    bd (gX7_isAhead x3 x1) fun r_4 =>
    if r_4 = 0 then (
    lt (x3 + (1 : Int32)) fun x3_5 =>
    gX7_divides_7 N n x1 x2 x3_5 w)
    else (
    gX7_divides_43 N (gX7_divides_7 N n) x1 x2 x3 r_2 w))
    else (
    lt (x3 + (1 : Int32)) fun x3_3 =>
    gX7_divides_7 N n x1 x2 x3_3 w)))
def gX7_divides (N : Nat) (w : MW) : Option (MW) :=
  gX7_divides_7 N N (0 : Int32) (17 : Int32) (1 : Int32) w
abbrev rmX7_divides : Room := { frames := 2, cells := 0, slots := 0, locals := 38 }
set_option maxHeartbeats 4000000 in
theorem wX7_divides_43 {p : Program} {l : Launch} {e : Env} {s : State} {m : MethodId} {args : Array Value} {below : List Frame} {meth : Method} {c : Code} {D : va_G} {T : Nat → ClassId} {A : Nat → Prop} {h : Nat} {ad : Nat → Nat} {wr : MW} {N : Nat} (S : gS p s m args meth c cX7_divides 5 (none) RX7 D T) {k7 : Int32 → Int32 → Int32 → MW → Option (MW)} (hk7 : ∀ (x1 : Int32) (x2 : Int32) (x3 : Int32) (w : MW) (H : Heap) (locs : List Loc) (ls : Array Slot), gM D A s.heap (mmW h ad (T 0) w) H locs → lv_has ls 5 [(0, .ref h), (1, .int x1), (2, .int x2), (3, .int x3)] → k7 x1 x2 x3 w = some wr → W p l e rmX7_divides s m args below meth c H locs 0 0 (MQ below (gQv D T A (mmW h ad (T 0) wr)) args s 0 0 A) (F0 m 7 ls [])) : ∀ (x1 : Int32) (x2 : Int32) (x3 : Int32) (x4 : Int32) (w : MW) (H : Heap) (locs : List Loc) (ls : Array Slot), gM D A s.heap (mmW h ad (T 0) w) H locs → lv_has ls 5 [(0, .ref h), (1, .int x1), (2, .int x2), (3, .int x3), (4, .int x4)] → gX7_divides_43 N k7 x1 x2 x3 x4 w = some wr → W p l e rmX7_divides s m args below meth c H locs 0 0 (MQ below (gQv D T A (mmW h ad (T 0) wr)) args s 0 0 A) (F0 m 43 ls []) := by
  intro x1 x2 x3 x4 w H locs ls hM hl hf
  refine lv_aload_n S.x S.b dX7_divides_43 rfl (lv_at hl 0 rfl) ?_
  refine lv_iload_n S.x S.b dX7_divides_44 rfl (lv_at hl 3 rfl) ?_
  obtain ⟨r_7, w_6, hc, hf⟩ := bd2_some hf
  refine mm_ci S hM hl [.int x3] rfl (metX7_areGroups hc) hdX7_areGroups q1571 q1573 qs42 q69 q1574 ⟨rfl, rfl⟩ ⟨rfl, rfl⟩ rfl rfl rfl ⟨Nat.zero_le _, Nat.zero_le _⟩ dX7_divides_45 (fun H locs hM => ?_)
  refine lv_if_eq (tgt := 56) S.x S.b dX7_divides_48 rfl (fun cn => ?_) (fun cn => ?_)
  · have hf := if_t cn hf
    obtain ⟨x3_8, ex, hf⟩ := lt_some hf
    refine g_inc S (x' := x3_8) (d := (1 : Int32)) hl (k := 3) rfl ki_1 ex dX7_divides_56 rfl (lv' := [(3, .int x3_8), (0, .ref h), (1, .int x1), (2, .int x2), (4, .int x4)]) rfl (fun ls hl => ?_)
    refine lv_goto (tgt := 7) S.x S.b dX7_divides_59 rfl ?_
    exact hk7 x1 x2 x3_8 w_6 _ _ _ hM (lv_sub hl [1, 2, 3, 0] rfl) hf
  · have hf := if_f cn hf
    refine lv_iload_n S.x S.b dX7_divides_51 rfl (lv_at hl 3 rfl) ?_
    refine g_istn S (x' := x3) rfl hl dX7_divides_52 rfl rfl (lv' := [(1, .int x3), (0, .ref h), (2, .int x2), (3, .int x3), (4, .int x4)]) rfl (fun ls hl => ?_)
    refine lv_iload S.x S.b dX7_divides_53 (lv_at hl 4 rfl) ?_
    refine g_istn S (x' := x4) rfl hl dX7_divides_55 rfl rfl (lv' := [(2, .int x4), (1, .int x3), (0, .ref h), (3, .int x3), (4, .int x4)]) rfl (fun ls hl => ?_)
    obtain ⟨x3_9, ex, hf⟩ := lt_some hf
    refine g_inc S (x' := x3_9) (d := (1 : Int32)) hl (k := 3) rfl ki_1 ex dX7_divides_56 rfl (lv' := [(3, .int x3_9), (2, .int x4), (1, .int x3), (0, .ref h), (4, .int x4)]) rfl (fun ls hl => ?_)
    refine lv_goto (tgt := 7) S.x S.b dX7_divides_59 rfl ?_
    exact hk7 x3 x4 x3_9 w_6 _ _ _ hM (lv_sub hl [3, 2, 1, 0] rfl) hf
set_option maxHeartbeats 4000000 in
theorem wX7_divides_69 {p : Program} {l : Launch} {e : Env} {s : State} {m : MethodId} {args : Array Value} {below : List Frame} {meth : Method} {c : Code} {D : va_G} {T : Nat → ClassId} {A : Nat → Prop} {h : Nat} {ad : Nat → Nat} {wr : MW} {N : Nat} (S : gS p s m args meth c cX7_divides 5 (none) RX7 D T) : ∀ (n : Nat) (x1 : Int32) (x3 : Int32) (w : MW) (H : Heap) (locs : List Loc) (ls : Array Slot), gM D A s.heap (mmW h ad (T 0) w) H locs → lv_has ls 5 [(0, .ref h), (1, .int x1), (3, .int x3)] → gX7_divides_69 N n x1 x3 w = some wr → W p l e rmX7_divides s m args below meth c H locs 0 0 (MQ below (gQv D T A (mmW h ad (T 0) wr)) args s 0 0 A) (F0 m 69 ls []) := by
  intro n
  induction n with
  | zero =>
    intro x1 x3 w H locs ls hM hl hf
    cases hf
  | succ n ih =>
    intro x1 x3 w H locs ls hM hl hf
    refine lv_iload_n S.x S.b dX7_divides_69 rfl (lv_at hl 2 rfl) ?_
    refine lv_aload_n S.x S.b dX7_divides_70 rfl (lv_at hl 0 rfl) ?_
    refine mm_g S hM 4 rfl q1452 rfl dX7_divides_71 ?_
    refine lv_icmp_ge (tgt := 112) S.x S.b dX7_divides_74 rfl (fun cn => ?_) (fun cn => ?_)
    · have hf := if_t cn hf
      obtain rfl := rt1 hf
      exact g_vret S hM dX7_divides_112
    · have hf := if_f cn hf
      refine lv_iload_n S.x S.b dX7_divides_77 rfl (lv_at hl 1 rfl) ?_
      refine lv_iload_n S.x S.b dX7_divides_78 rfl (lv_at hl 2 rfl) ?_
      refine lv_ishr S.x S.b dX7_divides_79 ?_
      refine lv_iconst (v := (1 : Int32)) S.x S.b dX7_divides_80 ki_1 ?_
      refine lv_iand S.x S.b dX7_divides_81 ?_
      refine lv_iconst (v := (1 : Int32)) S.x S.b dX7_divides_82 ki_1 ?_
      refine lv_icmp_ne (tgt := 106) S.x S.b dX7_divides_83 rfl (fun cn => ?_) (fun cn => ?_)
      · have hf := if_f cn hf
        obtain ⟨x3_10, ex, hf⟩ := lt_some hf
        refine g_inc S (x' := x3_10) (d := (1 : Int32)) hl (k := 2) rfl ki_1 ex dX7_divides_106 rfl (lv' := [(3, .int x3_10), (0, .ref h), (1, .int x1)]) rfl (fun ls hl => ?_)
        refine lv_goto (tgt := 69) S.x S.b dX7_divides_109 rfl ?_
        exact ih x1 x3_10 w _ _ _ hM (lv_sub hl [1, 2, 0] rfl) hf
      · have hf := if_t cn hf
        refine lv_aload_n S.x S.b dX7_divides_86 rfl (lv_at hl 0 rfl) ?_
        refine mm_g S hM 9 rfl q1457 rfl dX7_divides_87 ?_
        refine lv_aload_n S.x S.b dX7_divides_90 rfl (lv_at hl 0 rfl) ?_
        refine mm_g S hM 8 rfl q1456 rfl dX7_divides_91 ?_
        refine lv_iload_n S.x S.b dX7_divides_94 rfl (lv_at hl 2 rfl) ?_
        obtain ⟨hi, hf⟩ := ck_some hf
        obtain ⟨w_11, ew, hf⟩ := lt_some hf
        refine mm_st S hM 6 rfl hi ew dX7_divides_95 (fun H locs hM => ?_)
        refine lv_aload_n S.x S.b dX7_divides_96 rfl (lv_at hl 0 rfl) ?_
        refine lv_dup S.x S.b dX7_divides_97 rfl ?_
        refine mm_g S hM 8 rfl q1456 rfl dX7_divides_98 ?_
        refine lv_iconst (v := (1 : Int32)) S.x S.b dX7_divides_101 ki_1 ?_
        refine lv_iadd S.x S.b dX7_divides_102 ?_
        obtain ⟨w_12, ew, hf⟩ := lt_some hf
        refine mm_p S hM 8 rfl ew q1456 dX7_divides_103 (fun H locs hM => ?_)
        obtain ⟨x3_13, ex, hf⟩ := lt_some hf
        refine g_inc S (x' := x3_13) (d := (1 : Int32)) hl (k := 2) rfl ki_1 ex dX7_divides_106 rfl (lv' := [(3, .int x3_13), (0, .ref h), (1, .int x1)]) rfl (fun ls hl => ?_)
        refine lv_goto (tgt := 69) S.x S.b dX7_divides_109 rfl ?_
        exact ih x1 x3_13 w_12 _ _ _ hM (lv_sub hl [1, 2, 0] rfl) hf
set_option maxHeartbeats 4000000 in
theorem wX7_divides_7 {p : Program} {l : Launch} {e : Env} {s : State} {m : MethodId} {args : Array Value} {below : List Frame} {meth : Method} {c : Code} {D : va_G} {T : Nat → ClassId} {A : Nat → Prop} {h : Nat} {ad : Nat → Nat} {wr : MW} {N : Nat} (S : gS p s m args meth c cX7_divides 5 (none) RX7 D T) : ∀ (n : Nat) (x1 : Int32) (x2 : Int32) (x3 : Int32) (w : MW) (H : Heap) (locs : List Loc) (ls : Array Slot), gM D A s.heap (mmW h ad (T 0) w) H locs → lv_has ls 5 [(0, .ref h), (1, .int x1), (2, .int x2), (3, .int x3)] → gX7_divides_7 N n x1 x2 x3 w = some wr → W p l e rmX7_divides s m args below meth c H locs 0 0 (MQ below (gQv D T A (mmW h ad (T 0) wr)) args s 0 0 A) (F0 m 7 ls []) := by
  intro n
  induction n with
  | zero =>
    intro x1 x2 x3 w H locs ls hM hl hf
    cases hf
  | succ n ih =>
    intro x1 x2 x3 w H locs ls hM hl hf
    refine lv_iload_n S.x S.b dX7_divides_7 rfl (lv_at hl 3 rfl) ?_
    refine lv_iconst (v := (1 : Int32)) S.x S.b dX7_divides_8 ki_1 ?_
    refine lv_aload_n S.x S.b dX7_divides_9 rfl (lv_at hl 0 rfl) ?_
    refine mm_g S hM 4 rfl q1452 rfl dX7_divides_10 ?_
    refine lv_ishl S.x S.b dX7_divides_13 ?_
    refine lv_icmp_ge (tgt := 62) S.x S.b dX7_divides_14 rfl (fun cn => ?_) (fun cn => ?_)
    · have hf := if_t cn hf
      refine lv_aload_n S.x S.b dX7_divides_62 rfl (lv_at hl 0 rfl) ?_
      refine lv_iconst (v := (0 : Int32)) S.x S.b dX7_divides_63 ki_0 ?_
      obtain ⟨w_1, ew, hf⟩ := lt_some hf
      refine mm_p S hM 8 rfl ew q1456 dX7_divides_64 (fun H locs hM => ?_)
      refine lv_iconst (v := (0 : Int32)) S.x S.b dX7_divides_67 ki_0 ?_
      refine g_istn S (x' := (0 : Int32)) rfl hl dX7_divides_68 rfl rfl (lv' := [(3, .int (0 : Int32)), (0, .ref h), (1, .int x1), (2, .int x2)]) rfl (fun ls hl => ?_)
      exact wX7_divides_69 S N x1 (0 : Int32) w_1 _ _ _ hM (lv_sub hl [1, 2, 0] rfl) hf
    · have hf := if_f cn hf
      refine lv_iload_n S.x S.b dX7_divides_17 rfl (lv_at hl 3 rfl) ?_
      obtain ⟨r_2, hc, hf⟩ := bd_some hf
      refine gg_si S hM hl [.int x3] (metX7_countOf hc) hdX7_countOf q1565 q1566 q69 q1567 ⟨rfl, rfl⟩ ⟨rfl, rfl⟩ rfl rfl rfl ⟨Nat.zero_le _, Nat.zero_le _⟩ dX7_divides_18 (fun H locs hM => ?_)
      refine g_ist S (x' := r_2) rfl hl dX7_divides_21 rfl (lv' := [(4, .int r_2), (0, .ref h), (1, .int x1), (2, .int x2), (3, .int x3)]) rfl (fun ls hl => ?_)
      refine lv_iload S.x S.b dX7_divides_23 (lv_at hl 0 rfl) ?_
      refine lv_iload_n S.x S.b dX7_divides_25 rfl (lv_at hl 3 rfl) ?_
      refine lv_icmp_lt (tgt := 43) S.x S.b dX7_divides_26 rfl (fun cn => ?_) (fun cn => ?_)
      · have hf := if_t cn hf
        exact wX7_divides_43 S ih x1 x2 x3 r_2 w _ _ _ hM (lv_sub hl [1, 2, 3, 4, 0] rfl) hf
      · have hf := if_f cn hf
        refine lv_iload S.x S.b dX7_divides_29 (lv_at hl 0 rfl) ?_
        refine lv_iload_n S.x S.b dX7_divides_31 rfl (lv_at hl 3 rfl) ?_
        refine lv_icmp_ne (tgt := 56) S.x S.b dX7_divides_32 rfl (fun cn => ?_) (fun cn => ?_)
        · have hf := if_f cn hf
          obtain ⟨x3_3, ex, hf⟩ := lt_some hf
          refine g_inc S (x' := x3_3) (d := (1 : Int32)) hl (k := 4) rfl ki_1 ex dX7_divides_56 rfl (lv' := [(3, .int x3_3), (4, .int r_2), (0, .ref h), (1, .int x1), (2, .int x2)]) rfl (fun ls hl => ?_)
          refine lv_goto (tgt := 7) S.x S.b dX7_divides_59 rfl ?_
          exact ih x1 x2 x3_3 w _ _ _ hM (lv_sub hl [2, 3, 4, 0] rfl) hf
        · have hf := if_t cn hf
          refine lv_iload_n S.x S.b dX7_divides_35 rfl (lv_at hl 4 rfl) ?_
          refine lv_iload_n S.x S.b dX7_divides_36 rfl (lv_at hl 2 rfl) ?_
          obtain ⟨r_4, hc, hf⟩ := bd_some hf
          refine gg_si S hM hl [.int x3, .int x1] (metX7_isAhead hc) hdX7_isAhead q1568 q1569 q69 q1570 ⟨rfl, rfl⟩ ⟨rfl, rfl⟩ rfl rfl rfl ⟨Nat.zero_le _, Nat.zero_le _⟩ dX7_divides_37 (fun H locs hM => ?_)
          refine lv_if_eq (tgt := 56) S.x S.b dX7_divides_40 rfl (fun cn => ?_) (fun cn => ?_)
          · have hf := if_t cn hf
            obtain ⟨x3_5, ex, hf⟩ := lt_some hf
            refine g_inc S (x' := x3_5) (d := (1 : Int32)) hl (k := 4) rfl ki_1 ex dX7_divides_56 rfl (lv' := [(3, .int x3_5), (4, .int r_2), (0, .ref h), (1, .int x1), (2, .int x2)]) rfl (fun ls hl => ?_)
            refine lv_goto (tgt := 7) S.x S.b dX7_divides_59 rfl ?_
            exact ih x1 x2 x3_5 w _ _ _ hM (lv_sub hl [2, 3, 4, 0] rfl) hf
          · have hf := if_f cn hf
            exact wX7_divides_43 S ih x1 x2 x3 r_2 w _ _ _ hM (lv_sub hl [1, 2, 3, 4, 0] rfl) hf
set_option maxHeartbeats 4000000 in
theorem metX7_divides {l : Launch} {D : va_G} {T : Nat → ClassId} {h : Nat} {ad : Nat → Nat} {wr : MW} {N : Nat} {w : MW} (hf : gX7_divides N w = some wr) (sz : Nat) : MetV l yX7_divides (ws_ yX7_divides cX7_divides 5 (none)) rmX7_divides D T (mmW h ad (T 0) w) sz [.ref h] (mmW h ad (T 0) wr) := by
  refine g_entry (Qc := fun A => gQv D T A (mmW h ad (T 0) wr)) (by decide) rfl ?_
  intro p e s m below meth c ls S hM hl
  have hl : lv_has ls 5 [(0, .ref h)] := hl
  refine lv_iconst (v := (0 : Int32)) S.x S.b dX7_divides_0 ki_0 ?_
  refine g_istn S (x' := (0 : Int32)) rfl hl dX7_divides_1 rfl rfl (lv' := [(1, .int (0 : Int32)), (0, .ref h)]) rfl (fun ls hl => ?_)
  refine lv_bipush (v := (17 : Int32)) S.x S.b dX7_divides_2 kb_17 ?_
  refine g_istn S (x' := (17 : Int32)) rfl hl dX7_divides_4 rfl rfl (lv' := [(2, .int (17 : Int32)), (1, .int (0 : Int32)), (0, .ref h)]) rfl (fun ls hl => ?_)
  refine lv_iconst (v := (1 : Int32)) S.x S.b dX7_divides_5 ki_1 ?_
  refine g_istn S (x' := (1 : Int32)) rfl hl dX7_divides_6 rfl rfl (lv' := [(3, .int (1 : Int32)), (2, .int (17 : Int32)), (1, .int (0 : Int32)), (0, .ref h)]) rfl (fun ls hl => ?_)
  exact wX7_divides_7 S N (0 : Int32) (17 : Int32) (1 : Int32) w _ _ _ hM (lv_sub hl [3, 2, 1, 0] rfl) hf
