/-! constants -/
set_option maxRecDepth 100000
/-! SequenceBench$Step.moves()I -/
theorem hdX10_moves : gHd yX10_moves 0 := by decide +kernel
def gX10_moves (pl : Int32) (mi : Int32) (pa : Int32) : Option (Int32) :=
  some (pl ||| mi)
abbrev rmX10_moves : Room := { frames := 1, cells := 0, slots := 0, locals := 12 }
set_option maxHeartbeats 4000000 in
theorem metX10_moves {l : Launch} {D : va_G} {T : Nat → ClassId} {sx : Nat} {ws : va_W} {rr : Int32} {pl : Int32} {mi : Int32} {pa : Int32} (hS : ∃ q0 : Nat, ws[q0]? = some (sx, .inr (8, [.int pl, .int mi, .int pa]))) (hf : gX10_moves pl mi pa = some rr) (sz : Nat) : MetI l yX10_moves (ws_ yX10_moves cX10_moves 1 (some .int)) rmX10_moves D T (ws) sz [.ref sx] rr (ws) := by
  refine g_entry (Qc := fun A => gQi D T A rr (ws)) (by decide) rfl ?_
  intro p e s m below meth c ls S hM hl
  have hl : lv_has ls 1 [(0, .ref sx)] := hl
  refine lv_aload_n S.x S.b dX10_moves_0 rfl (lv_at hl 0 rfl) ?_
  refine st_g S hM hS 0 rfl (Or.inl q806) rfl dX10_moves_1 ?_
  refine lv_aload_n S.x S.b dX10_moves_4 rfl (lv_at hl 0 rfl) ?_
  refine st_g S hM hS 1 rfl (Or.inl q809) rfl dX10_moves_5 ?_
  refine lv_ior S.x S.b dX10_moves_8 ?_
  obtain rfl := rt1 hf
  exact g_iret S hM rfl dX10_moves_9
/-! SequenceBench.has(II)Z -/
theorem hdX1_has : gHd yX1_has 2 := by decide +kernel
def gX1_has (x0 : Int32) (x1 : Int32) : Option (Int32) :=
  if ((x0 >>> (x1 &&& 31)) &&& (1 : Int32)) = (1 : Int32) then (
  some (1 : Int32))
  else (
  some (0 : Int32))
abbrev rmX1_has : Room := { frames := 1, cells := 0, slots := 0, locals := 12 }
set_option maxHeartbeats 4000000 in
theorem metX1_has {l : Launch} {D : va_G} {T : Nat → ClassId} {rr : Int32} {x0 : Int32} {x1 : Int32} (hf : gX1_has x0 x1 = some rr) (sz : Nat) : MetI l yX1_has (ws_ yX1_has cX1_has 2 (some .boolean)) rmX1_has D T ([]) sz [.int x0, .int x1] rr ([]) := by
  refine g_entry (Qc := fun A => gQi D T A rr ([])) (by decide) rfl ?_
  intro p e s m below meth c ls S hM hl
  have hl : lv_has ls 2 [(0, .int x0), (1, .int x1)] := hl
  refine lv_iload_n S.x S.b dX1_has_0 rfl (lv_at hl 0 rfl) ?_
  refine lv_iload_n S.x S.b dX1_has_1 rfl (lv_at hl 1 rfl) ?_
  refine lv_ishr S.x S.b dX1_has_2 ?_
  refine lv_iconst (v := (1 : Int32)) S.x S.b dX1_has_3 ki_1 ?_
  refine lv_iand S.x S.b dX1_has_4 ?_
  refine lv_iconst (v := (1 : Int32)) S.x S.b dX1_has_5 ki_1 ?_
  refine lv_icmp_ne (tgt := 13) S.x S.b dX1_has_6 rfl (fun cn => ?_) (fun cn => ?_)
  · have hf := if_f cn hf
    refine lv_iconst (v := (0 : Int32)) S.x S.b dX1_has_13 ki_0 ?_
    obtain rfl := rt1 hf
    exact g_zret S hM rfl rfl dX1_has_14
  · have hf := if_t cn hf
    refine lv_iconst (v := (1 : Int32)) S.x S.b dX1_has_9 ki_1 ?_
    refine lv_goto (tgt := 14) S.x S.b dX1_has_10 rfl ?_
    obtain rfl := rt1 hf
    exact g_zret S hM rfl rfl dX1_has_14
/-! SequenceBench$Step.direction(I)I -/
theorem hdX10_direction : gHd yX10_direction 1 := by decide +kernel
def gX10_direction (pl : Int32) (mi : Int32) (pa : Int32) (x1 : Int32) : Option (Int32) :=
  bd (gX1_has pl x1) fun r_1 =>
  if r_1 = 0 then (
  bd (gX1_has mi x1) fun r_2 =>
  if r_2 = 0 then (
  some (0 : Int32))
  else (
  some (-1 : Int32)))
  else (
  some (1 : Int32))
abbrev rmX10_direction : Room := { frames := 2, cells := 0, slots := 0, locals := 33 }
set_option maxHeartbeats 4000000 in
theorem metX10_direction {l : Launch} {D : va_G} {T : Nat → ClassId} {sx : Nat} {ws : va_W} {rr : Int32} {x1 : Int32} {pl : Int32} {mi : Int32} {pa : Int32} (hS : ∃ q0 : Nat, ws[q0]? = some (sx, .inr (8, [.int pl, .int mi, .int pa]))) (hf : gX10_direction pl mi pa x1 = some rr) (sz : Nat) : MetI l yX10_direction (ws_ yX10_direction cX10_direction 2 (some .int)) rmX10_direction D T (ws) sz [.ref sx, .int x1] rr (ws) := by
  refine g_entry (Qc := fun A => gQi D T A rr (ws)) (by decide) rfl ?_
  intro p e s m below meth c ls S hM hl
  have hl : lv_has ls 2 [(0, .ref sx), (1, .int x1)] := hl
  refine lv_aload_n S.x S.b dX10_direction_0 rfl (lv_at hl 0 rfl) ?_
  refine st_g S hM hS 0 rfl (Or.inl q806) rfl dX10_direction_1 ?_
  refine lv_iload_n S.x S.b dX10_direction_4 rfl (lv_at hl 1 rfl) ?_
  obtain ⟨r_1, hc, hf⟩ := bd_some hf
  refine gn_si S hM hl [.int pl, .int x1] (metX1_has hc) hdX1_has q1111 q791 q62 q792 ⟨rfl, rfl⟩ ⟨rfl, rfl⟩ rfl rfl rfl ⟨Nat.zero_le _, Nat.zero_le _⟩ dX10_direction_5 (fun H locs hM => ?_)
  refine lv_if_eq (tgt := 15) S.x S.b dX10_direction_8 rfl (fun cn => ?_) (fun cn => ?_)
  · have hf := if_t cn hf
    refine lv_aload_n S.x S.b dX10_direction_15 rfl (lv_at hl 0 rfl) ?_
    refine st_g S hM hS 1 rfl (Or.inl q809) rfl dX10_direction_16 ?_
    refine lv_iload_n S.x S.b dX10_direction_19 rfl (lv_at hl 1 rfl) ?_
    obtain ⟨r_2, hc, hf⟩ := bd_some hf
    refine gn_si S hM hl [.int mi, .int x1] (metX1_has hc) hdX1_has q1111 q791 q62 q792 ⟨rfl, rfl⟩ ⟨rfl, rfl⟩ rfl rfl rfl ⟨Nat.zero_le _, Nat.zero_le _⟩ dX10_direction_20 (fun H locs hM => ?_)
    refine lv_if_eq (tgt := 30) S.x S.b dX10_direction_23 rfl (fun cn => ?_) (fun cn => ?_)
    · have hf := if_t cn hf
      refine lv_iconst (v := (0 : Int32)) S.x S.b dX10_direction_30 ki_0 ?_
      obtain rfl := rt1 hf
      exact g_iret S hM rfl dX10_direction_31
    · have hf := if_f cn hf
      refine lv_iconst (v := (-1 : Int32)) S.x S.b dX10_direction_26 ki_m1 ?_
      refine lv_goto (tgt := 31) S.x S.b dX10_direction_27 rfl ?_
      obtain rfl := rt1 hf
      exact g_iret S hM rfl dX10_direction_31
  · have hf := if_f cn hf
    refine lv_iconst (v := (1 : Int32)) S.x S.b dX10_direction_11 ki_1 ?_
    refine lv_goto (tgt := 31) S.x S.b dX10_direction_12 rfl ?_
    obtain rfl := rt1 hf
    exact g_iret S hM rfl dX10_direction_31
/-! SequenceBench$Step.isMade(I)Z -/
theorem hdX10_isMade : gHd yX10_isMade 1 := by decide +kernel
def gX10_isMade (pl : Int32) (mi : Int32) (pa : Int32) (x1 : Int32) : Option (Int32) :=
  if pa = 0 then (
  if (x1 &&& pl) = pl then (
  if (x1 &&& mi) = 0 then (
  some (1 : Int32))
  else (
  some (0 : Int32)))
  else (
  some (0 : Int32)))
  else (
  some (0 : Int32))
abbrev rmX10_isMade : Room := { frames := 1, cells := 0, slots := 0, locals := 12 }
set_option maxHeartbeats 4000000 in
theorem metX10_isMade {l : Launch} {D : va_G} {T : Nat → ClassId} {sx : Nat} {ws : va_W} {rr : Int32} {x1 : Int32} {pl : Int32} {mi : Int32} {pa : Int32} (hS : ∃ q0 : Nat, ws[q0]? = some (sx, .inr (8, [.int pl, .int mi, .int pa]))) (hf : gX10_isMade pl mi pa x1 = some rr) (sz : Nat) : MetI l yX10_isMade (ws_ yX10_isMade cX10_isMade 2 (some .boolean)) rmX10_isMade D T (ws) sz [.ref sx, .int x1] rr (ws) := by
  refine g_entry (Qc := fun A => gQi D T A rr (ws)) (by decide) rfl ?_
  intro p e s m below meth c ls S hM hl
  have hl : lv_has ls 2 [(0, .ref sx), (1, .int x1)] := hl
  refine lv_aload_n S.x S.b dX10_isMade_0 rfl (lv_at hl 0 rfl) ?_
  refine st_g S hM hS 2 rfl (Or.inl q812) rfl dX10_isMade_1 ?_
  refine lv_if_ne (tgt := 33) S.x S.b dX10_isMade_4 rfl (fun cn => ?_) (fun cn => ?_)
  · have hf := if_f cn hf
    refine lv_iconst (v := (0 : Int32)) S.x S.b dX10_isMade_33 ki_0 ?_
    obtain rfl := rt1 hf
    exact g_zret S hM rfl rfl dX10_isMade_34
  · have hf := if_t cn hf
    refine lv_iload_n S.x S.b dX10_isMade_7 rfl (lv_at hl 1 rfl) ?_
    refine lv_aload_n S.x S.b dX10_isMade_8 rfl (lv_at hl 0 rfl) ?_
    refine st_g S hM hS 0 rfl (Or.inl q806) rfl dX10_isMade_9 ?_
    refine lv_iand S.x S.b dX10_isMade_12 ?_
    refine lv_aload_n S.x S.b dX10_isMade_13 rfl (lv_at hl 0 rfl) ?_
    refine st_g S hM hS 0 rfl (Or.inl q806) rfl dX10_isMade_14 ?_
    refine lv_icmp_ne (tgt := 33) S.x S.b dX10_isMade_17 rfl (fun cn => ?_) (fun cn => ?_)
    · have hf := if_f cn hf
      refine lv_iconst (v := (0 : Int32)) S.x S.b dX10_isMade_33 ki_0 ?_
      obtain rfl := rt1 hf
      exact g_zret S hM rfl rfl dX10_isMade_34
    · have hf := if_t cn hf
      refine lv_iload_n S.x S.b dX10_isMade_20 rfl (lv_at hl 1 rfl) ?_
      refine lv_aload_n S.x S.b dX10_isMade_21 rfl (lv_at hl 0 rfl) ?_
      refine st_g S hM hS 1 rfl (Or.inl q809) rfl dX10_isMade_22 ?_
      refine lv_iand S.x S.b dX10_isMade_25 ?_
      refine lv_if_ne (tgt := 33) S.x S.b dX10_isMade_26 rfl (fun cn => ?_) (fun cn => ?_)
      · have hf := if_f cn hf
        refine lv_iconst (v := (0 : Int32)) S.x S.b dX10_isMade_33 ki_0 ?_
        obtain rfl := rt1 hf
        exact g_zret S hM rfl rfl dX10_isMade_34
      · have hf := if_t cn hf
        refine lv_iconst (v := (1 : Int32)) S.x S.b dX10_isMade_29 ki_1 ?_
        refine lv_goto (tgt := 34) S.x S.b dX10_isMade_30 rfl ?_
        obtain rfl := rt1 hf
        exact g_zret S hM rfl rfl dX10_isMade_34
/-! SequenceBench$Sequence.before(I)I -/
theorem hdX11_before : gHd yX11_before 1 := by decide +kernel
def gX11_before (ns : Nat) (q : MW) (x1 : Int32) : Option (Int32) :=
  if x1 = 0 then (
  some ((Int32.ofNat ns) - (1 : Int32)))
  else (
  some (x1 - (1 : Int32)))
abbrev rmX11_before : Room := { frames := 1, cells := 0, slots := 0, locals := 12 }
set_option maxHeartbeats 4000000 in
theorem metX11_before {l : Launch} {D : va_G} {T : Nat → ClassId} {b sa : Nat → Nat} {ws : va_W} {cv : Value} {rr : Int32} {x1 : Int32} {ns : Nat} {q : MW} (hQ : SqI T b sa ns q cv ws) (hf : gX11_before ns q x1 = some rr) (sz : Nat) : MetI l yX11_before (ws_ yX11_before cX11_before 2 (some .int)) rmX11_before D T (ws) sz [.ref (b 0), .int x1] rr (ws) := by
  refine g_entry (Qc := fun A => gQi D T A rr (ws)) (by decide) rfl ?_
  intro p e s m below meth c ls S hM hl
  have hl : lv_has ls 2 [(0, .ref (b 0)), (1, .int x1)] := hl
  refine lv_iload_n S.x S.b dX11_before_0 rfl (lv_at hl 1 rfl) ?_
  refine lv_if_ne (tgt := 14) S.x S.b dX11_before_1 rfl (fun cn => ?_) (fun cn => ?_)
  · have hf := if_f cn hf
    refine lv_iload_n S.x S.b dX11_before_14 rfl (lv_at hl 1 rfl) ?_
    refine lv_iconst (v := (1 : Int32)) S.x S.b dX11_before_15 ki_1 ?_
    refine lv_isub S.x S.b dX11_before_16 ?_
    obtain rfl := rt1 hf
    exact g_iret S hM rfl dX11_before_17
  · have hf := if_t cn hf
    refine lv_aload_n S.x S.b dX11_before_4 rfl (lv_at hl 0 rfl) ?_
    refine sq_g S hM hQ 0 rfl (Or.inl q915) rfl dX11_before_5 ?_
    refine sq_len S hM hQ dX11_before_8 ?_
    refine lv_iconst (v := (1 : Int32)) S.x S.b dX11_before_9 ki_1 ?_
    refine lv_isub S.x S.b dX11_before_10 ?_
    refine lv_goto (tgt := 17) S.x S.b dX11_before_11 rfl ?_
    obtain rfl := rt1 hf
    exact g_iret S hM rfl dX11_before_17
/-! SequenceBench$Sequence.after(I)I -/
theorem hdX11_after : gHd yX11_after 1 := by decide +kernel
def gX11_after (ns : Nat) (q : MW) (x1 : Int32) : Option (Int32) :=
  if x1 = ((Int32.ofNat ns) - (1 : Int32)) then (
  some (0 : Int32))
  else (
  some (x1 + (1 : Int32)))
abbrev rmX11_after : Room := { frames := 1, cells := 0, slots := 0, locals := 12 }
set_option maxHeartbeats 4000000 in
theorem metX11_after {l : Launch} {D : va_G} {T : Nat → ClassId} {b sa : Nat → Nat} {ws : va_W} {cv : Value} {rr : Int32} {x1 : Int32} {ns : Nat} {q : MW} (hQ : SqI T b sa ns q cv ws) (hf : gX11_after ns q x1 = some rr) (sz : Nat) : MetI l yX11_after (ws_ yX11_after cX11_after 2 (some .int)) rmX11_after D T (ws) sz [.ref (b 0), .int x1] rr (ws) := by
  refine g_entry (Qc := fun A => gQi D T A rr (ws)) (by decide) rfl ?_
  intro p e s m below meth c ls S hM hl
  have hl : lv_has ls 2 [(0, .ref (b 0)), (1, .int x1)] := hl
  refine lv_iload_n S.x S.b dX11_after_0 rfl (lv_at hl 1 rfl) ?_
  refine lv_aload_n S.x S.b dX11_after_1 rfl (lv_at hl 0 rfl) ?_
  refine sq_g S hM hQ 0 rfl (Or.inl q915) rfl dX11_after_2 ?_
  refine sq_len S hM hQ dX11_after_5 ?_
  refine lv_iconst (v := (1 : Int32)) S.x S.b dX11_after_6 ki_1 ?_
  refine lv_isub S.x S.b dX11_after_7 ?_
  refine lv_icmp_ne (tgt := 15) S.x S.b dX11_after_8 rfl (fun cn => ?_) (fun cn => ?_)
  · have hf := if_f cn hf
    refine lv_iload_n S.x S.b dX11_after_15 rfl (lv_at hl 1 rfl) ?_
    refine lv_iconst (v := (1 : Int32)) S.x S.b dX11_after_16 ki_1 ?_
    refine lv_iadd S.x S.b dX11_after_17 ?_
    obtain rfl := rt1 hf
    exact g_iret S hM rfl dX11_after_18
  · have hf := if_t cn hf
    refine lv_iconst (v := (0 : Int32)) S.x S.b dX11_after_11 ki_0 ?_
    refine lv_goto (tgt := 18) S.x S.b dX11_after_12 rfl ?_
    obtain rfl := rt1 hf
    exact g_iret S hM rfl dX11_after_18
/-! SequenceBench$Sequence.cylinders()I -/
theorem hdX11_cylinders : gHd yX11_cylinders 0 := by decide +kernel
def gX11_cylinders_13 (N : Nat) (ns : Nat) (q : MW) : Nat → Int32 → Int32 → Int32 → Option (Int32)
  | 0, _, _, _ => none
  | n + 1, x1, x3, x4 =>
    if x3 ≤ x4 then (
    some x1)
    else (
    ck x4 ns <|
    bd (gX10_moves (q.2 0 x4.toNatClampNeg) (q.2 1 x4.toNatClampNeg) (q.2 2 x4.toNatClampNeg)) fun r_4 =>
    lt ((x1 ||| r_4)) fun x1_5 =>
    lt (x4 + (1 : Int32)) fun x4_6 =>
    gX11_cylinders_13 N ns q n x1_5 x3 x4_6)
def gX11_cylinders (N : Nat) (ns : Nat) (q : MW) : Option (Int32) :=
  lt ((Int32.ofNat ns)) fun x3_1 =>
  gX11_cylinders_13 N ns q N (0 : Int32) x3_1 (0 : Int32)
abbrev rmX11_cylinders : Room := { frames := 2, cells := 0, slots := 0, locals := 32 }
set_option maxHeartbeats 4000000 in
theorem wX11_cylinders_13 {p : Program} {l : Launch} {e : Env} {s : State} {m : MethodId} {args : Array Value} {below : List Frame} {meth : Method} {c : Code} {D : va_G} {T : Nat → ClassId} {A : Nat → Prop} {b sa : Nat → Nat} {ws : va_W} {cv : Value} {rr : Int32} {N : Nat} {ns : Nat} {q : MW} (S : gS p s m args meth c cX11_cylinders 6 (some .int) RX11 D T) (hQ : SqI T b sa ns q cv ws) : ∀ (n : Nat) (x1 : Int32) (x3 : Int32) (x4 : Int32) (H : Heap) (locs : List Loc) (ls : Array Slot), gM D A s.heap (ws) H locs → lv_has ls 6 [(1, .int x1), (2, .ref (b 1)), (3, .int x3), (4, .int x4)] → gX11_cylinders_13 N ns q n x1 x3 x4 = some rr → W p l e rmX11_cylinders s m args below meth c H locs 0 0 (MQ below (gQi D T A rr (ws)) args s 0 0 A) (F0 m 13 ls []) := by
  intro n
  induction n with
  | zero =>
    intro x1 x3 x4 H locs ls hM hl hf
    cases hf
  | succ n ih =>
    intro x1 x3 x4 H locs ls hM hl hf
    refine lv_iload S.x S.b dX11_cylinders_13 (lv_at hl 3 rfl) ?_
    refine lv_iload_n S.x S.b dX11_cylinders_15 rfl (lv_at hl 2 rfl) ?_
    refine lv_icmp_ge (tgt := 39) S.x S.b dX11_cylinders_16 rfl (fun cn => ?_) (fun cn => ?_)
    · have hf := if_t cn hf
      refine lv_iload_n S.x S.b dX11_cylinders_39 rfl (lv_at hl 0 rfl) ?_
      obtain rfl := rt1 hf
      exact g_iret S hM rfl dX11_cylinders_40
    · have hf := if_f cn hf
      refine lv_aload_n S.x S.b dX11_cylinders_19 rfl (lv_at hl 1 rfl) ?_
      refine lv_iload S.x S.b dX11_cylinders_20 (lv_at hl 3 rfl) ?_
      obtain ⟨hi_2, hf⟩ := ck_some hf
      refine sq_ald S hM hQ hi_2 dX11_cylinders_22 ?_
      refine lv_astore (lv' := [(5, .ref (sa x4.toNatClampNeg)), (1, .int x1), (2, .ref (b 1)), (3, .int x3), (4, .int x4)]) S.x S.b dX11_cylinders_23 hl (by decide) rfl (fun ls hl => ?_)
      refine lv_iload_n S.x S.b dX11_cylinders_25 rfl (lv_at hl 1 rfl) ?_
      refine lv_aload S.x S.b dX11_cylinders_26 (lv_at hl 0 rfl) ?_
      obtain ⟨r_4, hc, hf⟩ := bd_some hf
      refine gw_ci S hM hl [] 8 rfl (hQ.st hi_2) (metX10_moves (hQ.stx hi_2) hc) hdX10_moves q211 q212 q213 q92 q214 ⟨rfl, rfl⟩ ⟨rfl, rfl⟩ rfl rfl rfl ⟨Nat.zero_le _, Nat.zero_le _⟩ dX11_cylinders_28 (fun H locs hM => ?_)
      refine lv_ior S.x S.b dX11_cylinders_31 ?_
      obtain ⟨x1_5, ex, hf⟩ := lt_some hf
      refine g_istn S (x' := x1_5) ex hl dX11_cylinders_32 rfl rfl (lv' := [(1, .int x1_5), (5, .ref (sa x4.toNatClampNeg)), (2, .ref (b 1)), (3, .int x3), (4, .int x4)]) rfl (fun ls hl => ?_)
      obtain ⟨x4_6, ex, hf⟩ := lt_some hf
      refine g_inc S (x' := x4_6) (d := (1 : Int32)) hl (k := 4) rfl ki_1 ex dX11_cylinders_33 rfl (lv' := [(4, .int x4_6), (1, .int x1_5), (5, .ref (sa x4.toNatClampNeg)), (2, .ref (b 1)), (3, .int x3)]) rfl (fun ls hl => ?_)
      refine lv_goto (tgt := 13) S.x S.b dX11_cylinders_36 rfl ?_
      exact ih x1_5 x3 x4_6 _ _ _ hM (lv_sub hl [1, 3, 4, 0] rfl) hf
set_option maxHeartbeats 4000000 in
theorem metX11_cylinders {l : Launch} {D : va_G} {T : Nat → ClassId} {b sa : Nat → Nat} {ws : va_W} {cv : Value} {rr : Int32} {N : Nat} {ns : Nat} {q : MW} (hQ : SqI T b sa ns q cv ws) (hf : gX11_cylinders N ns q = some rr) (sz : Nat) : MetI l yX11_cylinders (ws_ yX11_cylinders cX11_cylinders 6 (some .int)) rmX11_cylinders D T (ws) sz [.ref (b 0)] rr (ws) := by
  refine g_entry (Qc := fun A => gQi D T A rr (ws)) (by decide) rfl ?_
  intro p e s m below meth c ls S hM hl
  have hl : lv_has ls 6 [(0, .ref (b 0))] := hl
  refine lv_iconst (v := (0 : Int32)) S.x S.b dX11_cylinders_0 ki_0 ?_
  refine g_istn S (x' := (0 : Int32)) rfl hl dX11_cylinders_1 rfl rfl (lv' := [(1, .int (0 : Int32)), (0, .ref (b 0))]) rfl (fun ls hl => ?_)
  refine lv_aload_n S.x S.b dX11_cylinders_2 rfl (lv_at hl 1 rfl) ?_
  refine sq_g S hM hQ 0 rfl (Or.inl q915) rfl dX11_cylinders_3 ?_
  refine lv_astore_n (lv' := [(2, .ref (b 1)), (1, .int (0 : Int32)), (0, .ref (b 0))]) S.x S.b dX11_cylinders_6 rfl hl (by decide) rfl (fun ls hl => ?_)
  refine lv_aload_n S.x S.b dX11_cylinders_7 rfl (lv_at hl 0 rfl) ?_
  refine sq_len S hM hQ dX11_cylinders_8 ?_
  obtain ⟨x3_1, ex, hf⟩ := lt_some hf
  refine g_istn S (x' := x3_1) ex hl dX11_cylinders_9 rfl rfl (lv' := [(3, .int x3_1), (2, .ref (b 1)), (1, .int (0 : Int32)), (0, .ref (b 0))]) rfl (fun ls hl => ?_)
  refine lv_iconst (v := (0 : Int32)) S.x S.b dX11_cylinders_10 ki_0 ?_
  refine g_ist S (x' := (0 : Int32)) rfl hl dX11_cylinders_11 rfl (lv' := [(4, .int (0 : Int32)), (3, .int x3_1), (2, .ref (b 1)), (1, .int (0 : Int32)), (0, .ref (b 0))]) rfl (fun ls hl => ?_)
  exact wX11_cylinders_13 S hQ N (0 : Int32) x3_1 (0 : Int32) _ _ _ hM (lv_sub hl [3, 2, 1, 0] rfl) hf
/-! SequenceBench$Sequence.firstWithMoves()I -/
theorem hdX11_firstWithMoves : gHd yX11_firstWithMoves 0 := by decide +kernel
def gX11_firstWithMoves_2 (N : Nat) (ns : Nat) (q : MW) : Nat → Int32 → Option (Int32)
  | 0, _ => none
  | n + 1, x1 =>
    ck x1 ns <|
    bd (gX10_moves (q.2 0 x1.toNatClampNeg) (q.2 1 x1.toNatClampNeg) (q.2 2 x1.toNatClampNeg)) fun r_3 =>
    if r_3 = 0 then (
    lt (x1 + (1 : Int32)) fun x1_4 =>
    gX11_firstWithMoves_2 N ns q n x1_4)
    else (
    some x1)
def gX11_firstWithMoves (N : Nat) (ns : Nat) (q : MW) : Option (Int32) :=
  gX11_firstWithMoves_2 N ns q N (0 : Int32)
abbrev rmX11_firstWithMoves : Room := { frames := 2, cells := 0, slots := 0, locals := 32 }
set_option maxHeartbeats 4000000 in
theorem wX11_firstWithMoves_2 {p : Program} {l : Launch} {e : Env} {s : State} {m : MethodId} {args : Array Value} {below : List Frame} {meth : Method} {c : Code} {D : va_G} {T : Nat → ClassId} {A : Nat → Prop} {b sa : Nat → Nat} {ws : va_W} {cv : Value} {rr : Int32} {N : Nat} {ns : Nat} {q : MW} (S : gS p s m args meth c cX11_firstWithMoves 2 (some .int) RX11 D T) (hQ : SqI T b sa ns q cv ws) : ∀ (n : Nat) (x1 : Int32) (H : Heap) (locs : List Loc) (ls : Array Slot), gM D A s.heap (ws) H locs → lv_has ls 2 [(0, .ref (b 0)), (1, .int x1)] → gX11_firstWithMoves_2 N ns q n x1 = some rr → W p l e rmX11_firstWithMoves s m args below meth c H locs 0 0 (MQ below (gQi D T A rr (ws)) args s 0 0 A) (F0 m 2 ls []) := by
  intro n
  induction n with
  | zero =>
    intro x1 H locs ls hM hl hf
    cases hf
  | succ n ih =>
    intro x1 H locs ls hM hl hf
    refine lv_aload_n S.x S.b dX11_firstWithMoves_2 rfl (lv_at hl 0 rfl) ?_
    refine sq_g S hM hQ 0 rfl (Or.inl q915) rfl dX11_firstWithMoves_3 ?_
    refine lv_iload_n S.x S.b dX11_firstWithMoves_6 rfl (lv_at hl 1 rfl) ?_
    obtain ⟨hi_1, hf⟩ := ck_some hf
    refine sq_ald S hM hQ hi_1 dX11_firstWithMoves_7 ?_
    obtain ⟨r_3, hc, hf⟩ := bd_some hf
    refine gw_ci S hM hl [] 8 rfl (hQ.st hi_1) (metX10_moves (hQ.stx hi_1) hc) hdX10_moves q211 q212 q213 q92 q214 ⟨rfl, rfl⟩ ⟨rfl, rfl⟩ rfl rfl rfl ⟨Nat.zero_le _, Nat.zero_le _⟩ dX11_firstWithMoves_8 (fun H locs hM => ?_)
    refine lv_if_ne (tgt := 20) S.x S.b dX11_firstWithMoves_11 rfl (fun cn => ?_) (fun cn => ?_)
    · have hf := if_f cn hf
      refine lv_iload_n S.x S.b dX11_firstWithMoves_20 rfl (lv_at hl 1 rfl) ?_
      obtain rfl := rt1 hf
      exact g_iret S hM rfl dX11_firstWithMoves_21
    · have hf := if_t cn hf
      obtain ⟨x1_4, ex, hf⟩ := lt_some hf
      refine g_inc S (x' := x1_4) (d := (1 : Int32)) hl (k := 1) rfl ki_1 ex dX11_firstWithMoves_14 rfl (lv' := [(1, .int x1_4), (0, .ref (b 0))]) rfl (fun ls hl => ?_)
      refine lv_goto (tgt := 2) S.x S.b dX11_firstWithMoves_17 rfl ?_
      exact ih x1_4 _ _ _ hM (lv_sub hl [1, 0] rfl) hf
set_option maxHeartbeats 4000000 in
theorem metX11_firstWithMoves {l : Launch} {D : va_G} {T : Nat → ClassId} {b sa : Nat → Nat} {ws : va_W} {cv : Value} {rr : Int32} {N : Nat} {ns : Nat} {q : MW} (hQ : SqI T b sa ns q cv ws) (hf : gX11_firstWithMoves N ns q = some rr) (sz : Nat) : MetI l yX11_firstWithMoves (ws_ yX11_firstWithMoves cX11_firstWithMoves 2 (some .int)) rmX11_firstWithMoves D T (ws) sz [.ref (b 0)] rr (ws) := by
  refine g_entry (Qc := fun A => gQi D T A rr (ws)) (by decide) rfl ?_
  intro p e s m below meth c ls S hM hl
  have hl : lv_has ls 2 [(0, .ref (b 0))] := hl
  refine lv_iconst (v := (0 : Int32)) S.x S.b dX11_firstWithMoves_0 ki_0 ?_
  refine g_istn S (x' := (0 : Int32)) rfl hl dX11_firstWithMoves_1 rfl rfl (lv' := [(1, .int (0 : Int32)), (0, .ref (b 0))]) rfl (fun ls hl => ?_)
  exact wX11_firstWithMoves_2 S hQ N (0 : Int32) _ _ _ hM (lv_sub hl [1, 0] rfl) hf
/-! SequenceBench$Sequence.clash(II)I -/
theorem hdX11_clash : gHd yX11_clash 2 := by decide +kernel
def gX11_clash_14 (N : Nat) (ns : Nat) (q : MW) : Nat → Int32 → Int32 → Int32 → Int32 → Option (Int32)
  | 0, _, _, _, _ => none
  | n + 1, x1, x2, x3, x4 =>
    if (Int32.ofNat ns) ≤ x4 then (
    some (-1 : Int32))
    else (
    if x3 = 0 then (
    some (-1 : Int32))
    else (
    ck x4 ns <|
    bd (gX10_direction (q.2 0 x4.toNatClampNeg) (q.2 1 x4.toNatClampNeg) (q.2 2 x4.toNatClampNeg) x2) fun r_6 =>
    if r_6 = (-x3) then (
    bd (gX11_before ns q x4) fun r_9 =>
    ck r_9 ns <|
    ck x1 ns <|
    bd (gX10_isMade (q.2 0 r_9.toNatClampNeg) (q.2 1 r_9.toNatClampNeg) (q.2 2 r_9.toNatClampNeg) (q.2 3 x1.toNatClampNeg)) fun r_12 =>
    if r_12 = 0 then (
    lt (x4 + (1 : Int32)) fun x4_13 =>
    gX11_clash_14 N ns q n x1 x2 x3 x4_13)
    else (
    some x4))
    else (
    lt (x4 + (1 : Int32)) fun x4_7 =>
    gX11_clash_14 N ns q n x1 x2 x3 x4_7)))
def gX11_clash (N : Nat) (ns : Nat) (q : MW) (x1 : Int32) (x2 : Int32) : Option (Int32) :=
  ck x1 ns <|
  bd (gX10_direction (q.2 0 x1.toNatClampNeg) (q.2 1 x1.toNatClampNeg) (q.2 2 x1.toNatClampNeg) x2) fun r_3 =>
  gX11_clash_14 N ns q N x1 x2 r_3 (0 : Int32)
abbrev rmX11_clash : Room := { frames := 3, cells := 0, slots := 0, locals := 54 }
set_option maxHeartbeats 4000000 in
theorem wX11_clash_14 {p : Program} {l : Launch} {e : Env} {s : State} {m : MethodId} {args : Array Value} {below : List Frame} {meth : Method} {c : Code} {D : va_G} {T : Nat → ClassId} {A : Nat → Prop} {b sa : Nat → Nat} {ws : va_W} {cv : Value} {rr : Int32} {N : Nat} {ns : Nat} {q : MW} (S : gS p s m args meth c cX11_clash 5 (some .int) RX11 D T) (hQ : SqI T b sa ns q cv ws) : ∀ (n : Nat) (x1 : Int32) (x2 : Int32) (x3 : Int32) (x4 : Int32) (H : Heap) (locs : List Loc) (ls : Array Slot), gM D A s.heap (ws) H locs → lv_has ls 5 [(0, .ref (b 0)), (1, .int x1), (2, .int x2), (3, .int x3), (4, .int x4)] → gX11_clash_14 N ns q n x1 x2 x3 x4 = some rr → W p l e rmX11_clash s m args below meth c H locs 0 0 (MQ below (gQi D T A rr (ws)) args s 0 0 A) (F0 m 14 ls []) := by
  intro n
  induction n with
  | zero =>
    intro x1 x2 x3 x4 H locs ls hM hl hf
    cases hf
  | succ n ih =>
    intro x1 x2 x3 x4 H locs ls hM hl hf
    refine lv_iload S.x S.b dX11_clash_14 (lv_at hl 4 rfl) ?_
    refine lv_aload_n S.x S.b dX11_clash_16 rfl (lv_at hl 0 rfl) ?_
    refine sq_g S hM hQ 0 rfl (Or.inl q915) rfl dX11_clash_17 ?_
    refine sq_len S hM hQ dX11_clash_20 ?_
    refine lv_icmp_ge (tgt := 76) S.x S.b dX11_clash_21 rfl (fun cn => ?_) (fun cn => ?_)
    · have hf := if_t cn hf
      refine lv_iconst (v := (-1 : Int32)) S.x S.b dX11_clash_76 ki_m1 ?_
      obtain rfl := rt1 hf
      exact g_iret S hM rfl dX11_clash_77
    · have hf := if_f cn hf
      refine lv_iload_n S.x S.b dX11_clash_24 rfl (lv_at hl 3 rfl) ?_
      refine lv_if_eq (tgt := 76) S.x S.b dX11_clash_25 rfl (fun cn => ?_) (fun cn => ?_)
      · have hf := if_t cn hf
        refine lv_iconst (v := (-1 : Int32)) S.x S.b dX11_clash_76 ki_m1 ?_
        obtain rfl := rt1 hf
        exact g_iret S hM rfl dX11_clash_77
      · have hf := if_f cn hf
        refine lv_aload_n S.x S.b dX11_clash_28 rfl (lv_at hl 0 rfl) ?_
        refine sq_g S hM hQ 0 rfl (Or.inl q915) rfl dX11_clash_29 ?_
        refine lv_iload S.x S.b dX11_clash_32 (lv_at hl 4 rfl) ?_
        obtain ⟨hi_4, hf⟩ := ck_some hf
        refine sq_ald S hM hQ hi_4 dX11_clash_34 ?_
        refine lv_iload_n S.x S.b dX11_clash_35 rfl (lv_at hl 2 rfl) ?_
        obtain ⟨r_6, hc, hf⟩ := bd_some hf
        refine gw_ci S hM hl [.int x2] 8 rfl (hQ.st hi_4) (metX10_direction (hQ.stx hi_4) hc) hdX10_direction q1134 q1108 q1109 q92 q1110 ⟨rfl, rfl⟩ ⟨rfl, rfl⟩ rfl rfl rfl ⟨Nat.zero_le _, Nat.zero_le _⟩ dX11_clash_36 (fun H locs hM => ?_)
        refine lv_iload_n S.x S.b dX11_clash_39 rfl (lv_at hl 3 rfl) ?_
        refine lv_ineg S.x S.b dX11_clash_40 ?_
        refine lv_icmp_ne (tgt := 70) S.x S.b dX11_clash_41 rfl (fun cn => ?_) (fun cn => ?_)
        · have hf := if_f cn hf
          obtain ⟨x4_7, ex, hf⟩ := lt_some hf
          refine g_inc S (x' := x4_7) (d := (1 : Int32)) hl (k := 4) rfl ki_1 ex dX11_clash_70 rfl (lv' := [(4, .int x4_7), (0, .ref (b 0)), (1, .int x1), (2, .int x2), (3, .int x3)]) rfl (fun ls hl => ?_)
          refine lv_goto (tgt := 14) S.x S.b dX11_clash_73 rfl ?_
          exact ih x1 x2 x3 x4_7 _ _ _ hM (lv_sub hl [1, 2, 3, 4, 0] rfl) hf
        · have hf := if_t cn hf
          refine lv_aload_n S.x S.b dX11_clash_44 rfl (lv_at hl 0 rfl) ?_
          refine sq_g S hM hQ 0 rfl (Or.inl q915) rfl dX11_clash_45 ?_
          refine lv_aload_n S.x S.b dX11_clash_48 rfl (lv_at hl 0 rfl) ?_
          refine lv_iload S.x S.b dX11_clash_49 (lv_at hl 4 rfl) ?_
          obtain ⟨r_9, hc, hf⟩ := bd_some hf
          refine gw_ci S hM hl [.int x4] 9 rfl hQ.sq (metX11_before hQ hc) hdX11_before q1135 q135 q136 q94 q137 ⟨rfl, rfl⟩ ⟨rfl, rfl⟩ rfl rfl rfl ⟨Nat.zero_le _, Nat.zero_le _⟩ dX11_clash_51 (fun H locs hM => ?_)
          obtain ⟨hi_10, hf⟩ := ck_some hf
          refine sq_ald S hM hQ hi_10 dX11_clash_54 ?_
          refine lv_aload_n S.x S.b dX11_clash_55 rfl (lv_at hl 0 rfl) ?_
          refine sq_g S hM hQ 1 rfl (Or.inl q922) rfl dX11_clash_56 ?_
          refine lv_iload_n S.x S.b dX11_clash_59 rfl (lv_at hl 1 rfl) ?_
          obtain ⟨hi, hf⟩ := ck_some hf
          refine sq_out S hM hQ hi dX11_clash_60 ?_
          obtain ⟨r_12, hc, hf⟩ := bd_some hf
          refine gw_ci S hM hl [.int (q.2 3 x1.toNatClampNeg)] 8 rfl (hQ.st hi_10) (metX10_isMade (hQ.stx hi_10) hc) hdX10_isMade q1136 q1137 q1138 q92 q1139 ⟨rfl, rfl⟩ ⟨rfl, rfl⟩ rfl rfl rfl ⟨Nat.zero_le _, Nat.zero_le _⟩ dX11_clash_61 (fun H locs hM => ?_)
          refine lv_if_eq (tgt := 70) S.x S.b dX11_clash_64 rfl (fun cn => ?_) (fun cn => ?_)
          · have hf := if_t cn hf
            obtain ⟨x4_13, ex, hf⟩ := lt_some hf
            refine g_inc S (x' := x4_13) (d := (1 : Int32)) hl (k := 4) rfl ki_1 ex dX11_clash_70 rfl (lv' := [(4, .int x4_13), (0, .ref (b 0)), (1, .int x1), (2, .int x2), (3, .int x3)]) rfl (fun ls hl => ?_)
            refine lv_goto (tgt := 14) S.x S.b dX11_clash_73 rfl ?_
            exact ih x1 x2 x3 x4_13 _ _ _ hM (lv_sub hl [1, 2, 3, 4, 0] rfl) hf
          · have hf := if_f cn hf
            refine lv_iload S.x S.b dX11_clash_67 (lv_at hl 4 rfl) ?_
            obtain rfl := rt1 hf
            exact g_iret S hM rfl dX11_clash_69
set_option maxHeartbeats 4000000 in
theorem metX11_clash {l : Launch} {D : va_G} {T : Nat → ClassId} {b sa : Nat → Nat} {ws : va_W} {cv : Value} {rr : Int32} {N : Nat} {x1 : Int32} {x2 : Int32} {ns : Nat} {q : MW} (hQ : SqI T b sa ns q cv ws) (hf : gX11_clash N ns q x1 x2 = some rr) (sz : Nat) : MetI l yX11_clash (ws_ yX11_clash cX11_clash 5 (some .int)) rmX11_clash D T (ws) sz [.ref (b 0), .int x1, .int x2] rr (ws) := by
  refine g_entry (Qc := fun A => gQi D T A rr (ws)) (by decide) rfl ?_
  intro p e s m below meth c ls S hM hl
  have hl : lv_has ls 5 [(0, .ref (b 0)), (1, .int x1), (2, .int x2)] := hl
  refine lv_aload_n S.x S.b dX11_clash_0 rfl (lv_at hl 0 rfl) ?_
  refine sq_g S hM hQ 0 rfl (Or.inl q915) rfl dX11_clash_1 ?_
  refine lv_iload_n S.x S.b dX11_clash_4 rfl (lv_at hl 1 rfl) ?_
  obtain ⟨hi_1, hf⟩ := ck_some hf
  refine sq_ald S hM hQ hi_1 dX11_clash_5 ?_
  refine lv_iload_n S.x S.b dX11_clash_6 rfl (lv_at hl 2 rfl) ?_
  obtain ⟨r_3, hc, hf⟩ := bd_some hf
  refine gw_ci S hM hl [.int x2] 8 rfl (hQ.st hi_1) (metX10_direction (hQ.stx hi_1) hc) hdX10_direction q1134 q1108 q1109 q92 q1110 ⟨rfl, rfl⟩ ⟨rfl, rfl⟩ rfl rfl rfl ⟨Nat.zero_le _, Nat.zero_le _⟩ dX11_clash_7 (fun H locs hM => ?_)
  refine g_istn S (x' := r_3) rfl hl dX11_clash_10 rfl rfl (lv' := [(3, .int r_3), (0, .ref (b 0)), (1, .int x1), (2, .int x2)]) rfl (fun ls hl => ?_)
  refine lv_iconst (v := (0 : Int32)) S.x S.b dX11_clash_11 ki_0 ?_
  refine g_ist S (x' := (0 : Int32)) rfl hl dX11_clash_12 rfl (lv' := [(4, .int (0 : Int32)), (3, .int r_3), (0, .ref (b 0)), (1, .int x1), (2, .int x2)]) rfl (fun ls hl => ?_)
  exact wX11_clash_14 S hQ N x1 x2 r_3 (0 : Int32) _ _ _ hM (lv_sub hl [2, 3, 4, 1, 0] rfl) hf
/-! SequenceBench$Sequence.isGroup(II)Z -/
theorem hdX11_isGroup : gHd yX11_isGroup 2 := by decide +kernel
def gX11_isGroup_5 (N : Nat) (ns : Nat) (q : MW) : Nat → Int32 → Int32 → Int32 → Option (Int32)
  | 0, _, _, _ => none
  | n + 1, x2, x3, x4 =>
    ck x4 ns <|
    bd (gX10_moves (q.2 0 x4.toNatClampNeg) (q.2 1 x4.toNatClampNeg) (q.2 2 x4.toNatClampNeg)) fun r_3 =>
    if (x3 &&& r_3) = 0 then (
    ck x4 ns <|
    bd (gX10_moves (q.2 0 x4.toNatClampNeg) (q.2 1 x4.toNatClampNeg) (q.2 2 x4.toNatClampNeg)) fun r_6 =>
    lt ((x3 ||| r_6)) fun x3_7 =>
    bd (gX11_after ns q x4) fun r_9 =>
    if r_9 = x2 then (
    some (1 : Int32))
    else (
    gX11_isGroup_5 N ns q n x2 x3_7 r_9))
    else (
    some (0 : Int32))
def gX11_isGroup (N : Nat) (ns : Nat) (q : MW) (x1 : Int32) (x2 : Int32) : Option (Int32) :=
  gX11_isGroup_5 N ns q N x2 (0 : Int32) x1
abbrev rmX11_isGroup : Room := { frames := 2, cells := 0, slots := 0, locals := 33 }
set_option maxHeartbeats 4000000 in
theorem wX11_isGroup_5 {p : Program} {l : Launch} {e : Env} {s : State} {m : MethodId} {args : Array Value} {below : List Frame} {meth : Method} {c : Code} {D : va_G} {T : Nat → ClassId} {A : Nat → Prop} {b sa : Nat → Nat} {ws : va_W} {cv : Value} {rr : Int32} {N : Nat} {ns : Nat} {q : MW} (S : gS p s m args meth c cX11_isGroup 5 (some .boolean) RX11 D T) (hQ : SqI T b sa ns q cv ws) : ∀ (n : Nat) (x2 : Int32) (x3 : Int32) (x4 : Int32) (H : Heap) (locs : List Loc) (ls : Array Slot), gM D A s.heap (ws) H locs → lv_has ls 5 [(0, .ref (b 0)), (2, .int x2), (3, .int x3), (4, .int x4)] → gX11_isGroup_5 N ns q n x2 x3 x4 = some rr → W p l e rmX11_isGroup s m args below meth c H locs 0 0 (MQ below (gQi D T A rr (ws)) args s 0 0 A) (F0 m 5 ls []) := by
  intro n
  induction n with
  | zero =>
    intro x2 x3 x4 H locs ls hM hl hf
    cases hf
  | succ n ih =>
    intro x2 x3 x4 H locs ls hM hl hf
    refine lv_iload_n S.x S.b dX11_isGroup_5 rfl (lv_at hl 2 rfl) ?_
    refine lv_aload_n S.x S.b dX11_isGroup_6 rfl (lv_at hl 0 rfl) ?_
    refine sq_g S hM hQ 0 rfl (Or.inl q915) rfl dX11_isGroup_7 ?_
    refine lv_iload S.x S.b dX11_isGroup_10 (lv_at hl 3 rfl) ?_
    obtain ⟨hi_1, hf⟩ := ck_some hf
    refine sq_ald S hM hQ hi_1 dX11_isGroup_12 ?_
    obtain ⟨r_3, hc, hf⟩ := bd_some hf
    refine gw_ci S hM hl [] 8 rfl (hQ.st hi_1) (metX10_moves (hQ.stx hi_1) hc) hdX10_moves q211 q212 q213 q92 q214 ⟨rfl, rfl⟩ ⟨rfl, rfl⟩ rfl rfl rfl ⟨Nat.zero_le _, Nat.zero_le _⟩ dX11_isGroup_13 (fun H locs hM => ?_)
    refine lv_iand S.x S.b dX11_isGroup_16 ?_
    refine lv_if_eq (tgt := 22) S.x S.b dX11_isGroup_17 rfl (fun cn => ?_) (fun cn => ?_)
    · have hf := if_t cn hf
      refine lv_iload_n S.x S.b dX11_isGroup_22 rfl (lv_at hl 2 rfl) ?_
      refine lv_aload_n S.x S.b dX11_isGroup_23 rfl (lv_at hl 0 rfl) ?_
      refine sq_g S hM hQ 0 rfl (Or.inl q915) rfl dX11_isGroup_24 ?_
      refine lv_iload S.x S.b dX11_isGroup_27 (lv_at hl 3 rfl) ?_
      obtain ⟨hi_4, hf⟩ := ck_some hf
      refine sq_ald S hM hQ hi_4 dX11_isGroup_29 ?_
      obtain ⟨r_6, hc, hf⟩ := bd_some hf
      refine gw_ci S hM hl [] 8 rfl (hQ.st hi_4) (metX10_moves (hQ.stx hi_4) hc) hdX10_moves q211 q212 q213 q92 q214 ⟨rfl, rfl⟩ ⟨rfl, rfl⟩ rfl rfl rfl ⟨Nat.zero_le _, Nat.zero_le _⟩ dX11_isGroup_30 (fun H locs hM => ?_)
      refine lv_ior S.x S.b dX11_isGroup_33 ?_
      obtain ⟨x3_7, ex, hf⟩ := lt_some hf
      refine g_istn S (x' := x3_7) ex hl dX11_isGroup_34 rfl rfl (lv' := [(3, .int x3_7), (0, .ref (b 0)), (2, .int x2), (4, .int x4)]) rfl (fun ls hl => ?_)
      refine lv_aload_n S.x S.b dX11_isGroup_35 rfl (lv_at hl 1 rfl) ?_
      refine lv_iload S.x S.b dX11_isGroup_36 (lv_at hl 3 rfl) ?_
      obtain ⟨r_9, hc, hf⟩ := bd_some hf
      refine gw_ci S hM hl [.int x4] 9 rfl hQ.sq (metX11_after hQ hc) hdX11_after q911 q912 q913 q94 q914 ⟨rfl, rfl⟩ ⟨rfl, rfl⟩ rfl rfl rfl ⟨Nat.zero_le _, Nat.zero_le _⟩ dX11_isGroup_38 (fun H locs hM => ?_)
      refine g_ist S (x' := r_9) rfl hl dX11_isGroup_41 rfl (lv' := [(4, .int r_9), (3, .int x3_7), (0, .ref (b 0)), (2, .int x2)]) rfl (fun ls hl => ?_)
      refine lv_iload S.x S.b dX11_isGroup_43 (lv_at hl 0 rfl) ?_
      refine lv_iload_n S.x S.b dX11_isGroup_45 rfl (lv_at hl 3 rfl) ?_
      refine lv_icmp_ne (tgt := 5) S.x S.b dX11_isGroup_46 rfl (fun cn => ?_) (fun cn => ?_)
      · have hf := if_f cn hf
        exact ih x2 x3_7 r_9 _ _ _ hM (lv_sub hl [2, 3, 1, 0] rfl) hf
      · have hf := if_t cn hf
        refine lv_iconst (v := (1 : Int32)) S.x S.b dX11_isGroup_49 ki_1 ?_
        obtain rfl := rt1 hf
        exact g_zret S hM rfl rfl dX11_isGroup_50
    · have hf := if_f cn hf
      refine lv_iconst (v := (0 : Int32)) S.x S.b dX11_isGroup_20 ki_0 ?_
      obtain rfl := rt1 hf
      exact g_zret S hM rfl rfl dX11_isGroup_21
set_option maxHeartbeats 4000000 in
theorem metX11_isGroup {l : Launch} {D : va_G} {T : Nat → ClassId} {b sa : Nat → Nat} {ws : va_W} {cv : Value} {rr : Int32} {N : Nat} {x1 : Int32} {x2 : Int32} {ns : Nat} {q : MW} (hQ : SqI T b sa ns q cv ws) (hf : gX11_isGroup N ns q x1 x2 = some rr) (sz : Nat) : MetI l yX11_isGroup (ws_ yX11_isGroup cX11_isGroup 5 (some .boolean)) rmX11_isGroup D T (ws) sz [.ref (b 0), .int x1, .int x2] rr (ws) := by
  refine g_entry (Qc := fun A => gQi D T A rr (ws)) (by decide) rfl ?_
  intro p e s m below meth c ls S hM hl
  have hl : lv_has ls 5 [(0, .ref (b 0)), (1, .int x1), (2, .int x2)] := hl
  refine lv_iconst (v := (0 : Int32)) S.x S.b dX11_isGroup_0 ki_0 ?_
  refine g_istn S (x' := (0 : Int32)) rfl hl dX11_isGroup_1 rfl rfl (lv' := [(3, .int (0 : Int32)), (0, .ref (b 0)), (1, .int x1), (2, .int x2)]) rfl (fun ls hl => ?_)
  refine lv_iload_n S.x S.b dX11_isGroup_2 rfl (lv_at hl 2 rfl) ?_
  refine g_ist S (x' := x1) rfl hl dX11_isGroup_3 rfl (lv' := [(4, .int x1), (3, .int (0 : Int32)), (0, .ref (b 0)), (1, .int x1), (2, .int x2)]) rfl (fun ls hl => ?_)
  exact wX11_isGroup_5 S hQ N x2 (0 : Int32) x1 _ _ _ hM (lv_sub hl [2, 4, 1, 0] rfl) hf
/-! SequenceBench$Sequence.groupOf(I)I -/
theorem hdX11_groupOf : gHd yX11_groupOf 1 := by decide +kernel
def gX11_groupOf_10 (N : Nat) (ns : Nat) (q : MW) (nc : Nat) : Nat → Int32 → Int32 → Int32 → Option (Int32)
  | 0, _, _, _ => none
  | n + 1, x1, x2, x3 =>
    if (Int32.ofNat nc) ≤ x3 then (
    some x2)
    else (
    ck x3 nc <|
    if x1 < (q.2 4 x3.toNatClampNeg) then (
    lt (x3 + (1 : Int32)) fun x3_2 =>
    gX11_groupOf_10 N ns q nc n x1 x2 x3_2)
    else (
    lt (x3 + (1 : Int32)) fun x3_3 =>
    gX11_groupOf_10 N ns q nc n x1 x3 x3_3))
def gX11_groupOf (N : Nat) (ns : Nat) (q : MW) (nc : Nat) (x1 : Int32) : Option (Int32) :=
  lt (((Int32.ofNat nc) - (1 : Int32))) fun x2_1 =>
  gX11_groupOf_10 N ns q nc N x1 x2_1 (0 : Int32)
abbrev rmX11_groupOf : Room := { frames := 1, cells := 0, slots := 0, locals := 12 }
set_option maxHeartbeats 4000000 in
theorem wX11_groupOf_10 {p : Program} {l : Launch} {e : Env} {s : State} {m : MethodId} {args : Array Value} {below : List Frame} {meth : Method} {c : Code} {D : va_G} {T : Nat → ClassId} {A : Nat → Prop} {b sa : Nat → Nat} {ws : va_W} {rr : Int32} {N : Nat} {ns : Nat} {q : MW} {nc : Nat} (S : gS p s m args meth c cX11_groupOf 4 (some .int) RX11 D T) (hQ : SqI T b sa ns q (.ref (b 3)) ws) (hC : CuI T b nc q ws) : ∀ (n : Nat) (x1 : Int32) (x2 : Int32) (x3 : Int32) (H : Heap) (locs : List Loc) (ls : Array Slot), gM D A s.heap (ws) H locs → lv_has ls 4 [(0, .ref (b 0)), (1, .int x1), (2, .int x2), (3, .int x3)] → gX11_groupOf_10 N ns q nc n x1 x2 x3 = some rr → W p l e rmX11_groupOf s m args below meth c H locs 0 0 (MQ below (gQi D T A rr (ws)) args s 0 0 A) (F0 m 10 ls []) := by
  intro n
  induction n with
  | zero =>
    intro x1 x2 x3 H locs ls hM hl hf
    cases hf
  | succ n ih =>
    intro x1 x2 x3 H locs ls hM hl hf
    refine lv_iload_n S.x S.b dX11_groupOf_10 rfl (lv_at hl 3 rfl) ?_
    refine lv_aload_n S.x S.b dX11_groupOf_11 rfl (lv_at hl 0 rfl) ?_
    refine sq_g S hM hQ 2 rfl (Or.inl q924) rfl dX11_groupOf_12 ?_
    refine sq_clen S hM hC dX11_groupOf_15 ?_
    refine lv_icmp_ge (tgt := 41) S.x S.b dX11_groupOf_16 rfl (fun cn => ?_) (fun cn => ?_)
    · have hf := if_t cn hf
      refine lv_iload_n S.x S.b dX11_groupOf_41 rfl (lv_at hl 2 rfl) ?_
      obtain rfl := rt1 hf
      exact g_iret S hM rfl dX11_groupOf_42
    · have hf := if_f cn hf
      refine lv_aload_n S.x S.b dX11_groupOf_19 rfl (lv_at hl 0 rfl) ?_
      refine sq_g S hM hQ 2 rfl (Or.inl q924) rfl dX11_groupOf_20 ?_
      refine lv_iload_n S.x S.b dX11_groupOf_23 rfl (lv_at hl 3 rfl) ?_
      obtain ⟨hi, hf⟩ := ck_some hf
      refine sq_cut S hM hC hi dX11_groupOf_24 ?_
      refine lv_iload_n S.x S.b dX11_groupOf_25 rfl (lv_at hl 1 rfl) ?_
      refine lv_icmp_gt (tgt := 33) S.x S.b dX11_groupOf_26 rfl (fun cn => ?_) (fun cn => ?_)
      · have hf := if_t cn hf
        refine lv_iload_n S.x S.b dX11_groupOf_33 rfl (lv_at hl 2 rfl) ?_
        refine g_istn S (x' := x2) rfl hl dX11_groupOf_34 rfl rfl (lv' := [(2, .int x2), (0, .ref (b 0)), (1, .int x1), (3, .int x3)]) rfl (fun ls hl => ?_)
        obtain ⟨x3_2, ex, hf⟩ := lt_some hf
        refine g_inc S (x' := x3_2) (d := (1 : Int32)) hl (k := 3) rfl ki_1 ex dX11_groupOf_35 rfl (lv' := [(3, .int x3_2), (2, .int x2), (0, .ref (b 0)), (1, .int x1)]) rfl (fun ls hl => ?_)
        refine lv_goto (tgt := 10) S.x S.b dX11_groupOf_38 rfl ?_
        exact ih x1 x2 x3_2 _ _ _ hM (lv_sub hl [2, 3, 1, 0] rfl) hf
      · have hf := if_f cn hf
        refine lv_iload_n S.x S.b dX11_groupOf_29 rfl (lv_at hl 3 rfl) ?_
        refine lv_goto (tgt := 34) S.x S.b dX11_groupOf_30 rfl ?_
        refine g_istn S (x' := x3) rfl hl dX11_groupOf_34 rfl rfl (lv' := [(2, .int x3), (0, .ref (b 0)), (1, .int x1), (3, .int x3)]) rfl (fun ls hl => ?_)
        obtain ⟨x3_3, ex, hf⟩ := lt_some hf
        refine g_inc S (x' := x3_3) (d := (1 : Int32)) hl (k := 3) rfl ki_1 ex dX11_groupOf_35 rfl (lv' := [(3, .int x3_3), (2, .int x3), (0, .ref (b 0)), (1, .int x1)]) rfl (fun ls hl => ?_)
        refine lv_goto (tgt := 10) S.x S.b dX11_groupOf_38 rfl ?_
        exact ih x1 x3 x3_3 _ _ _ hM (lv_sub hl [2, 3, 1, 0] rfl) hf
set_option maxHeartbeats 4000000 in
theorem metX11_groupOf {l : Launch} {D : va_G} {T : Nat → ClassId} {b sa : Nat → Nat} {ws : va_W} {rr : Int32} {N : Nat} {x1 : Int32} {ns : Nat} {q : MW} {nc : Nat} (hQ : SqI T b sa ns q (.ref (b 3)) ws) (hC : CuI T b nc q ws) (hf : gX11_groupOf N ns q nc x1 = some rr) (sz : Nat) : MetI l yX11_groupOf (ws_ yX11_groupOf cX11_groupOf 4 (some .int)) rmX11_groupOf D T (ws) sz [.ref (b 0), .int x1] rr (ws) := by
  refine g_entry (Qc := fun A => gQi D T A rr (ws)) (by decide) rfl ?_
  intro p e s m below meth c ls S hM hl
  have hl : lv_has ls 4 [(0, .ref (b 0)), (1, .int x1)] := hl
  refine lv_aload_n S.x S.b dX11_groupOf_0 rfl (lv_at hl 0 rfl) ?_
  refine sq_g S hM hQ 2 rfl (Or.inl q924) rfl dX11_groupOf_1 ?_
  refine sq_clen S hM hC dX11_groupOf_4 ?_
  refine lv_iconst (v := (1 : Int32)) S.x S.b dX11_groupOf_5 ki_1 ?_
  refine lv_isub S.x S.b dX11_groupOf_6 ?_
  obtain ⟨x2_1, ex, hf⟩ := lt_some hf
  refine g_istn S (x' := x2_1) ex hl dX11_groupOf_7 rfl rfl (lv' := [(2, .int x2_1), (0, .ref (b 0)), (1, .int x1)]) rfl (fun ls hl => ?_)
  refine lv_iconst (v := (0 : Int32)) S.x S.b dX11_groupOf_8 ki_0 ?_
  refine g_istn S (x' := (0 : Int32)) rfl hl dX11_groupOf_9 rfl rfl (lv' := [(3, .int (0 : Int32)), (2, .int x2_1), (0, .ref (b 0)), (1, .int x1)]) rfl (fun ls hl => ?_)
  exact wX11_groupOf_10 S hQ hC N x1 x2_1 (0 : Int32) _ _ _ hM (lv_sub hl [2, 3, 1, 0] rfl) hf
/-! SequenceBench$Sequence.firstOf(I)I -/
theorem hdX11_firstOf : gHd yX11_firstOf 1 := by decide +kernel
def gX11_firstOf (ns : Nat) (q : MW) (nc : Nat) (x1 : Int32) : Option (Int32) :=
  ck x1 nc <|
  some (q.2 4 x1.toNatClampNeg)
abbrev rmX11_firstOf : Room := { frames := 1, cells := 0, slots := 0, locals := 12 }
set_option maxHeartbeats 4000000 in
theorem metX11_firstOf {l : Launch} {D : va_G} {T : Nat → ClassId} {b sa : Nat → Nat} {ws : va_W} {rr : Int32} {x1 : Int32} {ns : Nat} {q : MW} {nc : Nat} (hQ : SqI T b sa ns q (.ref (b 3)) ws) (hC : CuI T b nc q ws) (hf : gX11_firstOf ns q nc x1 = some rr) (sz : Nat) : MetI l yX11_firstOf (ws_ yX11_firstOf cX11_firstOf 2 (some .int)) rmX11_firstOf D T (ws) sz [.ref (b 0), .int x1] rr (ws) := by
  refine g_entry (Qc := fun A => gQi D T A rr (ws)) (by decide) rfl ?_
  intro p e s m below meth c ls S hM hl
  have hl : lv_has ls 2 [(0, .ref (b 0)), (1, .int x1)] := hl
  refine lv_aload_n S.x S.b dX11_firstOf_0 rfl (lv_at hl 0 rfl) ?_
  refine sq_g S hM hQ 2 rfl (Or.inl q924) rfl dX11_firstOf_1 ?_
  refine lv_iload_n S.x S.b dX11_firstOf_4 rfl (lv_at hl 1 rfl) ?_
  obtain ⟨hi, hf⟩ := ck_some hf
  refine sq_cut S hM hC hi dX11_firstOf_5 ?_
  obtain rfl := rt1 hf
  exact g_iret S hM rfl dX11_firstOf_6
/-! SequenceBench$Sequence.lastOf(I)I -/
theorem hdX11_lastOf : gHd yX11_lastOf 1 := by decide +kernel
def gX11_lastOf (ns : Nat) (q : MW) (nc : Nat) (x1 : Int32) : Option (Int32) :=
  if x1 = ((Int32.ofNat nc) - (1 : Int32)) then (
  ck (0 : Int32) nc <|
  bd (gX11_before ns q (q.2 4 (0 : Int32).toNatClampNeg)) fun r_4 =>
  some r_4)
  else (
  ck (x1 + (1 : Int32)) nc <|
  bd (gX11_before ns q (q.2 4 (x1 + (1 : Int32)).toNatClampNeg)) fun r_2 =>
  some r_2)
abbrev rmX11_lastOf : Room := { frames := 2, cells := 0, slots := 0, locals := 33 }
set_option maxHeartbeats 4000000 in
theorem metX11_lastOf {l : Launch} {D : va_G} {T : Nat → ClassId} {b sa : Nat → Nat} {ws : va_W} {rr : Int32} {x1 : Int32} {ns : Nat} {q : MW} {nc : Nat} (hQ : SqI T b sa ns q (.ref (b 3)) ws) (hC : CuI T b nc q ws) (hf : gX11_lastOf ns q nc x1 = some rr) (sz : Nat) : MetI l yX11_lastOf (ws_ yX11_lastOf cX11_lastOf 2 (some .int)) rmX11_lastOf D T (ws) sz [.ref (b 0), .int x1] rr (ws) := by
  refine g_entry (Qc := fun A => gQi D T A rr (ws)) (by decide) rfl ?_
  intro p e s m below meth c ls S hM hl
  have hl : lv_has ls 2 [(0, .ref (b 0)), (1, .int x1)] := hl
  refine lv_aload_n S.x S.b dX11_lastOf_0 rfl (lv_at hl 0 rfl) ?_
  refine lv_aload_n S.x S.b dX11_lastOf_1 rfl (lv_at hl 0 rfl) ?_
  refine sq_g S hM hQ 2 rfl (Or.inl q924) rfl dX11_lastOf_2 ?_
  refine lv_iload_n S.x S.b dX11_lastOf_5 rfl (lv_at hl 1 rfl) ?_
  refine lv_aload_n S.x S.b dX11_lastOf_6 rfl (lv_at hl 0 rfl) ?_
  refine sq_g S hM hQ 2 rfl (Or.inl q924) rfl dX11_lastOf_7 ?_
  refine sq_clen S hM hC dX11_lastOf_10 ?_
  refine lv_iconst (v := (1 : Int32)) S.x S.b dX11_lastOf_11 ki_1 ?_
  refine lv_isub S.x S.b dX11_lastOf_12 ?_
  refine lv_icmp_ne (tgt := 20) S.x S.b dX11_lastOf_13 rfl (fun cn => ?_) (fun cn => ?_)
  · have hf := if_f cn hf
    refine lv_iload_n S.x S.b dX11_lastOf_20 rfl (lv_at hl 1 rfl) ?_
    refine lv_iconst (v := (1 : Int32)) S.x S.b dX11_lastOf_21 ki_1 ?_
    refine lv_iadd S.x S.b dX11_lastOf_22 ?_
    obtain ⟨hi, hf⟩ := ck_some hf
    refine sq_cut S hM hC hi dX11_lastOf_23 ?_
    obtain ⟨r_2, hc, hf⟩ := bd_some hf
    refine gw_ci S hM hl [.int (q.2 4 (x1 + (1 : Int32)).toNatClampNeg)] 9 rfl hQ.sq (metX11_before hQ hc) hdX11_before q1135 q135 q136 q94 q137 ⟨rfl, rfl⟩ ⟨rfl, rfl⟩ rfl rfl rfl ⟨Nat.zero_le _, Nat.zero_le _⟩ dX11_lastOf_24 (fun H locs hM => ?_)
    obtain rfl := rt1 hf
    exact g_iret S hM rfl dX11_lastOf_27
  · have hf := if_t cn hf
    refine lv_iconst (v := (0 : Int32)) S.x S.b dX11_lastOf_16 ki_0 ?_
    refine lv_goto (tgt := 23) S.x S.b dX11_lastOf_17 rfl ?_
    obtain ⟨hi, hf⟩ := ck_some hf
    refine sq_cut S hM hC hi dX11_lastOf_23 ?_
    obtain ⟨r_4, hc, hf⟩ := bd_some hf
    refine gw_ci S hM hl [.int (q.2 4 (0 : Int32).toNatClampNeg)] 9 rfl hQ.sq (metX11_before hQ hc) hdX11_before q1135 q135 q136 q94 q137 ⟨rfl, rfl⟩ ⟨rfl, rfl⟩ rfl rfl rfl ⟨Nat.zero_le _, Nat.zero_le _⟩ dX11_lastOf_24 (fun H locs hM => ?_)
    obtain rfl := rt1 hf
    exact g_iret S hM rfl dX11_lastOf_27
/-! SequenceBench$Rig.sensor(II)Z -/
theorem hdX3_sensor : gHd yX3_sensor 2 := by decide +kernel
def gX3_sensor_55 (x3 : Int32) (x4 : Int32) (s0 : Int32) (w : MW) : Option (Int32 × MW) :=
  bd (gX1_has x3 x4) fun r_3 =>
  if r_3 = 0 then (
  if s0 = 0 then (
  bd (gX1_has x3 (x4 + (1 : Int32))) fun r_4 =>
  if r_4 = 0 then (
  some ((0 : Int32), w))
  else (
  some ((1 : Int32), w)))
  else (
  some ((1 : Int32), w)))
  else (
  some ((0 : Int32), w))
def gX3_sensor (x1 : Int32) (x2 : Int32) (w : MW) : Option (Int32 × MW) :=
  ck x1 6 <|
  lt ((w.2 1 x1.toNatClampNeg)) fun x3_1 =>
  lt (((1 : Int32) + ((2 : Int32) * x2))) fun x4_2 =>
  if x2 = 0 then (
  ck x1 6 <|
  if (w.2 2 x1.toNatClampNeg) = 0 then (
  gX3_sensor_55 x3_1 x4_2 (1 : Int32) w)
  else (
  gX3_sensor_55 x3_1 x4_2 (0 : Int32) w))
  else (
  ck x1 6 <|
  ck x1 6 <|
  if (w.2 2 x1.toNatClampNeg) = (w.2 0 x1.toNatClampNeg) then (
  gX3_sensor_55 x3_1 x4_2 (1 : Int32) w)
  else (
  gX3_sensor_55 x3_1 x4_2 (0 : Int32) w))
abbrev rmX3_sensor : Room := { frames := 2, cells := 0, slots := 0, locals := 33 }
set_option maxHeartbeats 4000000 in
theorem wX3_sensor_55 {p : Program} {l : Launch} {e : Env} {s : State} {m : MethodId} {args : Array Value} {below : List Frame} {meth : Method} {c : Code} {D : va_G} {T : Nat → ClassId} {A : Nat → Prop} {a : Nat → Nat} {so co : Option Nat} {tl : va_W} {rr : Int32} {wr : MW} (S : gS p s m args meth c cX3_sensor 6 (some .boolean) RX3 D T) : ∀ (x3 : Int32) (x4 : Int32) (s0 : Int32) (w : MW) (H : Heap) (locs : List Loc) (ls : Array Slot), gM D A s.heap (rgW a (T 0) so co w tl) H locs → lv_has ls 6 [(3, .int x3), (4, .int x4)] → gX3_sensor_55 x3 x4 s0 w = some (rr, wr) → W p l e rmX3_sensor s m args below meth c H locs 0 0 (MQ below (gQi D T A rr (rgW a (T 0) so co wr tl)) args s 0 0 A) (F0 m 55 ls [.int s0]) := by
  intro x3 x4 s0 w H locs ls hM hl hf
  refine g_ist S (x' := s0) rfl hl dX3_sensor_55 rfl (lv' := [(5, .int s0), (3, .int x3), (4, .int x4)]) rfl (fun ls hl => ?_)
  refine lv_iload_n S.x S.b dX3_sensor_57 rfl (lv_at hl 1 rfl) ?_
  refine lv_iload S.x S.b dX3_sensor_58 (lv_at hl 2 rfl) ?_
  obtain ⟨r_3, hc, hf⟩ := bd_some hf
  refine gn_si S hM hl [.int x3, .int x4] (metX1_has hc) hdX1_has q1265 q791 q62 q792 ⟨rfl, rfl⟩ ⟨rfl, rfl⟩ rfl rfl rfl ⟨Nat.zero_le _, Nat.zero_le _⟩ dX3_sensor_60 (fun H locs hM => ?_)
  refine lv_if_ne (tgt := 86) S.x S.b dX3_sensor_63 rfl (fun cn => ?_) (fun cn => ?_)
  · have hf := if_f cn hf
    refine lv_iconst (v := (0 : Int32)) S.x S.b dX3_sensor_86 ki_0 ?_
    obtain ⟨rfl, rfl⟩ := rt2 hf
    exact g_zret S hM rfl rfl dX3_sensor_87
  · have hf := if_t cn hf
    refine lv_iload S.x S.b dX3_sensor_66 (lv_at hl 0 rfl) ?_
    refine lv_if_ne (tgt := 82) S.x S.b dX3_sensor_68 rfl (fun cn => ?_) (fun cn => ?_)
    · have hf := if_f cn hf
      refine lv_iconst (v := (1 : Int32)) S.x S.b dX3_sensor_82 ki_1 ?_
      refine lv_goto (tgt := 87) S.x S.b dX3_sensor_83 rfl ?_
      obtain ⟨rfl, rfl⟩ := rt2 hf
      exact g_zret S hM rfl rfl dX3_sensor_87
    · have hf := if_t cn hf
      refine lv_iload_n S.x S.b dX3_sensor_71 rfl (lv_at hl 1 rfl) ?_
      refine lv_iload S.x S.b dX3_sensor_72 (lv_at hl 2 rfl) ?_
      refine lv_iconst (v := (1 : Int32)) S.x S.b dX3_sensor_74 ki_1 ?_
      refine lv_iadd S.x S.b dX3_sensor_75 ?_
      obtain ⟨r_4, hc, hf⟩ := bd_some hf
      refine gn_si S hM hl [.int x3, .int (x4 + (1 : Int32))] (metX1_has hc) hdX1_has q1265 q791 q62 q792 ⟨rfl, rfl⟩ ⟨rfl, rfl⟩ rfl rfl rfl ⟨Nat.zero_le _, Nat.zero_le _⟩ dX3_sensor_76 (fun H locs hM => ?_)
      refine lv_if_eq (tgt := 86) S.x S.b dX3_sensor_79 rfl (fun cn => ?_) (fun cn => ?_)
      · have hf := if_t cn hf
        refine lv_iconst (v := (0 : Int32)) S.x S.b dX3_sensor_86 ki_0 ?_
        obtain ⟨rfl, rfl⟩ := rt2 hf
        exact g_zret S hM rfl rfl dX3_sensor_87
      · have hf := if_f cn hf
        refine lv_iconst (v := (1 : Int32)) S.x S.b dX3_sensor_82 ki_1 ?_
        refine lv_goto (tgt := 87) S.x S.b dX3_sensor_83 rfl ?_
        obtain ⟨rfl, rfl⟩ := rt2 hf
        exact g_zret S hM rfl rfl dX3_sensor_87
set_option maxHeartbeats 4000000 in
theorem metX3_sensor {l : Launch} {D : va_G} {T : Nat → ClassId} {a : Nat → Nat} {so co : Option Nat} {tl : va_W} {rr : Int32} {wr : MW} {x1 : Int32} {x2 : Int32} {w : MW} (hf : gX3_sensor x1 x2 w = some (rr, wr)) (sz : Nat) : MetI l yX3_sensor (ws_ yX3_sensor cX3_sensor 6 (some .boolean)) rmX3_sensor D T (rgW a (T 0) so co w tl) sz [.ref (a 0), .int x1, .int x2] rr (rgW a (T 0) so co wr tl) := by
  refine g_entry (Qc := fun A => gQi D T A rr (rgW a (T 0) so co wr tl)) (by decide) rfl ?_
  intro p e s m below meth c ls S hM hl
  have hl : lv_has ls 6 [(0, .ref (a 0)), (1, .int x1), (2, .int x2)] := hl
  refine lv_aload_n S.x S.b dX3_sensor_0 rfl (lv_at hl 0 rfl) ?_
  refine rg_g S hM 2 rfl (Or.inl q224) rfl dX3_sensor_1 ?_
  refine lv_iload_n S.x S.b dX3_sensor_4 rfl (lv_at hl 1 rfl) ?_
  obtain ⟨hi, hf⟩ := ck_some hf
  refine rg_ld S hM 1 rfl hi dX3_sensor_5 ?_
  obtain ⟨x3_1, ex, hf⟩ := lt_some hf
  refine g_istn S (x' := x3_1) ex hl dX3_sensor_6 rfl rfl (lv' := [(3, .int x3_1), (0, .ref (a 0)), (1, .int x1), (2, .int x2)]) rfl (fun ls hl => ?_)
  refine lv_iconst (v := (1 : Int32)) S.x S.b dX3_sensor_7 ki_1 ?_
  refine lv_iconst (v := (2 : Int32)) S.x S.b dX3_sensor_8 ki_2 ?_
  refine lv_iload_n S.x S.b dX3_sensor_9 rfl (lv_at hl 3 rfl) ?_
  refine lv_imul S.x S.b dX3_sensor_10 ?_
  refine lv_iadd S.x S.b dX3_sensor_11 ?_
  obtain ⟨x4_2, ex, hf⟩ := lt_some hf
  refine g_ist S (x' := x4_2) ex hl dX3_sensor_12 rfl (lv' := [(4, .int x4_2), (3, .int x3_1), (0, .ref (a 0)), (1, .int x1), (2, .int x2)]) rfl (fun ls hl => ?_)
  refine lv_iload_n S.x S.b dX3_sensor_14 rfl (lv_at hl 4 rfl) ?_
  refine lv_if_ne (tgt := 35) S.x S.b dX3_sensor_15 rfl (fun cn => ?_) (fun cn => ?_)
  · have hf := if_f cn hf
    refine lv_aload_n S.x S.b dX3_sensor_35 rfl (lv_at hl 2 rfl) ?_
    refine rg_g S hM 3 rfl (Or.inl q226) rfl dX3_sensor_36 ?_
    refine lv_iload_n S.x S.b dX3_sensor_39 rfl (lv_at hl 3 rfl) ?_
    obtain ⟨hi, hf⟩ := ck_some hf
    refine rg_ld S hM 2 rfl hi dX3_sensor_40 ?_
    refine lv_aload_n S.x S.b dX3_sensor_41 rfl (lv_at hl 2 rfl) ?_
    refine rg_g S hM 1 rfl (Or.inl q223) rfl dX3_sensor_42 ?_
    refine lv_iload_n S.x S.b dX3_sensor_45 rfl (lv_at hl 3 rfl) ?_
    obtain ⟨hi, hf⟩ := ck_some hf
    refine rg_ld S hM 0 rfl hi dX3_sensor_46 ?_
    refine lv_icmp_ne (tgt := 54) S.x S.b dX3_sensor_47 rfl (fun cn => ?_) (fun cn => ?_)
    · have hf := if_f cn hf
      refine lv_iconst (v := (0 : Int32)) S.x S.b dX3_sensor_54 ki_0 ?_
      exact wX3_sensor_55 S x3_1 x4_2 (0 : Int32) w _ _ _ hM (lv_sub hl [1, 0] rfl) hf
    · have hf := if_t cn hf
      refine lv_iconst (v := (1 : Int32)) S.x S.b dX3_sensor_50 ki_1 ?_
      refine lv_goto (tgt := 55) S.x S.b dX3_sensor_51 rfl ?_
      exact wX3_sensor_55 S x3_1 x4_2 (1 : Int32) w _ _ _ hM (lv_sub hl [1, 0] rfl) hf
  · have hf := if_t cn hf
    refine lv_aload_n S.x S.b dX3_sensor_18 rfl (lv_at hl 2 rfl) ?_
    refine rg_g S hM 3 rfl (Or.inl q226) rfl dX3_sensor_19 ?_
    refine lv_iload_n S.x S.b dX3_sensor_22 rfl (lv_at hl 3 rfl) ?_
    obtain ⟨hi, hf⟩ := ck_some hf
    refine rg_ld S hM 2 rfl hi dX3_sensor_23 ?_
    refine lv_if_ne (tgt := 31) S.x S.b dX3_sensor_24 rfl (fun cn => ?_) (fun cn => ?_)
    · have hf := if_f cn hf
      refine lv_iconst (v := (0 : Int32)) S.x S.b dX3_sensor_31 ki_0 ?_
      refine lv_goto (tgt := 55) S.x S.b dX3_sensor_32 rfl ?_
      exact wX3_sensor_55 S x3_1 x4_2 (0 : Int32) w _ _ _ hM (lv_sub hl [1, 0] rfl) hf
    · have hf := if_t cn hf
      refine lv_iconst (v := (1 : Int32)) S.x S.b dX3_sensor_27 ki_1 ?_
      refine lv_goto (tgt := 55) S.x S.b dX3_sensor_28 rfl ?_
      exact wX3_sensor_55 S x3_1 x4_2 (1 : Int32) w _ _ _ hM (lv_sub hl [1, 0] rfl) hf
/-! SequenceBench$Rig.read()V -/
theorem hdX3_read : gHd yX3_read 0 := by decide +kernel
def gX3_read_39 (N : Nat) (k12 : Int32 → MW → Option (MW)) (x1 : Int32) (s0 : Int32) (s1 : Int32) (w : MW) : Option (MW) :=
  lt (setF w 10 (s1 ||| s0)) fun w_5 =>
  bd2 (gX3_sensor x1 (1 : Int32) w_5) fun r_7 w_6 =>
  if r_7 = 0 then (
  lt (setF w_6 11 ((w_5.1 11) ||| (0 : Int32))) fun w_8 =>
  lt (x1 + (1 : Int32)) fun x1_9 =>
  k12 x1_9 w_8)
  else (
  lt (setF w_6 11 ((w_5.1 11) ||| ((1 : Int32) <<< (x1 &&& 31)))) fun w_10 =>
  lt (x1 + (1 : Int32)) fun x1_11 =>
  k12 x1_11 w_10)
def gX3_read_12 (N : Nat) : Nat → Int32 → MW → Option (MW)
  | 0, _, _ => none
  | n + 1, x1, w =>
    if (6 : Int32) ≤ x1 then (
    some w)
    else (
    bd2 (gX3_sensor x1 (0 : Int32) w) fun r_4 w_3 =>
    if r_4 = 0 then (
    gX3_read_39 N (gX3_read_12 N n) x1 (0 : Int32) (w.1 10) w_3)
    else (
    gX3_read_39 N (gX3_read_12 N n) x1 ((1 : Int32) <<< (x1 &&& 31)) (w.1 10) w_3))
def gX3_read (N : Nat) (w : MW) : Option (MW) :=
  lt (setF w 10 (0 : Int32)) fun w_1 =>
  lt (setF w_1 11 (0 : Int32)) fun w_2 =>
  gX3_read_12 N N (0 : Int32) w_2
abbrev rmX3_read : Room := { frames := 3, cells := 0, slots := 0, locals := 58 }
set_option maxHeartbeats 4000000 in
theorem wX3_read_39 {p : Program} {l : Launch} {e : Env} {s : State} {m : MethodId} {args : Array Value} {below : List Frame} {meth : Method} {c : Code} {D : va_G} {T : Nat → ClassId} {A : Nat → Prop} {a : Nat → Nat} {so co : Option Nat} {tl : va_W} {wr : MW} {N : Nat} (S : gS p s m args meth c cX3_read 2 (none) RX3 D T) {k12 : Int32 → MW → Option (MW)} (hk12 : ∀ (x1 : Int32) (w : MW) (H : Heap) (locs : List Loc) (ls : Array Slot), gM D A s.heap (rgW a (T 0) so co w tl) H locs → lv_has ls 2 [(0, .ref (a 0)), (1, .int x1)] → k12 x1 w = some wr → W p l e rmX3_read s m args below meth c H locs 0 0 (MQ below (gQv D T A (rgW a (T 0) so co wr tl)) args s 0 0 A) (F0 m 12 ls [])) : ∀ (x1 : Int32) (s0 : Int32) (s1 : Int32) (w : MW) (H : Heap) (locs : List Loc) (ls : Array Slot), gM D A s.heap (rgW a (T 0) so co w tl) H locs → lv_has ls 2 [(0, .ref (a 0)), (1, .int x1)] → gX3_read_39 N k12 x1 s0 s1 w = some wr → W p l e rmX3_read s m args below meth c H locs 0 0 (MQ below (gQv D T A (rgW a (T 0) so co wr tl)) args s 0 0 A) (F0 m 39 ls [.int s0, .int s1, .ref (a 0)]) := by
  intro x1 s0 s1 w H locs ls hM hl hf
  refine lv_ior S.x S.b dX3_read_39 ?_
  obtain ⟨w_5, ew, hf⟩ := lt_some hf
  refine rg_p S hM 10 rfl ew (Or.inl q243) dX3_read_40 (fun H locs hM => ?_)
  refine lv_aload_n S.x S.b dX3_read_43 rfl (lv_at hl 0 rfl) ?_
  refine lv_dup S.x S.b dX3_read_44 rfl ?_
  refine rg_g S hM 11 rfl (Or.inl q244) rfl dX3_read_45 ?_
  refine lv_aload_n S.x S.b dX3_read_48 rfl (lv_at hl 0 rfl) ?_
  refine lv_iload_n S.x S.b dX3_read_49 rfl (lv_at hl 1 rfl) ?_
  refine lv_iconst (v := (1 : Int32)) S.x S.b dX3_read_50 ki_1 ?_
  obtain ⟨r_7, w_6, hc, hf⟩ := bd2_some hf
  refine gw_ci S hM hl [.int x1, .int (1 : Int32)] 2 rfl ⟨0, _, rfl⟩ (metX3_sensor hc) hdX3_sensor q1261 q1262 q1263 q65 q1264 ⟨rfl, rfl⟩ ⟨rfl, rfl⟩ rfl rfl rfl ⟨Nat.zero_le _, Nat.zero_le _⟩ dX3_read_51 (fun H locs hM => ?_)
  refine lv_if_eq (tgt := 63) S.x S.b dX3_read_54 rfl (fun cn => ?_) (fun cn => ?_)
  · have hf := if_t cn hf
    refine lv_iconst (v := (0 : Int32)) S.x S.b dX3_read_63 ki_0 ?_
    refine lv_ior S.x S.b dX3_read_64 ?_
    obtain ⟨w_8, ew, hf⟩ := lt_some hf
    refine rg_p S hM 11 rfl ew (Or.inl q244) dX3_read_65 (fun H locs hM => ?_)
    obtain ⟨x1_9, ex, hf⟩ := lt_some hf
    refine g_inc S (x' := x1_9) (d := (1 : Int32)) hl (k := 1) rfl ki_1 ex dX3_read_68 rfl (lv' := [(1, .int x1_9), (0, .ref (a 0))]) rfl (fun ls hl => ?_)
    refine lv_goto (tgt := 12) S.x S.b dX3_read_71 rfl ?_
    exact hk12 x1_9 w_8 _ _ _ hM (lv_sub hl [1, 0] rfl) hf
  · have hf := if_f cn hf
    refine lv_iconst (v := (1 : Int32)) S.x S.b dX3_read_57 ki_1 ?_
    refine lv_iload_n S.x S.b dX3_read_58 rfl (lv_at hl 1 rfl) ?_
    refine lv_ishl S.x S.b dX3_read_59 ?_
    refine lv_goto (tgt := 64) S.x S.b dX3_read_60 rfl ?_
    refine lv_ior S.x S.b dX3_read_64 ?_
    obtain ⟨w_10, ew, hf⟩ := lt_some hf
    refine rg_p S hM 11 rfl ew (Or.inl q244) dX3_read_65 (fun H locs hM => ?_)
    obtain ⟨x1_11, ex, hf⟩ := lt_some hf
    refine g_inc S (x' := x1_11) (d := (1 : Int32)) hl (k := 1) rfl ki_1 ex dX3_read_68 rfl (lv' := [(1, .int x1_11), (0, .ref (a 0))]) rfl (fun ls hl => ?_)
    refine lv_goto (tgt := 12) S.x S.b dX3_read_71 rfl ?_
    exact hk12 x1_11 w_10 _ _ _ hM (lv_sub hl [1, 0] rfl) hf
set_option maxHeartbeats 4000000 in
theorem wX3_read_12 {p : Program} {l : Launch} {e : Env} {s : State} {m : MethodId} {args : Array Value} {below : List Frame} {meth : Method} {c : Code} {D : va_G} {T : Nat → ClassId} {A : Nat → Prop} {a : Nat → Nat} {so co : Option Nat} {tl : va_W} {wr : MW} {N : Nat} (S : gS p s m args meth c cX3_read 2 (none) RX3 D T) : ∀ (n : Nat) (x1 : Int32) (w : MW) (H : Heap) (locs : List Loc) (ls : Array Slot), gM D A s.heap (rgW a (T 0) so co w tl) H locs → lv_has ls 2 [(0, .ref (a 0)), (1, .int x1)] → gX3_read_12 N n x1 w = some wr → W p l e rmX3_read s m args below meth c H locs 0 0 (MQ below (gQv D T A (rgW a (T 0) so co wr tl)) args s 0 0 A) (F0 m 12 ls []) := by
  intro n
  induction n with
  | zero =>
    intro x1 w H locs ls hM hl hf
    cases hf
  | succ n ih =>
    intro x1 w H locs ls hM hl hf
    refine lv_iload_n S.x S.b dX3_read_12 rfl (lv_at hl 1 rfl) ?_
    refine lv_bipush (v := (6 : Int32)) S.x S.b dX3_read_13 kb_6 ?_
    refine lv_icmp_ge (tgt := 74) S.x S.b dX3_read_15 rfl (fun cn => ?_) (fun cn => ?_)
    · have hf := if_t cn hf
      obtain rfl := rt1 hf
      exact g_vret S hM dX3_read_74
    · have hf := if_f cn hf
      refine lv_aload_n S.x S.b dX3_read_18 rfl (lv_at hl 0 rfl) ?_
      refine lv_dup S.x S.b dX3_read_19 rfl ?_
      refine rg_g S hM 10 rfl (Or.inl q243) rfl dX3_read_20 ?_
      refine lv_aload_n S.x S.b dX3_read_23 rfl (lv_at hl 0 rfl) ?_
      refine lv_iload_n S.x S.b dX3_read_24 rfl (lv_at hl 1 rfl) ?_
      refine lv_iconst (v := (0 : Int32)) S.x S.b dX3_read_25 ki_0 ?_
      obtain ⟨r_4, w_3, hc, hf⟩ := bd2_some hf
      refine gw_ci S hM hl [.int x1, .int (0 : Int32)] 2 rfl ⟨0, _, rfl⟩ (metX3_sensor hc) hdX3_sensor q1261 q1262 q1263 q65 q1264 ⟨rfl, rfl⟩ ⟨rfl, rfl⟩ rfl rfl rfl ⟨Nat.zero_le _, Nat.zero_le _⟩ dX3_read_26 (fun H locs hM => ?_)
      refine lv_if_eq (tgt := 38) S.x S.b dX3_read_29 rfl (fun cn => ?_) (fun cn => ?_)
      · have hf := if_t cn hf
        refine lv_iconst (v := (0 : Int32)) S.x S.b dX3_read_38 ki_0 ?_
        exact wX3_read_39 S ih x1 (0 : Int32) (w.1 10) w_3 _ _ _ hM (lv_sub hl [0, 1] rfl) hf
      · have hf := if_f cn hf
        refine lv_iconst (v := (1 : Int32)) S.x S.b dX3_read_32 ki_1 ?_
        refine lv_iload_n S.x S.b dX3_read_33 rfl (lv_at hl 1 rfl) ?_
        refine lv_ishl S.x S.b dX3_read_34 ?_
        refine lv_goto (tgt := 39) S.x S.b dX3_read_35 rfl ?_
        exact wX3_read_39 S ih x1 ((1 : Int32) <<< (x1 &&& 31)) (w.1 10) w_3 _ _ _ hM (lv_sub hl [0, 1] rfl) hf
set_option maxHeartbeats 4000000 in
theorem metX3_read {l : Launch} {D : va_G} {T : Nat → ClassId} {a : Nat → Nat} {so co : Option Nat} {tl : va_W} {wr : MW} {N : Nat} {w : MW} (hf : gX3_read N w = some wr) (sz : Nat) : MetV l yX3_read (ws_ yX3_read cX3_read 2 (none)) rmX3_read D T (rgW a (T 0) so co w tl) sz [.ref (a 0)] (rgW a (T 0) so co wr tl) := by
  refine g_entry (Qc := fun A => gQv D T A (rgW a (T 0) so co wr tl)) (by decide) rfl ?_
  intro p e s m below meth c ls S hM hl
  have hl : lv_has ls 2 [(0, .ref (a 0))] := hl
  refine lv_aload_n S.x S.b dX3_read_0 rfl (lv_at hl 0 rfl) ?_
  refine lv_iconst (v := (0 : Int32)) S.x S.b dX3_read_1 ki_0 ?_
  obtain ⟨w_1, ew, hf⟩ := lt_some hf
  refine rg_p S hM 10 rfl ew (Or.inl q243) dX3_read_2 (fun H locs hM => ?_)
  refine lv_aload_n S.x S.b dX3_read_5 rfl (lv_at hl 0 rfl) ?_
  refine lv_iconst (v := (0 : Int32)) S.x S.b dX3_read_6 ki_0 ?_
  obtain ⟨w_2, ew, hf⟩ := lt_some hf
  refine rg_p S hM 11 rfl ew (Or.inl q244) dX3_read_7 (fun H locs hM => ?_)
  refine lv_iconst (v := (0 : Int32)) S.x S.b dX3_read_10 ki_0 ?_
  refine g_istn S (x' := (0 : Int32)) rfl hl dX3_read_11 rfl rfl (lv' := [(1, .int (0 : Int32)), (0, .ref (a 0))]) rfl (fun ls hl => ?_)
  exact wX3_read_12 S N (0 : Int32) w_2 _ _ _ hM (lv_sub hl [1, 0] rfl) hf
/-! SequenceBench$Rig.moveCylinders()Z -/
theorem hdX3_moveCylinders : gHd yX3_moveCylinders 0 := by decide +kernel
def gX3_moveCylinders_31 (N : Nat) (k4 : Int32 → Int32 → MW → Option (Int32 × MW)) (x1 : Int32) (x2 : Int32) (s0 : Int32) (w : MW) : Option (Int32 × MW) :=
  ck x2 6 <|
  if (w.2 2 x2.toNatClampNeg) = s0 then (
  lt (x2 + (1 : Int32)) fun x2_2 =>
  k4 x1 x2_2 w)
  else (
  ck x2 6 <|
  bd (gX1_has (w.2 1 x2.toNatClampNeg) (0 : Int32)) fun r_3 =>
  if r_3 = 0 then (
  ck x2 6 <|
  if s0 ≤ 0 then (
  ck x2 6 <|
  lt (setA w 2 x2.toNatClampNeg ((w.2 2 x2.toNatClampNeg) + (-1 : Int32))) fun w_5 =>
  lt (x2 + (1 : Int32)) fun x2_6 =>
  k4 (1 : Int32) x2_6 w_5)
  else (
  ck x2 6 <|
  lt (setA w 2 x2.toNatClampNeg ((w.2 2 x2.toNatClampNeg) + (1 : Int32))) fun w_7 =>
  lt (x2 + (1 : Int32)) fun x2_8 =>
  k4 (1 : Int32) x2_8 w_7))
  else (
  lt (x2 + (1 : Int32)) fun x2_4 =>
  k4 x1 x2_4 w))
def gX3_moveCylinders_4 (N : Nat) : Nat → Int32 → Int32 → MW → Option (Int32 × MW)
  | 0, _, _, _ => none
  | n + 1, x1, x2, w =>
    if (6 : Int32) ≤ x2 then (
    bz x1 (some (x1, w)))
    else (
    bd (gX1_has (w.1 7) x2) fun r_1 =>
    if r_1 = 0 then (
    gX3_moveCylinders_31 N (gX3_moveCylinders_4 N n) x1 x2 (0 : Int32) w)
    else (
    ck x2 6 <|
    gX3_moveCylinders_31 N (gX3_moveCylinders_4 N n) x1 x2 (w.2 0 x2.toNatClampNeg) w))
def gX3_moveCylinders (N : Nat) (w : MW) : Option (Int32 × MW) :=
  gX3_moveCylinders_4 N N (0 : Int32) (0 : Int32) w
abbrev rmX3_moveCylinders : Room := { frames := 2, cells := 0, slots := 0, locals := 33 }
set_option maxHeartbeats 4000000 in
theorem wX3_moveCylinders_31 {p : Program} {l : Launch} {e : Env} {s : State} {m : MethodId} {args : Array Value} {below : List Frame} {meth : Method} {c : Code} {D : va_G} {T : Nat → ClassId} {A : Nat → Prop} {a : Nat → Nat} {so co : Option Nat} {tl : va_W} {rr : Int32} {wr : MW} {N : Nat} (S : gS p s m args meth c cX3_moveCylinders 4 (some .boolean) RX3 D T) {k4 : Int32 → Int32 → MW → Option (Int32 × MW)} (hk4 : ∀ (x1 : Int32) (x2 : Int32) (w : MW) (H : Heap) (locs : List Loc) (ls : Array Slot), gM D A s.heap (rgW a (T 0) so co w tl) H locs → lv_has ls 4 [(0, .ref (a 0)), (1, .int x1), (2, .int x2)] → k4 x1 x2 w = some (rr, wr) → W p l e rmX3_moveCylinders s m args below meth c H locs 0 0 (MQ below (gQi D T A rr (rgW a (T 0) so co wr tl)) args s 0 0 A) (F0 m 4 ls [])) : ∀ (x1 : Int32) (x2 : Int32) (s0 : Int32) (w : MW) (H : Heap) (locs : List Loc) (ls : Array Slot), gM D A s.heap (rgW a (T 0) so co w tl) H locs → lv_has ls 4 [(0, .ref (a 0)), (1, .int x1), (2, .int x2)] → gX3_moveCylinders_31 N k4 x1 x2 s0 w = some (rr, wr) → W p l e rmX3_moveCylinders s m args below meth c H locs 0 0 (MQ below (gQi D T A rr (rgW a (T 0) so co wr tl)) args s 0 0 A) (F0 m 31 ls [.int s0]) := by
  intro x1 x2 s0 w H locs ls hM hl hf
  refine g_istn S (x' := s0) rfl hl dX3_moveCylinders_31 rfl rfl (lv' := [(3, .int s0), (0, .ref (a 0)), (1, .int x1), (2, .int x2)]) rfl (fun ls hl => ?_)
  refine lv_aload_n S.x S.b dX3_moveCylinders_32 rfl (lv_at hl 1 rfl) ?_
  refine rg_g S hM 3 rfl (Or.inl q226) rfl dX3_moveCylinders_33 ?_
  refine lv_iload_n S.x S.b dX3_moveCylinders_36 rfl (lv_at hl 3 rfl) ?_
  obtain ⟨hi, hf⟩ := ck_some hf
  refine rg_ld S hM 2 rfl hi dX3_moveCylinders_37 ?_
  refine lv_iload_n S.x S.b dX3_moveCylinders_38 rfl (lv_at hl 0 rfl) ?_
  refine lv_icmp_eq (tgt := 75) S.x S.b dX3_moveCylinders_39 rfl (fun cn => ?_) (fun cn => ?_)
  · have hf := if_t cn hf
    obtain ⟨x2_2, ex, hf⟩ := lt_some hf
    refine g_inc S (x' := x2_2) (d := (1 : Int32)) hl (k := 3) rfl ki_1 ex dX3_moveCylinders_75 rfl (lv' := [(2, .int x2_2), (3, .int s0), (0, .ref (a 0)), (1, .int x1)]) rfl (fun ls hl => ?_)
    refine lv_goto (tgt := 4) S.x S.b dX3_moveCylinders_78 rfl ?_
    exact hk4 x1 x2_2 w _ _ _ hM (lv_sub hl [2, 3, 0] rfl) hf
  · have hf := if_f cn hf
    refine lv_aload_n S.x S.b dX3_moveCylinders_42 rfl (lv_at hl 1 rfl) ?_
    refine rg_g S hM 2 rfl (Or.inl q224) rfl dX3_moveCylinders_43 ?_
    refine lv_iload_n S.x S.b dX3_moveCylinders_46 rfl (lv_at hl 3 rfl) ?_
    obtain ⟨hi, hf⟩ := ck_some hf
    refine rg_ld S hM 1 rfl hi dX3_moveCylinders_47 ?_
    refine lv_iconst (v := (0 : Int32)) S.x S.b dX3_moveCylinders_48 ki_0 ?_
    obtain ⟨r_3, hc, hf⟩ := bd_some hf
    refine gn_si S hM hl [.int (w.2 1 x2.toNatClampNeg), .int (0 : Int32)] (metX1_has hc) hdX1_has q1265 q791 q62 q792 ⟨rfl, rfl⟩ ⟨rfl, rfl⟩ rfl rfl rfl ⟨Nat.zero_le _, Nat.zero_le _⟩ dX3_moveCylinders_49 (fun H locs hM => ?_)
    refine lv_if_ne (tgt := 75) S.x S.b dX3_moveCylinders_52 rfl (fun cn => ?_) (fun cn => ?_)
    · have hf := if_f cn hf
      obtain ⟨x2_4, ex, hf⟩ := lt_some hf
      refine g_inc S (x' := x2_4) (d := (1 : Int32)) hl (k := 3) rfl ki_1 ex dX3_moveCylinders_75 rfl (lv' := [(2, .int x2_4), (3, .int s0), (0, .ref (a 0)), (1, .int x1)]) rfl (fun ls hl => ?_)
      refine lv_goto (tgt := 4) S.x S.b dX3_moveCylinders_78 rfl ?_
      exact hk4 x1 x2_4 w _ _ _ hM (lv_sub hl [2, 3, 0] rfl) hf
    · have hf := if_t cn hf
      refine lv_aload_n S.x S.b dX3_moveCylinders_55 rfl (lv_at hl 1 rfl) ?_
      refine rg_g S hM 3 rfl (Or.inl q226) rfl dX3_moveCylinders_56 ?_
      refine lv_iload_n S.x S.b dX3_moveCylinders_59 rfl (lv_at hl 3 rfl) ?_
      refine lv_dup2_11 S.x S.b dX3_moveCylinders_60 rfl rfl ?_
      obtain ⟨hi, hf⟩ := ck_some hf
      refine rg_ld S hM 2 rfl hi dX3_moveCylinders_61 ?_
      refine lv_iload_n S.x S.b dX3_moveCylinders_62 rfl (lv_at hl 0 rfl) ?_
      refine lv_if_le (tgt := 70) S.x S.b dX3_moveCylinders_63 rfl (fun cn => ?_) (fun cn => ?_)
      · have hf := if_t cn hf
        refine lv_iconst (v := (-1 : Int32)) S.x S.b dX3_moveCylinders_70 ki_m1 ?_
        refine lv_iadd S.x S.b dX3_moveCylinders_71 ?_
        obtain ⟨hi, hf⟩ := ck_some hf
        obtain ⟨w_5, ew, hf⟩ := lt_some hf
        refine rg_st S hM 2 rfl hi ew dX3_moveCylinders_72 (fun H locs hM => ?_)
        refine lv_iconst (v := (1 : Int32)) S.x S.b dX3_moveCylinders_73 ki_1 ?_
        refine g_istn S (x' := (1 : Int32)) rfl hl dX3_moveCylinders_74 rfl rfl (lv' := [(1, .int (1 : Int32)), (3, .int s0), (0, .ref (a 0)), (2, .int x2)]) rfl (fun ls hl => ?_)
        obtain ⟨x2_6, ex, hf⟩ := lt_some hf
        refine g_inc S (x' := x2_6) (d := (1 : Int32)) hl (k := 3) rfl ki_1 ex dX3_moveCylinders_75 rfl (lv' := [(2, .int x2_6), (1, .int (1 : Int32)), (3, .int s0), (0, .ref (a 0))]) rfl (fun ls hl => ?_)
        refine lv_goto (tgt := 4) S.x S.b dX3_moveCylinders_78 rfl ?_
        exact hk4 (1 : Int32) x2_6 w_5 _ _ _ hM (lv_sub hl [3, 1, 0] rfl) hf
      · have hf := if_f cn hf
        refine lv_iconst (v := (1 : Int32)) S.x S.b dX3_moveCylinders_66 ki_1 ?_
        refine lv_goto (tgt := 71) S.x S.b dX3_moveCylinders_67 rfl ?_
        refine lv_iadd S.x S.b dX3_moveCylinders_71 ?_
        obtain ⟨hi, hf⟩ := ck_some hf
        obtain ⟨w_7, ew, hf⟩ := lt_some hf
        refine rg_st S hM 2 rfl hi ew dX3_moveCylinders_72 (fun H locs hM => ?_)
        refine lv_iconst (v := (1 : Int32)) S.x S.b dX3_moveCylinders_73 ki_1 ?_
        refine g_istn S (x' := (1 : Int32)) rfl hl dX3_moveCylinders_74 rfl rfl (lv' := [(1, .int (1 : Int32)), (3, .int s0), (0, .ref (a 0)), (2, .int x2)]) rfl (fun ls hl => ?_)
        obtain ⟨x2_8, ex, hf⟩ := lt_some hf
        refine g_inc S (x' := x2_8) (d := (1 : Int32)) hl (k := 3) rfl ki_1 ex dX3_moveCylinders_75 rfl (lv' := [(2, .int x2_8), (1, .int (1 : Int32)), (3, .int s0), (0, .ref (a 0))]) rfl (fun ls hl => ?_)
        refine lv_goto (tgt := 4) S.x S.b dX3_moveCylinders_78 rfl ?_
        exact hk4 (1 : Int32) x2_8 w_7 _ _ _ hM (lv_sub hl [3, 1, 0] rfl) hf
set_option maxHeartbeats 4000000 in
theorem wX3_moveCylinders_4 {p : Program} {l : Launch} {e : Env} {s : State} {m : MethodId} {args : Array Value} {below : List Frame} {meth : Method} {c : Code} {D : va_G} {T : Nat → ClassId} {A : Nat → Prop} {a : Nat → Nat} {so co : Option Nat} {tl : va_W} {rr : Int32} {wr : MW} {N : Nat} (S : gS p s m args meth c cX3_moveCylinders 4 (some .boolean) RX3 D T) : ∀ (n : Nat) (x1 : Int32) (x2 : Int32) (w : MW) (H : Heap) (locs : List Loc) (ls : Array Slot), gM D A s.heap (rgW a (T 0) so co w tl) H locs → lv_has ls 4 [(0, .ref (a 0)), (1, .int x1), (2, .int x2)] → gX3_moveCylinders_4 N n x1 x2 w = some (rr, wr) → W p l e rmX3_moveCylinders s m args below meth c H locs 0 0 (MQ below (gQi D T A rr (rgW a (T 0) so co wr tl)) args s 0 0 A) (F0 m 4 ls []) := by
  intro n
  induction n with
  | zero =>
    intro x1 x2 w H locs ls hM hl hf
    cases hf
  | succ n ih =>
    intro x1 x2 w H locs ls hM hl hf
    refine lv_iload_n S.x S.b dX3_moveCylinders_4 rfl (lv_at hl 2 rfl) ?_
    refine lv_bipush (v := (6 : Int32)) S.x S.b dX3_moveCylinders_5 kb_6 ?_
    refine lv_icmp_ge (tgt := 81) S.x S.b dX3_moveCylinders_7 rfl (fun cn => ?_) (fun cn => ?_)
    · have hf := if_t cn hf
      refine lv_iload_n S.x S.b dX3_moveCylinders_81 rfl (lv_at hl 1 rfl) ?_
      obtain ⟨hz, hf⟩ := bz_some hf
      obtain ⟨rfl, rfl⟩ := rt2 hf
      exact g_zret S hM rfl hz dX3_moveCylinders_82
    · have hf := if_f cn hf
      refine lv_aload_n S.x S.b dX3_moveCylinders_10 rfl (lv_at hl 0 rfl) ?_
      refine rg_g S hM 7 rfl (Or.inl q237) rfl dX3_moveCylinders_11 ?_
      refine lv_iload_n S.x S.b dX3_moveCylinders_14 rfl (lv_at hl 2 rfl) ?_
      obtain ⟨r_1, hc, hf⟩ := bd_some hf
      refine gn_si S hM hl [.int (w.1 7), .int x2] (metX1_has hc) hdX1_has q1265 q791 q62 q792 ⟨rfl, rfl⟩ ⟨rfl, rfl⟩ rfl rfl rfl ⟨Nat.zero_le _, Nat.zero_le _⟩ dX3_moveCylinders_15 (fun H locs hM => ?_)
      refine lv_if_eq (tgt := 30) S.x S.b dX3_moveCylinders_18 rfl (fun cn => ?_) (fun cn => ?_)
      · have hf := if_t cn hf
        refine lv_iconst (v := (0 : Int32)) S.x S.b dX3_moveCylinders_30 ki_0 ?_
        exact wX3_moveCylinders_31 S ih x1 x2 (0 : Int32) w _ _ _ hM (lv_sub hl [0, 1, 2] rfl) hf
      · have hf := if_f cn hf
        refine lv_aload_n S.x S.b dX3_moveCylinders_21 rfl (lv_at hl 0 rfl) ?_
        refine rg_g S hM 1 rfl (Or.inl q223) rfl dX3_moveCylinders_22 ?_
        refine lv_iload_n S.x S.b dX3_moveCylinders_25 rfl (lv_at hl 2 rfl) ?_
        obtain ⟨hi, hf⟩ := ck_some hf
        refine rg_ld S hM 0 rfl hi dX3_moveCylinders_26 ?_
        refine lv_goto (tgt := 31) S.x S.b dX3_moveCylinders_27 rfl ?_
        exact wX3_moveCylinders_31 S ih x1 x2 (w.2 0 x2.toNatClampNeg) w _ _ _ hM (lv_sub hl [0, 1, 2] rfl) hf
set_option maxHeartbeats 4000000 in
theorem metX3_moveCylinders {l : Launch} {D : va_G} {T : Nat → ClassId} {a : Nat → Nat} {so co : Option Nat} {tl : va_W} {rr : Int32} {wr : MW} {N : Nat} {w : MW} (hf : gX3_moveCylinders N w = some (rr, wr)) (sz : Nat) : MetI l yX3_moveCylinders (ws_ yX3_moveCylinders cX3_moveCylinders 4 (some .boolean)) rmX3_moveCylinders D T (rgW a (T 0) so co w tl) sz [.ref (a 0)] rr (rgW a (T 0) so co wr tl) := by
  refine g_entry (Qc := fun A => gQi D T A rr (rgW a (T 0) so co wr tl)) (by decide) rfl ?_
  intro p e s m below meth c ls S hM hl
  have hl : lv_has ls 4 [(0, .ref (a 0))] := hl
  refine lv_iconst (v := (0 : Int32)) S.x S.b dX3_moveCylinders_0 ki_0 ?_
  refine g_istn S (x' := (0 : Int32)) rfl hl dX3_moveCylinders_1 rfl rfl (lv' := [(1, .int (0 : Int32)), (0, .ref (a 0))]) rfl (fun ls hl => ?_)
  refine lv_iconst (v := (0 : Int32)) S.x S.b dX3_moveCylinders_2 ki_0 ?_
  refine g_istn S (x' := (0 : Int32)) rfl hl dX3_moveCylinders_3 rfl rfl (lv' := [(2, .int (0 : Int32)), (1, .int (0 : Int32)), (0, .ref (a 0))]) rfl (fun ls hl => ?_)
  exact wX3_moveCylinders_4 S N (0 : Int32) (0 : Int32) w _ _ _ hM (lv_sub hl [2, 1, 0] rfl) hf
/-! SequenceBench$Rig.isComplete(I)Z -/
theorem hdX3_isComplete : gHd yX3_isComplete 1 := by decide +kernel
def gX3_isComplete (ns : Nat) (q : MW) (x1 : Int32) (w : MW) : Option (Int32 × MW) :=
  ck x1 ns <|
  if (q.2 2 x1.toNatClampNeg) ≤ 0 then (
  if ((w.1 11) &&& (q.2 0 x1.toNatClampNeg)) = (q.2 0 x1.toNatClampNeg) then (
  if ((w.1 10) &&& (q.2 1 x1.toNatClampNeg)) = (q.2 1 x1.toNatClampNeg) then (
  some ((1 : Int32), w))
  else (
  some ((0 : Int32), w)))
  else (
  some ((0 : Int32), w)))
  else (
  ck x1 16 <|
  if (w.2 3 x1.toNatClampNeg) < (q.2 2 x1.toNatClampNeg) then (
  some ((0 : Int32), w))
  else (
  some ((1 : Int32), w)))
abbrev rmX3_isComplete : Room := { frames := 1, cells := 0, slots := 0, locals := 12 }
set_option maxHeartbeats 4000000 in
theorem metX3_isComplete {l : Launch} {D : va_G} {T : Nat → ClassId} {a b sa : Nat → Nat} {co : Option Nat} {cv : Value} {tl : va_W} {rr : Int32} {wr : MW} {x1 : Int32} {w : MW} {ns : Nat} {q : MW} (hQ : SqI T b sa ns q cv tl) (hf : gX3_isComplete ns q x1 w = some (rr, wr)) (sz : Nat) : MetI l yX3_isComplete (ws_ yX3_isComplete cX3_isComplete 3 (some .boolean)) rmX3_isComplete D T (rgW a (T 0) (some (b 0)) co w tl) sz [.ref (a 0), .int x1] rr (rgW a (T 0) (some (b 0)) co wr tl) := by
  refine g_entry (Qc := fun A => gQi D T A rr (rgW a (T 0) (some (b 0)) co wr tl)) (by decide) rfl ?_
  intro p e s m below meth c ls S hM hl
  have hl : lv_has ls 3 [(0, .ref (a 0)), (1, .int x1)] := hl
  refine lv_aload_n S.x S.b dX3_isComplete_0 rfl (lv_at hl 0 rfl) ?_
  refine rg_g S hM 0 rfl (Or.inl q221) rfl dX3_isComplete_1 ?_
  refine sq_g S hM hQ.rg 0 rfl (Or.inr ⟨_, q918⟩) rfl dX3_isComplete_4 ?_
  refine lv_iload_n S.x S.b dX3_isComplete_7 rfl (lv_at hl 1 rfl) ?_
  obtain ⟨hi_1, hf⟩ := ck_some hf
  refine sq_ald S hM hQ.rg hi_1 dX3_isComplete_8 ?_
  refine lv_astore_n (lv' := [(2, .ref (sa x1.toNatClampNeg)), (0, .ref (a 0)), (1, .int x1)]) S.x S.b dX3_isComplete_9 rfl hl (by decide) rfl (fun ls hl => ?_)
  refine lv_aload_n S.x S.b dX3_isComplete_10 rfl (lv_at hl 0 rfl) ?_
  refine st_g S hM (hQ.rg.stx hi_1) 2 rfl (Or.inr ⟨_, q813⟩) rfl dX3_isComplete_11 ?_
  refine lv_if_le (tgt := 36) S.x S.b dX3_isComplete_14 rfl (fun cn => ?_) (fun cn => ?_)
  · have hf := if_t cn hf
    refine lv_aload_n S.x S.b dX3_isComplete_36 rfl (lv_at hl 1 rfl) ?_
    refine rg_g S hM 11 rfl (Or.inl q244) rfl dX3_isComplete_37 ?_
    refine lv_aload_n S.x S.b dX3_isComplete_40 rfl (lv_at hl 0 rfl) ?_
    refine st_g S hM (hQ.rg.stx hi_1) 0 rfl (Or.inr ⟨_, q808⟩) rfl dX3_isComplete_41 ?_
    refine lv_iand S.x S.b dX3_isComplete_44 ?_
    refine lv_aload_n S.x S.b dX3_isComplete_45 rfl (lv_at hl 0 rfl) ?_
    refine st_g S hM (hQ.rg.stx hi_1) 0 rfl (Or.inr ⟨_, q808⟩) rfl dX3_isComplete_46 ?_
    refine lv_icmp_ne (tgt := 72) S.x S.b dX3_isComplete_49 rfl (fun cn => ?_) (fun cn => ?_)
    · have hf := if_f cn hf
      refine lv_iconst (v := (0 : Int32)) S.x S.b dX3_isComplete_72 ki_0 ?_
      obtain ⟨rfl, rfl⟩ := rt2 hf
      exact g_zret S hM rfl rfl dX3_isComplete_73
    · have hf := if_t cn hf
      refine lv_aload_n S.x S.b dX3_isComplete_52 rfl (lv_at hl 1 rfl) ?_
      refine rg_g S hM 10 rfl (Or.inl q243) rfl dX3_isComplete_53 ?_
      refine lv_aload_n S.x S.b dX3_isComplete_56 rfl (lv_at hl 0 rfl) ?_
      refine st_g S hM (hQ.rg.stx hi_1) 1 rfl (Or.inr ⟨_, q811⟩) rfl dX3_isComplete_57 ?_
      refine lv_iand S.x S.b dX3_isComplete_60 ?_
      refine lv_aload_n S.x S.b dX3_isComplete_61 rfl (lv_at hl 0 rfl) ?_
      refine st_g S hM (hQ.rg.stx hi_1) 1 rfl (Or.inr ⟨_, q811⟩) rfl dX3_isComplete_62 ?_
      refine lv_icmp_ne (tgt := 72) S.x S.b dX3_isComplete_65 rfl (fun cn => ?_) (fun cn => ?_)
      · have hf := if_f cn hf
        refine lv_iconst (v := (0 : Int32)) S.x S.b dX3_isComplete_72 ki_0 ?_
        obtain ⟨rfl, rfl⟩ := rt2 hf
        exact g_zret S hM rfl rfl dX3_isComplete_73
      · have hf := if_t cn hf
        refine lv_iconst (v := (1 : Int32)) S.x S.b dX3_isComplete_68 ki_1 ?_
        refine lv_goto (tgt := 73) S.x S.b dX3_isComplete_69 rfl ?_
        obtain ⟨rfl, rfl⟩ := rt2 hf
        exact g_zret S hM rfl rfl dX3_isComplete_73
  · have hf := if_f cn hf
    refine lv_aload_n S.x S.b dX3_isComplete_17 rfl (lv_at hl 1 rfl) ?_
    refine rg_g S hM 4 rfl (Or.inl q228) rfl dX3_isComplete_18 ?_
    refine lv_iload_n S.x S.b dX3_isComplete_21 rfl (lv_at hl 2 rfl) ?_
    obtain ⟨hi, hf⟩ := ck_some hf
    refine rg_ld S hM 3 rfl hi dX3_isComplete_22 ?_
    refine lv_aload_n S.x S.b dX3_isComplete_23 rfl (lv_at hl 0 rfl) ?_
    refine st_g S hM (hQ.rg.stx hi_1) 2 rfl (Or.inr ⟨_, q813⟩) rfl dX3_isComplete_24 ?_
    refine lv_icmp_lt (tgt := 34) S.x S.b dX3_isComplete_27 rfl (fun cn => ?_) (fun cn => ?_)
    · have hf := if_t cn hf
      refine lv_iconst (v := (0 : Int32)) S.x S.b dX3_isComplete_34 ki_0 ?_
      obtain ⟨rfl, rfl⟩ := rt2 hf
      exact g_zret S hM rfl rfl dX3_isComplete_35
    · have hf := if_f cn hf
      refine lv_iconst (v := (1 : Int32)) S.x S.b dX3_isComplete_30 ki_1 ?_
      refine lv_goto (tgt := 35) S.x S.b dX3_isComplete_31 rfl ?_
      obtain ⟨rfl, rfl⟩ := rt2 hf
      exact g_zret S hM rfl rfl dX3_isComplete_35
/-! SequenceBench$Rig.command(I)V -/
theorem hdX3_command : gHd yX3_command 1 := by decide +kernel
def gX3_command (ns : Nat) (q : MW) (x1 : Int32) (w : MW) : Option (MW) :=
  ck x1 ns <|
  lt (setF w 12 ((w.1 12) ||| (q.2 0 x1.toNatClampNeg))) fun w_2 =>
  lt (setF w_2 13 ((w_2.1 13) ||| (q.2 1 x1.toNatClampNeg))) fun w_3 =>
  if (q.2 2 x1.toNatClampNeg) ≤ 0 then (
  lt (setF w_3 14 ((w_3.1 14) ||| (0 : Int32))) fun w_4 =>
  some w_4)
  else (
  lt (setF w_3 14 ((w_3.1 14) ||| ((1 : Int32) <<< (x1 &&& 31)))) fun w_5 =>
  some w_5)
abbrev rmX3_command : Room := { frames := 1, cells := 0, slots := 0, locals := 12 }
set_option maxHeartbeats 4000000 in
theorem metX3_command {l : Launch} {D : va_G} {T : Nat → ClassId} {a b sa : Nat → Nat} {co : Option Nat} {cv : Value} {tl : va_W} {wr : MW} {x1 : Int32} {w : MW} {ns : Nat} {q : MW} (hQ : SqI T b sa ns q cv tl) (hf : gX3_command ns q x1 w = some wr) (sz : Nat) : MetV l yX3_command (ws_ yX3_command cX3_command 3 (none)) rmX3_command D T (rgW a (T 0) (some (b 0)) co w tl) sz [.ref (a 0), .int x1] (rgW a (T 0) (some (b 0)) co wr tl) := by
  refine g_entry (Qc := fun A => gQv D T A (rgW a (T 0) (some (b 0)) co wr tl)) (by decide) rfl ?_
  intro p e s m below meth c ls S hM hl
  have hl : lv_has ls 3 [(0, .ref (a 0)), (1, .int x1)] := hl
  refine lv_aload_n S.x S.b dX3_command_0 rfl (lv_at hl 0 rfl) ?_
  refine rg_g S hM 0 rfl (Or.inl q221) rfl dX3_command_1 ?_
  refine sq_g S hM hQ.rg 0 rfl (Or.inr ⟨_, q918⟩) rfl dX3_command_4 ?_
  refine lv_iload_n S.x S.b dX3_command_7 rfl (lv_at hl 1 rfl) ?_
  obtain ⟨hi_1, hf⟩ := ck_some hf
  refine sq_ald S hM hQ.rg hi_1 dX3_command_8 ?_
  refine lv_astore_n (lv' := [(2, .ref (sa x1.toNatClampNeg)), (0, .ref (a 0)), (1, .int x1)]) S.x S.b dX3_command_9 rfl hl (by decide) rfl (fun ls hl => ?_)
  refine lv_aload_n S.x S.b dX3_command_10 rfl (lv_at hl 1 rfl) ?_
  refine lv_dup S.x S.b dX3_command_11 rfl ?_
  refine rg_g S hM 12 rfl (Or.inl q245) rfl dX3_command_12 ?_
  refine lv_aload_n S.x S.b dX3_command_15 rfl (lv_at hl 0 rfl) ?_
  refine st_g S hM (hQ.rg.stx hi_1) 0 rfl (Or.inr ⟨_, q808⟩) rfl dX3_command_16 ?_
  refine lv_ior S.x S.b dX3_command_19 ?_
  obtain ⟨w_2, ew, hf⟩ := lt_some hf
  refine rg_p S hM 12 rfl ew (Or.inl q245) dX3_command_20 (fun H locs hM => ?_)
  refine lv_aload_n S.x S.b dX3_command_23 rfl (lv_at hl 1 rfl) ?_
  refine lv_dup S.x S.b dX3_command_24 rfl ?_
  refine rg_g S hM 13 rfl (Or.inl q247) rfl dX3_command_25 ?_
  refine lv_aload_n S.x S.b dX3_command_28 rfl (lv_at hl 0 rfl) ?_
  refine st_g S hM (hQ.rg.stx hi_1) 1 rfl (Or.inr ⟨_, q811⟩) rfl dX3_command_29 ?_
  refine lv_ior S.x S.b dX3_command_32 ?_
  obtain ⟨w_3, ew, hf⟩ := lt_some hf
  refine rg_p S hM 13 rfl ew (Or.inl q247) dX3_command_33 (fun H locs hM => ?_)
  refine lv_aload_n S.x S.b dX3_command_36 rfl (lv_at hl 1 rfl) ?_
  refine lv_dup S.x S.b dX3_command_37 rfl ?_
  refine rg_g S hM 14 rfl (Or.inl q249) rfl dX3_command_38 ?_
  refine lv_aload_n S.x S.b dX3_command_41 rfl (lv_at hl 0 rfl) ?_
  refine st_g S hM (hQ.rg.stx hi_1) 2 rfl (Or.inr ⟨_, q813⟩) rfl dX3_command_42 ?_
  refine lv_if_le (tgt := 54) S.x S.b dX3_command_45 rfl (fun cn => ?_) (fun cn => ?_)
  · have hf := if_t cn hf
    refine lv_iconst (v := (0 : Int32)) S.x S.b dX3_command_54 ki_0 ?_
    refine lv_ior S.x S.b dX3_command_55 ?_
    obtain ⟨w_4, ew, hf⟩ := lt_some hf
    refine rg_p S hM 14 rfl ew (Or.inl q249) dX3_command_56 (fun H locs hM => ?_)
    obtain rfl := rt1 hf
    exact g_vret S hM dX3_command_59
  · have hf := if_f cn hf
    refine lv_iconst (v := (1 : Int32)) S.x S.b dX3_command_48 ki_1 ?_
    refine lv_iload_n S.x S.b dX3_command_49 rfl (lv_at hl 2 rfl) ?_
    refine lv_ishl S.x S.b dX3_command_50 ?_
    refine lv_goto (tgt := 55) S.x S.b dX3_command_51 rfl ?_
    refine lv_ior S.x S.b dX3_command_55 ?_
    obtain ⟨w_5, ew, hf⟩ := lt_some hf
    refine rg_p S hM 14 rfl ew (Or.inl q249) dX3_command_56 (fun H locs hM => ?_)
    obtain rfl := rt1 hf
    exact g_vret S hM dX3_command_59
/-! SequenceBench$Rig.expect(I)V -/
theorem hdX3_expect : gHd yX3_expect 1 := by decide +kernel
def gX3_expect (ns : Nat) (q : MW) (x1 : Int32) (w : MW) : Option (MW) :=
  lt (setF w 19 x1) fun w_1 =>
  ck x1 ns <|
  lt (setF w_1 20 (q.2 0 x1.toNatClampNeg)) fun w_3 =>
  ck x1 ns <|
  lt (setF w_3 21 (q.2 1 x1.toNatClampNeg)) fun w_5 =>
  some w_5
abbrev rmX3_expect : Room := { frames := 1, cells := 0, slots := 0, locals := 12 }
set_option maxHeartbeats 4000000 in
theorem metX3_expect {l : Launch} {D : va_G} {T : Nat → ClassId} {a b sa : Nat → Nat} {co : Option Nat} {cv : Value} {tl : va_W} {wr : MW} {x1 : Int32} {w : MW} {ns : Nat} {q : MW} (hQ : SqI T b sa ns q cv tl) (hf : gX3_expect ns q x1 w = some wr) (sz : Nat) : MetV l yX3_expect (ws_ yX3_expect cX3_expect 2 (none)) rmX3_expect D T (rgW a (T 0) (some (b 0)) co w tl) sz [.ref (a 0), .int x1] (rgW a (T 0) (some (b 0)) co wr tl) := by
  refine g_entry (Qc := fun A => gQv D T A (rgW a (T 0) (some (b 0)) co wr tl)) (by decide) rfl ?_
  intro p e s m below meth c ls S hM hl
  have hl : lv_has ls 2 [(0, .ref (a 0)), (1, .int x1)] := hl
  refine lv_aload_n S.x S.b dX3_expect_0 rfl (lv_at hl 0 rfl) ?_
  refine lv_iload_n S.x S.b dX3_expect_1 rfl (lv_at hl 1 rfl) ?_
  obtain ⟨w_1, ew, hf⟩ := lt_some hf
  refine rg_p S hM 19 rfl ew (Or.inl q258) dX3_expect_2 (fun H locs hM => ?_)
  refine lv_aload_n S.x S.b dX3_expect_5 rfl (lv_at hl 0 rfl) ?_
  refine lv_aload_n S.x S.b dX3_expect_6 rfl (lv_at hl 0 rfl) ?_
  refine rg_g S hM 0 rfl (Or.inl q221) rfl dX3_expect_7 ?_
  refine sq_g S hM hQ.rg 0 rfl (Or.inr ⟨_, q918⟩) rfl dX3_expect_10 ?_
  refine lv_iload_n S.x S.b dX3_expect_13 rfl (lv_at hl 1 rfl) ?_
  obtain ⟨hi_2, hf⟩ := ck_some hf
  refine sq_ald S hM hQ.rg hi_2 dX3_expect_14 ?_
  refine st_g S hM (hQ.rg.stx hi_2) 0 rfl (Or.inr ⟨_, q808⟩) rfl dX3_expect_15 ?_
  obtain ⟨w_3, ew, hf⟩ := lt_some hf
  refine rg_p S hM 20 rfl ew (Or.inl q259) dX3_expect_18 (fun H locs hM => ?_)
  refine lv_aload_n S.x S.b dX3_expect_21 rfl (lv_at hl 0 rfl) ?_
  refine lv_aload_n S.x S.b dX3_expect_22 rfl (lv_at hl 0 rfl) ?_
  refine rg_g S hM 0 rfl (Or.inl q221) rfl dX3_expect_23 ?_
  refine sq_g S hM hQ.rg 0 rfl (Or.inr ⟨_, q918⟩) rfl dX3_expect_26 ?_
  refine lv_iload_n S.x S.b dX3_expect_29 rfl (lv_at hl 1 rfl) ?_
  obtain ⟨hi_4, hf⟩ := ck_some hf
  refine sq_ald S hM hQ.rg hi_4 dX3_expect_30 ?_
  refine st_g S hM (hQ.rg.stx hi_4) 1 rfl (Or.inr ⟨_, q811⟩) rfl dX3_expect_31 ?_
  obtain ⟨w_5, ew, hf⟩ := lt_some hf
  refine rg_p S hM 21 rfl ew (Or.inl q260) dX3_expect_34 (fun H locs hM => ?_)
  obtain rfl := rt1 hf
  exact g_vret S hM dX3_expect_37
/-! SequenceBench$Rig.advance()V -/
theorem hdX3_advance : gHd yX3_advance 0 := by decide +kernel
def gX3_advance_0 (N : Nat) (ns : Nat) (q : MW) : Nat → MW → Option (MW)
  | 0, _ => none
  | n + 1, w =>
    if (w.1 20) = 0 then (
    if (w.1 21) = 0 then (
    bd (gX11_after ns q (w.1 19)) fun r_2 =>
    bd (gX3_expect ns q r_2 w) fun w_3 =>
    bd (gX11_firstWithMoves N ns q) fun r_6 =>
    if (w_3.1 19) = r_6 then (
    lt (setF w_3 22 ((w_3.1 22) + (1 : Int32))) fun w_7 =>
    lt (setF w_7 24 (w_7.1 23)) fun w_8 =>
    lt (setF w_8 23 (w_8.1 8)) fun w_9 =>
    gX3_advance_0 N ns q n w_9)
    else (
    gX3_advance_0 N ns q n w_3))
    else (
    some w))
    else (
    some w)
def gX3_advance (N : Nat) (ns : Nat) (q : MW) (w : MW) : Option (MW) :=
  gX3_advance_0 N ns q N w
abbrev rmX3_advance : Room := { frames := 3, cells := 0, slots := 0, locals := 53 }
set_option maxHeartbeats 4000000 in
theorem wX3_advance_0 {p : Program} {l : Launch} {e : Env} {s : State} {m : MethodId} {args : Array Value} {below : List Frame} {meth : Method} {c : Code} {D : va_G} {T : Nat → ClassId} {A : Nat → Prop} {a b sa : Nat → Nat} {co : Option Nat} {cv : Value} {tl : va_W} {wr : MW} {N : Nat} {ns : Nat} {q : MW} (S : gS p s m args meth c cX3_advance 1 (none) RX3 D T) (hQ : SqI T b sa ns q cv tl) : ∀ (n : Nat) (w : MW) (H : Heap) (locs : List Loc) (ls : Array Slot), gM D A s.heap (rgW a (T 0) (some (b 0)) co w tl) H locs → lv_has ls 1 [(0, .ref (a 0))] → gX3_advance_0 N ns q n w = some wr → W p l e rmX3_advance s m args below meth c H locs 0 0 (MQ below (gQv D T A (rgW a (T 0) (some (b 0)) co wr tl)) args s 0 0 A) (F0 m 0 ls []) := by
  intro n
  induction n with
  | zero =>
    intro w H locs ls hM hl hf
    cases hf
  | succ n ih =>
    intro w H locs ls hM hl hf
    refine lv_aload_n S.x S.b dX3_advance_0 rfl (lv_at hl 0 rfl) ?_
    refine rg_g S hM 20 rfl (Or.inl q259) rfl dX3_advance_1 ?_
    refine lv_if_ne (tgt := 72) S.x S.b dX3_advance_4 rfl (fun cn => ?_) (fun cn => ?_)
    · have hf := if_f cn hf
      obtain rfl := rt1 hf
      exact g_vret S hM dX3_advance_72
    · have hf := if_t cn hf
      refine lv_aload_n S.x S.b dX3_advance_7 rfl (lv_at hl 0 rfl) ?_
      refine rg_g S hM 21 rfl (Or.inl q260) rfl dX3_advance_8 ?_
      refine lv_if_ne (tgt := 72) S.x S.b dX3_advance_11 rfl (fun cn => ?_) (fun cn => ?_)
      · have hf := if_f cn hf
        obtain rfl := rt1 hf
        exact g_vret S hM dX3_advance_72
      · have hf := if_t cn hf
        refine lv_aload_n S.x S.b dX3_advance_14 rfl (lv_at hl 0 rfl) ?_
        refine lv_aload_n S.x S.b dX3_advance_15 rfl (lv_at hl 0 rfl) ?_
        refine rg_g S hM 0 rfl (Or.inl q221) rfl dX3_advance_16 ?_
        refine lv_aload_n S.x S.b dX3_advance_19 rfl (lv_at hl 0 rfl) ?_
        refine rg_g S hM 19 rfl (Or.inl q258) rfl dX3_advance_20 ?_
        obtain ⟨r_2, hc, hf⟩ := bd_some hf
        refine gw_ci S hM hl [.int (w.1 19)] 9 rfl hQ.rg.sq (metX11_after hQ.rg hc) hdX11_after q1314 q912 q913 q94 q914 ⟨rfl, rfl⟩ ⟨rfl, rfl⟩ rfl rfl rfl ⟨Nat.zero_le _, Nat.zero_le _⟩ dX3_advance_23 (fun H locs hM => ?_)
        obtain ⟨w_3, hc, hf⟩ := bd_some hf
        refine gw_cv S hM hl [.int r_2] 2 rfl ⟨0, _, rfl⟩ (metX3_expect hQ hc) hdX3_expect q215 q217 qs2 q65 q218 ⟨rfl, rfl⟩ ⟨rfl, rfl⟩ rfl rfl rfl ⟨Nat.zero_le _, Nat.zero_le _⟩ dX3_advance_26 (fun H locs hM => ?_)
        refine lv_aload_n S.x S.b dX3_advance_29 rfl (lv_at hl 0 rfl) ?_
        refine rg_g S hM 19 rfl (Or.inl q258) rfl dX3_advance_30 ?_
        refine lv_aload_n S.x S.b dX3_advance_33 rfl (lv_at hl 0 rfl) ?_
        refine rg_g S hM 0 rfl (Or.inl q221) rfl dX3_advance_34 ?_
        obtain ⟨r_6, hc, hf⟩ := bd_some hf
        refine gw_ci S hM hl [] 9 rfl hQ.rg.sq (metX11_firstWithMoves hQ.rg hc) hdX11_firstWithMoves q207 q208 q209 q94 q210 ⟨rfl, rfl⟩ ⟨rfl, rfl⟩ rfl rfl rfl ⟨Nat.zero_le _, Nat.zero_le _⟩ dX3_advance_37 (fun H locs hM => ?_)
        refine lv_icmp_ne (tgt := 0) S.x S.b dX3_advance_40 rfl (fun cn => ?_) (fun cn => ?_)
        · have hf := if_f cn hf
          exact ih w_3 _ _ _ hM (lv_sub hl [0] rfl) hf
        · have hf := if_t cn hf
          refine lv_aload_n S.x S.b dX3_advance_43 rfl (lv_at hl 0 rfl) ?_
          refine lv_dup S.x S.b dX3_advance_44 rfl ?_
          refine rg_g S hM 22 rfl (Or.inl q261) rfl dX3_advance_45 ?_
          refine lv_iconst (v := (1 : Int32)) S.x S.b dX3_advance_48 ki_1 ?_
          refine lv_iadd S.x S.b dX3_advance_49 ?_
          obtain ⟨w_7, ew, hf⟩ := lt_some hf
          refine rg_p S hM 22 rfl ew (Or.inl q261) dX3_advance_50 (fun H locs hM => ?_)
          refine lv_aload_n S.x S.b dX3_advance_53 rfl (lv_at hl 0 rfl) ?_
          refine lv_aload_n S.x S.b dX3_advance_54 rfl (lv_at hl 0 rfl) ?_
          refine rg_g S hM 23 rfl (Or.inl q263) rfl dX3_advance_55 ?_
          obtain ⟨w_8, ew, hf⟩ := lt_some hf
          refine rg_p S hM 24 rfl ew (Or.inl q265) dX3_advance_58 (fun H locs hM => ?_)
          refine lv_aload_n S.x S.b dX3_advance_61 rfl (lv_at hl 0 rfl) ?_
          refine lv_aload_n S.x S.b dX3_advance_62 rfl (lv_at hl 0 rfl) ?_
          refine rg_g S hM 8 rfl (Or.inl q239) rfl dX3_advance_63 ?_
          obtain ⟨w_9, ew, hf⟩ := lt_some hf
          refine rg_p S hM 23 rfl ew (Or.inl q263) dX3_advance_66 (fun H locs hM => ?_)
          refine lv_goto (tgt := 0) S.x S.b dX3_advance_69 rfl ?_
          exact ih w_9 _ _ _ hM (lv_sub hl [0] rfl) hf
set_option maxHeartbeats 4000000 in
theorem metX3_advance {l : Launch} {D : va_G} {T : Nat → ClassId} {a b sa : Nat → Nat} {co : Option Nat} {cv : Value} {tl : va_W} {wr : MW} {N : Nat} {w : MW} {ns : Nat} {q : MW} (hQ : SqI T b sa ns q cv tl) (hf : gX3_advance N ns q w = some wr) (sz : Nat) : MetV l yX3_advance (ws_ yX3_advance cX3_advance 1 (none)) rmX3_advance D T (rgW a (T 0) (some (b 0)) co w tl) sz [.ref (a 0)] (rgW a (T 0) (some (b 0)) co wr tl) := by
  refine g_entry (Qc := fun A => gQv D T A (rgW a (T 0) (some (b 0)) co wr tl)) (by decide) rfl ?_
  intro p e s m below meth c ls S hM hl
  have hl : lv_has ls 1 [(0, .ref (a 0))] := hl
  exact wX3_advance_0 S hQ N w _ _ _ hM (lv_sub hl [0] rfl) hf
/-! SequenceBench$Rig.record(IZ)V -/
theorem hdX3_record : gHd yX3_record 2 := by decide +kernel
def gX3_record_122 (N : Nat) (ns : Nat) (q : MW) (x1 : Int32) (x2 : Int32) (s0 : Int32) (s1 : Int32) (w : MW) : Option (MW) :=
  lt (setF w 20 (s1 &&& s0)) fun w_6 =>
  if x2 = 0 then (
  lt (setF w_6 21 ((w_6.1 21) &&& (((1 : Int32) <<< (x1 &&& 31)) ^^^ (-1 : Int32)))) fun w_7 =>
  bd (gX3_advance N ns q w_7) fun w_8 =>
  some w_8)
  else (
  lt (setF w_6 21 ((w_6.1 21) &&& (-1 : Int32))) fun w_10 =>
  bd (gX3_advance N ns q w_10) fun w_11 =>
  some w_11)
def gX3_record_87 (N : Nat) (ns : Nat) (q : MW) (x1 : Int32) (x2 : Int32) (s0 : Int32) (w : MW) : Option (MW) :=
  bd (gX1_has s0 x1) fun r_4 =>
  if r_4 = 0 then (
  some w)
  else (
  lt (setF w 18 ((w.1 18) + (1 : Int32))) fun w_5 =>
  if x2 = 0 then (
  gX3_record_122 N ns q x1 x2 (-1 : Int32) (w_5.1 20) w_5)
  else (
  gX3_record_122 N ns q x1 x2 (((1 : Int32) <<< (x1 &&& 31)) ^^^ (-1 : Int32)) (w_5.1 20) w_5))
def gX3_record_56 (N : Nat) (ns : Nat) (q : MW) (x1 : Int32) (x2 : Int32) (x3 : Int32) (s0 : Int32) (s1 : Int32) (s2 : Int32) (w : MW) : Option (MW) :=
  ck s2 40 <|
  lt (setA w 5 s2.toNatClampNeg (s1 + s0)) fun w_2 =>
  lt (setF w_2 17 ((w_2.1 17) + (1 : Int32))) fun w_3 =>
  if x3 = 0 then (
  some w_3)
  else (
  if x2 = 0 then (
  gX3_record_87 N ns q x1 x2 (w_3.1 21) w_3)
  else (
  gX3_record_87 N ns q x1 x2 (w_3.1 20) w_3))
def gX3_record_16 (N : Nat) (ns : Nat) (q : MW) (x1 : Int32) (x2 : Int32) (s0 : Int32) (w : MW) : Option (MW) :=
  ck ((w.1 17) - (w.1 17) / (40 : Int32) * (40 : Int32)) 40 <|
  lt (setA w 4 ((w.1 17) - (w.1 17) / (40 : Int32) * (40 : Int32)).toNatClampNeg (w.1 8)) fun w_1 =>
  if x2 = 0 then (
  gX3_record_56 N ns q x1 x2 s0 (0 : Int32) ((2 : Int32) * x1) ((w_1.1 17) - (w_1.1 17) / (40 : Int32) * (40 : Int32)) w_1)
  else (
  gX3_record_56 N ns q x1 x2 s0 (1 : Int32) ((2 : Int32) * x1) ((w_1.1 17) - (w_1.1 17) / (40 : Int32) * (40 : Int32)) w_1)
def gX3_record (N : Nat) (ns : Nat) (q : MW) (x1 : Int32) (x2 : Int32) (w : MW) : Option (MW) :=
  if (w.1 18) = (w.1 17) then (
  gX3_record_16 N ns q x1 x2 (1 : Int32) w)
  else (
  gX3_record_16 N ns q x1 x2 (0 : Int32) w)
abbrev rmX3_record : Room := { frames := 4, cells := 0, slots := 0, locals := 73 }
set_option maxHeartbeats 4000000 in
theorem wX3_record_122 {p : Program} {l : Launch} {e : Env} {s : State} {m : MethodId} {args : Array Value} {below : List Frame} {meth : Method} {c : Code} {D : va_G} {T : Nat → ClassId} {A : Nat → Prop} {a b sa : Nat → Nat} {co : Option Nat} {cv : Value} {tl : va_W} {wr : MW} {N : Nat} {ns : Nat} {q : MW} (S : gS p s m args meth c cX3_record 4 (none) RX3 D T) (hQ : SqI T b sa ns q cv tl) : ∀ (x1 : Int32) (x2 : Int32) (s0 : Int32) (s1 : Int32) (w : MW) (H : Heap) (locs : List Loc) (ls : Array Slot), gM D A s.heap (rgW a (T 0) (some (b 0)) co w tl) H locs → lv_has ls 4 [(0, .ref (a 0)), (1, .int x1), (2, .int x2)] → gX3_record_122 N ns q x1 x2 s0 s1 w = some wr → W p l e rmX3_record s m args below meth c H locs 0 0 (MQ below (gQv D T A (rgW a (T 0) (some (b 0)) co wr tl)) args s 0 0 A) (F0 m 122 ls [.int s0, .int s1, .ref (a 0)]) := by
  intro x1 x2 s0 s1 w H locs ls hM hl hf
  refine lv_iand S.x S.b dX3_record_122 ?_
  obtain ⟨w_6, ew, hf⟩ := lt_some hf
  refine rg_p S hM 20 rfl ew (Or.inl q259) dX3_record_123 (fun H locs hM => ?_)
  refine lv_aload_n S.x S.b dX3_record_126 rfl (lv_at hl 0 rfl) ?_
  refine lv_dup S.x S.b dX3_record_127 rfl ?_
  refine rg_g S hM 21 rfl (Or.inl q260) rfl dX3_record_128 ?_
  refine lv_iload_n S.x S.b dX3_record_131 rfl (lv_at hl 2 rfl) ?_
  refine lv_if_eq (tgt := 139) S.x S.b dX3_record_132 rfl (fun cn => ?_) (fun cn => ?_)
  · have hf := if_t cn hf
    refine lv_iconst (v := (1 : Int32)) S.x S.b dX3_record_139 ki_1 ?_
    refine lv_iload_n S.x S.b dX3_record_140 rfl (lv_at hl 1 rfl) ?_
    refine lv_ishl S.x S.b dX3_record_141 ?_
    refine lv_iconst (v := (-1 : Int32)) S.x S.b dX3_record_142 ki_m1 ?_
    refine lv_ixor S.x S.b dX3_record_143 ?_
    refine lv_iand S.x S.b dX3_record_144 ?_
    obtain ⟨w_7, ew, hf⟩ := lt_some hf
    refine rg_p S hM 21 rfl ew (Or.inl q260) dX3_record_145 (fun H locs hM => ?_)
    refine lv_aload_n S.x S.b dX3_record_148 rfl (lv_at hl 0 rfl) ?_
    obtain ⟨w_8, hc, hf⟩ := bd_some hf
    refine gw_cv S hM hl [] 2 rfl ⟨0, _, rfl⟩ (metX3_advance hQ hc) hdX3_advance q1310 q1312 qs24 q65 q1313 ⟨rfl, rfl⟩ ⟨rfl, rfl⟩ rfl rfl rfl ⟨Nat.zero_le _, Nat.zero_le _⟩ dX3_record_149 (fun H locs hM => ?_)
    obtain rfl := rt1 hf
    exact g_vret S hM dX3_record_152
  · have hf := if_f cn hf
    refine lv_iconst (v := (-1 : Int32)) S.x S.b dX3_record_135 ki_m1 ?_
    refine lv_goto (tgt := 144) S.x S.b dX3_record_136 rfl ?_
    refine lv_iand S.x S.b dX3_record_144 ?_
    obtain ⟨w_10, ew, hf⟩ := lt_some hf
    refine rg_p S hM 21 rfl ew (Or.inl q260) dX3_record_145 (fun H locs hM => ?_)
    refine lv_aload_n S.x S.b dX3_record_148 rfl (lv_at hl 0 rfl) ?_
    obtain ⟨w_11, hc, hf⟩ := bd_some hf
    refine gw_cv S hM hl [] 2 rfl ⟨0, _, rfl⟩ (metX3_advance hQ hc) hdX3_advance q1310 q1312 qs24 q65 q1313 ⟨rfl, rfl⟩ ⟨rfl, rfl⟩ rfl rfl rfl ⟨Nat.zero_le _, Nat.zero_le _⟩ dX3_record_149 (fun H locs hM => ?_)
    obtain rfl := rt1 hf
    exact g_vret S hM dX3_record_152
set_option maxHeartbeats 4000000 in
theorem wX3_record_87 {p : Program} {l : Launch} {e : Env} {s : State} {m : MethodId} {args : Array Value} {below : List Frame} {meth : Method} {c : Code} {D : va_G} {T : Nat → ClassId} {A : Nat → Prop} {a b sa : Nat → Nat} {co : Option Nat} {cv : Value} {tl : va_W} {wr : MW} {N : Nat} {ns : Nat} {q : MW} (S : gS p s m args meth c cX3_record 4 (none) RX3 D T) (hQ : SqI T b sa ns q cv tl) : ∀ (x1 : Int32) (x2 : Int32) (s0 : Int32) (w : MW) (H : Heap) (locs : List Loc) (ls : Array Slot), gM D A s.heap (rgW a (T 0) (some (b 0)) co w tl) H locs → lv_has ls 4 [(0, .ref (a 0)), (1, .int x1), (2, .int x2)] → gX3_record_87 N ns q x1 x2 s0 w = some wr → W p l e rmX3_record s m args below meth c H locs 0 0 (MQ below (gQv D T A (rgW a (T 0) (some (b 0)) co wr tl)) args s 0 0 A) (F0 m 87 ls [.int s0]) := by
  intro x1 x2 s0 w H locs ls hM hl hf
  refine lv_iload_n S.x S.b dX3_record_87 rfl (lv_at hl 1 rfl) ?_
  obtain ⟨r_4, hc, hf⟩ := bd_some hf
  refine gn_si S hM hl [.int s0, .int x1] (metX1_has hc) hdX1_has q1265 q791 q62 q792 ⟨rfl, rfl⟩ ⟨rfl, rfl⟩ rfl rfl rfl ⟨Nat.zero_le _, Nat.zero_le _⟩ dX3_record_88 (fun H locs hM => ?_)
  refine lv_if_eq (tgt := 152) S.x S.b dX3_record_91 rfl (fun cn => ?_) (fun cn => ?_)
  · have hf := if_t cn hf
    obtain rfl := rt1 hf
    exact g_vret S hM dX3_record_152
  · have hf := if_f cn hf
    refine lv_aload_n S.x S.b dX3_record_94 rfl (lv_at hl 0 rfl) ?_
    refine lv_dup S.x S.b dX3_record_95 rfl ?_
    refine rg_g S hM 18 rfl (Or.inl q256) rfl dX3_record_96 ?_
    refine lv_iconst (v := (1 : Int32)) S.x S.b dX3_record_99 ki_1 ?_
    refine lv_iadd S.x S.b dX3_record_100 ?_
    obtain ⟨w_5, ew, hf⟩ := lt_some hf
    refine rg_p S hM 18 rfl ew (Or.inl q256) dX3_record_101 (fun H locs hM => ?_)
    refine lv_aload_n S.x S.b dX3_record_104 rfl (lv_at hl 0 rfl) ?_
    refine lv_dup S.x S.b dX3_record_105 rfl ?_
    refine rg_g S hM 20 rfl (Or.inl q259) rfl dX3_record_106 ?_
    refine lv_iload_n S.x S.b dX3_record_109 rfl (lv_at hl 2 rfl) ?_
    refine lv_if_eq (tgt := 121) S.x S.b dX3_record_110 rfl (fun cn => ?_) (fun cn => ?_)
    · have hf := if_t cn hf
      refine lv_iconst (v := (-1 : Int32)) S.x S.b dX3_record_121 ki_m1 ?_
      exact wX3_record_122 S hQ x1 x2 (-1 : Int32) (w_5.1 20) w_5 _ _ _ hM (lv_sub hl [0, 1, 2] rfl) hf
    · have hf := if_f cn hf
      refine lv_iconst (v := (1 : Int32)) S.x S.b dX3_record_113 ki_1 ?_
      refine lv_iload_n S.x S.b dX3_record_114 rfl (lv_at hl 1 rfl) ?_
      refine lv_ishl S.x S.b dX3_record_115 ?_
      refine lv_iconst (v := (-1 : Int32)) S.x S.b dX3_record_116 ki_m1 ?_
      refine lv_ixor S.x S.b dX3_record_117 ?_
      refine lv_goto (tgt := 122) S.x S.b dX3_record_118 rfl ?_
      exact wX3_record_122 S hQ x1 x2 (((1 : Int32) <<< (x1 &&& 31)) ^^^ (-1 : Int32)) (w_5.1 20) w_5 _ _ _ hM (lv_sub hl [0, 1, 2] rfl) hf
set_option maxHeartbeats 4000000 in
theorem wX3_record_56 {p : Program} {l : Launch} {e : Env} {s : State} {m : MethodId} {args : Array Value} {below : List Frame} {meth : Method} {c : Code} {D : va_G} {T : Nat → ClassId} {A : Nat → Prop} {a b sa : Nat → Nat} {co : Option Nat} {cv : Value} {tl : va_W} {wr : MW} {N : Nat} {ns : Nat} {q : MW} (S : gS p s m args meth c cX3_record 4 (none) RX3 D T) (hQ : SqI T b sa ns q cv tl) : ∀ (x1 : Int32) (x2 : Int32) (x3 : Int32) (s0 : Int32) (s1 : Int32) (s2 : Int32) (w : MW) (H : Heap) (locs : List Loc) (ls : Array Slot), gM D A s.heap (rgW a (T 0) (some (b 0)) co w tl) H locs → lv_has ls 4 [(0, .ref (a 0)), (1, .int x1), (2, .int x2), (3, .int x3)] → gX3_record_56 N ns q x1 x2 x3 s0 s1 s2 w = some wr → W p l e rmX3_record s m args below meth c H locs 0 0 (MQ below (gQv D T A (rgW a (T 0) (some (b 0)) co wr tl)) args s 0 0 A) (F0 m 56 ls [.int s0, .int s1, .int s2, .ref (a 6)]) := by
  intro x1 x2 x3 s0 s1 s2 w H locs ls hM hl hf
  refine lv_iadd S.x S.b dX3_record_56 ?_
  obtain ⟨hi, hf⟩ := ck_some hf
  obtain ⟨w_2, ew, hf⟩ := lt_some hf
  refine rg_st S hM 5 rfl hi ew dX3_record_57 (fun H locs hM => ?_)
  refine lv_aload_n S.x S.b dX3_record_58 rfl (lv_at hl 0 rfl) ?_
  refine lv_dup S.x S.b dX3_record_59 rfl ?_
  refine rg_g S hM 17 rfl (Or.inl q254) rfl dX3_record_60 ?_
  refine lv_iconst (v := (1 : Int32)) S.x S.b dX3_record_63 ki_1 ?_
  refine lv_iadd S.x S.b dX3_record_64 ?_
  obtain ⟨w_3, ew, hf⟩ := lt_some hf
  refine rg_p S hM 17 rfl ew (Or.inl q254) dX3_record_65 (fun H locs hM => ?_)
  refine lv_iload_n S.x S.b dX3_record_68 rfl (lv_at hl 3 rfl) ?_
  refine lv_if_eq (tgt := 152) S.x S.b dX3_record_69 rfl (fun cn => ?_) (fun cn => ?_)
  · have hf := if_t cn hf
    obtain rfl := rt1 hf
    exact g_vret S hM dX3_record_152
  · have hf := if_f cn hf
    refine lv_iload_n S.x S.b dX3_record_72 rfl (lv_at hl 2 rfl) ?_
    refine lv_if_eq (tgt := 83) S.x S.b dX3_record_73 rfl (fun cn => ?_) (fun cn => ?_)
    · have hf := if_t cn hf
      refine lv_aload_n S.x S.b dX3_record_83 rfl (lv_at hl 0 rfl) ?_
      refine rg_g S hM 21 rfl (Or.inl q260) rfl dX3_record_84 ?_
      exact wX3_record_87 S hQ x1 x2 (w_3.1 21) w_3 _ _ _ hM (lv_sub hl [0, 1, 2] rfl) hf
    · have hf := if_f cn hf
      refine lv_aload_n S.x S.b dX3_record_76 rfl (lv_at hl 0 rfl) ?_
      refine rg_g S hM 20 rfl (Or.inl q259) rfl dX3_record_77 ?_
      refine lv_goto (tgt := 87) S.x S.b dX3_record_80 rfl ?_
      exact wX3_record_87 S hQ x1 x2 (w_3.1 20) w_3 _ _ _ hM (lv_sub hl [0, 1, 2] rfl) hf
set_option maxHeartbeats 4000000 in
theorem wX3_record_16 {p : Program} {l : Launch} {e : Env} {s : State} {m : MethodId} {args : Array Value} {below : List Frame} {meth : Method} {c : Code} {D : va_G} {T : Nat → ClassId} {A : Nat → Prop} {a b sa : Nat → Nat} {co : Option Nat} {cv : Value} {tl : va_W} {wr : MW} {N : Nat} {ns : Nat} {q : MW} (S : gS p s m args meth c cX3_record 4 (none) RX3 D T) (hQ : SqI T b sa ns q cv tl) : ∀ (x1 : Int32) (x2 : Int32) (s0 : Int32) (w : MW) (H : Heap) (locs : List Loc) (ls : Array Slot), gM D A s.heap (rgW a (T 0) (some (b 0)) co w tl) H locs → lv_has ls 4 [(0, .ref (a 0)), (1, .int x1), (2, .int x2)] → gX3_record_16 N ns q x1 x2 s0 w = some wr → W p l e rmX3_record s m args below meth c H locs 0 0 (MQ below (gQv D T A (rgW a (T 0) (some (b 0)) co wr tl)) args s 0 0 A) (F0 m 16 ls [.int s0]) := by
  intro x1 x2 s0 w H locs ls hM hl hf
  refine g_istn S (x' := s0) rfl hl dX3_record_16 rfl rfl (lv' := [(3, .int s0), (0, .ref (a 0)), (1, .int x1), (2, .int x2)]) rfl (fun ls hl => ?_)
  refine lv_aload_n S.x S.b dX3_record_17 rfl (lv_at hl 1 rfl) ?_
  refine rg_g S hM 15 rfl (Or.inl q250) rfl dX3_record_18 ?_
  refine lv_aload_n S.x S.b dX3_record_21 rfl (lv_at hl 1 rfl) ?_
  refine rg_g S hM 17 rfl (Or.inl q254) rfl dX3_record_22 ?_
  refine lv_bipush (v := (40 : Int32)) S.x S.b dX3_record_25 kb_40 ?_
  refine lv_irem S.x S.b dX3_record_27 (by decide) ?_
  refine lv_aload_n S.x S.b dX3_record_28 rfl (lv_at hl 1 rfl) ?_
  refine rg_g S hM 8 rfl (Or.inl q239) rfl dX3_record_29 ?_
  obtain ⟨hi, hf⟩ := ck_some hf
  obtain ⟨w_1, ew, hf⟩ := lt_some hf
  refine rg_st S hM 4 rfl hi ew dX3_record_32 (fun H locs hM => ?_)
  refine lv_aload_n S.x S.b dX3_record_33 rfl (lv_at hl 1 rfl) ?_
  refine rg_g S hM 16 rfl (Or.inl q252) rfl dX3_record_34 ?_
  refine lv_aload_n S.x S.b dX3_record_37 rfl (lv_at hl 1 rfl) ?_
  refine rg_g S hM 17 rfl (Or.inl q254) rfl dX3_record_38 ?_
  refine lv_bipush (v := (40 : Int32)) S.x S.b dX3_record_41 kb_40 ?_
  refine lv_irem S.x S.b dX3_record_43 (by decide) ?_
  refine lv_iconst (v := (2 : Int32)) S.x S.b dX3_record_44 ki_2 ?_
  refine lv_iload_n S.x S.b dX3_record_45 rfl (lv_at hl 2 rfl) ?_
  refine lv_imul S.x S.b dX3_record_46 ?_
  refine lv_iload_n S.x S.b dX3_record_47 rfl (lv_at hl 3 rfl) ?_
  refine lv_if_eq (tgt := 55) S.x S.b dX3_record_48 rfl (fun cn => ?_) (fun cn => ?_)
  · have hf := if_t cn hf
    refine lv_iconst (v := (0 : Int32)) S.x S.b dX3_record_55 ki_0 ?_
    exact wX3_record_56 S hQ x1 x2 s0 (0 : Int32) ((2 : Int32) * x1) ((w_1.1 17) - (w_1.1 17) / (40 : Int32) * (40 : Int32)) w_1 _ _ _ hM (lv_sub hl [1, 2, 3, 0] rfl) hf
  · have hf := if_f cn hf
    refine lv_iconst (v := (1 : Int32)) S.x S.b dX3_record_51 ki_1 ?_
    refine lv_goto (tgt := 56) S.x S.b dX3_record_52 rfl ?_
    exact wX3_record_56 S hQ x1 x2 s0 (1 : Int32) ((2 : Int32) * x1) ((w_1.1 17) - (w_1.1 17) / (40 : Int32) * (40 : Int32)) w_1 _ _ _ hM (lv_sub hl [1, 2, 3, 0] rfl) hf
set_option maxHeartbeats 4000000 in
theorem metX3_record {l : Launch} {D : va_G} {T : Nat → ClassId} {a b sa : Nat → Nat} {co : Option Nat} {cv : Value} {tl : va_W} {wr : MW} {N : Nat} {x1 : Int32} {x2 : Int32} {w : MW} {ns : Nat} {q : MW} (hQ : SqI T b sa ns q cv tl) (hf : gX3_record N ns q x1 x2 w = some wr) (sz : Nat) : MetV l yX3_record (ws_ yX3_record cX3_record 4 (none)) rmX3_record D T (rgW a (T 0) (some (b 0)) co w tl) sz [.ref (a 0), .int x1, .int x2] (rgW a (T 0) (some (b 0)) co wr tl) := by
  refine g_entry (Qc := fun A => gQv D T A (rgW a (T 0) (some (b 0)) co wr tl)) (by decide) rfl ?_
  intro p e s m below meth c ls S hM hl
  have hl : lv_has ls 4 [(0, .ref (a 0)), (1, .int x1), (2, .int x2)] := hl
  refine lv_aload_n S.x S.b dX3_record_0 rfl (lv_at hl 0 rfl) ?_
  refine rg_g S hM 18 rfl (Or.inl q256) rfl dX3_record_1 ?_
  refine lv_aload_n S.x S.b dX3_record_4 rfl (lv_at hl 0 rfl) ?_
  refine rg_g S hM 17 rfl (Or.inl q254) rfl dX3_record_5 ?_
  refine lv_icmp_ne (tgt := 15) S.x S.b dX3_record_8 rfl (fun cn => ?_) (fun cn => ?_)
  · have hf := if_f cn hf
    refine lv_iconst (v := (0 : Int32)) S.x S.b dX3_record_15 ki_0 ?_
    exact wX3_record_16 S hQ x1 x2 (0 : Int32) w _ _ _ hM (lv_sub hl [0, 1, 2] rfl) hf
  · have hf := if_t cn hf
    refine lv_iconst (v := (1 : Int32)) S.x S.b dX3_record_11 ki_1 ?_
    refine lv_goto (tgt := 16) S.x S.b dX3_record_12 rfl ?_
    exact wX3_record_16 S hQ x1 x2 (1 : Int32) w _ _ _ hM (lv_sub hl [0, 1, 2] rfl) hf
/-! SequenceBench$Rig.switchValves()Z -/
theorem hdX3_switchValves : gHd yX3_switchValves 0 := by decide +kernel
def gX3_switchValves_41 (N : Nat) (ns : Nat) (q : MW) : Nat → Int32 → Int32 → MW → Option (Int32 × MW)
  | 0, _, _, _ => none
  | n + 1, x1, x2, w =>
    if (6 : Int32) ≤ x2 then (
    if x1 = (w.1 7) then (
    some ((0 : Int32), w))
    else (
    some ((1 : Int32), w)))
    else (
    bd (gX1_has (x1 ^^^ (w.1 7)) x2) fun r_3 =>
    if r_3 = 0 then (
    lt (x2 + (1 : Int32)) fun x2_4 =>
    gX3_switchValves_41 N ns q n x1 x2_4 w)
    else (
    bd (gX1_has (w.1 7) x2) fun r_5 =>
    bd (gX3_record N ns q x2 r_5 w) fun w_6 =>
    lt (x2 + (1 : Int32)) fun x2_8 =>
    gX3_switchValves_41 N ns q n x1 x2_8 w_6))
def gX3_switchValves (N : Nat) (ns : Nat) (q : MW) (w : MW) : Option (Int32 × MW) :=
  lt ((w.1 7)) fun x1_1 =>
  lt (setF w 7 (((w.1 7) ||| ((w.1 12) &&& ((w.1 13) ^^^ (-1 : Int32)))) &&& (((w.1 13) &&& ((w.1 12) ^^^ (-1 : Int32))) ^^^ (-1 : Int32)))) fun w_2 =>
  gX3_switchValves_41 N ns q N x1_1 (0 : Int32) w_2
abbrev rmX3_switchValves : Room := { frames := 5, cells := 0, slots := 0, locals := 96 }
set_option maxHeartbeats 4000000 in
theorem wX3_switchValves_41 {p : Program} {l : Launch} {e : Env} {s : State} {m : MethodId} {args : Array Value} {below : List Frame} {meth : Method} {c : Code} {D : va_G} {T : Nat → ClassId} {A : Nat → Prop} {a b sa : Nat → Nat} {co : Option Nat} {cv : Value} {tl : va_W} {rr : Int32} {wr : MW} {N : Nat} {ns : Nat} {q : MW} (S : gS p s m args meth c cX3_switchValves 3 (some .boolean) RX3 D T) (hQ : SqI T b sa ns q cv tl) : ∀ (n : Nat) (x1 : Int32) (x2 : Int32) (w : MW) (H : Heap) (locs : List Loc) (ls : Array Slot), gM D A s.heap (rgW a (T 0) (some (b 0)) co w tl) H locs → lv_has ls 3 [(0, .ref (a 0)), (1, .int x1), (2, .int x2)] → gX3_switchValves_41 N ns q n x1 x2 w = some (rr, wr) → W p l e rmX3_switchValves s m args below meth c H locs 0 0 (MQ below (gQi D T A rr (rgW a (T 0) (some (b 0)) co wr tl)) args s 0 0 A) (F0 m 41 ls []) := by
  intro n
  induction n with
  | zero =>
    intro x1 x2 w H locs ls hM hl hf
    cases hf
  | succ n ih =>
    intro x1 x2 w H locs ls hM hl hf
    refine lv_iload_n S.x S.b dX3_switchValves_41 rfl (lv_at hl 2 rfl) ?_
    refine lv_bipush (v := (6 : Int32)) S.x S.b dX3_switchValves_42 kb_6 ?_
    refine lv_icmp_ge (tgt := 79) S.x S.b dX3_switchValves_44 rfl (fun cn => ?_) (fun cn => ?_)
    · have hf := if_t cn hf
      refine lv_iload_n S.x S.b dX3_switchValves_79 rfl (lv_at hl 1 rfl) ?_
      refine lv_aload_n S.x S.b dX3_switchValves_80 rfl (lv_at hl 0 rfl) ?_
      refine rg_g S hM 7 rfl (Or.inl q237) rfl dX3_switchValves_81 ?_
      refine lv_icmp_eq (tgt := 91) S.x S.b dX3_switchValves_84 rfl (fun cn => ?_) (fun cn => ?_)
      · have hf := if_t cn hf
        refine lv_iconst (v := (0 : Int32)) S.x S.b dX3_switchValves_91 ki_0 ?_
        obtain ⟨rfl, rfl⟩ := rt2 hf
        exact g_zret S hM rfl rfl dX3_switchValves_92
      · have hf := if_f cn hf
        refine lv_iconst (v := (1 : Int32)) S.x S.b dX3_switchValves_87 ki_1 ?_
        refine lv_goto (tgt := 92) S.x S.b dX3_switchValves_88 rfl ?_
        obtain ⟨rfl, rfl⟩ := rt2 hf
        exact g_zret S hM rfl rfl dX3_switchValves_92
    · have hf := if_f cn hf
      refine lv_iload_n S.x S.b dX3_switchValves_47 rfl (lv_at hl 1 rfl) ?_
      refine lv_aload_n S.x S.b dX3_switchValves_48 rfl (lv_at hl 0 rfl) ?_
      refine rg_g S hM 7 rfl (Or.inl q237) rfl dX3_switchValves_49 ?_
      refine lv_ixor S.x S.b dX3_switchValves_52 ?_
      refine lv_iload_n S.x S.b dX3_switchValves_53 rfl (lv_at hl 2 rfl) ?_
      obtain ⟨r_3, hc, hf⟩ := bd_some hf
      refine gn_si S hM hl [.int (x1 ^^^ (w.1 7)), .int x2] (metX1_has hc) hdX1_has q1265 q791 q62 q792 ⟨rfl, rfl⟩ ⟨rfl, rfl⟩ rfl rfl rfl ⟨Nat.zero_le _, Nat.zero_le _⟩ dX3_switchValves_54 (fun H locs hM => ?_)
      refine lv_if_eq (tgt := 73) S.x S.b dX3_switchValves_57 rfl (fun cn => ?_) (fun cn => ?_)
      · have hf := if_t cn hf
        obtain ⟨x2_4, ex, hf⟩ := lt_some hf
        refine g_inc S (x' := x2_4) (d := (1 : Int32)) hl (k := 2) rfl ki_1 ex dX3_switchValves_73 rfl (lv' := [(2, .int x2_4), (0, .ref (a 0)), (1, .int x1)]) rfl (fun ls hl => ?_)
        refine lv_goto (tgt := 41) S.x S.b dX3_switchValves_76 rfl ?_
        exact ih x1 x2_4 w _ _ _ hM (lv_sub hl [1, 2, 0] rfl) hf
      · have hf := if_f cn hf
        refine lv_aload_n S.x S.b dX3_switchValves_60 rfl (lv_at hl 0 rfl) ?_
        refine lv_iload_n S.x S.b dX3_switchValves_61 rfl (lv_at hl 2 rfl) ?_
        refine lv_aload_n S.x S.b dX3_switchValves_62 rfl (lv_at hl 0 rfl) ?_
        refine rg_g S hM 7 rfl (Or.inl q237) rfl dX3_switchValves_63 ?_
        refine lv_iload_n S.x S.b dX3_switchValves_66 rfl (lv_at hl 2 rfl) ?_
        obtain ⟨r_5, hc, hf⟩ := bd_some hf
        refine gn_si S hM hl [.int (w.1 7), .int x2] (metX1_has hc) hdX1_has q1265 q791 q62 q792 ⟨rfl, rfl⟩ ⟨rfl, rfl⟩ rfl rfl rfl ⟨Nat.zero_le _, Nat.zero_le _⟩ dX3_switchValves_67 (fun H locs hM => ?_)
        obtain ⟨w_6, hc, hf⟩ := bd_some hf
        refine gw_cv S hM hl [.int x2, .int r_5] 2 rfl ⟨0, _, rfl⟩ (metX3_record hQ hc) hdX3_record q1306 q1308 qs23 q65 q1309 ⟨rfl, rfl⟩ ⟨rfl, rfl⟩ rfl rfl rfl ⟨Nat.zero_le _, Nat.zero_le _⟩ dX3_switchValves_70 (fun H locs hM => ?_)
        obtain ⟨x2_8, ex, hf⟩ := lt_some hf
        refine g_inc S (x' := x2_8) (d := (1 : Int32)) hl (k := 2) rfl ki_1 ex dX3_switchValves_73 rfl (lv' := [(2, .int x2_8), (0, .ref (a 0)), (1, .int x1)]) rfl (fun ls hl => ?_)
        refine lv_goto (tgt := 41) S.x S.b dX3_switchValves_76 rfl ?_
        exact ih x1 x2_8 w_6 _ _ _ hM (lv_sub hl [1, 2, 0] rfl) hf
set_option maxHeartbeats 4000000 in
theorem metX3_switchValves {l : Launch} {D : va_G} {T : Nat → ClassId} {a b sa : Nat → Nat} {co : Option Nat} {cv : Value} {tl : va_W} {rr : Int32} {wr : MW} {N : Nat} {w : MW} {ns : Nat} {q : MW} (hQ : SqI T b sa ns q cv tl) (hf : gX3_switchValves N ns q w = some (rr, wr)) (sz : Nat) : MetI l yX3_switchValves (ws_ yX3_switchValves cX3_switchValves 3 (some .boolean)) rmX3_switchValves D T (rgW a (T 0) (some (b 0)) co w tl) sz [.ref (a 0)] rr (rgW a (T 0) (some (b 0)) co wr tl) := by
  refine g_entry (Qc := fun A => gQi D T A rr (rgW a (T 0) (some (b 0)) co wr tl)) (by decide) rfl ?_
  intro p e s m below meth c ls S hM hl
  have hl : lv_has ls 3 [(0, .ref (a 0))] := hl
  refine lv_aload_n S.x S.b dX3_switchValves_0 rfl (lv_at hl 0 rfl) ?_
  refine rg_g S hM 7 rfl (Or.inl q237) rfl dX3_switchValves_1 ?_
  obtain ⟨x1_1, ex, hf⟩ := lt_some hf
  refine g_istn S (x' := x1_1) ex hl dX3_switchValves_4 rfl rfl (lv' := [(1, .int x1_1), (0, .ref (a 0))]) rfl (fun ls hl => ?_)
  refine lv_aload_n S.x S.b dX3_switchValves_5 rfl (lv_at hl 1 rfl) ?_
  refine lv_aload_n S.x S.b dX3_switchValves_6 rfl (lv_at hl 1 rfl) ?_
  refine rg_g S hM 7 rfl (Or.inl q237) rfl dX3_switchValves_7 ?_
  refine lv_aload_n S.x S.b dX3_switchValves_10 rfl (lv_at hl 1 rfl) ?_
  refine rg_g S hM 12 rfl (Or.inl q245) rfl dX3_switchValves_11 ?_
  refine lv_aload_n S.x S.b dX3_switchValves_14 rfl (lv_at hl 1 rfl) ?_
  refine rg_g S hM 13 rfl (Or.inl q247) rfl dX3_switchValves_15 ?_
  refine lv_iconst (v := (-1 : Int32)) S.x S.b dX3_switchValves_18 ki_m1 ?_
  refine lv_ixor S.x S.b dX3_switchValves_19 ?_
  refine lv_iand S.x S.b dX3_switchValves_20 ?_
  refine lv_ior S.x S.b dX3_switchValves_21 ?_
  refine lv_aload_n S.x S.b dX3_switchValves_22 rfl (lv_at hl 1 rfl) ?_
  refine rg_g S hM 13 rfl (Or.inl q247) rfl dX3_switchValves_23 ?_
  refine lv_aload_n S.x S.b dX3_switchValves_26 rfl (lv_at hl 1 rfl) ?_
  refine rg_g S hM 12 rfl (Or.inl q245) rfl dX3_switchValves_27 ?_
  refine lv_iconst (v := (-1 : Int32)) S.x S.b dX3_switchValves_30 ki_m1 ?_
  refine lv_ixor S.x S.b dX3_switchValves_31 ?_
  refine lv_iand S.x S.b dX3_switchValves_32 ?_
  refine lv_iconst (v := (-1 : Int32)) S.x S.b dX3_switchValves_33 ki_m1 ?_
  refine lv_ixor S.x S.b dX3_switchValves_34 ?_
  refine lv_iand S.x S.b dX3_switchValves_35 ?_
  obtain ⟨w_2, ew, hf⟩ := lt_some hf
  refine rg_p S hM 7 rfl ew (Or.inl q237) dX3_switchValves_36 (fun H locs hM => ?_)
  refine lv_iconst (v := (0 : Int32)) S.x S.b dX3_switchValves_39 ki_0 ?_
  refine g_istn S (x' := (0 : Int32)) rfl hl dX3_switchValves_40 rfl rfl (lv' := [(2, .int (0 : Int32)), (1, .int x1_1), (0, .ref (a 0))]) rfl (fun ls hl => ?_)
  exact wX3_switchValves_41 S hQ N x1_1 (0 : Int32) w_2 _ _ _ hM (lv_sub hl [2, 1, 0] rfl) hf
/-! SequenceBench.isIn(JJJ)Z -/
theorem hdX1_isIn : gHd yX1_isIn 3 := by decide +kernel
def gX1_isIn (x0 : Int64) (x2 : Int64) (x4 : Int64) : Option (Int32) :=
  if (lg_cmp x0 x2) < 0 then (
  some (0 : Int32))
  else (
  if 0 < (lg_cmp x0 x4) then (
  some (0 : Int32))
  else (
  some (1 : Int32)))
abbrev rmX1_isIn : Room := { frames := 1, cells := 0, slots := 0, locals := 12 }
set_option maxHeartbeats 4000000 in
theorem metX1_isIn {l : Launch} {D : va_G} {T : Nat → ClassId} {rr : Int32} {x0 : Int64} {x2 : Int64} {x4 : Int64} (hf : gX1_isIn x0 x2 x4 = some rr) (sz : Nat) : MetI l yX1_isIn (ws_ yX1_isIn cX1_isIn 6 (some .boolean)) rmX1_isIn D T ([]) sz [.long x0, .long x2, .long x4] rr ([]) := by
  refine g_entry (Qc := fun A => gQi D T A rr ([])) (by decide) rfl ?_
  intro p e s m below meth c ls S hM hl
  have hl : lv_has ls 6 [(0, .long x0), (2, .long x2), (4, .long x4)] := hl
  refine lv_lload_n S.x S.b dX1_isIn_0 rfl (lv_at hl 0 rfl) ?_
  refine lv_lload_n S.x S.b dX1_isIn_1 rfl (lv_at hl 1 rfl) ?_
  refine W.lcmp S.x S.b dX1_isIn_2 ?_
  refine lv_if_lt (tgt := 17) S.x S.b dX1_isIn_3 rfl (fun cn => ?_) (fun cn => ?_)
  · have hf := if_t cn hf
    refine lv_iconst (v := (0 : Int32)) S.x S.b dX1_isIn_17 ki_0 ?_
    obtain rfl := rt1 hf
    exact g_zret S hM rfl rfl dX1_isIn_18
  · have hf := if_f cn hf
    refine lv_lload_n S.x S.b dX1_isIn_6 rfl (lv_at hl 0 rfl) ?_
    refine lv_lload S.x S.b dX1_isIn_7 (lv_at hl 2 rfl) ?_
    refine W.lcmp S.x S.b dX1_isIn_9 ?_
    refine lv_if_gt (tgt := 17) S.x S.b dX1_isIn_10 rfl (fun cn => ?_) (fun cn => ?_)
    · have hf := if_t cn hf
      refine lv_iconst (v := (0 : Int32)) S.x S.b dX1_isIn_17 ki_0 ?_
      obtain rfl := rt1 hf
      exact g_zret S hM rfl rfl dX1_isIn_18
    · have hf := if_f cn hf
      refine lv_iconst (v := (1 : Int32)) S.x S.b dX1_isIn_13 ki_1 ?_
      refine lv_goto (tgt := 18) S.x S.b dX1_isIn_14 rfl ?_
      obtain rfl := rt1 hf
      exact g_zret S hM rfl rfl dX1_isIn_18
