/-! constants -/
set_option maxRecDepth 100000
/-! SequenceBench$Direct.lambda$new$0(LSequenceBench$Rig;I)Z -/
theorem hdX4_lambda_new_0 : gHd yX4_lambda_new_0 2 := by decide +kernel
def gX4_lambda_new_0 (ns : Nat) (q : MW) (x1 : Int32) (w : MW) : Option (Int32 × MW) :=
  if (w.1 6) = 0 then (
  some ((0 : Int32), w))
  else (
  bd2 (gX3_isComplete ns q x1 w) fun r_2 w_1 =>
  if r_2 = 0 then (
  some ((0 : Int32), w_1))
  else (
  some ((1 : Int32), w_1)))
abbrev rmX4_lambda_new_0 : Room := { frames := 2, cells := 0, slots := 0, locals := 34 }
set_option maxHeartbeats 4000000 in
theorem metX4_lambda_new_0 {l : Launch} {D : va_G} {T : Nat → ClassId} {a b sa : Nat → Nat} {co : Option Nat} {cv : Value} {tl : va_W} {rr : Int32} {wr : MW} {x1 : Int32} {w : MW} {ns : Nat} {q : MW} (hQ : SqI T b sa ns q cv tl) (hf : gX4_lambda_new_0 ns q x1 w = some (rr, wr)) (sz : Nat) : MetI l yX4_lambda_new_0 (ws_ yX4_lambda_new_0 cX4_lambda_new_0 2 (some .boolean)) rmX4_lambda_new_0 D T (rgW a (T 0) (some (b 0)) co w tl) sz [.ref (a 0), .int x1] rr (rgW a (T 0) (some (b 0)) co wr tl) := by
  refine g_entry (Qc := fun A => gQi D T A rr (rgW a (T 0) (some (b 0)) co wr tl)) (by decide) rfl ?_
  intro p e s m below meth c ls S hM hl
  have hl : lv_has ls 2 [(0, .ref (a 0)), (1, .int x1)] := hl
  refine lv_aload_n S.x S.b dX4_lambda_new_0_0 rfl (lv_at hl 0 rfl) ?_
  refine rg_g S hM 6 rfl (Or.inr ⟨_, q235⟩) rfl dX4_lambda_new_0_1 ?_
  refine lv_if_eq (tgt := 19) S.x S.b dX4_lambda_new_0_4 rfl (fun cn => ?_) (fun cn => ?_)
  · have hf := if_t cn hf
    refine lv_iconst (v := (0 : Int32)) S.x S.b dX4_lambda_new_0_19 ki_0 ?_
    obtain ⟨rfl, rfl⟩ := rt2 hf
    exact g_zret S hM rfl rfl dX4_lambda_new_0_20
  · have hf := if_f cn hf
    refine lv_aload_n S.x S.b dX4_lambda_new_0_7 rfl (lv_at hl 0 rfl) ?_
    refine lv_iload_n S.x S.b dX4_lambda_new_0_8 rfl (lv_at hl 1 rfl) ?_
    obtain ⟨r_2, w_1, hc, hf⟩ := bd2_some hf
    refine gw_ci S hM hl [.int x1] 2 rfl ⟨0, _, rfl⟩ (metX3_isComplete hQ hc) hdX3_isComplete q140 q141 q142 q65 q143 ⟨rfl, rfl⟩ ⟨rfl, rfl⟩ rfl rfl rfl ⟨Nat.zero_le _, Nat.zero_le _⟩ dX4_lambda_new_0_9 (fun H locs hM => ?_)
    refine lv_if_eq (tgt := 19) S.x S.b dX4_lambda_new_0_12 rfl (fun cn => ?_) (fun cn => ?_)
    · have hf := if_t cn hf
      refine lv_iconst (v := (0 : Int32)) S.x S.b dX4_lambda_new_0_19 ki_0 ?_
      obtain ⟨rfl, rfl⟩ := rt2 hf
      exact g_zret S hM rfl rfl dX4_lambda_new_0_20
    · have hf := if_f cn hf
      refine lv_iconst (v := (1 : Int32)) S.x S.b dX4_lambda_new_0_15 ki_1 ?_
      refine lv_goto (tgt := 20) S.x S.b dX4_lambda_new_0_16 rfl ?_
      obtain ⟨rfl, rfl⟩ := rt2 hf
      exact g_zret S hM rfl rfl dX4_lambda_new_0_20
/-! SequenceBench$Direct.lambda$new$1(LSequenceBench$Rig;I)Z -/
theorem hdX4_lambda_new_1 : gHd yX4_lambda_new_1 2 := by decide +kernel
def gX4_lambda_new_1 (ns : Nat) (q : MW) (x1 : Int32) (w : MW) : Option (Int32 × MW) :=
  bd2 (gX3_isComplete ns q x1 w) fun r_2 w_1 =>
  bz r_2 (some (r_2, w_1))
abbrev rmX4_lambda_new_1 : Room := { frames := 2, cells := 0, slots := 0, locals := 34 }
set_option maxHeartbeats 4000000 in
theorem metX4_lambda_new_1 {l : Launch} {D : va_G} {T : Nat → ClassId} {a b sa : Nat → Nat} {co : Option Nat} {cv : Value} {tl : va_W} {rr : Int32} {wr : MW} {x1 : Int32} {w : MW} {ns : Nat} {q : MW} (hQ : SqI T b sa ns q cv tl) (hf : gX4_lambda_new_1 ns q x1 w = some (rr, wr)) (sz : Nat) : MetI l yX4_lambda_new_1 (ws_ yX4_lambda_new_1 cX4_lambda_new_1 2 (some .boolean)) rmX4_lambda_new_1 D T (rgW a (T 0) (some (b 0)) co w tl) sz [.ref (a 0), .int x1] rr (rgW a (T 0) (some (b 0)) co wr tl) := by
  refine g_entry (Qc := fun A => gQi D T A rr (rgW a (T 0) (some (b 0)) co wr tl)) (by decide) rfl ?_
  intro p e s m below meth c ls S hM hl
  have hl : lv_has ls 2 [(0, .ref (a 0)), (1, .int x1)] := hl
  refine lv_aload_n S.x S.b dX4_lambda_new_1_0 rfl (lv_at hl 0 rfl) ?_
  refine lv_iload_n S.x S.b dX4_lambda_new_1_1 rfl (lv_at hl 1 rfl) ?_
  obtain ⟨r_2, w_1, hc, hf⟩ := bd2_some hf
  refine gw_ci S hM hl [.int x1] 2 rfl ⟨0, _, rfl⟩ (metX3_isComplete hQ hc) hdX3_isComplete q140 q141 q142 q65 q143 ⟨rfl, rfl⟩ ⟨rfl, rfl⟩ rfl rfl rfl ⟨Nat.zero_le _, Nat.zero_le _⟩ dX4_lambda_new_1_2 (fun H locs hM => ?_)
  obtain ⟨hz, hf⟩ := bz_some hf
  obtain ⟨rfl, rfl⟩ := rt2 hf
  exact g_zret S hM rfl hz dX4_lambda_new_1_5
/-! SequenceBench$Cascade.lambda$new$0(I)Z -/
theorem hdX5_lambda_new_0 : gHd yX5_lambda_new_0 1 := by decide +kernel
def gX5_lambda_new_0 (ns : Nat) (q : MW) (nc : Nat) (x1 : Int32) (w : MW) : Option (Int32 × MW) :=
  if (w.1 30) = x1 then (
  some ((1 : Int32), w))
  else (
  some ((0 : Int32), w))
abbrev rmX5_lambda_new_0 : Room := { frames := 1, cells := 0, slots := 0, locals := 12 }
set_option maxHeartbeats 4000000 in
theorem metX5_lambda_new_0 {l : Launch} {D : va_G} {T : Nat → ClassId} {a b sa : Nat → Nat} {tl : va_W} {rr : Int32} {wr : MW} {x1 : Int32} {w : MW} {ns : Nat} {q : MW} {nc : Nat} (hQ : SqI T b sa ns q (.ref (b 3)) tl) (hC : CuI T b nc q tl) (hf : gX5_lambda_new_0 ns q nc x1 w = some (rr, wr)) (sz : Nat) : MetI l yX5_lambda_new_0 (ws_ yX5_lambda_new_0 cX5_lambda_new_0 2 (some .boolean)) rmX5_lambda_new_0 D T (rcW 1 a (T 0) (some (b 0)) w tl) sz [.ref (a 7), .int x1] rr (rcW 1 a (T 0) (some (b 0)) wr tl) := by
  refine g_entry (Qc := fun A => gQi D T A rr (rcW 1 a (T 0) (some (b 0)) wr tl)) (by decide) rfl ?_
  intro p e s m below meth c ls S hM hl
  have hl : lv_has ls 2 [(0, .ref (a 7)), (1, .int x1)] := hl
  refine lv_aload_n S.x S.b dX5_lambda_new_0_0 rfl (lv_at hl 0 rfl) ?_
  refine cr_g S hM rfl rfl in_X5 2 rfl (Or.inl q183) rfl dX5_lambda_new_0_1 ?_
  refine lv_iload_n S.x S.b dX5_lambda_new_0_4 rfl (lv_at hl 1 rfl) ?_
  refine lv_icmp_ne (tgt := 12) S.x S.b dX5_lambda_new_0_5 rfl (fun cn => ?_) (fun cn => ?_)
  · have hf := if_f cn hf
    refine lv_iconst (v := (0 : Int32)) S.x S.b dX5_lambda_new_0_12 ki_0 ?_
    obtain ⟨rfl, rfl⟩ := rt2 hf
    exact g_zret S hM rfl rfl dX5_lambda_new_0_13
  · have hf := if_t cn hf
    refine lv_iconst (v := (1 : Int32)) S.x S.b dX5_lambda_new_0_8 ki_1 ?_
    refine lv_goto (tgt := 13) S.x S.b dX5_lambda_new_0_9 rfl ?_
    obtain ⟨rfl, rfl⟩ := rt2 hf
    exact g_zret S hM rfl rfl dX5_lambda_new_0_13
/-! SequenceBench$Cascade.lambda$new$1(ILSequenceBench$Rig;IZ)Z -/
theorem hdX5_lambda_new_1 : gHd yX5_lambda_new_1 4 := by decide +kernel
def gX5_lambda_new_1 (ns : Nat) (q : MW) (nc : Nat) (x1 : Int32) (x3 : Int32) (x4 : Int32) (w : MW) : Option (Int32 × MW) :=
  if (w.1 30) = x1 then (
  bd2 (gX3_isComplete ns q x3 w) fun r_2 w_1 =>
  lt (setF w_1 30 (w.1 30)) fun w_3 =>
  if r_2 = 0 then (
  some ((0 : Int32), w_3))
  else (
  if x4 = 0 then (
  some ((1 : Int32), w_3))
  else (
  if (w_3.1 6) = 0 then (
  some ((0 : Int32), w_3))
  else (
  some ((1 : Int32), w_3)))))
  else (
  some ((0 : Int32), w))
abbrev rmX5_lambda_new_1 : Room := { frames := 2, cells := 0, slots := 0, locals := 34 }
set_option maxHeartbeats 4000000 in
theorem metX5_lambda_new_1 {l : Launch} {D : va_G} {T : Nat → ClassId} {a b sa : Nat → Nat} {tl : va_W} {rr : Int32} {wr : MW} {x1 : Int32} {x3 : Int32} {x4 : Int32} {w : MW} {ns : Nat} {q : MW} {nc : Nat} (hQ : SqI T b sa ns q (.ref (b 3)) tl) (hC : CuI T b nc q tl) (hf : gX5_lambda_new_1 ns q nc x1 x3 x4 w = some (rr, wr)) (sz : Nat) : MetI l yX5_lambda_new_1 (ws_ yX5_lambda_new_1 cX5_lambda_new_1 5 (some .boolean)) rmX5_lambda_new_1 D T (rcW 1 a (T 0) (some (b 0)) w tl) sz [.ref (a 7), .int x1, .ref (a 0), .int x3, .int x4] rr (rcW 1 a (T 0) (some (b 0)) wr tl) := by
  refine g_entry (Qc := fun A => gQi D T A rr (rcW 1 a (T 0) (some (b 0)) wr tl)) (by decide) rfl ?_
  intro p e s m below meth c ls S hM hl
  have hl : lv_has ls 5 [(0, .ref (a 7)), (1, .int x1), (2, .ref (a 0)), (3, .int x3), (4, .int x4)] := hl
  refine lv_aload_n S.x S.b dX5_lambda_new_1_0 rfl (lv_at hl 0 rfl) ?_
  refine cr_g S hM rfl rfl in_X5 2 rfl (Or.inl q183) rfl dX5_lambda_new_1_1 ?_
  refine lv_iload_n S.x S.b dX5_lambda_new_1_4 rfl (lv_at hl 1 rfl) ?_
  refine lv_icmp_ne (tgt := 32) S.x S.b dX5_lambda_new_1_5 rfl (fun cn => ?_) (fun cn => ?_)
  · have hf := if_f cn hf
    refine lv_iconst (v := (0 : Int32)) S.x S.b dX5_lambda_new_1_32 ki_0 ?_
    obtain ⟨rfl, rfl⟩ := rt2 hf
    exact g_zret S hM rfl rfl dX5_lambda_new_1_33
  · have hf := if_t cn hf
    refine lv_aload_n S.x S.b dX5_lambda_new_1_8 rfl (lv_at hl 2 rfl) ?_
    refine lv_iload_n S.x S.b dX5_lambda_new_1_9 rfl (lv_at hl 3 rfl) ?_
    obtain ⟨r_2, w_1, hc, hf⟩ := bd2_some hf
    obtain ⟨w_3, ew, hf⟩ := lt_some hf
    refine rc_ci S hM hl [.int x3] 2 rfl ⟨0, _, rfl⟩ (metX3_isComplete (hQ.cons _) hc) ew hdX3_isComplete q180 q141 q142 q65 q143 ⟨rfl, rfl⟩ ⟨rfl, rfl⟩ rfl rfl rfl dX5_lambda_new_1_10 (fun H locs hM => ?_)
    refine lv_if_eq (tgt := 32) S.x S.b dX5_lambda_new_1_13 rfl (fun cn => ?_) (fun cn => ?_)
    · have hf := if_t cn hf
      refine lv_iconst (v := (0 : Int32)) S.x S.b dX5_lambda_new_1_32 ki_0 ?_
      obtain ⟨rfl, rfl⟩ := rt2 hf
      exact g_zret S hM rfl rfl dX5_lambda_new_1_33
    · have hf := if_f cn hf
      refine lv_iload S.x S.b dX5_lambda_new_1_16 (lv_at hl 4 rfl) ?_
      refine lv_if_eq (tgt := 28) S.x S.b dX5_lambda_new_1_18 rfl (fun cn => ?_) (fun cn => ?_)
      · have hf := if_t cn hf
        refine lv_iconst (v := (1 : Int32)) S.x S.b dX5_lambda_new_1_28 ki_1 ?_
        refine lv_goto (tgt := 33) S.x S.b dX5_lambda_new_1_29 rfl ?_
        obtain ⟨rfl, rfl⟩ := rt2 hf
        exact g_zret S hM rfl rfl dX5_lambda_new_1_33
      · have hf := if_f cn hf
        refine lv_aload_n S.x S.b dX5_lambda_new_1_21 rfl (lv_at hl 2 rfl) ?_
        refine rg_g S hM 6 rfl (Or.inr ⟨_, q234⟩) rfl dX5_lambda_new_1_22 ?_
        refine lv_if_eq (tgt := 32) S.x S.b dX5_lambda_new_1_25 rfl (fun cn => ?_) (fun cn => ?_)
        · have hf := if_t cn hf
          refine lv_iconst (v := (0 : Int32)) S.x S.b dX5_lambda_new_1_32 ki_0 ?_
          obtain ⟨rfl, rfl⟩ := rt2 hf
          exact g_zret S hM rfl rfl dX5_lambda_new_1_33
        · have hf := if_f cn hf
          refine lv_iconst (v := (1 : Int32)) S.x S.b dX5_lambda_new_1_28 ki_1 ?_
          refine lv_goto (tgt := 33) S.x S.b dX5_lambda_new_1_29 rfl ?_
          obtain ⟨rfl, rfl⟩ := rt2 hf
          exact g_zret S hM rfl rfl dX5_lambda_new_1_33
/-! SequenceBench$Direct.active()I -/
theorem hdX4_active : gHd yX4_active 0 := by decide +kernel
def gX4_active (ns : Nat) (q : MW) (w : MW) : Option (Int32 × MW) :=
  some ((-1 : Int32), w)
abbrev rmX4_active : Room := { frames := 1, cells := 0, slots := 0, locals := 12 }
set_option maxHeartbeats 4000000 in
theorem metX4_active {l : Launch} {D : va_G} {T : Nat → ClassId} {a b sa : Nat → Nat} {tl : va_W} {rr : Int32} {wr : MW} {w : MW} {ns : Nat} {q : MW} (hQ : SqI T b sa ns q (.ref (b 3)) tl) (hf : gX4_active ns q w = some (rr, wr)) (sz : Nat) : MetI l yX4_active (ws_ yX4_active cX4_active 1 (some .int)) rmX4_active D T (rcW 0 a (T 0) (some (b 0)) w tl) sz [.ref (a 7)] rr (rcW 0 a (T 0) (some (b 0)) wr tl) := by
  refine g_entry (Qc := fun A => gQi D T A rr (rcW 0 a (T 0) (some (b 0)) wr tl)) (by decide) rfl ?_
  intro p e s m below meth c ls S hM hl
  have hl : lv_has ls 1 [(0, .ref (a 7))] := hl
  refine lv_iconst (v := (-1 : Int32)) S.x S.b dX4_active_0 ki_m1 ?_
  obtain ⟨rfl, rfl⟩ := rt2 hf
  exact g_iret S hM rfl dX4_active_1
/-! SequenceBench$Cascade.active()I -/
theorem hdX5_active : gHd yX5_active 0 := by decide +kernel
def gX5_active (ns : Nat) (q : MW) (nc : Nat) (w : MW) : Option (Int32 × MW) :=
  some ((w.1 30), w)
abbrev rmX5_active : Room := { frames := 1, cells := 0, slots := 0, locals := 12 }
set_option maxHeartbeats 4000000 in
theorem metX5_active {l : Launch} {D : va_G} {T : Nat → ClassId} {a b sa : Nat → Nat} {tl : va_W} {rr : Int32} {wr : MW} {w : MW} {ns : Nat} {q : MW} {nc : Nat} (hQ : SqI T b sa ns q (.ref (b 3)) tl) (hC : CuI T b nc q tl) (hf : gX5_active ns q nc w = some (rr, wr)) (sz : Nat) : MetI l yX5_active (ws_ yX5_active cX5_active 1 (some .int)) rmX5_active D T (rcW 1 a (T 0) (some (b 0)) w tl) sz [.ref (a 7)] rr (rcW 1 a (T 0) (some (b 0)) wr tl) := by
  refine g_entry (Qc := fun A => gQi D T A rr (rcW 1 a (T 0) (some (b 0)) wr tl)) (by decide) rfl ?_
  intro p e s m below meth c ls S hM hl
  have hl : lv_has ls 1 [(0, .ref (a 7))] := hl
  refine lv_aload_n S.x S.b dX5_active_0 rfl (lv_at hl 0 rfl) ?_
  refine cr_g S hM rfl rfl in_X5 2 rfl (Or.inl q183) rfl dX5_active_1 ?_
  obtain ⟨rfl, rfl⟩ := rt2 hf
  exact g_iret S hM rfl dX5_active_4
/-! SequenceBench$Stepper.active()I -/
theorem hdX6_active : gHd yX6_active 0 := by decide +kernel
def gX6_active (ns : Nat) (q : MW) (w : MW) : Option (Int32 × MW) :=
  some ((w.1 30), w)
abbrev rmX6_active : Room := { frames := 1, cells := 0, slots := 0, locals := 12 }
set_option maxHeartbeats 4000000 in
theorem metX6_active {l : Launch} {D : va_G} {T : Nat → ClassId} {a b sa : Nat → Nat} {tl : va_W} {rr : Int32} {wr : MW} {w : MW} {ns : Nat} {q : MW} (hQ : SqI T b sa ns q (.ref (b 3)) tl) (hf : gX6_active ns q w = some (rr, wr)) (sz : Nat) : MetI l yX6_active (ws_ yX6_active cX6_active 1 (some .int)) rmX6_active D T (rcW 2 a (T 0) (some (b 0)) w tl) sz [.ref (a 7)] rr (rcW 2 a (T 0) (some (b 0)) wr tl) := by
  refine g_entry (Qc := fun A => gQi D T A rr (rcW 2 a (T 0) (some (b 0)) wr tl)) (by decide) rfl ?_
  intro p e s m below meth c ls S hM hl
  have hl : lv_has ls 1 [(0, .ref (a 7))] := hl
  refine lv_aload_n S.x S.b dX6_active_0 rfl (lv_at hl 0 rfl) ?_
  refine cr_g S hM rfl rfl in_X6 1 rfl (Or.inl q201) rfl dX6_active_1 ?_
  obtain ⟨rfl, rfl⟩ := rt2 hf
  exact g_iret S hM rfl dX6_active_4
