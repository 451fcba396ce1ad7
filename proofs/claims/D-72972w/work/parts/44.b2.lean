/-! constants -/
theorem kb_63 : (Int8.ofInt (63)).toInt32 = (63 : Int32) := by decide
set_option maxRecDepth 100000
/-! java/lang/Integer.bitCount(I)I -/
theorem hdJ17_bitCount : gHd yJ17_bitCount 1 := by decide +kernel
def gJ17_bitCount (x0 : Int32) : Option (Int32) :=
  lt ((x0 - ((((x0).toUInt32 >>> (((1 : Int32)).toUInt32 &&& Int32.toUInt32 31)).toInt32) &&& (1431655765 : Int32)))) fun x0_1 =>
  lt (((x0_1 &&& (858993459 : Int32)) + ((((x0_1).toUInt32 >>> (((2 : Int32)).toUInt32 &&& Int32.toUInt32 31)).toInt32) &&& (858993459 : Int32)))) fun x0_2 =>
  lt (((x0_2 + (((x0_2).toUInt32 >>> (((4 : Int32)).toUInt32 &&& Int32.toUInt32 31)).toInt32)) &&& (252645135 : Int32))) fun x0_3 =>
  lt ((x0_3 + (((x0_3).toUInt32 >>> (((8 : Int32)).toUInt32 &&& Int32.toUInt32 31)).toInt32))) fun x0_4 =>
  lt ((x0_4 + (((x0_4).toUInt32 >>> (((16 : Int32)).toUInt32 &&& Int32.toUInt32 31)).toInt32))) fun x0_5 =>
  some (x0_5 &&& (63 : Int32))
abbrev rmJ17_bitCount : Room := { frames := 1, cells := 0, slots := 0, locals := 12 }
set_option maxHeartbeats 4000000 in
theorem metJ17_bitCount {l : Launch} {D : va_G} {T : Nat → ClassId} {rr : Int32} {x0 : Int32} (hf : gJ17_bitCount x0 = some rr) (sz : Nat) : MetI l yJ17_bitCount (ws_ yJ17_bitCount cJ17_bitCount 1 (some .int)) rmJ17_bitCount D T ([]) sz [.int x0] rr ([]) := by
  refine g_entry (Qc := fun A => gQi D T A rr ([])) (by decide) rfl ?_
  intro p e s m below meth c ls S hM hl
  have hl : lv_has ls 1 [(0, .int x0)] := hl
  refine lv_iload_n S.x S.b dJ17_bitCount_0 rfl (lv_at hl 0 rfl) ?_
  refine lv_iload_n S.x S.b dJ17_bitCount_1 rfl (lv_at hl 0 rfl) ?_
  refine lv_iconst (v := (1 : Int32)) S.x S.b dJ17_bitCount_2 ki_1 ?_
  refine lv_iushr S.x S.b dJ17_bitCount_3 rfl ?_
  refine lv_ldcw (v := (1431655765 : Int32)) S.x S.b S.o (S.w _ q1196) dJ17_bitCount_4 ?_
  refine lv_iand S.x S.b dJ17_bitCount_7 ?_
  refine lv_isub S.x S.b dJ17_bitCount_8 ?_
  obtain ⟨x0_1, ex, hf⟩ := lt_some hf
  refine g_istn S (x' := x0_1) ex hl dJ17_bitCount_9 rfl rfl (lv' := [(0, .int x0_1)]) rfl (fun ls hl => ?_)
  refine lv_iload_n S.x S.b dJ17_bitCount_10 rfl (lv_at hl 0 rfl) ?_
  refine lv_ldcw (v := (858993459 : Int32)) S.x S.b S.o (S.w _ q1197) dJ17_bitCount_11 ?_
  refine lv_iand S.x S.b dJ17_bitCount_14 ?_
  refine lv_iload_n S.x S.b dJ17_bitCount_15 rfl (lv_at hl 0 rfl) ?_
  refine lv_iconst (v := (2 : Int32)) S.x S.b dJ17_bitCount_16 ki_2 ?_
  refine lv_iushr S.x S.b dJ17_bitCount_17 rfl ?_
  refine lv_ldcw (v := (858993459 : Int32)) S.x S.b S.o (S.w _ q1197) dJ17_bitCount_18 ?_
  refine lv_iand S.x S.b dJ17_bitCount_21 ?_
  refine lv_iadd S.x S.b dJ17_bitCount_22 ?_
  obtain ⟨x0_2, ex, hf⟩ := lt_some hf
  refine g_istn S (x' := x0_2) ex hl dJ17_bitCount_23 rfl rfl (lv' := [(0, .int x0_2)]) rfl (fun ls hl => ?_)
  refine lv_iload_n S.x S.b dJ17_bitCount_24 rfl (lv_at hl 0 rfl) ?_
  refine lv_iload_n S.x S.b dJ17_bitCount_25 rfl (lv_at hl 0 rfl) ?_
  refine lv_iconst (v := (4 : Int32)) S.x S.b dJ17_bitCount_26 ki_4 ?_
  refine lv_iushr S.x S.b dJ17_bitCount_27 rfl ?_
  refine lv_iadd S.x S.b dJ17_bitCount_28 ?_
  refine lv_ldcw (v := (252645135 : Int32)) S.x S.b S.o (S.w _ q1198) dJ17_bitCount_29 ?_
  refine lv_iand S.x S.b dJ17_bitCount_32 ?_
  obtain ⟨x0_3, ex, hf⟩ := lt_some hf
  refine g_istn S (x' := x0_3) ex hl dJ17_bitCount_33 rfl rfl (lv' := [(0, .int x0_3)]) rfl (fun ls hl => ?_)
  refine lv_iload_n S.x S.b dJ17_bitCount_34 rfl (lv_at hl 0 rfl) ?_
  refine lv_iload_n S.x S.b dJ17_bitCount_35 rfl (lv_at hl 0 rfl) ?_
  refine lv_bipush (v := (8 : Int32)) S.x S.b dJ17_bitCount_36 kb_8 ?_
  refine lv_iushr S.x S.b dJ17_bitCount_38 rfl ?_
  refine lv_iadd S.x S.b dJ17_bitCount_39 ?_
  obtain ⟨x0_4, ex, hf⟩ := lt_some hf
  refine g_istn S (x' := x0_4) ex hl dJ17_bitCount_40 rfl rfl (lv' := [(0, .int x0_4)]) rfl (fun ls hl => ?_)
  refine lv_iload_n S.x S.b dJ17_bitCount_41 rfl (lv_at hl 0 rfl) ?_
  refine lv_iload_n S.x S.b dJ17_bitCount_42 rfl (lv_at hl 0 rfl) ?_
  refine lv_bipush (v := (16 : Int32)) S.x S.b dJ17_bitCount_43 kb_16 ?_
  refine lv_iushr S.x S.b dJ17_bitCount_45 rfl ?_
  refine lv_iadd S.x S.b dJ17_bitCount_46 ?_
  obtain ⟨x0_5, ex, hf⟩ := lt_some hf
  refine g_istn S (x' := x0_5) ex hl dJ17_bitCount_47 rfl rfl (lv' := [(0, .int x0_5)]) rfl (fun ls hl => ?_)
  refine lv_iload_n S.x S.b dJ17_bitCount_48 rfl (lv_at hl 0 rfl) ?_
  refine lv_bipush (v := (63 : Int32)) S.x S.b dJ17_bitCount_49 kb_63 ?_
  refine lv_iand S.x S.b dJ17_bitCount_51 ?_
  obtain rfl := rt1 hf
  exact g_iret S hM rfl dJ17_bitCount_52
/-! SequenceBench.valvesOf(LSequenceBench$Method;)I -/
theorem hdX1_valvesOf : gHd yX1_valvesOf 1 := by decide +kernel
def gX1_valvesOf (N : Nat) (ns : Nat) (q : MW) (nc : Nat) (i : Nat) (w : BW) : Option (Int32 × BW) :=
  bd (gX11_cylinders N ns q) fun r_2 =>
  bd (gJ17_bitCount r_2) fun r_3 =>
  some ((r_3 + (exV i ns nc)), w)
abbrev rmX1_valvesOf : Room := { frames := 3, cells := 0, slots := 0, locals := 57 }
set_option maxHeartbeats 4000000 in
theorem metX1_valvesOf {l : Launch} {D : va_G} {T : Nat → ClassId} {h me : Nat} {d a b sa : Nat → Nat} {co : Option Nat} {tl : va_W} {em : Nat → Nat} {rr : Int32} {wr : BW} {N : Nat} {w : BW} {ns : Nat} {q : MW} {nc : Nat} {i : Nat} (hQ : SqI T b sa ns q (.ref (b 3)) tl) (hC : CuI T b nc q tl) (hi3 : i < 3) (hf : gX1_valvesOf N ns q nc i w = some (rr, wr)) (sz : Nat) : MetIY Unit l yX1_valvesOf (ws_ yX1_valvesOf cX1_valvesOf 2 (some .int)) rmX1_valvesOf D T (EnY em) (bwW h d T (some (b 0)) co me a w tl) sz [.ref h, .ref (em i)] rr (fun _ => bwW h d T (some (b 0)) co me a wr tl) (fun _ _ => True) 0 0 := by
  refine g_entryY (y := yX1_valvesOf) (Y := EnY em) (Qc := fun A => va_Qi (fun r' (_ : Unit) => r' = rr) (fun _ t => gPost D T A (bwW h d T (some (b 0)) co me a wr tl) t ∧ True) A) (by decide) rfl ?_
  intro p e s m below meth c ls S hini hM hY hl
  have hl : lv_has ls 2 [(0, .ref h), (1, .ref (em i))] := hl
  refine lv_aload_n S.x S.b dX1_valvesOf_0 rfl (lv_at hl 0 rfl) ?_
  refine bn_g S hM 3 rfl (Or.inl q323) rfl dX1_valvesOf_1 ?_
  obtain ⟨r_2, hc, hf⟩ := bd_some hf
  refine gw_ci S hM hl [] 9 rfl hQ.bw.sq (metX11_cylinders hQ.bw hc) hdX11_cylinders q1189 q1190 q1191 q94 q1192 ⟨rfl, rfl⟩ ⟨rfl, rfl⟩ rfl rfl rfl ⟨Nat.zero_le _, Nat.zero_le _⟩ dX1_valvesOf_4 (fun H locs hM => ?_)
  obtain ⟨r_3, hc, hf⟩ := bd_some hf
  refine gg_si S hM hl [.int r_2] (metJ17_bitCount hc) hdJ17_bitCount q1193 q1194 q90 q1195 ⟨rfl, rfl⟩ ⟨rfl, rfl⟩ rfl rfl rfl ⟨Nat.zero_le _, Nat.zero_le _⟩ dX1_valvesOf_7 (fun H locs hM => ?_)
  refine lv_aload_n S.x S.b dX1_valvesOf_10 rfl (lv_at hl 1 rfl) ?_
  refine lv_aload_n S.x S.b dX1_valvesOf_11 rfl (lv_at hl 0 rfl) ?_
  refine bn_g S hM 3 rfl (Or.inl q323) rfl dX1_valvesOf_12 ?_
  refine ev_call S hM hl hY hi3 hQ.bw hC.bw ⟨rfl, rfl⟩ rfl ⟨Nat.zero_le _, Nat.zero_le _⟩ dX1_valvesOf_15 (fun H locs hM => ?_)
  refine lv_iadd S.x S.b dX1_valvesOf_18 ?_
  obtain ⟨rfl, rfl⟩ := rt2 hf
  exact ga_iret (U := Unit) (ws' := fun _ => _) (X := fun _ _ => True) S () hM trivial rfl dX1_valvesOf_19
/-! SequenceBench.valves(I)I -/
theorem hdX1_valves : gHd yX1_valves 1 := by decide +kernel
def gX1_valves (N : Nat) (ns : Nat) (q : MW) (nc : Nat) (x1 : Int32) (w : BW) : Option (Int32 × BW) :=
  bd (gX1_isIn x1.toInt64 (0 : Int64) (2 : Int64)) fun r_1 =>
  bd (gX1_checkArgument r_1) fun _ =>
  bd (gX1_checkSequence ns q nc w) fun w_2 =>
  bd2 (gX1_valvesOf N ns q nc (moI x1) w_2) fun r_5 w_4 =>
  some (r_5, w_4)
abbrev rmX1_valves : Room := { frames := 4, cells := 0, slots := 0, locals := 78 }
set_option maxHeartbeats 4000000 in
theorem metX1_valves {l : Launch} {D : va_G} {T : Nat → ClassId} {h me : Nat} {d a b sa : Nat → Nat} {co : Option Nat} {tl : va_W} {em : Nat → Nat} {rr : Int32} {wr : BW} {N : Nat} {x1 : Int32} {w : BW} {ns : Nat} {q : MW} {nc : Nat} (hQ : SqI T b sa ns q (.ref (b 3)) tl) (hC : CuI T b nc q tl) (hf : gX1_valves N ns q nc x1 w = some (rr, wr)) (sz : Nat) : MetIY Unit l yX1_valves (ws_ yX1_valves cX1_valves 2 (some .int)) rmX1_valves D T (EnY em) (bwW h d T (some (b 0)) co me a w tl) sz [.ref h, .int x1] rr (fun _ => bwW h d T (some (b 0)) co me a wr tl) (fun _ _ => True) 0 0 := by
  refine g_entryY (y := yX1_valves) (Y := EnY em) (Qc := fun A => va_Qi (fun r' (_ : Unit) => r' = rr) (fun _ t => gPost D T A (bwW h d T (some (b 0)) co me a wr tl) t ∧ True) A) (by decide) rfl ?_
  intro p e s m below meth c ls S hini hM hY hl
  have hl : lv_has ls 2 [(0, .ref h), (1, .int x1)] := hl
  refine lv_iload_n S.x S.b dX1_valves_0 rfl (lv_at hl 1 rfl) ?_
  refine lv_i2l S.x S.b dX1_valves_1 rfl ?_
  refine lv_lconst (v := (0 : Int64)) S.x S.b dX1_valves_2 kl_0 ?_
  refine lv_ldc2 (v := (2 : Int64)) S.x S.b S.o (S.w _ q1176) dX1_valves_3 ?_
  obtain ⟨r_1, hc, hf⟩ := bd_some hf
  refine gg_si S hM hl [.long x1.toInt64, .long (0 : Int64), .long (2 : Int64)] (metX1_isIn hc) hdX1_isIn q1021 q788 q62 q789 ⟨rfl, rfl⟩ ⟨rfl, rfl⟩ rfl rfl rfl ⟨Nat.zero_le _, Nat.zero_le _⟩ dX1_valves_6 (fun H locs hM => ?_)
  obtain ⟨_, hc, hf⟩ := bd_some hf
  refine gg_sv S hM hl [.int r_1] (metX1_checkArgument hc) hdX1_checkArgument q1022 q1023 q62 q1024 ⟨rfl, rfl⟩ ⟨rfl, rfl⟩ rfl rfl rfl ⟨Nat.zero_le _, Nat.zero_le _⟩ dX1_valves_9 (fun H locs hM => ?_)
  refine lv_aload_n S.x S.b dX1_valves_12 rfl (lv_at hl 0 rfl) ?_
  obtain ⟨w_2, hc, hf⟩ := bd_some hf
  refine gw_cv S hM hl [] 1 rfl ⟨0, _, rfl⟩ (metX1_checkSequence hQ hC hc) hdX1_checkSequence q1126 q1128 qs19 q62 q1129 ⟨rfl, rfl⟩ ⟨rfl, rfl⟩ rfl rfl rfl ⟨Nat.zero_le _, Nat.zero_le _⟩ dX1_valves_13 (fun H locs hM => ?_)
  refine lv_aload_n S.x S.b dX1_valves_16 rfl (lv_at hl 0 rfl) ?_
  refine lv_iload_n S.x S.b dX1_valves_17 rfl (lv_at hl 1 rfl) ?_
  refine gy_sr S hM hl [.int x1] EnY.c hY metX2_of hdX2_of q1177 q1178 q64 q1179 ⟨rfl, rfl⟩ ⟨rfl, rfl⟩ rfl rfl rfl ⟨Nat.zero_le _, Nat.zero_le _⟩ dX1_valves_18 (fun H locs hM => ?_)
  obtain ⟨r_5, w_4, hc, hf⟩ := bd2_some hf
  refine gyw_ci S hM hl [.ref (em (moI x1))] 1 rfl ⟨0, _, rfl⟩ EnY.c hY (metX1_valvesOf hQ hC moI_lt hc) hdX1_valvesOf q1185 q1187 qs20 q62 q1188 ⟨rfl, rfl⟩ ⟨rfl, rfl⟩ rfl rfl rfl ⟨Nat.zero_le _, Nat.zero_le _⟩ dX1_valves_21 (fun H locs hM => ?_)
  obtain ⟨rfl, rfl⟩ := rt2 hf
  exact ga_iret (U := Unit) (ws' := fun _ => _) (X := fun _ _ => True) S () hM trivial rfl dX1_valves_24
