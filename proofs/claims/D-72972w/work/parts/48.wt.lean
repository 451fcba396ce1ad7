/-! works, cycleTime -/
set_option maxRecDepth 100000
theorem hdX1_works : gHd yX1_works 1 := by decide +kernel
def gX1_works (N ns : Nat) (q : MW) (nc : Nat) (x1 : Int32) (w : BW) : Option (Int32 × BW) :=
  bd (gX1_isIn x1.toInt64 (0 : Int64) (2 : Int64)) fun r_1 =>
  bd (gX1_checkArgument r_1) fun _ =>
  bd (gX1_checkSequence ns q nc w) fun w_2 =>
  bd (gX3_init N ns (qD N ns nc q (moI x1)) (w_2.1.2 1) (cgI (moI x1) nc)) fun wt =>
  bd2 (gMakes (moI x1) N ns nc (qD N ns nc q (moI x1)) wt) fun r wt' =>
  bz r (some (r, w_2))
abbrev rmX1_works : Room := { frames := 9, cells := 25, slots := 238, locals := 3500 }
set_option maxHeartbeats 4000000 in
theorem metX1_works {l : Launch} {D : va_G} {T : Nat → ClassId} {h me : Nat} {d a b sa : Nat → Nat} {co : Option Nat} {tl : va_W} {em : Nat → Nat} {rr : Int32} {wr : BW} {N : Nat} {x1 : Int32} {w : BW} {ns : Nat} {q : MW} {nc : Nat} (hK : SqK N ns nc q) (hQ : SqI T b sa ns q (.ref (b 3)) tl) (hC : CuI T b nc q tl) (hf : gX1_works N ns q nc x1 w = some (rr, wr)) (sz : Nat) : MetIY Unit l yX1_works (ws_ yX1_works cX1_works 2 (some .boolean)) rmX1_works D T (EnY em) (bwW h d T (some (b 0)) co me a w tl) sz [.ref h, .int x1] rr (fun _ => bwW h d T (some (b 0)) co me a wr tl) (fun _ _ => True) 25 238 := by
  refine g_entryY (y := yX1_works) (Y := EnY em) (Qc := fun A => va_Qi (fun r' (_ : Unit) => r' = rr) (fun _ t => gPost D T A (bwW h d T (some (b 0)) co me a wr tl) t ∧ True) A) (by decide) rfl ?_
  intro p e s m below meth c ls S hini hM hY hl
  have hl : lv_has ls 2 [(0, .ref h), (1, .int x1)] := hl
  refine lv_iload_n S.x S.b dX1_works_0 rfl (lv_at hl 1 rfl) ?_
  refine lv_i2l S.x S.b dX1_works_1 rfl ?_
  refine lv_lconst (v := (0 : Int64)) S.x S.b dX1_works_2 kl_0 ?_
  refine lv_ldc2 (v := (2 : Int64)) S.x S.b S.o (S.w _ q1176) dX1_works_3 ?_
  obtain ⟨r_1, hc, hf⟩ := bd_some hf
  refine gg_si S hM hl [.long x1.toInt64, .long (0 : Int64), .long (2 : Int64)] (metX1_isIn hc) hdX1_isIn q1021 q788 q62 q789 ⟨rfl, rfl⟩ ⟨rfl, rfl⟩ rfl rfl rfl ⟨Nat.zero_le _, Nat.zero_le _⟩ dX1_works_6 (fun H locs hM => ?_)
  obtain ⟨_, hc, hf⟩ := bd_some hf
  refine gg_sv S hM hl [.int r_1] (metX1_checkArgument hc) hdX1_checkArgument q1022 q1023 q62 q1024 ⟨rfl, rfl⟩ ⟨rfl, rfl⟩ rfl rfl rfl ⟨Nat.zero_le _, Nat.zero_le _⟩ dX1_works_9 (fun H locs hM => ?_)
  refine lv_aload_n S.x S.b dX1_works_12 rfl (lv_at hl 0 rfl) ?_
  obtain ⟨w_2, hc, hf⟩ := bd_some hf
  refine gw_cv S hM hl [] 1 rfl ⟨0, _, rfl⟩ (metX1_checkSequence hQ hC hc) hdX1_checkSequence q1126 q1128 qs19 q62 q1129 ⟨rfl, rfl⟩ ⟨rfl, rfl⟩ rfl rfl rfl ⟨Nat.zero_le _, Nat.zero_le _⟩ dX1_works_13 (fun H locs hM => ?_)
  refine lv_aload_n S.x S.b dX1_works_16 rfl (lv_at hl 0 rfl) ?_
  refine lv_iload_n S.x S.b dX1_works_17 rfl (lv_at hl 1 rfl) ?_
  refine gy_sr S hM hl [.int x1] EnY.c hY metX2_of hdX2_of q1177 q1178 q64 q1179 ⟨rfl, rfl⟩ ⟨rfl, rfl⟩ rfl rfl rfl ⟨Nat.zero_le _, Nat.zero_le _⟩ dX1_works_18 (fun H locs hM => ?_)
  obtain ⟨wt, hc, hf⟩ := bd_some hf
  refine gt_call S hM hl hY moI_lt hK hQ hC hc ⟨rfl, rfl⟩ rfl ⟨Nat.le_of_ble_eq_true rfl, Nat.le_of_ble_eq_true rfl⟩ dX1_works_21 (fun u H locs hM hLam hLF => ?_)
  obtain ⟨r, wt', hc, hf⟩ := bd2_some hf
  refine gk_call S hM hl moI_lt hQ.bw hC.bw hLam hLF hc ⟨rfl, rfl⟩ rfl ⟨Nat.le_of_ble_eq_true rfl, Nat.le_of_ble_eq_true rfl⟩ dX1_works_24 (fun H locs hM => ?_)
  obtain ⟨hz, hf⟩ := bz_some hf
  obtain ⟨rfl, rfl⟩ := rt2 hf
  exact ga_zret (U := Unit) (ws' := fun _ => bwW h d T (some (b 0)) co me a _ tl) (X := fun _ _ => True) S () hM.drop trivial rfl hz dX1_works_27
theorem hdX1_cycleTime : gHd yX1_cycleTime 1 := by decide +kernel
def gX1_cycleTime (N ns : Nat) (q : MW) (nc : Nat) (x1 : Int32) (w : BW) : Option (Int32 × BW) :=
  bd (gX1_isIn x1.toInt64 (0 : Int64) (2 : Int64)) fun r_1 =>
  bd (gX1_checkArgument r_1) fun _ =>
  bd (gX1_checkSequence ns q nc w) fun w_2 =>
  bd (gX3_init N ns (qD N ns nc q (moI x1)) (w_2.1.2 1) (cgI (moI x1) nc)) fun wt =>
  bd2 (gMakes (moI x1) N ns nc (qD N ns nc q (moI x1)) wt) fun r wt' =>
  if r = 0 then some (-1, w_2) else some (wt'.1 23 - wt'.1 24, w_2)
abbrev rmX1_cycleTime : Room := { frames := 9, cells := 25, slots := 238, locals := 3500 }
set_option maxHeartbeats 4000000 in
theorem metX1_cycleTime {l : Launch} {D : va_G} {T : Nat → ClassId} {h me : Nat} {d a b sa : Nat → Nat} {co : Option Nat} {tl : va_W} {em : Nat → Nat} {rr : Int32} {wr : BW} {N : Nat} {x1 : Int32} {w : BW} {ns : Nat} {q : MW} {nc : Nat} (hK : SqK N ns nc q) (hQ : SqI T b sa ns q (.ref (b 3)) tl) (hC : CuI T b nc q tl) (hf : gX1_cycleTime N ns q nc x1 w = some (rr, wr)) (sz : Nat) : MetIY Unit l yX1_cycleTime (ws_ yX1_cycleTime cX1_cycleTime 3 (some .int)) rmX1_cycleTime D T (EnY em) (bwW h d T (some (b 0)) co me a w tl) sz [.ref h, .int x1] rr (fun _ => bwW h d T (some (b 0)) co me a wr tl) (fun _ _ => True) 25 238 := by
  refine g_entryY (y := yX1_cycleTime) (Y := EnY em) (Qc := fun A => va_Qi (fun r' (_ : Unit) => r' = rr) (fun _ t => gPost D T A (bwW h d T (some (b 0)) co me a wr tl) t ∧ True) A) (by decide) rfl ?_
  intro p e s m below meth c ls S hini hM hY hl
  have hl : lv_has ls 3 [(0, .ref h), (1, .int x1)] := hl
  refine lv_iload_n S.x S.b dX1_cycleTime_0 rfl (lv_at hl 1 rfl) ?_
  refine lv_i2l S.x S.b dX1_cycleTime_1 rfl ?_
  refine lv_lconst (v := (0 : Int64)) S.x S.b dX1_cycleTime_2 kl_0 ?_
  refine lv_ldc2 (v := (2 : Int64)) S.x S.b S.o (S.w _ q1176) dX1_cycleTime_3 ?_
  obtain ⟨r_1, hc, hf⟩ := bd_some hf
  refine gg_si S hM hl [.long x1.toInt64, .long (0 : Int64), .long (2 : Int64)] (metX1_isIn hc) hdX1_isIn q1021 q788 q62 q789 ⟨rfl, rfl⟩ ⟨rfl, rfl⟩ rfl rfl rfl ⟨Nat.zero_le _, Nat.zero_le _⟩ dX1_cycleTime_6 (fun H locs hM => ?_)
  obtain ⟨_, hc, hf⟩ := bd_some hf
  refine gg_sv S hM hl [.int r_1] (metX1_checkArgument hc) hdX1_checkArgument q1022 q1023 q62 q1024 ⟨rfl, rfl⟩ ⟨rfl, rfl⟩ rfl rfl rfl ⟨Nat.zero_le _, Nat.zero_le _⟩ dX1_cycleTime_9 (fun H locs hM => ?_)
  refine lv_aload_n S.x S.b dX1_cycleTime_12 rfl (lv_at hl 0 rfl) ?_
  obtain ⟨w_2, hc, hf⟩ := bd_some hf
  refine gw_cv S hM hl [] 1 rfl ⟨0, _, rfl⟩ (metX1_checkSequence hQ hC hc) hdX1_checkSequence q1126 q1128 qs19 q62 q1129 ⟨rfl, rfl⟩ ⟨rfl, rfl⟩ rfl rfl rfl ⟨Nat.zero_le _, Nat.zero_le _⟩ dX1_cycleTime_13 (fun H locs hM => ?_)
  refine lv_aload_n S.x S.b dX1_cycleTime_16 rfl (lv_at hl 0 rfl) ?_
  refine lv_iload_n S.x S.b dX1_cycleTime_17 rfl (lv_at hl 1 rfl) ?_
  refine gy_sr S hM hl [.int x1] EnY.c hY metX2_of hdX2_of q1177 q1178 q64 q1179 ⟨rfl, rfl⟩ ⟨rfl, rfl⟩ rfl rfl rfl ⟨Nat.zero_le _, Nat.zero_le _⟩ dX1_cycleTime_18 (fun H locs hM => ?_)
  obtain ⟨wt, hc, hf⟩ := bd_some hf
  refine gt_call S hM hl hY moI_lt hK hQ hC hc ⟨rfl, rfl⟩ rfl ⟨Nat.le_of_ble_eq_true rfl, Nat.le_of_ble_eq_true rfl⟩ dX1_cycleTime_21 (fun u H locs hM hLam hLF => ?_)
  obtain ⟨r, wt', hc, hf⟩ := bd2_some hf
  refine lv_astore_n (lv' := [(2, .ref (u.1 0)), (0, .ref h), (1, .int x1)]) S.x S.b dX1_cycleTime_24 rfl hl (by decide) rfl (fun ls hl => ?_)
  refine lv_aload_n S.x S.b dX1_cycleTime_25 rfl (lv_at hl 0 rfl) ?_
  refine gk_call S hM hl moI_lt hQ.bw hC.bw hLam hLF hc ⟨rfl, rfl⟩ rfl ⟨Nat.le_of_ble_eq_true rfl, Nat.le_of_ble_eq_true rfl⟩ dX1_cycleTime_26 (fun H locs hM => ?_)
  refine lv_if_eq (tgt := 44) S.x S.b dX1_cycleTime_29 rfl (fun cn => ?_) (fun cn => ?_)
  · have hf := if_t cn hf
    refine lv_iconst (v := (-1 : Int32)) S.x S.b dX1_cycleTime_44 ki_m1 ?_
    obtain ⟨rfl, rfl⟩ := rt2 hf
    exact ga_iret (U := Unit) (ws' := fun _ => bwW h d T (some (b 0)) co me a _ tl) (X := fun _ _ => True) S () hM.drop trivial rfl dX1_cycleTime_45
  · have hf := if_f cn hf
    refine lv_aload_n S.x S.b dX1_cycleTime_32 rfl (lv_at hl 0 rfl) ?_
    refine g_getL S hM ⟨0, rfl⟩ (ci := 2) rfl in_X3 23 rfl (Or.inr ⟨_, q264⟩) rfl dX1_cycleTime_33 ?_
    refine lv_aload_n S.x S.b dX1_cycleTime_36 rfl (lv_at hl 0 rfl) ?_
    refine g_getL S hM ⟨0, rfl⟩ (ci := 2) rfl in_X3 24 rfl (Or.inr ⟨_, q266⟩) rfl dX1_cycleTime_37 ?_
    refine lv_isub S.x S.b dX1_cycleTime_40 ?_
    refine lv_goto (tgt := 45) S.x S.b dX1_cycleTime_41 rfl ?_
    obtain ⟨rfl, rfl⟩ := rt2 hf
    exact ga_iret (U := Unit) (ws' := fun _ => bwW h d T (some (b 0)) co me a _ tl) (X := fun _ _ => True) S () hM.drop trivial rfl dX1_cycleTime_45
