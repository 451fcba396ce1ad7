/-! constants -/
set_option maxRecDepth 100000
/-! SequenceBench.active()I -/
theorem hdX1_active : gHd yX1_active 0 := by decide +kernel
def gX1_active_n (w : BW) : Option (Int32 × BW) :=
  some ((-1 : Int32), w)
abbrev rmX1_active_n : Room := { frames := 1, cells := 0, slots := 0, locals := 12 }
set_option maxHeartbeats 4000000 in
theorem metX1_active_n {l : Launch} {D : va_G} {T : Nat → ClassId} {h me : Nat} {d a : Nat → Nat} {tl : va_W} {rr : Int32} {wr : BW} {w : BW} (hf : gX1_active_n w = some (rr, wr)) (sz : Nat) : MetI l yX1_active (ws_ yX1_active cX1_active 1 (some .int)) rmX1_active_n D T (bwW h d T none none me a w tl) sz [.ref h] rr (bwW h d T none none me a wr tl) := by
  refine g_entry (Qc := fun A => gQi D T A rr (bwW h d T none none me a wr tl)) (by decide) rfl ?_
  intro p e s m below meth c ls S hM hl
  have hl : lv_has ls 1 [(0, .ref h)] := hl
  refine lv_aload_n S.x S.b dX1_active_0 rfl (lv_at hl 0 rfl) ?_
  refine bn_g S hM 8 rfl (Or.inl q328) rfl dX1_active_1 ?_
  refine br_g S hM 5 rfl (Or.inr ⟨_, q231⟩) rfl dX1_active_4 ?_
  refine lv_ifnonnullN S.x S.b dX1_active_7 ?_
  refine lv_iconst (v := (-1 : Int32)) S.x S.b dX1_active_10 ki_m1 ?_
  refine lv_goto (tgt := 26) S.x S.b dX1_active_11 rfl ?_
  obtain ⟨rfl, rfl⟩ := rt2 hf
  exact g_iret S hM rfl dX1_active_26
/-! SequenceBench.fingerprint()J -/
theorem hdX1_fingerprint : gHd yX1_fingerprint 0 := by decide +kernel
def gX1_fingerprint_n_b161 (N : Nat) (k87 : Int64 → Int32 → BW → Option (Int64 × BW)) (x3 : Int32) (s0 : Int32) (s1 : Int64) (w : BW) : Option (Int64 × BW) :=
  bd (gX1_has (w.2.1 13) x3) fun r_17 =>
  if r_17 = 0 then (
  lt (((s1 + s0.toInt64) + ((0 : Int32).toInt64))) fun x1_18 =>
  lt (x3 + (1 : Int32)) fun x3_19 =>
  k87 x1_18 x3_19 w)
  else (
  lt (((s1 + s0.toInt64) + ((2 : Int32).toInt64))) fun x1_20 =>
  lt (x3 + (1 : Int32)) fun x3_21 =>
  k87 x1_20 x3_21 w)
def gX1_fingerprint_n_b134 (N : Nat) (k87 : Int64 → Int32 → BW → Option (Int64 × BW)) (x3 : Int32) (s0 : Int32) (s1 : Int64) (w : BW) : Option (Int64 × BW) :=
  lt ((s1 + s0.toInt64)) fun x1_11 =>
  bd (gX1_has (w.2.1 12) x3) fun r_12 =>
  if r_12 = 0 then (
  gX1_fingerprint_n_b161 N k87 x3 (0 : Int32) ((31 : Int64) * x1_11) w)
  else (
  gX1_fingerprint_n_b161 N k87 x3 (1 : Int32) ((31 : Int64) * x1_11) w)
def gX1_fingerprint_n_b193 (N : Nat) : Nat → Int64 → Int32 → BW → Option (Int64 × BW)
  | 0, _, _, _ => none
  | n + 1, x1, x3, w =>
    bd2 (gX1_steps_n w) fun r_14 w_13 =>
    if r_14 ≤ x3 then (
    some (x1, w_13))
    else (
    ck x3 16 <|
    lt ((((31 : Int64) * x1) + ((w_13.2.2 3 x3.toNatClampNeg).toInt64))) fun x1_15 =>
    lt (x3 + (1 : Int32)) fun x3_16 =>
    gX1_fingerprint_n_b193 N n x1_15 x3_16 w_13)
def gX1_fingerprint_n_b87 (N : Nat) : Nat → Int64 → Int32 → BW → Option (Int64 × BW)
  | 0, _, _, _ => none
  | n + 1, x1, x3, w =>
    if (6 : Int32) ≤ x3 then (
    gX1_fingerprint_n_b193 N N x1 (0 : Int32) w)
    else (
    ck x3 6 <|
    lt ((((31 : Int64) * x1) + ((w.2.2 2 x3.toNatClampNeg).toInt64))) fun x1_9 =>
    bd (gX1_has (w.2.1 7) x3) fun r_10 =>
    if r_10 = 0 then (
    gX1_fingerprint_n_b134 N (gX1_fingerprint_n_b87 N n) x3 (0 : Int32) ((31 : Int64) * x1_9) w)
    else (
    gX1_fingerprint_n_b134 N (gX1_fingerprint_n_b87 N n) x3 (1 : Int32) ((31 : Int64) * x1_9) w))
def gX1_fingerprint_n (N : Nat) (w : BW) : Option (Int64 × BW) :=
  lt (((589 : Int64) + ((w.2.1 8).toInt64))) fun x1_1 =>
  bd2 (gX1_active_n w) fun r_3 w_2 =>
  lt ((((31 : Int64) * x1_1) + r_3.toInt64)) fun x1_4 =>
  lt ((((31 : Int64) * x1_4) + ((w_2.2.1 17).toInt64))) fun x1_5 =>
  lt ((((31 : Int64) * x1_5) + ((w_2.2.1 18).toInt64))) fun x1_6 =>
  lt ((((31 : Int64) * x1_6) + ((w_2.2.1 22).toInt64))) fun x1_7 =>
  lt ((((31 : Int64) * x1_7) + ((w_2.2.1 9).toInt64))) fun x1_8 =>
  gX1_fingerprint_n_b87 N N x1_8 (0 : Int32) w_2
abbrev rmX1_fingerprint_n : Room := { frames := 2, cells := 0, slots := 0, locals := 33 }
set_option maxHeartbeats 4000000 in
theorem wX1_fingerprint_n_b161 {p : Program} {l : Launch} {e : Env} {s : State} {m : MethodId} {args : Array Value} {below : List Frame} {meth : Method} {c : Code} {D : va_G} {T : Nat → ClassId} {A : Nat → Prop} {h me : Nat} {d a : Nat → Nat} {tl : va_W} {rr : Int64} {wr : BW} {N : Nat} (S : gS p s m args meth c cX1_fingerprint 4 (some .long) RX1 D T) {k87 : Int64 → Int32 → BW → Option (Int64 × BW)} (hk87 : ∀ (x1 : Int64) (x3 : Int32) (w : BW) (H : Heap) (locs : List Loc) (ls : Array Slot), gM D A s.heap (bwW h d T none none me a w tl) H locs → lv_has ls 4 [(0, .ref h), (1, .long x1), (3, .int x3)] → k87 x1 x3 w = some (rr, wr) → W p l e rmX1_fingerprint_n s m args below meth c H locs 0 0 (MQ below (gQl D T A rr (bwW h d T none none me a wr tl)) args s 0 0 A) (F0 m 87 ls [])) : ∀ (x3 : Int32) (s0 : Int32) (s1 : Int64) (w : BW) (H : Heap) (locs : List Loc) (ls : Array Slot), gM D A s.heap (bwW h d T none none me a w tl) H locs → lv_has ls 4 [(0, .ref h), (3, .int x3)] → gX1_fingerprint_n_b161 N k87 x3 s0 s1 w = some (rr, wr) → W p l e rmX1_fingerprint_n s m args below meth c H locs 0 0 (MQ below (gQl D T A rr (bwW h d T none none me a wr tl)) args s 0 0 A) (F0 m 161 ls [.int s0, .long s1]) := by
  intro x3 s0 s1 w H locs ls hM hl hf
  refine lv_i2l S.x S.b dX1_fingerprint_161 rfl ?_
  refine lv_ladd S.x S.b dX1_fingerprint_162 ?_
  refine lv_aload_n S.x S.b dX1_fingerprint_163 rfl (lv_at hl 0 rfl) ?_
  refine bn_g S hM 8 rfl (Or.inl q328) rfl dX1_fingerprint_164 ?_
  refine br_g S hM 13 rfl (Or.inr ⟨_, q248⟩) rfl dX1_fingerprint_167 ?_
  refine lv_iload_n S.x S.b dX1_fingerprint_170 rfl (lv_at hl 1 rfl) ?_
  obtain ⟨r_17, hc, hf⟩ := bd_some hf
  refine gg_si S hM hl [.int (w.2.1 13), .int x3] (metX1_has hc) hdX1_has q1008 q791 q62 q792 ⟨rfl, rfl⟩ ⟨rfl, rfl⟩ rfl rfl rfl ⟨Nat.zero_le _, Nat.zero_le _⟩ dX1_fingerprint_171 (fun H locs hM => ?_)
  refine lv_if_eq (tgt := 181) S.x S.b dX1_fingerprint_174 rfl (fun cn => ?_) (fun cn => ?_)
  · have hf := if_t cn hf
    refine lv_iconst (v := (0 : Int32)) S.x S.b dX1_fingerprint_181 ki_0 ?_
    refine lv_i2l S.x S.b dX1_fingerprint_182 rfl ?_
    refine lv_ladd S.x S.b dX1_fingerprint_183 ?_
    obtain ⟨x1_18, ex, hf⟩ := lt_some hf
    refine g_lstn S (x' := x1_18) ex hl dX1_fingerprint_184 rfl rfl (lv' := [(1, .long x1_18), (0, .ref h), (3, .int x3)]) rfl (fun ls hl => ?_)
    obtain ⟨x3_19, ex, hf⟩ := lt_some hf
    refine g_inc S (x' := x3_19) (d := (1 : Int32)) hl (k := 2) rfl ki_1 ex dX1_fingerprint_185 rfl (lv' := [(3, .int x3_19), (1, .long x1_18), (0, .ref h)]) rfl (fun ls hl => ?_)
    refine lv_goto (tgt := 87) S.x S.b dX1_fingerprint_188 rfl ?_
    exact hk87 x1_18 x3_19 w _ _ _ hM (lv_sub hl [2, 1, 0] rfl) hf
  · have hf := if_f cn hf
    refine lv_iconst (v := (2 : Int32)) S.x S.b dX1_fingerprint_177 ki_2 ?_
    refine lv_goto (tgt := 182) S.x S.b dX1_fingerprint_178 rfl ?_
    refine lv_i2l S.x S.b dX1_fingerprint_182 rfl ?_
    refine lv_ladd S.x S.b dX1_fingerprint_183 ?_
    obtain ⟨x1_20, ex, hf⟩ := lt_some hf
    refine g_lstn S (x' := x1_20) ex hl dX1_fingerprint_184 rfl rfl (lv' := [(1, .long x1_20), (0, .ref h), (3, .int x3)]) rfl (fun ls hl => ?_)
    obtain ⟨x3_21, ex, hf⟩ := lt_some hf
    refine g_inc S (x' := x3_21) (d := (1 : Int32)) hl (k := 2) rfl ki_1 ex dX1_fingerprint_185 rfl (lv' := [(3, .int x3_21), (1, .long x1_20), (0, .ref h)]) rfl (fun ls hl => ?_)
    refine lv_goto (tgt := 87) S.x S.b dX1_fingerprint_188 rfl ?_
    exact hk87 x1_20 x3_21 w _ _ _ hM (lv_sub hl [2, 1, 0] rfl) hf
set_option maxHeartbeats 4000000 in
theorem wX1_fingerprint_n_b134 {p : Program} {l : Launch} {e : Env} {s : State} {m : MethodId} {args : Array Value} {below : List Frame} {meth : Method} {c : Code} {D : va_G} {T : Nat → ClassId} {A : Nat → Prop} {h me : Nat} {d a : Nat → Nat} {tl : va_W} {rr : Int64} {wr : BW} {N : Nat} (S : gS p s m args meth c cX1_fingerprint 4 (some .long) RX1 D T) {k87 : Int64 → Int32 → BW → Option (Int64 × BW)} (hk87 : ∀ (x1 : Int64) (x3 : Int32) (w : BW) (H : Heap) (locs : List Loc) (ls : Array Slot), gM D A s.heap (bwW h d T none none me a w tl) H locs → lv_has ls 4 [(0, .ref h), (1, .long x1), (3, .int x3)] → k87 x1 x3 w = some (rr, wr) → W p l e rmX1_fingerprint_n s m args below meth c H locs 0 0 (MQ below (gQl D T A rr (bwW h d T none none me a wr tl)) args s 0 0 A) (F0 m 87 ls [])) : ∀ (x3 : Int32) (s0 : Int32) (s1 : Int64) (w : BW) (H : Heap) (locs : List Loc) (ls : Array Slot), gM D A s.heap (bwW h d T none none me a w tl) H locs → lv_has ls 4 [(0, .ref h), (3, .int x3)] → gX1_fingerprint_n_b134 N k87 x3 s0 s1 w = some (rr, wr) → W p l e rmX1_fingerprint_n s m args below meth c H locs 0 0 (MQ below (gQl D T A rr (bwW h d T none none me a wr tl)) args s 0 0 A) (F0 m 134 ls [.int s0, .long s1]) := by
  intro x3 s0 s1 w H locs ls hM hl hf
  refine lv_i2l S.x S.b dX1_fingerprint_134 rfl ?_
  refine lv_ladd S.x S.b dX1_fingerprint_135 ?_
  obtain ⟨x1_11, ex, hf⟩ := lt_some hf
  refine g_lstn S (x' := x1_11) ex hl dX1_fingerprint_136 rfl rfl (lv' := [(1, .long x1_11), (0, .ref h), (3, .int x3)]) rfl (fun ls hl => ?_)
  refine lv_ldc2 (v := (31 : Int64)) S.x S.b S.o (S.w _ q1006) dX1_fingerprint_137 ?_
  refine lv_lload_n S.x S.b dX1_fingerprint_140 rfl (lv_at hl 0 rfl) ?_
  refine lv_lmul S.x S.b dX1_fingerprint_141 ?_
  refine lv_aload_n S.x S.b dX1_fingerprint_142 rfl (lv_at hl 1 rfl) ?_
  refine bn_g S hM 8 rfl (Or.inl q328) rfl dX1_fingerprint_143 ?_
  refine br_g S hM 12 rfl (Or.inr ⟨_, q246⟩) rfl dX1_fingerprint_146 ?_
  refine lv_iload_n S.x S.b dX1_fingerprint_149 rfl (lv_at hl 2 rfl) ?_
  obtain ⟨r_12, hc, hf⟩ := bd_some hf
  refine gg_si S hM hl [.int (w.2.1 12), .int x3] (metX1_has hc) hdX1_has q1008 q791 q62 q792 ⟨rfl, rfl⟩ ⟨rfl, rfl⟩ rfl rfl rfl ⟨Nat.zero_le _, Nat.zero_le _⟩ dX1_fingerprint_150 (fun H locs hM => ?_)
  refine lv_if_eq (tgt := 160) S.x S.b dX1_fingerprint_153 rfl (fun cn => ?_) (fun cn => ?_)
  · have hf := if_t cn hf
    refine lv_iconst (v := (0 : Int32)) S.x S.b dX1_fingerprint_160 ki_0 ?_
    exact wX1_fingerprint_n_b161 S hk87 x3 (0 : Int32) ((31 : Int64) * x1_11) w _ _ _ hM (lv_sub hl [1, 2] rfl) hf
  · have hf := if_f cn hf
    refine lv_iconst (v := (1 : Int32)) S.x S.b dX1_fingerprint_156 ki_1 ?_
    refine lv_goto (tgt := 161) S.x S.b dX1_fingerprint_157 rfl ?_
    exact wX1_fingerprint_n_b161 S hk87 x3 (1 : Int32) ((31 : Int64) * x1_11) w _ _ _ hM (lv_sub hl [1, 2] rfl) hf
set_option maxHeartbeats 4000000 in
theorem wX1_fingerprint_n_b193 {p : Program} {l : Launch} {e : Env} {s : State} {m : MethodId} {args : Array Value} {below : List Frame} {meth : Method} {c : Code} {D : va_G} {T : Nat → ClassId} {A : Nat → Prop} {h me : Nat} {d a : Nat → Nat} {tl : va_W} {rr : Int64} {wr : BW} {N : Nat} (S : gS p s m args meth c cX1_fingerprint 4 (some .long) RX1 D T) : ∀ (n : Nat) (x1 : Int64) (x3 : Int32) (w : BW) (H : Heap) (locs : List Loc) (ls : Array Slot), gM D A s.heap (bwW h d T none none me a w tl) H locs → lv_has ls 4 [(0, .ref h), (1, .long x1), (3, .int x3)] → gX1_fingerprint_n_b193 N n x1 x3 w = some (rr, wr) → W p l e rmX1_fingerprint_n s m args below meth c H locs 0 0 (MQ below (gQl D T A rr (bwW h d T none none me a wr tl)) args s 0 0 A) (F0 m 193 ls []) := by
  intro n
  induction n with
  | zero =>
    intro x1 x3 w H locs ls hM hl hf
    cases hf
  | succ n ih =>
    intro x1 x3 w H locs ls hM hl hf
    refine lv_iload_n S.x S.b dX1_fingerprint_193 rfl (lv_at hl 2 rfl) ?_
    refine lv_aload_n S.x S.b dX1_fingerprint_194 rfl (lv_at hl 0 rfl) ?_
    obtain ⟨r_14, w_13, hc, hf⟩ := bd2_some hf
    refine gw_ci S hM hl [] 1 rfl ⟨0, _, rfl⟩ (metX1_steps_n hc) hdX1_steps q1009 q944 q945 q62 q946 ⟨rfl, rfl⟩ ⟨rfl, rfl⟩ rfl rfl rfl ⟨Nat.zero_le _, Nat.zero_le _⟩ dX1_fingerprint_195 (fun H locs hM => ?_)
    refine lv_icmp_ge (tgt := 224) S.x S.b dX1_fingerprint_198 rfl (fun cn => ?_) (fun cn => ?_)
    · have hf := if_t cn hf
      refine lv_lload_n S.x S.b dX1_fingerprint_224 rfl (lv_at hl 1 rfl) ?_
      obtain ⟨rfl, rfl⟩ := rt2 hf
      exact g_lret S hM rfl dX1_fingerprint_225
    · have hf := if_f cn hf
      refine lv_ldc2 (v := (31 : Int64)) S.x S.b S.o (S.w _ q1006) dX1_fingerprint_201 ?_
      refine lv_lload_n S.x S.b dX1_fingerprint_204 rfl (lv_at hl 1 rfl) ?_
      refine lv_lmul S.x S.b dX1_fingerprint_205 ?_
      refine lv_aload_n S.x S.b dX1_fingerprint_206 rfl (lv_at hl 0 rfl) ?_
      refine bn_g S hM 8 rfl (Or.inl q328) rfl dX1_fingerprint_207 ?_
      refine br_g S hM 4 rfl (Or.inr ⟨_, q229⟩) rfl dX1_fingerprint_210 ?_
      refine lv_iload_n S.x S.b dX1_fingerprint_213 rfl (lv_at hl 2 rfl) ?_
      obtain ⟨hi, hf⟩ := ck_some hf
      refine br_ld S hM 3 rfl hi dX1_fingerprint_214 ?_
      refine lv_i2l S.x S.b dX1_fingerprint_215 rfl ?_
      refine lv_ladd S.x S.b dX1_fingerprint_216 ?_
      obtain ⟨x1_15, ex, hf⟩ := lt_some hf
      refine g_lstn S (x' := x1_15) ex hl dX1_fingerprint_217 rfl rfl (lv' := [(1, .long x1_15), (0, .ref h), (3, .int x3)]) rfl (fun ls hl => ?_)
      obtain ⟨x3_16, ex, hf⟩ := lt_some hf
      refine g_inc S (x' := x3_16) (d := (1 : Int32)) hl (k := 2) rfl ki_1 ex dX1_fingerprint_218 rfl (lv' := [(3, .int x3_16), (1, .long x1_15), (0, .ref h)]) rfl (fun ls hl => ?_)
      refine lv_goto (tgt := 193) S.x S.b dX1_fingerprint_221 rfl ?_
      exact ih x1_15 x3_16 w_13 _ _ _ hM (lv_sub hl [2, 1, 0] rfl) hf
set_option maxHeartbeats 4000000 in
theorem wX1_fingerprint_n_b87 {p : Program} {l : Launch} {e : Env} {s : State} {m : MethodId} {args : Array Value} {below : List Frame} {meth : Method} {c : Code} {D : va_G} {T : Nat → ClassId} {A : Nat → Prop} {h me : Nat} {d a : Nat → Nat} {tl : va_W} {rr : Int64} {wr : BW} {N : Nat} (S : gS p s m args meth c cX1_fingerprint 4 (some .long) RX1 D T) : ∀ (n : Nat) (x1 : Int64) (x3 : Int32) (w : BW) (H : Heap) (locs : List Loc) (ls : Array Slot), gM D A s.heap (bwW h d T none none me a w tl) H locs → lv_has ls 4 [(0, .ref h), (1, .long x1), (3, .int x3)] → gX1_fingerprint_n_b87 N n x1 x3 w = some (rr, wr) → W p l e rmX1_fingerprint_n s m args below meth c H locs 0 0 (MQ below (gQl D T A rr (bwW h d T none none me a wr tl)) args s 0 0 A) (F0 m 87 ls []) := by
  intro n
  induction n with
  | zero =>
    intro x1 x3 w H locs ls hM hl hf
    cases hf
  | succ n ih =>
    intro x1 x3 w H locs ls hM hl hf
    refine lv_iload_n S.x S.b dX1_fingerprint_87 rfl (lv_at hl 2 rfl) ?_
    refine lv_bipush (v := (6 : Int32)) S.x S.b dX1_fingerprint_88 kb_6 ?_
    refine lv_icmp_ge (tgt := 191) S.x S.b dX1_fingerprint_90 rfl (fun cn => ?_) (fun cn => ?_)
    · have hf := if_t cn hf
      refine lv_iconst (v := (0 : Int32)) S.x S.b dX1_fingerprint_191 ki_0 ?_
      refine g_istn S (x' := (0 : Int32)) rfl hl dX1_fingerprint_192 rfl rfl (lv' := [(3, .int (0 : Int32)), (0, .ref h), (1, .long x1)]) rfl (fun ls hl => ?_)
      exact wX1_fingerprint_n_b193 S N x1 (0 : Int32) w _ _ _ hM (lv_sub hl [1, 2, 0] rfl) hf
    · have hf := if_f cn hf
      refine lv_ldc2 (v := (31 : Int64)) S.x S.b S.o (S.w _ q1006) dX1_fingerprint_93 ?_
      refine lv_lload_n S.x S.b dX1_fingerprint_96 rfl (lv_at hl 1 rfl) ?_
      refine lv_lmul S.x S.b dX1_fingerprint_97 ?_
      refine lv_aload_n S.x S.b dX1_fingerprint_98 rfl (lv_at hl 0 rfl) ?_
      refine bn_g S hM 8 rfl (Or.inl q328) rfl dX1_fingerprint_99 ?_
      refine br_g S hM 3 rfl (Or.inr ⟨_, q227⟩) rfl dX1_fingerprint_102 ?_
      refine lv_iload_n S.x S.b dX1_fingerprint_105 rfl (lv_at hl 2 rfl) ?_
      obtain ⟨hi, hf⟩ := ck_some hf
      refine br_ld S hM 2 rfl hi dX1_fingerprint_106 ?_
      refine lv_i2l S.x S.b dX1_fingerprint_107 rfl ?_
      refine lv_ladd S.x S.b dX1_fingerprint_108 ?_
      obtain ⟨x1_9, ex, hf⟩ := lt_some hf
      refine g_lstn S (x' := x1_9) ex hl dX1_fingerprint_109 rfl rfl (lv' := [(1, .long x1_9), (0, .ref h), (3, .int x3)]) rfl (fun ls hl => ?_)
      refine lv_ldc2 (v := (31 : Int64)) S.x S.b S.o (S.w _ q1006) dX1_fingerprint_110 ?_
      refine lv_lload_n S.x S.b dX1_fingerprint_113 rfl (lv_at hl 0 rfl) ?_
      refine lv_lmul S.x S.b dX1_fingerprint_114 ?_
      refine lv_aload_n S.x S.b dX1_fingerprint_115 rfl (lv_at hl 1 rfl) ?_
      refine bn_g S hM 8 rfl (Or.inl q328) rfl dX1_fingerprint_116 ?_
      refine br_g S hM 7 rfl (Or.inr ⟨_, q238⟩) rfl dX1_fingerprint_119 ?_
      refine lv_iload_n S.x S.b dX1_fingerprint_122 rfl (lv_at hl 2 rfl) ?_
      obtain ⟨r_10, hc, hf⟩ := bd_some hf
      refine gg_si S hM hl [.int (w.2.1 7), .int x3] (metX1_has hc) hdX1_has q1008 q791 q62 q792 ⟨rfl, rfl⟩ ⟨rfl, rfl⟩ rfl rfl rfl ⟨Nat.zero_le _, Nat.zero_le _⟩ dX1_fingerprint_123 (fun H locs hM => ?_)
      refine lv_if_eq (tgt := 133) S.x S.b dX1_fingerprint_126 rfl (fun cn => ?_) (fun cn => ?_)
      · have hf := if_t cn hf
        refine lv_iconst (v := (0 : Int32)) S.x S.b dX1_fingerprint_133 ki_0 ?_
        exact wX1_fingerprint_n_b134 S ih x3 (0 : Int32) ((31 : Int64) * x1_9) w _ _ _ hM (lv_sub hl [1, 2] rfl) hf
      · have hf := if_f cn hf
        refine lv_iconst (v := (1 : Int32)) S.x S.b dX1_fingerprint_129 ki_1 ?_
        refine lv_goto (tgt := 134) S.x S.b dX1_fingerprint_130 rfl ?_
        exact wX1_fingerprint_n_b134 S ih x3 (1 : Int32) ((31 : Int64) * x1_9) w _ _ _ hM (lv_sub hl [1, 2] rfl) hf
set_option maxHeartbeats 4000000 in
theorem metX1_fingerprint_n {l : Launch} {D : va_G} {T : Nat → ClassId} {h me : Nat} {d a : Nat → Nat} {tl : va_W} {rr : Int64} {wr : BW} {N : Nat} {w : BW} (hf : gX1_fingerprint_n N w = some (rr, wr)) (sz : Nat) : MetL l yX1_fingerprint (ws_ yX1_fingerprint cX1_fingerprint 4 (some .long)) rmX1_fingerprint_n D T (bwW h d T none none me a w tl) sz [.ref h] rr (bwW h d T none none me a wr tl) := by
  refine g_entry (Qc := fun A => gQl D T A rr (bwW h d T none none me a wr tl)) (by decide) rfl ?_
  intro p e s m below meth c ls S hM hl
  have hl : lv_has ls 4 [(0, .ref h)] := hl
  refine lv_ldc2 (v := (589 : Int64)) S.x S.b S.o (S.w _ q1005) dX1_fingerprint_0 ?_
  refine lv_aload_n S.x S.b dX1_fingerprint_3 rfl (lv_at hl 0 rfl) ?_
  refine bn_g S hM 8 rfl (Or.inl q328) rfl dX1_fingerprint_4 ?_
  refine br_g S hM 8 rfl (Or.inr ⟨_, q240⟩) rfl dX1_fingerprint_7 ?_
  refine lv_i2l S.x S.b dX1_fingerprint_10 rfl ?_
  refine lv_ladd S.x S.b dX1_fingerprint_11 ?_
  obtain ⟨x1_1, ex, hf⟩ := lt_some hf
  refine g_lstn S (x' := x1_1) ex hl dX1_fingerprint_12 rfl rfl (lv' := [(1, .long x1_1), (0, .ref h)]) rfl (fun ls hl => ?_)
  refine lv_ldc2 (v := (31 : Int64)) S.x S.b S.o (S.w _ q1006) dX1_fingerprint_13 ?_
  refine lv_lload_n S.x S.b dX1_fingerprint_16 rfl (lv_at hl 0 rfl) ?_
  refine lv_lmul S.x S.b dX1_fingerprint_17 ?_
  refine lv_aload_n S.x S.b dX1_fingerprint_18 rfl (lv_at hl 1 rfl) ?_
  obtain ⟨r_3, w_2, hc, hf⟩ := bd2_some hf
  refine gw_ci S hM hl [] 1 rfl ⟨0, _, rfl⟩ (metX1_active_n hc) hdX1_active q1007 q960 q961 q62 q962 ⟨rfl, rfl⟩ ⟨rfl, rfl⟩ rfl rfl rfl ⟨Nat.zero_le _, Nat.zero_le _⟩ dX1_fingerprint_19 (fun H locs hM => ?_)
  refine lv_i2l S.x S.b dX1_fingerprint_22 rfl ?_
  refine lv_ladd S.x S.b dX1_fingerprint_23 ?_
  obtain ⟨x1_4, ex, hf⟩ := lt_some hf
  refine g_lstn S (x' := x1_4) ex hl dX1_fingerprint_24 rfl rfl (lv' := [(1, .long x1_4), (0, .ref h)]) rfl (fun ls hl => ?_)
  refine lv_ldc2 (v := (31 : Int64)) S.x S.b S.o (S.w _ q1006) dX1_fingerprint_25 ?_
  refine lv_lload_n S.x S.b dX1_fingerprint_28 rfl (lv_at hl 0 rfl) ?_
  refine lv_lmul S.x S.b dX1_fingerprint_29 ?_
  refine lv_aload_n S.x S.b dX1_fingerprint_30 rfl (lv_at hl 1 rfl) ?_
  refine bn_g S hM 8 rfl (Or.inl q328) rfl dX1_fingerprint_31 ?_
  refine br_g S hM 17 rfl (Or.inr ⟨_, q255⟩) rfl dX1_fingerprint_34 ?_
  refine lv_i2l S.x S.b dX1_fingerprint_37 rfl ?_
  refine lv_ladd S.x S.b dX1_fingerprint_38 ?_
  obtain ⟨x1_5, ex, hf⟩ := lt_some hf
  refine g_lstn S (x' := x1_5) ex hl dX1_fingerprint_39 rfl rfl (lv' := [(1, .long x1_5), (0, .ref h)]) rfl (fun ls hl => ?_)
  refine lv_ldc2 (v := (31 : Int64)) S.x S.b S.o (S.w _ q1006) dX1_fingerprint_40 ?_
  refine lv_lload_n S.x S.b dX1_fingerprint_43 rfl (lv_at hl 0 rfl) ?_
  refine lv_lmul S.x S.b dX1_fingerprint_44 ?_
  refine lv_aload_n S.x S.b dX1_fingerprint_45 rfl (lv_at hl 1 rfl) ?_
  refine bn_g S hM 8 rfl (Or.inl q328) rfl dX1_fingerprint_46 ?_
  refine br_g S hM 18 rfl (Or.inr ⟨_, q257⟩) rfl dX1_fingerprint_49 ?_
  refine lv_i2l S.x S.b dX1_fingerprint_52 rfl ?_
  refine lv_ladd S.x S.b dX1_fingerprint_53 ?_
  obtain ⟨x1_6, ex, hf⟩ := lt_some hf
  refine g_lstn S (x' := x1_6) ex hl dX1_fingerprint_54 rfl rfl (lv' := [(1, .long x1_6), (0, .ref h)]) rfl (fun ls hl => ?_)
  refine lv_ldc2 (v := (31 : Int64)) S.x S.b S.o (S.w _ q1006) dX1_fingerprint_55 ?_
  refine lv_lload_n S.x S.b dX1_fingerprint_58 rfl (lv_at hl 0 rfl) ?_
  refine lv_lmul S.x S.b dX1_fingerprint_59 ?_
  refine lv_aload_n S.x S.b dX1_fingerprint_60 rfl (lv_at hl 1 rfl) ?_
  refine bn_g S hM 8 rfl (Or.inl q328) rfl dX1_fingerprint_61 ?_
  refine br_g S hM 22 rfl (Or.inr ⟨_, q262⟩) rfl dX1_fingerprint_64 ?_
  refine lv_i2l S.x S.b dX1_fingerprint_67 rfl ?_
  refine lv_ladd S.x S.b dX1_fingerprint_68 ?_
  obtain ⟨x1_7, ex, hf⟩ := lt_some hf
  refine g_lstn S (x' := x1_7) ex hl dX1_fingerprint_69 rfl rfl (lv' := [(1, .long x1_7), (0, .ref h)]) rfl (fun ls hl => ?_)
  refine lv_ldc2 (v := (31 : Int64)) S.x S.b S.o (S.w _ q1006) dX1_fingerprint_70 ?_
  refine lv_lload_n S.x S.b dX1_fingerprint_73 rfl (lv_at hl 0 rfl) ?_
  refine lv_lmul S.x S.b dX1_fingerprint_74 ?_
  refine lv_aload_n S.x S.b dX1_fingerprint_75 rfl (lv_at hl 1 rfl) ?_
  refine bn_g S hM 8 rfl (Or.inl q328) rfl dX1_fingerprint_76 ?_
  refine br_g S hM 9 rfl (Or.inr ⟨_, q242⟩) rfl dX1_fingerprint_79 ?_
  refine lv_i2l S.x S.b dX1_fingerprint_82 rfl ?_
  refine lv_ladd S.x S.b dX1_fingerprint_83 ?_
  obtain ⟨x1_8, ex, hf⟩ := lt_some hf
  refine g_lstn S (x' := x1_8) ex hl dX1_fingerprint_84 rfl rfl (lv' := [(1, .long x1_8), (0, .ref h)]) rfl (fun ls hl => ?_)
  refine lv_iconst (v := (0 : Int32)) S.x S.b dX1_fingerprint_85 ki_0 ?_
  refine g_istn S (x' := (0 : Int32)) rfl hl dX1_fingerprint_86 rfl rfl (lv' := [(3, .int (0 : Int32)), (1, .long x1_8), (0, .ref h)]) rfl (fun ls hl => ?_)
  exact wX1_fingerprint_n_b87 S N x1_8 (0 : Int32) w_2 _ _ _ hM (lv_sub hl [2, 1, 0] rfl) hf
/-! SequenceBench.active()I -/
def gX1_active_0 (ns : Nat) (q : MW) (nc : Nat) (w : BW) : Option (Int32 × BW) :=
  bd2 (gX4_active ns q w.2) fun r_2 w_1 =>
  lt (w.1, w_1) fun w_3 =>
  some (r_2, w_3)
abbrev rmX1_active_0 : Room := { frames := 2, cells := 0, slots := 0, locals := 32 }
set_option maxHeartbeats 4000000 in
theorem metX1_active_0 {l : Launch} {D : va_G} {T : Nat → ClassId} {h me : Nat} {d a b sa : Nat → Nat} {tl : va_W} {rr : Int32} {wr : BW} {w : BW} {ns : Nat} {q : MW} {nc : Nat} (hQ : SqI T b sa ns q (.ref (b 3)) tl) (hC : CuI T b nc q tl) (hf : gX1_active_0 ns q nc w = some (rr, wr)) (sz : Nat) : MetI l yX1_active (ws_ yX1_active cX1_active 1 (some .int)) rmX1_active_0 D T (bcW 0 h d T me a b w tl) sz [.ref h] rr (bcW 0 h d T me a b wr tl) := by
  refine g_entry (Qc := fun A => gQi D T A rr (bcW 0 h d T me a b wr tl)) (by decide) rfl ?_
  intro p e s m below meth c ls S hM hl
  have hl : lv_has ls 1 [(0, .ref h)] := hl
  refine lv_aload_n S.x S.b dX1_active_0 rfl (lv_at hl 0 rfl) ?_
  refine bn_g S hM 8 rfl (Or.inl q328) rfl dX1_active_1 ?_
  refine br_g S hM 5 rfl (Or.inr ⟨_, q231⟩) rfl dX1_active_4 ?_
  refine lv_ifnonnull (tgt := 14) S.x S.b dX1_active_7 rfl ?_
  refine lv_aload_n S.x S.b dX1_active_14 rfl (lv_at hl 0 rfl) ?_
  refine bn_g S hM 8 rfl (Or.inl q328) rfl dX1_active_15 ?_
  refine br_g S hM 5 rfl (Or.inr ⟨_, q231⟩) rfl dX1_active_18 ?_
  obtain ⟨r_2, w_1, hc, hf⟩ := bd2_some hf
  obtain ⟨w_3, ew, hf⟩ := lt_some hf
  refine bc_iF S hM hl 3 rfl ⟨7, _, rfl⟩ (metX4_active (hQ.app _) hc) ew S.g.2.1.2.1 hdActive q964 q974 q976 q66 q978 ⟨rfl, rfl⟩ ⟨rfl, rfl⟩ rfl dX1_active_21 (fun H locs hM => ?_)
  obtain ⟨rfl, rfl⟩ := rt2 hf
  exact g_iret S hM rfl dX1_active_26
/-! SequenceBench.fingerprint()J -/
def gX1_fingerprint_0_b161 (N : Nat) (ns : Nat) (q : MW) (nc : Nat) (k87 : Int64 → Int32 → BW → Option (Int64 × BW)) (x3 : Int32) (s0 : Int32) (s1 : Int64) (w : BW) : Option (Int64 × BW) :=
  bd (gX1_has (w.2.1 13) x3) fun r_18 =>
  if r_18 = 0 then (
  lt (((s1 + s0.toInt64) + ((0 : Int32).toInt64))) fun x1_19 =>
  lt (x3 + (1 : Int32)) fun x3_20 =>
  k87 x1_19 x3_20 w)
  else (
  lt (((s1 + s0.toInt64) + ((2 : Int32).toInt64))) fun x1_21 =>
  lt (x3 + (1 : Int32)) fun x3_22 =>
  k87 x1_21 x3_22 w)
def gX1_fingerprint_0_b134 (N : Nat) (ns : Nat) (q : MW) (nc : Nat) (k87 : Int64 → Int32 → BW → Option (Int64 × BW)) (x3 : Int32) (s0 : Int32) (s1 : Int64) (w : BW) : Option (Int64 × BW) :=
  lt ((s1 + s0.toInt64)) fun x1_11 =>
  bd (gX1_has (w.2.1 12) x3) fun r_12 =>
  if r_12 = 0 then (
  gX1_fingerprint_0_b161 N ns q nc k87 x3 (0 : Int32) ((31 : Int64) * x1_11) w)
  else (
  gX1_fingerprint_0_b161 N ns q nc k87 x3 (1 : Int32) ((31 : Int64) * x1_11) w)
def gX1_fingerprint_0_b193 (N : Nat) (ns : Nat) (q : MW) (nc : Nat) : Nat → Int64 → Int32 → BW → Option (Int64 × BW)
  | 0, _, _, _ => none
  | n + 1, x1, x3, w =>
    bd2 (gX1_steps ns q nc w) fun r_14 w_13 =>
    lt (rF w_13 30 (w.2.1 30)) fun w_15 =>
    if r_14 ≤ x3 then (
    some (x1, w_15))
    else (
    ck x3 16 <|
    lt ((((31 : Int64) * x1) + ((w_15.2.2 3 x3.toNatClampNeg).toInt64))) fun x1_16 =>
    lt (x3 + (1 : Int32)) fun x3_17 =>
    gX1_fingerprint_0_b193 N ns q nc n x1_16 x3_17 w_15)
def gX1_fingerprint_0_b87 (N : Nat) (ns : Nat) (q : MW) (nc : Nat) : Nat → Int64 → Int32 → BW → Option (Int64 × BW)
  | 0, _, _, _ => none
  | n + 1, x1, x3, w =>
    if (6 : Int32) ≤ x3 then (
    gX1_fingerprint_0_b193 N ns q nc N x1 (0 : Int32) w)
    else (
    ck x3 6 <|
    lt ((((31 : Int64) * x1) + ((w.2.2 2 x3.toNatClampNeg).toInt64))) fun x1_9 =>
    bd (gX1_has (w.2.1 7) x3) fun r_10 =>
    if r_10 = 0 then (
    gX1_fingerprint_0_b134 N ns q nc (gX1_fingerprint_0_b87 N ns q nc n) x3 (0 : Int32) ((31 : Int64) * x1_9) w)
    else (
    gX1_fingerprint_0_b134 N ns q nc (gX1_fingerprint_0_b87 N ns q nc n) x3 (1 : Int32) ((31 : Int64) * x1_9) w))
def gX1_fingerprint_0 (N : Nat) (ns : Nat) (q : MW) (nc : Nat) (w : BW) : Option (Int64 × BW) :=
  lt (((589 : Int64) + ((w.2.1 8).toInt64))) fun x1_1 =>
  bd2 (gX1_active_0 ns q nc w) fun r_3 w_2 =>
  lt ((((31 : Int64) * x1_1) + r_3.toInt64)) fun x1_4 =>
  lt ((((31 : Int64) * x1_4) + ((w_2.2.1 17).toInt64))) fun x1_5 =>
  lt ((((31 : Int64) * x1_5) + ((w_2.2.1 18).toInt64))) fun x1_6 =>
  lt ((((31 : Int64) * x1_6) + ((w_2.2.1 22).toInt64))) fun x1_7 =>
  lt ((((31 : Int64) * x1_7) + ((w_2.2.1 9).toInt64))) fun x1_8 =>
  gX1_fingerprint_0_b87 N ns q nc N x1_8 (0 : Int32) w_2
abbrev rmX1_fingerprint_0 : Room := { frames := 3, cells := 0, slots := 0, locals := 52 }
set_option maxHeartbeats 4000000 in
theorem wX1_fingerprint_0_b161 {p : Program} {l : Launch} {e : Env} {s : State} {m : MethodId} {args : Array Value} {below : List Frame} {meth : Method} {c : Code} {D : va_G} {T : Nat → ClassId} {A : Nat → Prop} {h me : Nat} {d a b sa : Nat → Nat} {tl : va_W} {rr : Int64} {wr : BW} {N : Nat} {ns : Nat} {q : MW} {nc : Nat} (S : gS p s m args meth c cX1_fingerprint 4 (some .long) RX1 D T) (hQ : SqI T b sa ns q (.ref (b 3)) tl) (hC : CuI T b nc q tl) {k87 : Int64 → Int32 → BW → Option (Int64 × BW)} (hk87 : ∀ (x1 : Int64) (x3 : Int32) (w : BW) (H : Heap) (locs : List Loc) (ls : Array Slot), gM D A s.heap (bcW 0 h d T me a b w tl) H locs → lv_has ls 4 [(0, .ref h), (1, .long x1), (3, .int x3)] → k87 x1 x3 w = some (rr, wr) → W p l e rmX1_fingerprint_0 s m args below meth c H locs 0 0 (MQ below (gQl D T A rr (bcW 0 h d T me a b wr tl)) args s 0 0 A) (F0 m 87 ls [])) : ∀ (x3 : Int32) (s0 : Int32) (s1 : Int64) (w : BW) (H : Heap) (locs : List Loc) (ls : Array Slot), gM D A s.heap (bcW 0 h d T me a b w tl) H locs → lv_has ls 4 [(0, .ref h), (3, .int x3)] → gX1_fingerprint_0_b161 N ns q nc k87 x3 s0 s1 w = some (rr, wr) → W p l e rmX1_fingerprint_0 s m args below meth c H locs 0 0 (MQ below (gQl D T A rr (bcW 0 h d T me a b wr tl)) args s 0 0 A) (F0 m 161 ls [.int s0, .long s1]) := by
  intro x3 s0 s1 w H locs ls hM hl hf
  refine lv_i2l S.x S.b dX1_fingerprint_161 rfl ?_
  refine lv_ladd S.x S.b dX1_fingerprint_162 ?_
  refine lv_aload_n S.x S.b dX1_fingerprint_163 rfl (lv_at hl 0 rfl) ?_
  refine bn_g S hM 8 rfl (Or.inl q328) rfl dX1_fingerprint_164 ?_
  refine br_g S hM 13 rfl (Or.inr ⟨_, q248⟩) rfl dX1_fingerprint_167 ?_
  refine lv_iload_n S.x S.b dX1_fingerprint_170 rfl (lv_at hl 1 rfl) ?_
  obtain ⟨r_18, hc, hf⟩ := bd_some hf
  refine gg_si S hM hl [.int (w.2.1 13), .int x3] (metX1_has hc) hdX1_has q1008 q791 q62 q792 ⟨rfl, rfl⟩ ⟨rfl, rfl⟩ rfl rfl rfl ⟨Nat.zero_le _, Nat.zero_le _⟩ dX1_fingerprint_171 (fun H locs hM => ?_)
  refine lv_if_eq (tgt := 181) S.x S.b dX1_fingerprint_174 rfl (fun cn => ?_) (fun cn => ?_)
  · have hf := if_t cn hf
    refine lv_iconst (v := (0 : Int32)) S.x S.b dX1_fingerprint_181 ki_0 ?_
    refine lv_i2l S.x S.b dX1_fingerprint_182 rfl ?_
    refine lv_ladd S.x S.b dX1_fingerprint_183 ?_
    obtain ⟨x1_19, ex, hf⟩ := lt_some hf
    refine g_lstn S (x' := x1_19) ex hl dX1_fingerprint_184 rfl rfl (lv' := [(1, .long x1_19), (0, .ref h), (3, .int x3)]) rfl (fun ls hl => ?_)
    obtain ⟨x3_20, ex, hf⟩ := lt_some hf
    refine g_inc S (x' := x3_20) (d := (1 : Int32)) hl (k := 2) rfl ki_1 ex dX1_fingerprint_185 rfl (lv' := [(3, .int x3_20), (1, .long x1_19), (0, .ref h)]) rfl (fun ls hl => ?_)
    refine lv_goto (tgt := 87) S.x S.b dX1_fingerprint_188 rfl ?_
    exact hk87 x1_19 x3_20 w _ _ _ hM (lv_sub hl [2, 1, 0] rfl) hf
  · have hf := if_f cn hf
    refine lv_iconst (v := (2 : Int32)) S.x S.b dX1_fingerprint_177 ki_2 ?_
    refine lv_goto (tgt := 182) S.x S.b dX1_fingerprint_178 rfl ?_
    refine lv_i2l S.x S.b dX1_fingerprint_182 rfl ?_
    refine lv_ladd S.x S.b dX1_fingerprint_183 ?_
    obtain ⟨x1_21, ex, hf⟩ := lt_some hf
    refine g_lstn S (x' := x1_21) ex hl dX1_fingerprint_184 rfl rfl (lv' := [(1, .long x1_21), (0, .ref h), (3, .int x3)]) rfl (fun ls hl => ?_)
    obtain ⟨x3_22, ex, hf⟩ := lt_some hf
    refine g_inc S (x' := x3_22) (d := (1 : Int32)) hl (k := 2) rfl ki_1 ex dX1_fingerprint_185 rfl (lv' := [(3, .int x3_22), (1, .long x1_21), (0, .ref h)]) rfl (fun ls hl => ?_)
    refine lv_goto (tgt := 87) S.x S.b dX1_fingerprint_188 rfl ?_
    exact hk87 x1_21 x3_22 w _ _ _ hM (lv_sub hl [2, 1, 0] rfl) hf
set_option maxHeartbeats 4000000 in
theorem wX1_fingerprint_0_b134 {p : Program} {l : Launch} {e : Env} {s : State} {m : MethodId} {args : Array Value} {below : List Frame} {meth : Method} {c : Code} {D : va_G} {T : Nat → ClassId} {A : Nat → Prop} {h me : Nat} {d a b sa : Nat → Nat} {tl : va_W} {rr : Int64} {wr : BW} {N : Nat} {ns : Nat} {q : MW} {nc : Nat} (S : gS p s m args meth c cX1_fingerprint 4 (some .long) RX1 D T) (hQ : SqI T b sa ns q (.ref (b 3)) tl) (hC : CuI T b nc q tl) {k87 : Int64 → Int32 → BW → Option (Int64 × BW)} (hk87 : ∀ (x1 : Int64) (x3 : Int32) (w : BW) (H : Heap) (locs : List Loc) (ls : Array Slot), gM D A s.heap (bcW 0 h d T me a b w tl) H locs → lv_has ls 4 [(0, .ref h), (1, .long x1), (3, .int x3)] → k87 x1 x3 w = some (rr, wr) → W p l e rmX1_fingerprint_0 s m args below meth c H locs 0 0 (MQ below (gQl D T A rr (bcW 0 h d T me a b wr tl)) args s 0 0 A) (F0 m 87 ls [])) : ∀ (x3 : Int32) (s0 : Int32) (s1 : Int64) (w : BW) (H : Heap) (locs : List Loc) (ls : Array Slot), gM D A s.heap (bcW 0 h d T me a b w tl) H locs → lv_has ls 4 [(0, .ref h), (3, .int x3)] → gX1_fingerprint_0_b134 N ns q nc k87 x3 s0 s1 w = some (rr, wr) → W p l e rmX1_fingerprint_0 s m args below meth c H locs 0 0 (MQ below (gQl D T A rr (bcW 0 h d T me a b wr tl)) args s 0 0 A) (F0 m 134 ls [.int s0, .long s1]) := by
  intro x3 s0 s1 w H locs ls hM hl hf
  refine lv_i2l S.x S.b dX1_fingerprint_134 rfl ?_
  refine lv_ladd S.x S.b dX1_fingerprint_135 ?_
  obtain ⟨x1_11, ex, hf⟩ := lt_some hf
  refine g_lstn S (x' := x1_11) ex hl dX1_fingerprint_136 rfl rfl (lv' := [(1, .long x1_11), (0, .ref h), (3, .int x3)]) rfl (fun ls hl => ?_)
  refine lv_ldc2 (v := (31 : Int64)) S.x S.b S.o (S.w _ q1006) dX1_fingerprint_137 ?_
  refine lv_lload_n S.x S.b dX1_fingerprint_140 rfl (lv_at hl 0 rfl) ?_
  refine lv_lmul S.x S.b dX1_fingerprint_141 ?_
  refine lv_aload_n S.x S.b dX1_fingerprint_142 rfl (lv_at hl 1 rfl) ?_
  refine bn_g S hM 8 rfl (Or.inl q328) rfl dX1_fingerprint_143 ?_
  refine br_g S hM 12 rfl (Or.inr ⟨_, q246⟩) rfl dX1_fingerprint_146 ?_
  refine lv_iload_n S.x S.b dX1_fingerprint_149 rfl (lv_at hl 2 rfl) ?_
  obtain ⟨r_12, hc, hf⟩ := bd_some hf
  refine gg_si S hM hl [.int (w.2.1 12), .int x3] (metX1_has hc) hdX1_has q1008 q791 q62 q792 ⟨rfl, rfl⟩ ⟨rfl, rfl⟩ rfl rfl rfl ⟨Nat.zero_le _, Nat.zero_le _⟩ dX1_fingerprint_150 (fun H locs hM => ?_)
  refine lv_if_eq (tgt := 160) S.x S.b dX1_fingerprint_153 rfl (fun cn => ?_) (fun cn => ?_)
  · have hf := if_t cn hf
    refine lv_iconst (v := (0 : Int32)) S.x S.b dX1_fingerprint_160 ki_0 ?_
    exact wX1_fingerprint_0_b161 S hQ hC hk87 x3 (0 : Int32) ((31 : Int64) * x1_11) w _ _ _ hM (lv_sub hl [1, 2] rfl) hf
  · have hf := if_f cn hf
    refine lv_iconst (v := (1 : Int32)) S.x S.b dX1_fingerprint_156 ki_1 ?_
    refine lv_goto (tgt := 161) S.x S.b dX1_fingerprint_157 rfl ?_
    exact wX1_fingerprint_0_b161 S hQ hC hk87 x3 (1 : Int32) ((31 : Int64) * x1_11) w _ _ _ hM (lv_sub hl [1, 2] rfl) hf
set_option maxHeartbeats 4000000 in
theorem wX1_fingerprint_0_b193 {p : Program} {l : Launch} {e : Env} {s : State} {m : MethodId} {args : Array Value} {below : List Frame} {meth : Method} {c : Code} {D : va_G} {T : Nat → ClassId} {A : Nat → Prop} {h me : Nat} {d a b sa : Nat → Nat} {tl : va_W} {rr : Int64} {wr : BW} {N : Nat} {ns : Nat} {q : MW} {nc : Nat} (S : gS p s m args meth c cX1_fingerprint 4 (some .long) RX1 D T) (hQ : SqI T b sa ns q (.ref (b 3)) tl) (hC : CuI T b nc q tl) : ∀ (n : Nat) (x1 : Int64) (x3 : Int32) (w : BW) (H : Heap) (locs : List Loc) (ls : Array Slot), gM D A s.heap (bcW 0 h d T me a b w tl) H locs → lv_has ls 4 [(0, .ref h), (1, .long x1), (3, .int x3)] → gX1_fingerprint_0_b193 N ns q nc n x1 x3 w = some (rr, wr) → W p l e rmX1_fingerprint_0 s m args below meth c H locs 0 0 (MQ below (gQl D T A rr (bcW 0 h d T me a b wr tl)) args s 0 0 A) (F0 m 193 ls []) := by
  intro n
  induction n with
  | zero =>
    intro x1 x3 w H locs ls hM hl hf
    cases hf
  | succ n ih =>
    intro x1 x3 w H locs ls hM hl hf
    refine lv_iload_n S.x S.b dX1_fingerprint_193 rfl (lv_at hl 2 rfl) ?_
    refine lv_aload_n S.x S.b dX1_fingerprint_194 rfl (lv_at hl 0 rfl) ?_
    obtain ⟨r_14, w_13, hc, hf⟩ := bd2_some hf
    obtain ⟨w_15, ew, hf⟩ := lt_some hf
    refine gw_ci S hM hl [] 1 rfl ⟨0, _, rfl⟩ (metX1_steps (hQ.cons _) (hC.cons _) hc) hdX1_steps q1009 q944 q945 q62 q946 ⟨rfl, rfl⟩ ⟨rfl, rfl⟩ rfl rfl rfl ⟨Nat.zero_le _, Nat.zero_le _⟩ dX1_fingerprint_195 (fun H locs hM => ?_)
    replace hM := bc_fix hM ew
    refine lv_icmp_ge (tgt := 224) S.x S.b dX1_fingerprint_198 rfl (fun cn => ?_) (fun cn => ?_)
    · have hf := if_t cn hf
      refine lv_lload_n S.x S.b dX1_fingerprint_224 rfl (lv_at hl 1 rfl) ?_
      obtain ⟨rfl, rfl⟩ := rt2 hf
      exact g_lret S hM rfl dX1_fingerprint_225
    · have hf := if_f cn hf
      refine lv_ldc2 (v := (31 : Int64)) S.x S.b S.o (S.w _ q1006) dX1_fingerprint_201 ?_
      refine lv_lload_n S.x S.b dX1_fingerprint_204 rfl (lv_at hl 1 rfl) ?_
      refine lv_lmul S.x S.b dX1_fingerprint_205 ?_
      refine lv_aload_n S.x S.b dX1_fingerprint_206 rfl (lv_at hl 0 rfl) ?_
      refine bn_g S hM 8 rfl (Or.inl q328) rfl dX1_fingerprint_207 ?_
      refine br_g S hM 4 rfl (Or.inr ⟨_, q229⟩) rfl dX1_fingerprint_210 ?_
      refine lv_iload_n S.x S.b dX1_fingerprint_213 rfl (lv_at hl 2 rfl) ?_
      obtain ⟨hi, hf⟩ := ck_some hf
      refine br_ld S hM 3 rfl hi dX1_fingerprint_214 ?_
      refine lv_i2l S.x S.b dX1_fingerprint_215 rfl ?_
      refine lv_ladd S.x S.b dX1_fingerprint_216 ?_
      obtain ⟨x1_16, ex, hf⟩ := lt_some hf
      refine g_lstn S (x' := x1_16) ex hl dX1_fingerprint_217 rfl rfl (lv' := [(1, .long x1_16), (0, .ref h), (3, .int x3)]) rfl (fun ls hl => ?_)
      obtain ⟨x3_17, ex, hf⟩ := lt_some hf
      refine g_inc S (x' := x3_17) (d := (1 : Int32)) hl (k := 2) rfl ki_1 ex dX1_fingerprint_218 rfl (lv' := [(3, .int x3_17), (1, .long x1_16), (0, .ref h)]) rfl (fun ls hl => ?_)
      refine lv_goto (tgt := 193) S.x S.b dX1_fingerprint_221 rfl ?_
      exact ih x1_16 x3_17 w_15 _ _ _ hM (lv_sub hl [2, 1, 0] rfl) hf
set_option maxHeartbeats 4000000 in
theorem wX1_fingerprint_0_b87 {p : Program} {l : Launch} {e : Env} {s : State} {m : MethodId} {args : Array Value} {below : List Frame} {meth : Method} {c : Code} {D : va_G} {T : Nat → ClassId} {A : Nat → Prop} {h me : Nat} {d a b sa : Nat → Nat} {tl : va_W} {rr : Int64} {wr : BW} {N : Nat} {ns : Nat} {q : MW} {nc : Nat} (S : gS p s m args meth c cX1_fingerprint 4 (some .long) RX1 D T) (hQ : SqI T b sa ns q (.ref (b 3)) tl) (hC : CuI T b nc q tl) : ∀ (n : Nat) (x1 : Int64) (x3 : Int32) (w : BW) (H : Heap) (locs : List Loc) (ls : Array Slot), gM D A s.heap (bcW 0 h d T me a b w tl) H locs → lv_has ls 4 [(0, .ref h), (1, .long x1), (3, .int x3)] → gX1_fingerprint_0_b87 N ns q nc n x1 x3 w = some (rr, wr) → W p l e rmX1_fingerprint_0 s m args below meth c H locs 0 0 (MQ below (gQl D T A rr (bcW 0 h d T me a b wr tl)) args s 0 0 A) (F0 m 87 ls []) := by
  intro n
  induction n with
  | zero =>
    intro x1 x3 w H locs ls hM hl hf
    cases hf
  | succ n ih =>
    intro x1 x3 w H locs ls hM hl hf
    refine lv_iload_n S.x S.b dX1_fingerprint_87 rfl (lv_at hl 2 rfl) ?_
    refine lv_bipush (v := (6 : Int32)) S.x S.b dX1_fingerprint_88 kb_6 ?_
    refine lv_icmp_ge (tgt := 191) S.x S.b dX1_fingerprint_90 rfl (fun cn => ?_) (fun cn => ?_)
    · have hf := if_t cn hf
      refine lv_iconst (v := (0 : Int32)) S.x S.b dX1_fingerprint_191 ki_0 ?_
      refine g_istn S (x' := (0 : Int32)) rfl hl dX1_fingerprint_192 rfl rfl (lv' := [(3, .int (0 : Int32)), (0, .ref h), (1, .long x1)]) rfl (fun ls hl => ?_)
      exact wX1_fingerprint_0_b193 S hQ hC N x1 (0 : Int32) w _ _ _ hM (lv_sub hl [1, 2, 0] rfl) hf
    · have hf := if_f cn hf
      refine lv_ldc2 (v := (31 : Int64)) S.x S.b S.o (S.w _ q1006) dX1_fingerprint_93 ?_
      refine lv_lload_n S.x S.b dX1_fingerprint_96 rfl (lv_at hl 1 rfl) ?_
      refine lv_lmul S.x S.b dX1_fingerprint_97 ?_
      refine lv_aload_n S.x S.b dX1_fingerprint_98 rfl (lv_at hl 0 rfl) ?_
      refine bn_g S hM 8 rfl (Or.inl q328) rfl dX1_fingerprint_99 ?_
      refine br_g S hM 3 rfl (Or.inr ⟨_, q227⟩) rfl dX1_fingerprint_102 ?_
      refine lv_iload_n S.x S.b dX1_fingerprint_105 rfl (lv_at hl 2 rfl) ?_
      obtain ⟨hi, hf⟩ := ck_some hf
      refine br_ld S hM 2 rfl hi dX1_fingerprint_106 ?_
      refine lv_i2l S.x S.b dX1_fingerprint_107 rfl ?_
      refine lv_ladd S.x S.b dX1_fingerprint_108 ?_
      obtain ⟨x1_9, ex, hf⟩ := lt_some hf
      refine g_lstn S (x' := x1_9) ex hl dX1_fingerprint_109 rfl rfl (lv' := [(1, .long x1_9), (0, .ref h), (3, .int x3)]) rfl (fun ls hl => ?_)
      refine lv_ldc2 (v := (31 : Int64)) S.x S.b S.o (S.w _ q1006) dX1_fingerprint_110 ?_
      refine lv_lload_n S.x S.b dX1_fingerprint_113 rfl (lv_at hl 0 rfl) ?_
      refine lv_lmul S.x S.b dX1_fingerprint_114 ?_
      refine lv_aload_n S.x S.b dX1_fingerprint_115 rfl (lv_at hl 1 rfl) ?_
      refine bn_g S hM 8 rfl (Or.inl q328) rfl dX1_fingerprint_116 ?_
      refine br_g S hM 7 rfl (Or.inr ⟨_, q238⟩) rfl dX1_fingerprint_119 ?_
      refine lv_iload_n S.x S.b dX1_fingerprint_122 rfl (lv_at hl 2 rfl) ?_
      obtain ⟨r_10, hc, hf⟩ := bd_some hf
      refine gg_si S hM hl [.int (w.2.1 7), .int x3] (metX1_has hc) hdX1_has q1008 q791 q62 q792 ⟨rfl, rfl⟩ ⟨rfl, rfl⟩ rfl rfl rfl ⟨Nat.zero_le _, Nat.zero_le _⟩ dX1_fingerprint_123 (fun H locs hM => ?_)
      refine lv_if_eq (tgt := 133) S.x S.b dX1_fingerprint_126 rfl (fun cn => ?_) (fun cn => ?_)
      · have hf := if_t cn hf
        refine lv_iconst (v := (0 : Int32)) S.x S.b dX1_fingerprint_133 ki_0 ?_
        exact wX1_fingerprint_0_b134 S hQ hC ih x3 (0 : Int32) ((31 : Int64) * x1_9) w _ _ _ hM (lv_sub hl [1, 2] rfl) hf
      · have hf := if_f cn hf
        refine lv_iconst (v := (1 : Int32)) S.x S.b dX1_fingerprint_129 ki_1 ?_
        refine lv_goto (tgt := 134) S.x S.b dX1_fingerprint_130 rfl ?_
        exact wX1_fingerprint_0_b134 S hQ hC ih x3 (1 : Int32) ((31 : Int64) * x1_9) w _ _ _ hM (lv_sub hl [1, 2] rfl) hf
set_option maxHeartbeats 4000000 in
theorem metX1_fingerprint_0 {l : Launch} {D : va_G} {T : Nat → ClassId} {h me : Nat} {d a b sa : Nat → Nat} {tl : va_W} {rr : Int64} {wr : BW} {N : Nat} {w : BW} {ns : Nat} {q : MW} {nc : Nat} (hQ : SqI T b sa ns q (.ref (b 3)) tl) (hC : CuI T b nc q tl) (hf : gX1_fingerprint_0 N ns q nc w = some (rr, wr)) (sz : Nat) : MetL l yX1_fingerprint (ws_ yX1_fingerprint cX1_fingerprint 4 (some .long)) rmX1_fingerprint_0 D T (bcW 0 h d T me a b w tl) sz [.ref h] rr (bcW 0 h d T me a b wr tl) := by
  refine g_entry (Qc := fun A => gQl D T A rr (bcW 0 h d T me a b wr tl)) (by decide) rfl ?_
  intro p e s m below meth c ls S hM hl
  have hl : lv_has ls 4 [(0, .ref h)] := hl
  refine lv_ldc2 (v := (589 : Int64)) S.x S.b S.o (S.w _ q1005) dX1_fingerprint_0 ?_
  refine lv_aload_n S.x S.b dX1_fingerprint_3 rfl (lv_at hl 0 rfl) ?_
  refine bn_g S hM 8 rfl (Or.inl q328) rfl dX1_fingerprint_4 ?_
  refine br_g S hM 8 rfl (Or.inr ⟨_, q240⟩) rfl dX1_fingerprint_7 ?_
  refine lv_i2l S.x S.b dX1_fingerprint_10 rfl ?_
  refine lv_ladd S.x S.b dX1_fingerprint_11 ?_
  obtain ⟨x1_1, ex, hf⟩ := lt_some hf
  refine g_lstn S (x' := x1_1) ex hl dX1_fingerprint_12 rfl rfl (lv' := [(1, .long x1_1), (0, .ref h)]) rfl (fun ls hl => ?_)
  refine lv_ldc2 (v := (31 : Int64)) S.x S.b S.o (S.w _ q1006) dX1_fingerprint_13 ?_
  refine lv_lload_n S.x S.b dX1_fingerprint_16 rfl (lv_at hl 0 rfl) ?_
  refine lv_lmul S.x S.b dX1_fingerprint_17 ?_
  refine lv_aload_n S.x S.b dX1_fingerprint_18 rfl (lv_at hl 1 rfl) ?_
  obtain ⟨r_3, w_2, hc, hf⟩ := bd2_some hf
  refine gw_ci S hM hl [] 1 rfl ⟨0, _, rfl⟩ (metX1_active_0 hQ hC hc) hdX1_active q1007 q960 q961 q62 q962 ⟨rfl, rfl⟩ ⟨rfl, rfl⟩ rfl rfl rfl ⟨Nat.zero_le _, Nat.zero_le _⟩ dX1_fingerprint_19 (fun H locs hM => ?_)
  refine lv_i2l S.x S.b dX1_fingerprint_22 rfl ?_
  refine lv_ladd S.x S.b dX1_fingerprint_23 ?_
  obtain ⟨x1_4, ex, hf⟩ := lt_some hf
  refine g_lstn S (x' := x1_4) ex hl dX1_fingerprint_24 rfl rfl (lv' := [(1, .long x1_4), (0, .ref h)]) rfl (fun ls hl => ?_)
  refine lv_ldc2 (v := (31 : Int64)) S.x S.b S.o (S.w _ q1006) dX1_fingerprint_25 ?_
  refine lv_lload_n S.x S.b dX1_fingerprint_28 rfl (lv_at hl 0 rfl) ?_
  refine lv_lmul S.x S.b dX1_fingerprint_29 ?_
  refine lv_aload_n S.x S.b dX1_fingerprint_30 rfl (lv_at hl 1 rfl) ?_
  refine bn_g S hM 8 rfl (Or.inl q328) rfl dX1_fingerprint_31 ?_
  refine br_g S hM 17 rfl (Or.inr ⟨_, q255⟩) rfl dX1_fingerprint_34 ?_
  refine lv_i2l S.x S.b dX1_fingerprint_37 rfl ?_
  refine lv_ladd S.x S.b dX1_fingerprint_38 ?_
  obtain ⟨x1_5, ex, hf⟩ := lt_some hf
  refine g_lstn S (x' := x1_5) ex hl dX1_fingerprint_39 rfl rfl (lv' := [(1, .long x1_5), (0, .ref h)]) rfl (fun ls hl => ?_)
  refine lv_ldc2 (v := (31 : Int64)) S.x S.b S.o (S.w _ q1006) dX1_fingerprint_40 ?_
  refine lv_lload_n S.x S.b dX1_fingerprint_43 rfl (lv_at hl 0 rfl) ?_
  refine lv_lmul S.x S.b dX1_fingerprint_44 ?_
  refine lv_aload_n S.x S.b dX1_fingerprint_45 rfl (lv_at hl 1 rfl) ?_
  refine bn_g S hM 8 rfl (Or.inl q328) rfl dX1_fingerprint_46 ?_
  refine br_g S hM 18 rfl (Or.inr ⟨_, q257⟩) rfl dX1_fingerprint_49 ?_
  refine lv_i2l S.x S.b dX1_fingerprint_52 rfl ?_
  refine lv_ladd S.x S.b dX1_fingerprint_53 ?_
  obtain ⟨x1_6, ex, hf⟩ := lt_some hf
  refine g_lstn S (x' := x1_6) ex hl dX1_fingerprint_54 rfl rfl (lv' := [(1, .long x1_6), (0, .ref h)]) rfl (fun ls hl => ?_)
  refine lv_ldc2 (v := (31 : Int64)) S.x S.b S.o (S.w _ q1006) dX1_fingerprint_55 ?_
  refine lv_lload_n S.x S.b dX1_fingerprint_58 rfl (lv_at hl 0 rfl) ?_
  refine lv_lmul S.x S.b dX1_fingerprint_59 ?_
  refine lv_aload_n S.x S.b dX1_fingerprint_60 rfl (lv_at hl 1 rfl) ?_
  refine bn_g S hM 8 rfl (Or.inl q328) rfl dX1_fingerprint_61 ?_
  refine br_g S hM 22 rfl (Or.inr ⟨_, q262⟩) rfl dX1_fingerprint_64 ?_
  refine lv_i2l S.x S.b dX1_fingerprint_67 rfl ?_
  refine lv_ladd S.x S.b dX1_fingerprint_68 ?_
  obtain ⟨x1_7, ex, hf⟩ := lt_some hf
  refine g_lstn S (x' := x1_7) ex hl dX1_fingerprint_69 rfl rfl (lv' := [(1, .long x1_7), (0, .ref h)]) rfl (fun ls hl => ?_)
  refine lv_ldc2 (v := (31 : Int64)) S.x S.b S.o (S.w _ q1006) dX1_fingerprint_70 ?_
  refine lv_lload_n S.x S.b dX1_fingerprint_73 rfl (lv_at hl 0 rfl) ?_
  refine lv_lmul S.x S.b dX1_fingerprint_74 ?_
  refine lv_aload_n S.x S.b dX1_fingerprint_75 rfl (lv_at hl 1 rfl) ?_
  refine bn_g S hM 8 rfl (Or.inl q328) rfl dX1_fingerprint_76 ?_
  refine br_g S hM 9 rfl (Or.inr ⟨_, q242⟩) rfl dX1_fingerprint_79 ?_
  refine lv_i2l S.x S.b dX1_fingerprint_82 rfl ?_
  refine lv_ladd S.x S.b dX1_fingerprint_83 ?_
  obtain ⟨x1_8, ex, hf⟩ := lt_some hf
  refine g_lstn S (x' := x1_8) ex hl dX1_fingerprint_84 rfl rfl (lv' := [(1, .long x1_8), (0, .ref h)]) rfl (fun ls hl => ?_)
  refine lv_iconst (v := (0 : Int32)) S.x S.b dX1_fingerprint_85 ki_0 ?_
  refine g_istn S (x' := (0 : Int32)) rfl hl dX1_fingerprint_86 rfl rfl (lv' := [(3, .int (0 : Int32)), (1, .long x1_8), (0, .ref h)]) rfl (fun ls hl => ?_)
  exact wX1_fingerprint_0_b87 S hQ hC N x1_8 (0 : Int32) w_2 _ _ _ hM (lv_sub hl [2, 1, 0] rfl) hf
/-! SequenceBench.ticks(I)I -/
theorem hdX1_ticks : gHd yX1_ticks 1 := by decide +kernel
def gX1_ticks_0 (N : Nat) (ns : Nat) (q : MW) (nc : Nat) (x1 : Int32) (w : BW) : Option (Int32 × BW) :=
  bd (gX1_isIn x1.toInt64 (0 : Int64) (5000 : Int64)) fun r_1 =>
  bd (gX1_checkArgument r_1) fun _ =>
  bd (gX1_checkSequence ns q nc w) fun w_2 =>
  lt (rF w_2 30 (w.2.1 30)) fun w_4 =>
  bd2 (gX3_ticks_0 N ns q x1 w_4.2) fun r_6 w_5 =>
  lt (w_4.1, w_5) fun w_7 =>
  some (r_6, w_7)
abbrev rmX1_ticks_0 : Room := { frames := 8, cells := 0, slots := 0, locals := 164 }
set_option maxHeartbeats 4000000 in
theorem metX1_ticks_0 {l : Launch} {D : va_G} {T : Nat → ClassId} {h me : Nat} {d a b sa la : Nat → Nat} {tl : va_W} {rr : Int32} {wr : BW} {N : Nat} {x1 : Int32} {w : BW} {ns : Nat} {q : MW} {nc : Nat} (hQ : SqI T b sa ns q (.ref (b 3)) tl) (hC : CuI T b nc q tl) (hCo : CoI T a la ns tl) (hLa : ∀ w, LaF la ns (bcW 0 h d T me a b w tl)) (hf : gX1_ticks_0 N ns q nc x1 w = some (rr, wr)) (sz : Nat) : MetIX l yX1_ticks (ws_ yX1_ticks cX1_ticks 2 (some .int)) rmX1_ticks_0 D T (bcW 0 h d T me a b w tl) sz [.ref h, .int x1] rr (bcW 0 h d T me a b wr tl) (LamI 0 D a la ns q) := by
  refine g_entryX (Qc := fun A => gQi D T A rr (bcW 0 h d T me a b wr tl)) (by decide) rfl ?_
  intro p e s m below meth c ls S hM hX hl
  have hXA := (hLa w).na hX
  have hl : lv_has ls 2 [(0, .ref h), (1, .int x1)] := hl
  refine lv_iload_n S.x S.b dX1_ticks_0 rfl (lv_at hl 1 rfl) ?_
  refine lv_i2l S.x S.b dX1_ticks_1 rfl ?_
  refine lv_lconst (v := (0 : Int64)) S.x S.b dX1_ticks_2 kl_0 ?_
  refine lv_ldc2 (v := (5000 : Int64)) S.x S.b S.o (S.w _ q1248) dX1_ticks_3 ?_
  obtain ⟨r_1, hc, hf⟩ := bd_some hf
  refine gg_si S hM hl [.long x1.toInt64, .long (0 : Int64), .long (5000 : Int64)] (metX1_isIn hc) hdX1_isIn q1021 q788 q62 q789 ⟨rfl, rfl⟩ ⟨rfl, rfl⟩ rfl rfl rfl ⟨Nat.zero_le _, Nat.zero_le _⟩ dX1_ticks_6 (fun H locs hM => ?_)
  obtain ⟨_, hc, hf⟩ := bd_some hf
  refine gg_sv S hM hl [.int r_1] (metX1_checkArgument hc) hdX1_checkArgument q1022 q1023 q62 q1024 ⟨rfl, rfl⟩ ⟨rfl, rfl⟩ rfl rfl rfl ⟨Nat.zero_le _, Nat.zero_le _⟩ dX1_ticks_9 (fun H locs hM => ?_)
  refine lv_aload_n S.x S.b dX1_ticks_12 rfl (lv_at hl 0 rfl) ?_
  obtain ⟨w_2, hc, hf⟩ := bd_some hf
  obtain ⟨w_4, ew, hf⟩ := lt_some hf
  refine gw_cv S hM hl [] 1 rfl ⟨0, _, rfl⟩ (metX1_checkSequence (hQ.cons _) (hC.cons _) hc) hdX1_checkSequence q1126 q1128 qs19 q62 q1129 ⟨rfl, rfl⟩ ⟨rfl, rfl⟩ rfl rfl rfl ⟨Nat.zero_le _, Nat.zero_le _⟩ dX1_ticks_13 (fun H locs hM => ?_)
  replace hM := bc_fix hM ew
  refine lv_aload_n S.x S.b dX1_ticks_16 rfl (lv_at hl 0 rfl) ?_
  refine bn_g S hM 8 rfl (Or.inl q328) rfl dX1_ticks_17 ?_
  refine lv_iload_n S.x S.b dX1_ticks_20 rfl (lv_at hl 1 rfl) ?_
  obtain ⟨r_6, w_5, hc, hf⟩ := bd2_some hf
  obtain ⟨w_7, ew, hf⟩ := lt_some hf
  refine bc_iX S hM (hX.kept hXA hM.2.2.1) hl [.int x1] (metX3_ticks_0 (hQ.app _) (hCo.app _) (bc_la hLa _) hc) ew rfl hdX3_ticks q1249 q1250 q1251 q65 q1252 ⟨rfl, rfl⟩ ⟨rfl, rfl⟩ rfl rfl rfl ⟨Nat.zero_le _, Nat.zero_le _⟩ dX1_ticks_21 (fun H locs hM => ?_)
  obtain ⟨rfl, rfl⟩ := rt2 hf
  exact g_iret S hM rfl dX1_ticks_24
/-! SequenceBench.active()I -/
def gX1_active_1 (ns : Nat) (q : MW) (nc : Nat) (w : BW) : Option (Int32 × BW) :=
  bd2 (gX5_active ns q nc w.2) fun r_2 w_1 =>
  lt (w.1, w_1) fun w_3 =>
  some (r_2, w_3)
abbrev rmX1_active_1 : Room := { frames := 2, cells := 0, slots := 0, locals := 32 }
set_option maxHeartbeats 4000000 in
theorem metX1_active_1 {l : Launch} {D : va_G} {T : Nat → ClassId} {h me : Nat} {d a b sa : Nat → Nat} {tl : va_W} {rr : Int32} {wr : BW} {w : BW} {ns : Nat} {q : MW} {nc : Nat} (hQ : SqI T b sa ns q (.ref (b 3)) tl) (hC : CuI T b nc q tl) (hf : gX1_active_1 ns q nc w = some (rr, wr)) (sz : Nat) : MetI l yX1_active (ws_ yX1_active cX1_active 1 (some .int)) rmX1_active_1 D T (bcW 1 h d T me a b w tl) sz [.ref h] rr (bcW 1 h d T me a b wr tl) := by
  refine g_entry (Qc := fun A => gQi D T A rr (bcW 1 h d T me a b wr tl)) (by decide) rfl ?_
  intro p e s m below meth c ls S hM hl
  have hl : lv_has ls 1 [(0, .ref h)] := hl
  refine lv_aload_n S.x S.b dX1_active_0 rfl (lv_at hl 0 rfl) ?_
  refine bn_g S hM 8 rfl (Or.inl q328) rfl dX1_active_1 ?_
  refine br_g S hM 5 rfl (Or.inr ⟨_, q231⟩) rfl dX1_active_4 ?_
  refine lv_ifnonnull (tgt := 14) S.x S.b dX1_active_7 rfl ?_
  refine lv_aload_n S.x S.b dX1_active_14 rfl (lv_at hl 0 rfl) ?_
  refine bn_g S hM 8 rfl (Or.inl q328) rfl dX1_active_15 ?_
  refine br_g S hM 5 rfl (Or.inr ⟨_, q231⟩) rfl dX1_active_18 ?_
  obtain ⟨r_2, w_1, hc, hf⟩ := bd2_some hf
  obtain ⟨w_3, ew, hf⟩ := lt_some hf
  refine bc_iF S hM hl 4 rfl ⟨7, _, rfl⟩ (metX5_active (hQ.app _) (hC.app _) hc) ew S.g.2.1.2.2.1 hdActive q964 q968 q970 q67 q972 ⟨rfl, rfl⟩ ⟨rfl, rfl⟩ rfl dX1_active_21 (fun H locs hM => ?_)
  obtain ⟨rfl, rfl⟩ := rt2 hf
  exact g_iret S hM rfl dX1_active_26
/-! SequenceBench.fingerprint()J -/
def gX1_fingerprint_1_b161 (N : Nat) (ns : Nat) (q : MW) (nc : Nat) (k87 : Int64 → Int32 → BW → Option (Int64 × BW)) (x3 : Int32) (s0 : Int32) (s1 : Int64) (w : BW) : Option (Int64 × BW) :=
  bd (gX1_has (w.2.1 13) x3) fun r_18 =>
  if r_18 = 0 then (
  lt (((s1 + s0.toInt64) + ((0 : Int32).toInt64))) fun x1_19 =>
  lt (x3 + (1 : Int32)) fun x3_20 =>
  k87 x1_19 x3_20 w)
  else (
  lt (((s1 + s0.toInt64) + ((2 : Int32).toInt64))) fun x1_21 =>
  lt (x3 + (1 : Int32)) fun x3_22 =>
  k87 x1_21 x3_22 w)
def gX1_fingerprint_1_b134 (N : Nat) (ns : Nat) (q : MW) (nc : Nat) (k87 : Int64 → Int32 → BW → Option (Int64 × BW)) (x3 : Int32) (s0 : Int32) (s1 : Int64) (w : BW) : Option (Int64 × BW) :=
  lt ((s1 + s0.toInt64)) fun x1_11 =>
  bd (gX1_has (w.2.1 12) x3) fun r_12 =>
  if r_12 = 0 then (
  gX1_fingerprint_1_b161 N ns q nc k87 x3 (0 : Int32) ((31 : Int64) * x1_11) w)
  else (
  gX1_fingerprint_1_b161 N ns q nc k87 x3 (1 : Int32) ((31 : Int64) * x1_11) w)
def gX1_fingerprint_1_b193 (N : Nat) (ns : Nat) (q : MW) (nc : Nat) : Nat → Int64 → Int32 → BW → Option (Int64 × BW)
  | 0, _, _, _ => none
  | n + 1, x1, x3, w =>
    bd2 (gX1_steps ns q nc w) fun r_14 w_13 =>
    lt (rF w_13 30 (w.2.1 30)) fun w_15 =>
    if r_14 ≤ x3 then (
    some (x1, w_15))
    else (
    ck x3 16 <|
    lt ((((31 : Int64) * x1) + ((w_15.2.2 3 x3.toNatClampNeg).toInt64))) fun x1_16 =>
    lt (x3 + (1 : Int32)) fun x3_17 =>
    gX1_fingerprint_1_b193 N ns q nc n x1_16 x3_17 w_15)
def gX1_fingerprint_1_b87 (N : Nat) (ns : Nat) (q : MW) (nc : Nat) : Nat → Int64 → Int32 → BW → Option (Int64 × BW)
  | 0, _, _, _ => none
  | n + 1, x1, x3, w =>
    if (6 : Int32) ≤ x3 then (
    gX1_fingerprint_1_b193 N ns q nc N x1 (0 : Int32) w)
    else (
    ck x3 6 <|
    lt ((((31 : Int64) * x1) + ((w.2.2 2 x3.toNatClampNeg).toInt64))) fun x1_9 =>
    bd (gX1_has (w.2.1 7) x3) fun r_10 =>
    if r_10 = 0 then (
    gX1_fingerprint_1_b134 N ns q nc (gX1_fingerprint_1_b87 N ns q nc n) x3 (0 : Int32) ((31 : Int64) * x1_9) w)
    else (
    gX1_fingerprint_1_b134 N ns q nc (gX1_fingerprint_1_b87 N ns q nc n) x3 (1 : Int32) ((31 : Int64) * x1_9) w))
def gX1_fingerprint_1 (N : Nat) (ns : Nat) (q : MW) (nc : Nat) (w : BW) : Option (Int64 × BW) :=
  lt (((589 : Int64) + ((w.2.1 8).toInt64))) fun x1_1 =>
  bd2 (gX1_active_1 ns q nc w) fun r_3 w_2 =>
  lt ((((31 : Int64) * x1_1) + r_3.toInt64)) fun x1_4 =>
  lt ((((31 : Int64) * x1_4) + ((w_2.2.1 17).toInt64))) fun x1_5 =>
  lt ((((31 : Int64) * x1_5) + ((w_2.2.1 18).toInt64))) fun x1_6 =>
  lt ((((31 : Int64) * x1_6) + ((w_2.2.1 22).toInt64))) fun x1_7 =>
  lt ((((31 : Int64) * x1_7) + ((w_2.2.1 9).toInt64))) fun x1_8 =>
  gX1_fingerprint_1_b87 N ns q nc N x1_8 (0 : Int32) w_2
abbrev rmX1_fingerprint_1 : Room := { frames := 3, cells := 0, slots := 0, locals := 52 }
set_option maxHeartbeats 4000000 in
theorem wX1_fingerprint_1_b161 {p : Program} {l : Launch} {e : Env} {s : State} {m : MethodId} {args : Array Value} {below : List Frame} {meth : Method} {c : Code} {D : va_G} {T : Nat → ClassId} {A : Nat → Prop} {h me : Nat} {d a b sa : Nat → Nat} {tl : va_W} {rr : Int64} {wr : BW} {N : Nat} {ns : Nat} {q : MW} {nc : Nat} (S : gS p s m args meth c cX1_fingerprint 4 (some .long) RX1 D T) (hQ : SqI T b sa ns q (.ref (b 3)) tl) (hC : CuI T b nc q tl) {k87 : Int64 → Int32 → BW → Option (Int64 × BW)} (hk87 : ∀ (x1 : Int64) (x3 : Int32) (w : BW) (H : Heap) (locs : List Loc) (ls : Array Slot), gM D A s.heap (bcW 1 h d T me a b w tl) H locs → lv_has ls 4 [(0, .ref h), (1, .long x1), (3, .int x3)] → k87 x1 x3 w = some (rr, wr) → W p l e rmX1_fingerprint_1 s m args below meth c H locs 0 0 (MQ below (gQl D T A rr (bcW 1 h d T me a b wr tl)) args s 0 0 A) (F0 m 87 ls [])) : ∀ (x3 : Int32) (s0 : Int32) (s1 : Int64) (w : BW) (H : Heap) (locs : List Loc) (ls : Array Slot), gM D A s.heap (bcW 1 h d T me a b w tl) H locs → lv_has ls 4 [(0, .ref h), (3, .int x3)] → gX1_fingerprint_1_b161 N ns q nc k87 x3 s0 s1 w = some (rr, wr) → W p l e rmX1_fingerprint_1 s m args below meth c H locs 0 0 (MQ below (gQl D T A rr (bcW 1 h d T me a b wr tl)) args s 0 0 A) (F0 m 161 ls [.int s0, .long s1]) := by
  intro x3 s0 s1 w H locs ls hM hl hf
  refine lv_i2l S.x S.b dX1_fingerprint_161 rfl ?_
  refine lv_ladd S.x S.b dX1_fingerprint_162 ?_
  refine lv_aload_n S.x S.b dX1_fingerprint_163 rfl (lv_at hl 0 rfl) ?_
  refine bn_g S hM 8 rfl (Or.inl q328) rfl dX1_fingerprint_164 ?_
  refine br_g S hM 13 rfl (Or.inr ⟨_, q248⟩) rfl dX1_fingerprint_167 ?_
  refine lv_iload_n S.x S.b dX1_fingerprint_170 rfl (lv_at hl 1 rfl) ?_
  obtain ⟨r_18, hc, hf⟩ := bd_some hf
  refine gg_si S hM hl [.int (w.2.1 13), .int x3] (metX1_has hc) hdX1_has q1008 q791 q62 q792 ⟨rfl, rfl⟩ ⟨rfl, rfl⟩ rfl rfl rfl ⟨Nat.zero_le _, Nat.zero_le _⟩ dX1_fingerprint_171 (fun H locs hM => ?_)
  refine lv_if_eq (tgt := 181) S.x S.b dX1_fingerprint_174 rfl (fun cn => ?_) (fun cn => ?_)
  · have hf := if_t cn hf
    refine lv_iconst (v := (0 : Int32)) S.x S.b dX1_fingerprint_181 ki_0 ?_
    refine lv_i2l S.x S.b dX1_fingerprint_182 rfl ?_
    refine lv_ladd S.x S.b dX1_fingerprint_183 ?_
    obtain ⟨x1_19, ex, hf⟩ := lt_some hf
    refine g_lstn S (x' := x1_19) ex hl dX1_fingerprint_184 rfl rfl (lv' := [(1, .long x1_19), (0, .ref h), (3, .int x3)]) rfl (fun ls hl => ?_)
    obtain ⟨x3_20, ex, hf⟩ := lt_some hf
    refine g_inc S (x' := x3_20) (d := (1 : Int32)) hl (k := 2) rfl ki_1 ex dX1_fingerprint_185 rfl (lv' := [(3, .int x3_20), (1, .long x1_19), (0, .ref h)]) rfl (fun ls hl => ?_)
    refine lv_goto (tgt := 87) S.x S.b dX1_fingerprint_188 rfl ?_
    exact hk87 x1_19 x3_20 w _ _ _ hM (lv_sub hl [2, 1, 0] rfl) hf
  · have hf := if_f cn hf
    refine lv_iconst (v := (2 : Int32)) S.x S.b dX1_fingerprint_177 ki_2 ?_
    refine lv_goto (tgt := 182) S.x S.b dX1_fingerprint_178 rfl ?_
    refine lv_i2l S.x S.b dX1_fingerprint_182 rfl ?_
    refine lv_ladd S.x S.b dX1_fingerprint_183 ?_
    obtain ⟨x1_21, ex, hf⟩ := lt_some hf
    refine g_lstn S (x' := x1_21) ex hl dX1_fingerprint_184 rfl rfl (lv' := [(1, .long x1_21), (0, .ref h), (3, .int x3)]) rfl (fun ls hl => ?_)
    obtain ⟨x3_22, ex, hf⟩ := lt_some hf
    refine g_inc S (x' := x3_22) (d := (1 : Int32)) hl (k := 2) rfl ki_1 ex dX1_fingerprint_185 rfl (lv' := [(3, .int x3_22), (1, .long x1_21), (0, .ref h)]) rfl (fun ls hl => ?_)
    refine lv_goto (tgt := 87) S.x S.b dX1_fingerprint_188 rfl ?_
    exact hk87 x1_21 x3_22 w _ _ _ hM (lv_sub hl [2, 1, 0] rfl) hf
set_option maxHeartbeats 4000000 in
theorem wX1_fingerprint_1_b134 {p : Program} {l : Launch} {e : Env} {s : State} {m : MethodId} {args : Array Value} {below : List Frame} {meth : Method} {c : Code} {D : va_G} {T : Nat → ClassId} {A : Nat → Prop} {h me : Nat} {d a b sa : Nat → Nat} {tl : va_W} {rr : Int64} {wr : BW} {N : Nat} {ns : Nat} {q : MW} {nc : Nat} (S : gS p s m args meth c cX1_fingerprint 4 (some .long) RX1 D T) (hQ : SqI T b sa ns q (.ref (b 3)) tl) (hC : CuI T b nc q tl) {k87 : Int64 → Int32 → BW → Option (Int64 × BW)} (hk87 : ∀ (x1 : Int64) (x3 : Int32) (w : BW) (H : Heap) (locs : List Loc) (ls : Array Slot), gM D A s.heap (bcW 1 h d T me a b w tl) H locs → lv_has ls 4 [(0, .ref h), (1, .long x1), (3, .int x3)] → k87 x1 x3 w = some (rr, wr) → W p l e rmX1_fingerprint_1 s m args below meth c H locs 0 0 (MQ below (gQl D T A rr (bcW 1 h d T me a b wr tl)) args s 0 0 A) (F0 m 87 ls [])) : ∀ (x3 : Int32) (s0 : Int32) (s1 : Int64) (w : BW) (H : Heap) (locs : List Loc) (ls : Array Slot), gM D A s.heap (bcW 1 h d T me a b w tl) H locs → lv_has ls 4 [(0, .ref h), (3, .int x3)] → gX1_fingerprint_1_b134 N ns q nc k87 x3 s0 s1 w = some (rr, wr) → W p l e rmX1_fingerprint_1 s m args below meth c H locs 0 0 (MQ below (gQl D T A rr (bcW 1 h d T me a b wr tl)) args s 0 0 A) (F0 m 134 ls [.int s0, .long s1]) := by
  intro x3 s0 s1 w H locs ls hM hl hf
  refine lv_i2l S.x S.b dX1_fingerprint_134 rfl ?_
  refine lv_ladd S.x S.b dX1_fingerprint_135 ?_
  obtain ⟨x1_11, ex, hf⟩ := lt_some hf
  refine g_lstn S (x' := x1_11) ex hl dX1_fingerprint_136 rfl rfl (lv' := [(1, .long x1_11), (0, .ref h), (3, .int x3)]) rfl (fun ls hl => ?_)
  refine lv_ldc2 (v := (31 : Int64)) S.x S.b S.o (S.w _ q1006) dX1_fingerprint_137 ?_
  refine lv_lload_n S.x S.b dX1_fingerprint_140 rfl (lv_at hl 0 rfl) ?_
  refine lv_lmul S.x S.b dX1_fingerprint_141 ?_
  refine lv_aload_n S.x S.b dX1_fingerprint_142 rfl (lv_at hl 1 rfl) ?_
  refine bn_g S hM 8 rfl (Or.inl q328) rfl dX1_fingerprint_143 ?_
  refine br_g S hM 12 rfl (Or.inr ⟨_, q246⟩) rfl dX1_fingerprint_146 ?_
  refine lv_iload_n S.x S.b dX1_fingerprint_149 rfl (lv_at hl 2 rfl) ?_
  obtain ⟨r_12, hc, hf⟩ := bd_some hf
  refine gg_si S hM hl [.int (w.2.1 12), .int x3] (metX1_has hc) hdX1_has q1008 q791 q62 q792 ⟨rfl, rfl⟩ ⟨rfl, rfl⟩ rfl rfl rfl ⟨Nat.zero_le _, Nat.zero_le _⟩ dX1_fingerprint_150 (fun H locs hM => ?_)
  refine lv_if_eq (tgt := 160) S.x S.b dX1_fingerprint_153 rfl (fun cn => ?_) (fun cn => ?_)
  · have hf := if_t cn hf
    refine lv_iconst (v := (0 : Int32)) S.x S.b dX1_fingerprint_160 ki_0 ?_
    exact wX1_fingerprint_1_b161 S hQ hC hk87 x3 (0 : Int32) ((31 : Int64) * x1_11) w _ _ _ hM (lv_sub hl [1, 2] rfl) hf
  · have hf := if_f cn hf
    refine lv_iconst (v := (1 : Int32)) S.x S.b dX1_fingerprint_156 ki_1 ?_
    refine lv_goto (tgt := 161) S.x S.b dX1_fingerprint_157 rfl ?_
    exact wX1_fingerprint_1_b161 S hQ hC hk87 x3 (1 : Int32) ((31 : Int64) * x1_11) w _ _ _ hM (lv_sub hl [1, 2] rfl) hf
set_option maxHeartbeats 4000000 in
theorem wX1_fingerprint_1_b193 {p : Program} {l : Launch} {e : Env} {s : State} {m : MethodId} {args : Array Value} {below : List Frame} {meth : Method} {c : Code} {D : va_G} {T : Nat → ClassId} {A : Nat → Prop} {h me : Nat} {d a b sa : Nat → Nat} {tl : va_W} {rr : Int64} {wr : BW} {N : Nat} {ns : Nat} {q : MW} {nc : Nat} (S : gS p s m args meth c cX1_fingerprint 4 (some .long) RX1 D T) (hQ : SqI T b sa ns q (.ref (b 3)) tl) (hC : CuI T b nc q tl) : ∀ (n : Nat) (x1 : Int64) (x3 : Int32) (w : BW) (H : Heap) (locs : List Loc) (ls : Array Slot), gM D A s.heap (bcW 1 h d T me a b w tl) H locs → lv_has ls 4 [(0, .ref h), (1, .long x1), (3, .int x3)] → gX1_fingerprint_1_b193 N ns q nc n x1 x3 w = some (rr, wr) → W p l e rmX1_fingerprint_1 s m args below meth c H locs 0 0 (MQ below (gQl D T A rr (bcW 1 h d T me a b wr tl)) args s 0 0 A) (F0 m 193 ls []) := by
  intro n
  induction n with
  | zero =>
    intro x1 x3 w H locs ls hM hl hf
    cases hf
  | succ n ih =>
    intro x1 x3 w H locs ls hM hl hf
    refine lv_iload_n S.x S.b dX1_fingerprint_193 rfl (lv_at hl 2 rfl) ?_
    refine lv_aload_n S.x S.b dX1_fingerprint_194 rfl (lv_at hl 0 rfl) ?_
    obtain ⟨r_14, w_13, hc, hf⟩ := bd2_some hf
    obtain ⟨w_15, ew, hf⟩ := lt_some hf
    refine gw_ci S hM hl [] 1 rfl ⟨0, _, rfl⟩ (metX1_steps (hQ.cons _) (hC.cons _) hc) hdX1_steps q1009 q944 q945 q62 q946 ⟨rfl, rfl⟩ ⟨rfl, rfl⟩ rfl rfl rfl ⟨Nat.zero_le _, Nat.zero_le _⟩ dX1_fingerprint_195 (fun H locs hM => ?_)
    replace hM := bc_fix hM ew
    refine lv_icmp_ge (tgt := 224) S.x S.b dX1_fingerprint_198 rfl (fun cn => ?_) (fun cn => ?_)
    · have hf := if_t cn hf
      refine lv_lload_n S.x S.b dX1_fingerprint_224 rfl (lv_at hl 1 rfl) ?_
      obtain ⟨rfl, rfl⟩ := rt2 hf
      exact g_lret S hM rfl dX1_fingerprint_225
    · have hf := if_f cn hf
      refine lv_ldc2 (v := (31 : Int64)) S.x S.b S.o (S.w _ q1006) dX1_fingerprint_201 ?_
      refine lv_lload_n S.x S.b dX1_fingerprint_204 rfl (lv_at hl 1 rfl) ?_
      refine lv_lmul S.x S.b dX1_fingerprint_205 ?_
      refine lv_aload_n S.x S.b dX1_fingerprint_206 rfl (lv_at hl 0 rfl) ?_
      refine bn_g S hM 8 rfl (Or.inl q328) rfl dX1_fingerprint_207 ?_
      refine br_g S hM 4 rfl (Or.inr ⟨_, q229⟩) rfl dX1_fingerprint_210 ?_
      refine lv_iload_n S.x S.b dX1_fingerprint_213 rfl (lv_at hl 2 rfl) ?_
      obtain ⟨hi, hf⟩ := ck_some hf
      refine br_ld S hM 3 rfl hi dX1_fingerprint_214 ?_
      refine lv_i2l S.x S.b dX1_fingerprint_215 rfl ?_
      refine lv_ladd S.x S.b dX1_fingerprint_216 ?_
      obtain ⟨x1_16, ex, hf⟩ := lt_some hf
      refine g_lstn S (x' := x1_16) ex hl dX1_fingerprint_217 rfl rfl (lv' := [(1, .long x1_16), (0, .ref h), (3, .int x3)]) rfl (fun ls hl => ?_)
      obtain ⟨x3_17, ex, hf⟩ := lt_some hf
      refine g_inc S (x' := x3_17) (d := (1 : Int32)) hl (k := 2) rfl ki_1 ex dX1_fingerprint_218 rfl (lv' := [(3, .int x3_17), (1, .long x1_16), (0, .ref h)]) rfl (fun ls hl => ?_)
      refine lv_goto (tgt := 193) S.x S.b dX1_fingerprint_221 rfl ?_
      exact ih x1_16 x3_17 w_15 _ _ _ hM (lv_sub hl [2, 1, 0] rfl) hf
set_option maxHeartbeats 4000000 in
theorem wX1_fingerprint_1_b87 {p : Program} {l : Launch} {e : Env} {s : State} {m : MethodId} {args : Array Value} {below : List Frame} {meth : Method} {c : Code} {D : va_G} {T : Nat → ClassId} {A : Nat → Prop} {h me : Nat} {d a b sa : Nat → Nat} {tl : va_W} {rr : Int64} {wr : BW} {N : Nat} {ns : Nat} {q : MW} {nc : Nat} (S : gS p s m args meth c cX1_fingerprint 4 (some .long) RX1 D T) (hQ : SqI T b sa ns q (.ref (b 3)) tl) (hC : CuI T b nc q tl) : ∀ (n : Nat) (x1 : Int64) (x3 : Int32) (w : BW) (H : Heap) (locs : List Loc) (ls : Array Slot), gM D A s.heap (bcW 1 h d T me a b w tl) H locs → lv_has ls 4 [(0, .ref h), (1, .long x1), (3, .int x3)] → gX1_fingerprint_1_b87 N ns q nc n x1 x3 w = some (rr, wr) → W p l e rmX1_fingerprint_1 s m args below meth c H locs 0 0 (MQ below (gQl D T A rr (bcW 1 h d T me a b wr tl)) args s 0 0 A) (F0 m 87 ls []) := by
  intro n
  induction n with
  | zero =>
    intro x1 x3 w H locs ls hM hl hf
    cases hf
  | succ n ih =>
    intro x1 x3 w H locs ls hM hl hf
    refine lv_iload_n S.x S.b dX1_fingerprint_87 rfl (lv_at hl 2 rfl) ?_
    refine lv_bipush (v := (6 : Int32)) S.x S.b dX1_fingerprint_88 kb_6 ?_
    refine lv_icmp_ge (tgt := 191) S.x S.b dX1_fingerprint_90 rfl (fun cn => ?_) (fun cn => ?_)
    · have hf := if_t cn hf
      refine lv_iconst (v := (0 : Int32)) S.x S.b dX1_fingerprint_191 ki_0 ?_
      refine g_istn S (x' := (0 : Int32)) rfl hl dX1_fingerprint_192 rfl rfl (lv' := [(3, .int (0 : Int32)), (0, .ref h), (1, .long x1)]) rfl (fun ls hl => ?_)
      exact wX1_fingerprint_1_b193 S hQ hC N x1 (0 : Int32) w _ _ _ hM (lv_sub hl [1, 2, 0] rfl) hf
    · have hf := if_f cn hf
      refine lv_ldc2 (v := (31 : Int64)) S.x S.b S.o (S.w _ q1006) dX1_fingerprint_93 ?_
      refine lv_lload_n S.x S.b dX1_fingerprint_96 rfl (lv_at hl 1 rfl) ?_
      refine lv_lmul S.x S.b dX1_fingerprint_97 ?_
      refine lv_aload_n S.x S.b dX1_fingerprint_98 rfl (lv_at hl 0 rfl) ?_
      refine bn_g S hM 8 rfl (Or.inl q328) rfl dX1_fingerprint_99 ?_
      refine br_g S hM 3 rfl (Or.inr ⟨_, q227⟩) rfl dX1_fingerprint_102 ?_
      refine lv_iload_n S.x S.b dX1_fingerprint_105 rfl (lv_at hl 2 rfl) ?_
      obtain ⟨hi, hf⟩ := ck_some hf
      refine br_ld S hM 2 rfl hi dX1_fingerprint_106 ?_
      refine lv_i2l S.x S.b dX1_fingerprint_107 rfl ?_
      refine lv_ladd S.x S.b dX1_fingerprint_108 ?_
      obtain ⟨x1_9, ex, hf⟩ := lt_some hf
      refine g_lstn S (x' := x1_9) ex hl dX1_fingerprint_109 rfl rfl (lv' := [(1, .long x1_9), (0, .ref h), (3, .int x3)]) rfl (fun ls hl => ?_)
      refine lv_ldc2 (v := (31 : Int64)) S.x S.b S.o (S.w _ q1006) dX1_fingerprint_110 ?_
      refine lv_lload_n S.x S.b dX1_fingerprint_113 rfl (lv_at hl 0 rfl) ?_
      refine lv_lmul S.x S.b dX1_fingerprint_114 ?_
      refine lv_aload_n S.x S.b dX1_fingerprint_115 rfl (lv_at hl 1 rfl) ?_
      refine bn_g S hM 8 rfl (Or.inl q328) rfl dX1_fingerprint_116 ?_
      refine br_g S hM 7 rfl (Or.inr ⟨_, q238⟩) rfl dX1_fingerprint_119 ?_
      refine lv_iload_n S.x S.b dX1_fingerprint_122 rfl (lv_at hl 2 rfl) ?_
      obtain ⟨r_10, hc, hf⟩ := bd_some hf
      refine gg_si S hM hl [.int (w.2.1 7), .int x3] (metX1_has hc) hdX1_has q1008 q791 q62 q792 ⟨rfl, rfl⟩ ⟨rfl, rfl⟩ rfl rfl rfl ⟨Nat.zero_le _, Nat.zero_le _⟩ dX1_fingerprint_123 (fun H locs hM => ?_)
      refine lv_if_eq (tgt := 133) S.x S.b dX1_fingerprint_126 rfl (fun cn => ?_) (fun cn => ?_)
      · have hf := if_t cn hf
        refine lv_iconst (v := (0 : Int32)) S.x S.b dX1_fingerprint_133 ki_0 ?_
        exact wX1_fingerprint_1_b134 S hQ hC ih x3 (0 : Int32) ((31 : Int64) * x1_9) w _ _ _ hM (lv_sub hl [1, 2] rfl) hf
      · have hf := if_f cn hf
        refine lv_iconst (v := (1 : Int32)) S.x S.b dX1_fingerprint_129 ki_1 ?_
        refine lv_goto (tgt := 134) S.x S.b dX1_fingerprint_130 rfl ?_
        exact wX1_fingerprint_1_b134 S hQ hC ih x3 (1 : Int32) ((31 : Int64) * x1_9) w _ _ _ hM (lv_sub hl [1, 2] rfl) hf
set_option maxHeartbeats 4000000 in
theorem metX1_fingerprint_1 {l : Launch} {D : va_G} {T : Nat → ClassId} {h me : Nat} {d a b sa : Nat → Nat} {tl : va_W} {rr : Int64} {wr : BW} {N : Nat} {w : BW} {ns : Nat} {q : MW} {nc : Nat} (hQ : SqI T b sa ns q (.ref (b 3)) tl) (hC : CuI T b nc q tl) (hf : gX1_fingerprint_1 N ns q nc w = some (rr, wr)) (sz : Nat) : MetL l yX1_fingerprint (ws_ yX1_fingerprint cX1_fingerprint 4 (some .long)) rmX1_fingerprint_1 D T (bcW 1 h d T me a b w tl) sz [.ref h] rr (bcW 1 h d T me a b wr tl) := by
  refine g_entry (Qc := fun A => gQl D T A rr (bcW 1 h d T me a b wr tl)) (by decide) rfl ?_
  intro p e s m below meth c ls S hM hl
  have hl : lv_has ls 4 [(0, .ref h)] := hl
  refine lv_ldc2 (v := (589 : Int64)) S.x S.b S.o (S.w _ q1005) dX1_fingerprint_0 ?_
  refine lv_aload_n S.x S.b dX1_fingerprint_3 rfl (lv_at hl 0 rfl) ?_
  refine bn_g S hM 8 rfl (Or.inl q328) rfl dX1_fingerprint_4 ?_
  refine br_g S hM 8 rfl (Or.inr ⟨_, q240⟩) rfl dX1_fingerprint_7 ?_
  refine lv_i2l S.x S.b dX1_fingerprint_10 rfl ?_
  refine lv_ladd S.x S.b dX1_fingerprint_11 ?_
  obtain ⟨x1_1, ex, hf⟩ := lt_some hf
  refine g_lstn S (x' := x1_1) ex hl dX1_fingerprint_12 rfl rfl (lv' := [(1, .long x1_1), (0, .ref h)]) rfl (fun ls hl => ?_)
  refine lv_ldc2 (v := (31 : Int64)) S.x S.b S.o (S.w _ q1006) dX1_fingerprint_13 ?_
  refine lv_lload_n S.x S.b dX1_fingerprint_16 rfl (lv_at hl 0 rfl) ?_
  refine lv_lmul S.x S.b dX1_fingerprint_17 ?_
  refine lv_aload_n S.x S.b dX1_fingerprint_18 rfl (lv_at hl 1 rfl) ?_
  obtain ⟨r_3, w_2, hc, hf⟩ := bd2_some hf
  refine gw_ci S hM hl [] 1 rfl ⟨0, _, rfl⟩ (metX1_active_1 hQ hC hc) hdX1_active q1007 q960 q961 q62 q962 ⟨rfl, rfl⟩ ⟨rfl, rfl⟩ rfl rfl rfl ⟨Nat.zero_le _, Nat.zero_le _⟩ dX1_fingerprint_19 (fun H locs hM => ?_)
  refine lv_i2l S.x S.b dX1_fingerprint_22 rfl ?_
  refine lv_ladd S.x S.b dX1_fingerprint_23 ?_
  obtain ⟨x1_4, ex, hf⟩ := lt_some hf
  refine g_lstn S (x' := x1_4) ex hl dX1_fingerprint_24 rfl rfl (lv' := [(1, .long x1_4), (0, .ref h)]) rfl (fun ls hl => ?_)
  refine lv_ldc2 (v := (31 : Int64)) S.x S.b S.o (S.w _ q1006) dX1_fingerprint_25 ?_
  refine lv_lload_n S.x S.b dX1_fingerprint_28 rfl (lv_at hl 0 rfl) ?_
  refine lv_lmul S.x S.b dX1_fingerprint_29 ?_
  refine lv_aload_n S.x S.b dX1_fingerprint_30 rfl (lv_at hl 1 rfl) ?_
  refine bn_g S hM 8 rfl (Or.inl q328) rfl dX1_fingerprint_31 ?_
  refine br_g S hM 17 rfl (Or.inr ⟨_, q255⟩) rfl dX1_fingerprint_34 ?_
  refine lv_i2l S.x S.b dX1_fingerprint_37 rfl ?_
  refine lv_ladd S.x S.b dX1_fingerprint_38 ?_
  obtain ⟨x1_5, ex, hf⟩ := lt_some hf
  refine g_lstn S (x' := x1_5) ex hl dX1_fingerprint_39 rfl rfl (lv' := [(1, .long x1_5), (0, .ref h)]) rfl (fun ls hl => ?_)
  refine lv_ldc2 (v := (31 : Int64)) S.x S.b S.o (S.w _ q1006) dX1_fingerprint_40 ?_
  refine lv_lload_n S.x S.b dX1_fingerprint_43 rfl (lv_at hl 0 rfl) ?_
  refine lv_lmul S.x S.b dX1_fingerprint_44 ?_
  refine lv_aload_n S.x S.b dX1_fingerprint_45 rfl (lv_at hl 1 rfl) ?_
  refine bn_g S hM 8 rfl (Or.inl q328) rfl dX1_fingerprint_46 ?_
  refine br_g S hM 18 rfl (Or.inr ⟨_, q257⟩) rfl dX1_fingerprint_49 ?_
  refine lv_i2l S.x S.b dX1_fingerprint_52 rfl ?_
  refine lv_ladd S.x S.b dX1_fingerprint_53 ?_
  obtain ⟨x1_6, ex, hf⟩ := lt_some hf
  refine g_lstn S (x' := x1_6) ex hl dX1_fingerprint_54 rfl rfl (lv' := [(1, .long x1_6), (0, .ref h)]) rfl (fun ls hl => ?_)
  refine lv_ldc2 (v := (31 : Int64)) S.x S.b S.o (S.w _ q1006) dX1_fingerprint_55 ?_
  refine lv_lload_n S.x S.b dX1_fingerprint_58 rfl (lv_at hl 0 rfl) ?_
  refine lv_lmul S.x S.b dX1_fingerprint_59 ?_
  refine lv_aload_n S.x S.b dX1_fingerprint_60 rfl (lv_at hl 1 rfl) ?_
  refine bn_g S hM 8 rfl (Or.inl q328) rfl dX1_fingerprint_61 ?_
  refine br_g S hM 22 rfl (Or.inr ⟨_, q262⟩) rfl dX1_fingerprint_64 ?_
  refine lv_i2l S.x S.b dX1_fingerprint_67 rfl ?_
  refine lv_ladd S.x S.b dX1_fingerprint_68 ?_
  obtain ⟨x1_7, ex, hf⟩ := lt_some hf
  refine g_lstn S (x' := x1_7) ex hl dX1_fingerprint_69 rfl rfl (lv' := [(1, .long x1_7), (0, .ref h)]) rfl (fun ls hl => ?_)
  refine lv_ldc2 (v := (31 : Int64)) S.x S.b S.o (S.w _ q1006) dX1_fingerprint_70 ?_
  refine lv_lload_n S.x S.b dX1_fingerprint_73 rfl (lv_at hl 0 rfl) ?_
  refine lv_lmul S.x S.b dX1_fingerprint_74 ?_
  refine lv_aload_n S.x S.b dX1_fingerprint_75 rfl (lv_at hl 1 rfl) ?_
  refine bn_g S hM 8 rfl (Or.inl q328) rfl dX1_fingerprint_76 ?_
  refine br_g S hM 9 rfl (Or.inr ⟨_, q242⟩) rfl dX1_fingerprint_79 ?_
  refine lv_i2l S.x S.b dX1_fingerprint_82 rfl ?_
  refine lv_ladd S.x S.b dX1_fingerprint_83 ?_
  obtain ⟨x1_8, ex, hf⟩ := lt_some hf
  refine g_lstn S (x' := x1_8) ex hl dX1_fingerprint_84 rfl rfl (lv' := [(1, .long x1_8), (0, .ref h)]) rfl (fun ls hl => ?_)
  refine lv_iconst (v := (0 : Int32)) S.x S.b dX1_fingerprint_85 ki_0 ?_
  refine g_istn S (x' := (0 : Int32)) rfl hl dX1_fingerprint_86 rfl rfl (lv' := [(3, .int (0 : Int32)), (1, .long x1_8), (0, .ref h)]) rfl (fun ls hl => ?_)
  exact wX1_fingerprint_1_b87 S hQ hC N x1_8 (0 : Int32) w_2 _ _ _ hM (lv_sub hl [2, 1, 0] rfl) hf
/-! SequenceBench.ticks(I)I -/
def gX1_ticks_1 (N : Nat) (ns : Nat) (q : MW) (nc : Nat) (x1 : Int32) (w : BW) : Option (Int32 × BW) :=
  bd (gX1_isIn x1.toInt64 (0 : Int64) (5000 : Int64)) fun r_1 =>
  bd (gX1_checkArgument r_1) fun _ =>
  bd (gX1_checkSequence ns q nc w) fun w_2 =>
  lt (rF w_2 30 (w.2.1 30)) fun w_4 =>
  bd2 (gX3_ticks_1 N ns q nc x1 w_4.2) fun r_6 w_5 =>
  lt (w_4.1, w_5) fun w_7 =>
  some (r_6, w_7)
abbrev rmX1_ticks_1 : Room := { frames := 8, cells := 0, slots := 0, locals := 164 }
set_option maxHeartbeats 4000000 in
theorem metX1_ticks_1 {l : Launch} {D : va_G} {T : Nat → ClassId} {h me : Nat} {d a b sa la : Nat → Nat} {tl : va_W} {rr : Int32} {wr : BW} {N : Nat} {x1 : Int32} {w : BW} {ns : Nat} {q : MW} {nc : Nat} (hQ : SqI T b sa ns q (.ref (b 3)) tl) (hC : CuI T b nc q tl) (hCo : CoI T a la ns tl) (hLa : ∀ w, LaF la ns (bcW 1 h d T me a b w tl)) (hf : gX1_ticks_1 N ns q nc x1 w = some (rr, wr)) (sz : Nat) : MetIX l yX1_ticks (ws_ yX1_ticks cX1_ticks 2 (some .int)) rmX1_ticks_1 D T (bcW 1 h d T me a b w tl) sz [.ref h, .int x1] rr (bcW 1 h d T me a b wr tl) (LamI 1 D a la ns q) := by
  refine g_entryX (Qc := fun A => gQi D T A rr (bcW 1 h d T me a b wr tl)) (by decide) rfl ?_
  intro p e s m below meth c ls S hM hX hl
  have hXA := (hLa w).na hX
  have hl : lv_has ls 2 [(0, .ref h), (1, .int x1)] := hl
  refine lv_iload_n S.x S.b dX1_ticks_0 rfl (lv_at hl 1 rfl) ?_
  refine lv_i2l S.x S.b dX1_ticks_1 rfl ?_
  refine lv_lconst (v := (0 : Int64)) S.x S.b dX1_ticks_2 kl_0 ?_
  refine lv_ldc2 (v := (5000 : Int64)) S.x S.b S.o (S.w _ q1248) dX1_ticks_3 ?_
  obtain ⟨r_1, hc, hf⟩ := bd_some hf
  refine gg_si S hM hl [.long x1.toInt64, .long (0 : Int64), .long (5000 : Int64)] (metX1_isIn hc) hdX1_isIn q1021 q788 q62 q789 ⟨rfl, rfl⟩ ⟨rfl, rfl⟩ rfl rfl rfl ⟨Nat.zero_le _, Nat.zero_le _⟩ dX1_ticks_6 (fun H locs hM => ?_)
  obtain ⟨_, hc, hf⟩ := bd_some hf
  refine gg_sv S hM hl [.int r_1] (metX1_checkArgument hc) hdX1_checkArgument q1022 q1023 q62 q1024 ⟨rfl, rfl⟩ ⟨rfl, rfl⟩ rfl rfl rfl ⟨Nat.zero_le _, Nat.zero_le _⟩ dX1_ticks_9 (fun H locs hM => ?_)
  refine lv_aload_n S.x S.b dX1_ticks_12 rfl (lv_at hl 0 rfl) ?_
  obtain ⟨w_2, hc, hf⟩ := bd_some hf
  obtain ⟨w_4, ew, hf⟩ := lt_some hf
  refine gw_cv S hM hl [] 1 rfl ⟨0, _, rfl⟩ (metX1_checkSequence (hQ.cons _) (hC.cons _) hc) hdX1_checkSequence q1126 q1128 qs19 q62 q1129 ⟨rfl, rfl⟩ ⟨rfl, rfl⟩ rfl rfl rfl ⟨Nat.zero_le _, Nat.zero_le _⟩ dX1_ticks_13 (fun H locs hM => ?_)
  replace hM := bc_fix hM ew
  refine lv_aload_n S.x S.b dX1_ticks_16 rfl (lv_at hl 0 rfl) ?_
  refine bn_g S hM 8 rfl (Or.inl q328) rfl dX1_ticks_17 ?_
  refine lv_iload_n S.x S.b dX1_ticks_20 rfl (lv_at hl 1 rfl) ?_
  obtain ⟨r_6, w_5, hc, hf⟩ := bd2_some hf
  obtain ⟨w_7, ew, hf⟩ := lt_some hf
  refine bc_iX S hM (hX.kept hXA hM.2.2.1) hl [.int x1] (metX3_ticks_1 (hQ.app _) (hC.app _) (hCo.app _) (bc_la hLa _) hc) ew rfl hdX3_ticks q1249 q1250 q1251 q65 q1252 ⟨rfl, rfl⟩ ⟨rfl, rfl⟩ rfl rfl rfl ⟨Nat.zero_le _, Nat.zero_le _⟩ dX1_ticks_21 (fun H locs hM => ?_)
  obtain ⟨rfl, rfl⟩ := rt2 hf
  exact g_iret S hM rfl dX1_ticks_24
/-! SequenceBench.active()I -/
def gX1_active_2 (ns : Nat) (q : MW) (nc : Nat) (w : BW) : Option (Int32 × BW) :=
  bd2 (gX6_active ns q w.2) fun r_2 w_1 =>
  lt (w.1, w_1) fun w_3 =>
  some (r_2, w_3)
abbrev rmX1_active_2 : Room := { frames := 2, cells := 0, slots := 0, locals := 32 }
set_option maxHeartbeats 4000000 in
theorem metX1_active_2 {l : Launch} {D : va_G} {T : Nat → ClassId} {h me : Nat} {d a b sa : Nat → Nat} {tl : va_W} {rr : Int32} {wr : BW} {w : BW} {ns : Nat} {q : MW} {nc : Nat} (hQ : SqI T b sa ns q (.ref (b 3)) tl) (hC : CuI T b nc q tl) (hf : gX1_active_2 ns q nc w = some (rr, wr)) (sz : Nat) : MetI l yX1_active (ws_ yX1_active cX1_active 1 (some .int)) rmX1_active_2 D T (bcW 2 h d T me a b w tl) sz [.ref h] rr (bcW 2 h d T me a b wr tl) := by
  refine g_entry (Qc := fun A => gQi D T A rr (bcW 2 h d T me a b wr tl)) (by decide) rfl ?_
  intro p e s m below meth c ls S hM hl
  have hl : lv_has ls 1 [(0, .ref h)] := hl
  refine lv_aload_n S.x S.b dX1_active_0 rfl (lv_at hl 0 rfl) ?_
  refine bn_g S hM 8 rfl (Or.inl q328) rfl dX1_active_1 ?_
  refine br_g S hM 5 rfl (Or.inr ⟨_, q231⟩) rfl dX1_active_4 ?_
  refine lv_ifnonnull (tgt := 14) S.x S.b dX1_active_7 rfl ?_
  refine lv_aload_n S.x S.b dX1_active_14 rfl (lv_at hl 0 rfl) ?_
  refine bn_g S hM 8 rfl (Or.inl q328) rfl dX1_active_15 ?_
  refine br_g S hM 5 rfl (Or.inr ⟨_, q231⟩) rfl dX1_active_18 ?_
  obtain ⟨r_2, w_1, hc, hf⟩ := bd2_some hf
  obtain ⟨w_3, ew, hf⟩ := lt_some hf
  refine bc_iF S hM hl 5 rfl ⟨7, _, rfl⟩ (metX6_active (hQ.app _) hc) ew S.g.2.1.2.2.2 hdActive q964 q980 q982 q68 q984 ⟨rfl, rfl⟩ ⟨rfl, rfl⟩ rfl dX1_active_21 (fun H locs hM => ?_)
  obtain ⟨rfl, rfl⟩ := rt2 hf
  exact g_iret S hM rfl dX1_active_26
/-! SequenceBench.fingerprint()J -/
def gX1_fingerprint_2_b161 (N : Nat) (ns : Nat) (q : MW) (nc : Nat) (k87 : Int64 → Int32 → BW → Option (Int64 × BW)) (x3 : Int32) (s0 : Int32) (s1 : Int64) (w : BW) : Option (Int64 × BW) :=
  bd (gX1_has (w.2.1 13) x3) fun r_18 =>
  if r_18 = 0 then (
  lt (((s1 + s0.toInt64) + ((0 : Int32).toInt64))) fun x1_19 =>
  lt (x3 + (1 : Int32)) fun x3_20 =>
  k87 x1_19 x3_20 w)
  else (
  lt (((s1 + s0.toInt64) + ((2 : Int32).toInt64))) fun x1_21 =>
  lt (x3 + (1 : Int32)) fun x3_22 =>
  k87 x1_21 x3_22 w)
def gX1_fingerprint_2_b134 (N : Nat) (ns : Nat) (q : MW) (nc : Nat) (k87 : Int64 → Int32 → BW → Option (Int64 × BW)) (x3 : Int32) (s0 : Int32) (s1 : Int64) (w : BW) : Option (Int64 × BW) :=
  lt ((s1 + s0.toInt64)) fun x1_11 =>
  bd (gX1_has (w.2.1 12) x3) fun r_12 =>
  if r_12 = 0 then (
  gX1_fingerprint_2_b161 N ns q nc k87 x3 (0 : Int32) ((31 : Int64) * x1_11) w)
  else (
  gX1_fingerprint_2_b161 N ns q nc k87 x3 (1 : Int32) ((31 : Int64) * x1_11) w)
def gX1_fingerprint_2_b193 (N : Nat) (ns : Nat) (q : MW) (nc : Nat) : Nat → Int64 → Int32 → BW → Option (Int64 × BW)
  | 0, _, _, _ => none
  | n + 1, x1, x3, w =>
    bd2 (gX1_steps ns q nc w) fun r_14 w_13 =>
    lt (rF w_13 30 (w.2.1 30)) fun w_15 =>
    if r_14 ≤ x3 then (
    some (x1, w_15))
    else (
    ck x3 16 <|
    lt ((((31 : Int64) * x1) + ((w_15.2.2 3 x3.toNatClampNeg).toInt64))) fun x1_16 =>
    lt (x3 + (1 : Int32)) fun x3_17 =>
    gX1_fingerprint_2_b193 N ns q nc n x1_16 x3_17 w_15)
def gX1_fingerprint_2_b87 (N : Nat) (ns : Nat) (q : MW) (nc : Nat) : Nat → Int64 → Int32 → BW → Option (Int64 × BW)
  | 0, _, _, _ => none
  | n + 1, x1, x3, w =>
    if (6 : Int32) ≤ x3 then (
    gX1_fingerprint_2_b193 N ns q nc N x1 (0 : Int32) w)
    else (
    ck x3 6 <|
    lt ((((31 : Int64) * x1) + ((w.2.2 2 x3.toNatClampNeg).toInt64))) fun x1_9 =>
    bd (gX1_has (w.2.1 7) x3) fun r_10 =>
    if r_10 = 0 then (
    gX1_fingerprint_2_b134 N ns q nc (gX1_fingerprint_2_b87 N ns q nc n) x3 (0 : Int32) ((31 : Int64) * x1_9) w)
    else (
    gX1_fingerprint_2_b134 N ns q nc (gX1_fingerprint_2_b87 N ns q nc n) x3 (1 : Int32) ((31 : Int64) * x1_9) w))
def gX1_fingerprint_2 (N : Nat) (ns : Nat) (q : MW) (nc : Nat) (w : BW) : Option (Int64 × BW) :=
  lt (((589 : Int64) + ((w.2.1 8).toInt64))) fun x1_1 =>
  bd2 (gX1_active_2 ns q nc w) fun r_3 w_2 =>
  lt ((((31 : Int64) * x1_1) + r_3.toInt64)) fun x1_4 =>
  lt ((((31 : Int64) * x1_4) + ((w_2.2.1 17).toInt64))) fun x1_5 =>
  lt ((((31 : Int64) * x1_5) + ((w_2.2.1 18).toInt64))) fun x1_6 =>
  lt ((((31 : Int64) * x1_6) + ((w_2.2.1 22).toInt64))) fun x1_7 =>
  lt ((((31 : Int64) * x1_7) + ((w_2.2.1 9).toInt64))) fun x1_8 =>
  gX1_fingerprint_2_b87 N ns q nc N x1_8 (0 : Int32) w_2
abbrev rmX1_fingerprint_2 : Room := { frames := 3, cells := 0, slots := 0, locals := 52 }
set_option maxHeartbeats 4000000 in
theorem wX1_fingerprint_2_b161 {p : Program} {l : Launch} {e : Env} {s : State} {m : MethodId} {args : Array Value} {below : List Frame} {meth : Method} {c : Code} {D : va_G} {T : Nat → ClassId} {A : Nat → Prop} {h me : Nat} {d a b sa : Nat → Nat} {tl : va_W} {rr : Int64} {wr : BW} {N : Nat} {ns : Nat} {q : MW} {nc : Nat} (S : gS p s m args meth c cX1_fingerprint 4 (some .long) RX1 D T) (hQ : SqI T b sa ns q (.ref (b 3)) tl) (hC : CuI T b nc q tl) {k87 : Int64 → Int32 → BW → Option (Int64 × BW)} (hk87 : ∀ (x1 : Int64) (x3 : Int32) (w : BW) (H : Heap) (locs : List Loc) (ls : Array Slot), gM D A s.heap (bcW 2 h d T me a b w tl) H locs → lv_has ls 4 [(0, .ref h), (1, .long x1), (3, .int x3)] → k87 x1 x3 w = some (rr, wr) → W p l e rmX1_fingerprint_2 s m args below meth c H locs 0 0 (MQ below (gQl D T A rr (bcW 2 h d T me a b wr tl)) args s 0 0 A) (F0 m 87 ls [])) : ∀ (x3 : Int32) (s0 : Int32) (s1 : Int64) (w : BW) (H : Heap) (locs : List Loc) (ls : Array Slot), gM D A s.heap (bcW 2 h d T me a b w tl) H locs → lv_has ls 4 [(0, .ref h), (3, .int x3)] → gX1_fingerprint_2_b161 N ns q nc k87 x3 s0 s1 w = some (rr, wr) → W p l e rmX1_fingerprint_2 s m args below meth c H locs 0 0 (MQ below (gQl D T A rr (bcW 2 h d T me a b wr tl)) args s 0 0 A) (F0 m 161 ls [.int s0, .long s1]) := by
  intro x3 s0 s1 w H locs ls hM hl hf
  refine lv_i2l S.x S.b dX1_fingerprint_161 rfl ?_
  refine lv_ladd S.x S.b dX1_fingerprint_162 ?_
  refine lv_aload_n S.x S.b dX1_fingerprint_163 rfl (lv_at hl 0 rfl) ?_
  refine bn_g S hM 8 rfl (Or.inl q328) rfl dX1_fingerprint_164 ?_
  refine br_g S hM 13 rfl (Or.inr ⟨_, q248⟩) rfl dX1_fingerprint_167 ?_
  refine lv_iload_n S.x S.b dX1_fingerprint_170 rfl (lv_at hl 1 rfl) ?_
  obtain ⟨r_18, hc, hf⟩ := bd_some hf
  refine gg_si S hM hl [.int (w.2.1 13), .int x3] (metX1_has hc) hdX1_has q1008 q791 q62 q792 ⟨rfl, rfl⟩ ⟨rfl, rfl⟩ rfl rfl rfl ⟨Nat.zero_le _, Nat.zero_le _⟩ dX1_fingerprint_171 (fun H locs hM => ?_)
  refine lv_if_eq (tgt := 181) S.x S.b dX1_fingerprint_174 rfl (fun cn => ?_) (fun cn => ?_)
  · have hf := if_t cn hf
    refine lv_iconst (v := (0 : Int32)) S.x S.b dX1_fingerprint_181 ki_0 ?_
    refine lv_i2l S.x S.b dX1_fingerprint_182 rfl ?_
    refine lv_ladd S.x S.b dX1_fingerprint_183 ?_
    obtain ⟨x1_19, ex, hf⟩ := lt_some hf
    refine g_lstn S (x' := x1_19) ex hl dX1_fingerprint_184 rfl rfl (lv' := [(1, .long x1_19), (0, .ref h), (3, .int x3)]) rfl (fun ls hl => ?_)
    obtain ⟨x3_20, ex, hf⟩ := lt_some hf
    refine g_inc S (x' := x3_20) (d := (1 : Int32)) hl (k := 2) rfl ki_1 ex dX1_fingerprint_185 rfl (lv' := [(3, .int x3_20), (1, .long x1_19), (0, .ref h)]) rfl (fun ls hl => ?_)
    refine lv_goto (tgt := 87) S.x S.b dX1_fingerprint_188 rfl ?_
    exact hk87 x1_19 x3_20 w _ _ _ hM (lv_sub hl [2, 1, 0] rfl) hf
  · have hf := if_f cn hf
    refine lv_iconst (v := (2 : Int32)) S.x S.b dX1_fingerprint_177 ki_2 ?_
    refine lv_goto (tgt := 182) S.x S.b dX1_fingerprint_178 rfl ?_
    refine lv_i2l S.x S.b dX1_fingerprint_182 rfl ?_
    refine lv_ladd S.x S.b dX1_fingerprint_183 ?_
    obtain ⟨x1_21, ex, hf⟩ := lt_some hf
    refine g_lstn S (x' := x1_21) ex hl dX1_fingerprint_184 rfl rfl (lv' := [(1, .long x1_21), (0, .ref h), (3, .int x3)]) rfl (fun ls hl => ?_)
    obtain ⟨x3_22, ex, hf⟩ := lt_some hf
    refine g_inc S (x' := x3_22) (d := (1 : Int32)) hl (k := 2) rfl ki_1 ex dX1_fingerprint_185 rfl (lv' := [(3, .int x3_22), (1, .long x1_21), (0, .ref h)]) rfl (fun ls hl => ?_)
    refine lv_goto (tgt := 87) S.x S.b dX1_fingerprint_188 rfl ?_
    exact hk87 x1_21 x3_22 w _ _ _ hM (lv_sub hl [2, 1, 0] rfl) hf
set_option maxHeartbeats 4000000 in
theorem wX1_fingerprint_2_b134 {p : Program} {l : Launch} {e : Env} {s : State} {m : MethodId} {args : Array Value} {below : List Frame} {meth : Method} {c : Code} {D : va_G} {T : Nat → ClassId} {A : Nat → Prop} {h me : Nat} {d a b sa : Nat → Nat} {tl : va_W} {rr : Int64} {wr : BW} {N : Nat} {ns : Nat} {q : MW} {nc : Nat} (S : gS p s m args meth c cX1_fingerprint 4 (some .long) RX1 D T) (hQ : SqI T b sa ns q (.ref (b 3)) tl) (hC : CuI T b nc q tl) {k87 : Int64 → Int32 → BW → Option (Int64 × BW)} (hk87 : ∀ (x1 : Int64) (x3 : Int32) (w : BW) (H : Heap) (locs : List Loc) (ls : Array Slot), gM D A s.heap (bcW 2 h d T me a b w tl) H locs → lv_has ls 4 [(0, .ref h), (1, .long x1), (3, .int x3)] → k87 x1 x3 w = some (rr, wr) → W p l e rmX1_fingerprint_2 s m args below meth c H locs 0 0 (MQ below (gQl D T A rr (bcW 2 h d T me a b wr tl)) args s 0 0 A) (F0 m 87 ls [])) : ∀ (x3 : Int32) (s0 : Int32) (s1 : Int64) (w : BW) (H : Heap) (locs : List Loc) (ls : Array Slot), gM D A s.heap (bcW 2 h d T me a b w tl) H locs → lv_has ls 4 [(0, .ref h), (3, .int x3)] → gX1_fingerprint_2_b134 N ns q nc k87 x3 s0 s1 w = some (rr, wr) → W p l e rmX1_fingerprint_2 s m args below meth c H locs 0 0 (MQ below (gQl D T A rr (bcW 2 h d T me a b wr tl)) args s 0 0 A) (F0 m 134 ls [.int s0, .long s1]) := by
  intro x3 s0 s1 w H locs ls hM hl hf
  refine lv_i2l S.x S.b dX1_fingerprint_134 rfl ?_
  refine lv_ladd S.x S.b dX1_fingerprint_135 ?_
  obtain ⟨x1_11, ex, hf⟩ := lt_some hf
  refine g_lstn S (x' := x1_11) ex hl dX1_fingerprint_136 rfl rfl (lv' := [(1, .long x1_11), (0, .ref h), (3, .int x3)]) rfl (fun ls hl => ?_)
  refine lv_ldc2 (v := (31 : Int64)) S.x S.b S.o (S.w _ q1006) dX1_fingerprint_137 ?_
  refine lv_lload_n S.x S.b dX1_fingerprint_140 rfl (lv_at hl 0 rfl) ?_
  refine lv_lmul S.x S.b dX1_fingerprint_141 ?_
  refine lv_aload_n S.x S.b dX1_fingerprint_142 rfl (lv_at hl 1 rfl) ?_
  refine bn_g S hM 8 rfl (Or.inl q328) rfl dX1_fingerprint_143 ?_
  refine br_g S hM 12 rfl (Or.inr ⟨_, q246⟩) rfl dX1_fingerprint_146 ?_
  refine lv_iload_n S.x S.b dX1_fingerprint_149 rfl (lv_at hl 2 rfl) ?_
  obtain ⟨r_12, hc, hf⟩ := bd_some hf
  refine gg_si S hM hl [.int (w.2.1 12), .int x3] (metX1_has hc) hdX1_has q1008 q791 q62 q792 ⟨rfl, rfl⟩ ⟨rfl, rfl⟩ rfl rfl rfl ⟨Nat.zero_le _, Nat.zero_le _⟩ dX1_fingerprint_150 (fun H locs hM => ?_)
  refine lv_if_eq (tgt := 160) S.x S.b dX1_fingerprint_153 rfl (fun cn => ?_) (fun cn => ?_)
  · have hf := if_t cn hf
    refine lv_iconst (v := (0 : Int32)) S.x S.b dX1_fingerprint_160 ki_0 ?_
    exact wX1_fingerprint_2_b161 S hQ hC hk87 x3 (0 : Int32) ((31 : Int64) * x1_11) w _ _ _ hM (lv_sub hl [1, 2] rfl) hf
  · have hf := if_f cn hf
    refine lv_iconst (v := (1 : Int32)) S.x S.b dX1_fingerprint_156 ki_1 ?_
    refine lv_goto (tgt := 161) S.x S.b dX1_fingerprint_157 rfl ?_
    exact wX1_fingerprint_2_b161 S hQ hC hk87 x3 (1 : Int32) ((31 : Int64) * x1_11) w _ _ _ hM (lv_sub hl [1, 2] rfl) hf
set_option maxHeartbeats 4000000 in
theorem wX1_fingerprint_2_b193 {p : Program} {l : Launch} {e : Env} {s : State} {m : MethodId} {args : Array Value} {below : List Frame} {meth : Method} {c : Code} {D : va_G} {T : Nat → ClassId} {A : Nat → Prop} {h me : Nat} {d a b sa : Nat → Nat} {tl : va_W} {rr : Int64} {wr : BW} {N : Nat} {ns : Nat} {q : MW} {nc : Nat} (S : gS p s m args meth c cX1_fingerprint 4 (some .long) RX1 D T) (hQ : SqI T b sa ns q (.ref (b 3)) tl) (hC : CuI T b nc q tl) : ∀ (n : Nat) (x1 : Int64) (x3 : Int32) (w : BW) (H : Heap) (locs : List Loc) (ls : Array Slot), gM D A s.heap (bcW 2 h d T me a b w tl) H locs → lv_has ls 4 [(0, .ref h), (1, .long x1), (3, .int x3)] → gX1_fingerprint_2_b193 N ns q nc n x1 x3 w = some (rr, wr) → W p l e rmX1_fingerprint_2 s m args below meth c H locs 0 0 (MQ below (gQl D T A rr (bcW 2 h d T me a b wr tl)) args s 0 0 A) (F0 m 193 ls []) := by
  intro n
  induction n with
  | zero =>
    intro x1 x3 w H locs ls hM hl hf
    cases hf
  | succ n ih =>
    intro x1 x3 w H locs ls hM hl hf
    refine lv_iload_n S.x S.b dX1_fingerprint_193 rfl (lv_at hl 2 rfl) ?_
    refine lv_aload_n S.x S.b dX1_fingerprint_194 rfl (lv_at hl 0 rfl) ?_
    obtain ⟨r_14, w_13, hc, hf⟩ := bd2_some hf
    obtain ⟨w_15, ew, hf⟩ := lt_some hf
    refine gw_ci S hM hl [] 1 rfl ⟨0, _, rfl⟩ (metX1_steps (hQ.cons _) (hC.cons _) hc) hdX1_steps q1009 q944 q945 q62 q946 ⟨rfl, rfl⟩ ⟨rfl, rfl⟩ rfl rfl rfl ⟨Nat.zero_le _, Nat.zero_le _⟩ dX1_fingerprint_195 (fun H locs hM => ?_)
    replace hM := bc_fix hM ew
    refine lv_icmp_ge (tgt := 224) S.x S.b dX1_fingerprint_198 rfl (fun cn => ?_) (fun cn => ?_)
    · have hf := if_t cn hf
      refine lv_lload_n S.x S.b dX1_fingerprint_224 rfl (lv_at hl 1 rfl) ?_
      obtain ⟨rfl, rfl⟩ := rt2 hf
      exact g_lret S hM rfl dX1_fingerprint_225
    · have hf := if_f cn hf
      refine lv_ldc2 (v := (31 : Int64)) S.x S.b S.o (S.w _ q1006) dX1_fingerprint_201 ?_
      refine lv_lload_n S.x S.b dX1_fingerprint_204 rfl (lv_at hl 1 rfl) ?_
      refine lv_lmul S.x S.b dX1_fingerprint_205 ?_
      refine lv_aload_n S.x S.b dX1_fingerprint_206 rfl (lv_at hl 0 rfl) ?_
      refine bn_g S hM 8 rfl (Or.inl q328) rfl dX1_fingerprint_207 ?_
      refine br_g S hM 4 rfl (Or.inr ⟨_, q229⟩) rfl dX1_fingerprint_210 ?_
      refine lv_iload_n S.x S.b dX1_fingerprint_213 rfl (lv_at hl 2 rfl) ?_
      obtain ⟨hi, hf⟩ := ck_some hf
      refine br_ld S hM 3 rfl hi dX1_fingerprint_214 ?_
      refine lv_i2l S.x S.b dX1_fingerprint_215 rfl ?_
      refine lv_ladd S.x S.b dX1_fingerprint_216 ?_
      obtain ⟨x1_16, ex, hf⟩ := lt_some hf
      refine g_lstn S (x' := x1_16) ex hl dX1_fingerprint_217 rfl rfl (lv' := [(1, .long x1_16), (0, .ref h), (3, .int x3)]) rfl (fun ls hl => ?_)
      obtain ⟨x3_17, ex, hf⟩ := lt_some hf
      refine g_inc S (x' := x3_17) (d := (1 : Int32)) hl (k := 2) rfl ki_1 ex dX1_fingerprint_218 rfl (lv' := [(3, .int x3_17), (1, .long x1_16), (0, .ref h)]) rfl (fun ls hl => ?_)
      refine lv_goto (tgt := 193) S.x S.b dX1_fingerprint_221 rfl ?_
      exact ih x1_16 x3_17 w_15 _ _ _ hM (lv_sub hl [2, 1, 0] rfl) hf
set_option maxHeartbeats 4000000 in
theorem wX1_fingerprint_2_b87 {p : Program} {l : Launch} {e : Env} {s : State} {m : MethodId} {args : Array Value} {below : List Frame} {meth : Method} {c : Code} {D : va_G} {T : Nat → ClassId} {A : Nat → Prop} {h me : Nat} {d a b sa : Nat → Nat} {tl : va_W} {rr : Int64} {wr : BW} {N : Nat} {ns : Nat} {q : MW} {nc : Nat} (S : gS p s m args meth c cX1_fingerprint 4 (some .long) RX1 D T) (hQ : SqI T b sa ns q (.ref (b 3)) tl) (hC : CuI T b nc q tl) : ∀ (n : Nat) (x1 : Int64) (x3 : Int32) (w : BW) (H : Heap) (locs : List Loc) (ls : Array Slot), gM D A s.heap (bcW 2 h d T me a b w tl) H locs → lv_has ls 4 [(0, .ref h), (1, .long x1), (3, .int x3)] → gX1_fingerprint_2_b87 N ns q nc n x1 x3 w = some (rr, wr) → W p l e rmX1_fingerprint_2 s m args below meth c H locs 0 0 (MQ below (gQl D T A rr (bcW 2 h d T me a b wr tl)) args s 0 0 A) (F0 m 87 ls []) := by
  intro n
  induction n with
  | zero =>
    intro x1 x3 w H locs ls hM hl hf
    cases hf
  | succ n ih =>
    intro x1 x3 w H locs ls hM hl hf
    refine lv_iload_n S.x S.b dX1_fingerprint_87 rfl (lv_at hl 2 rfl) ?_
    refine lv_bipush (v := (6 : Int32)) S.x S.b dX1_fingerprint_88 kb_6 ?_
    refine lv_icmp_ge (tgt := 191) S.x S.b dX1_fingerprint_90 rfl (fun cn => ?_) (fun cn => ?_)
    · have hf := if_t cn hf
      refine lv_iconst (v := (0 : Int32)) S.x S.b dX1_fingerprint_191 ki_0 ?_
      refine g_istn S (x' := (0 : Int32)) rfl hl dX1_fingerprint_192 rfl rfl (lv' := [(3, .int (0 : Int32)), (0, .ref h), (1, .long x1)]) rfl (fun ls hl => ?_)
      exact wX1_fingerprint_2_b193 S hQ hC N x1 (0 : Int32) w _ _ _ hM (lv_sub hl [1, 2, 0] rfl) hf
    · have hf := if_f cn hf
      refine lv_ldc2 (v := (31 : Int64)) S.x S.b S.o (S.w _ q1006) dX1_fingerprint_93 ?_
      refine lv_lload_n S.x S.b dX1_fingerprint_96 rfl (lv_at hl 1 rfl) ?_
      refine lv_lmul S.x S.b dX1_fingerprint_97 ?_
      refine lv_aload_n S.x S.b dX1_fingerprint_98 rfl (lv_at hl 0 rfl) ?_
      refine bn_g S hM 8 rfl (Or.inl q328) rfl dX1_fingerprint_99 ?_
      refine br_g S hM 3 rfl (Or.inr ⟨_, q227⟩) rfl dX1_fingerprint_102 ?_
      refine lv_iload_n S.x S.b dX1_fingerprint_105 rfl (lv_at hl 2 rfl) ?_
      obtain ⟨hi, hf⟩ := ck_some hf
      refine br_ld S hM 2 rfl hi dX1_fingerprint_106 ?_
      refine lv_i2l S.x S.b dX1_fingerprint_107 rfl ?_
      refine lv_ladd S.x S.b dX1_fingerprint_108 ?_
      obtain ⟨x1_9, ex, hf⟩ := lt_some hf
      refine g_lstn S (x' := x1_9) ex hl dX1_fingerprint_109 rfl rfl (lv' := [(1, .long x1_9), (0, .ref h), (3, .int x3)]) rfl (fun ls hl => ?_)
      refine lv_ldc2 (v := (31 : Int64)) S.x S.b S.o (S.w _ q1006) dX1_fingerprint_110 ?_
      refine lv_lload_n S.x S.b dX1_fingerprint_113 rfl (lv_at hl 0 rfl) ?_
      refine lv_lmul S.x S.b dX1_fingerprint_114 ?_
      refine lv_aload_n S.x S.b dX1_fingerprint_115 rfl (lv_at hl 1 rfl) ?_
      refine bn_g S hM 8 rfl (Or.inl q328) rfl dX1_fingerprint_116 ?_
      refine br_g S hM 7 rfl (Or.inr ⟨_, q238⟩) rfl dX1_fingerprint_119 ?_
      refine lv_iload_n S.x S.b dX1_fingerprint_122 rfl (lv_at hl 2 rfl) ?_
      obtain ⟨r_10, hc, hf⟩ := bd_some hf
      refine gg_si S hM hl [.int (w.2.1 7), .int x3] (metX1_has hc) hdX1_has q1008 q791 q62 q792 ⟨rfl, rfl⟩ ⟨rfl, rfl⟩ rfl rfl rfl ⟨Nat.zero_le _, Nat.zero_le _⟩ dX1_fingerprint_123 (fun H locs hM => ?_)
      refine lv_if_eq (tgt := 133) S.x S.b dX1_fingerprint_126 rfl (fun cn => ?_) (fun cn => ?_)
      · have hf := if_t cn hf
        refine lv_iconst (v := (0 : Int32)) S.x S.b dX1_fingerprint_133 ki_0 ?_
        exact wX1_fingerprint_2_b134 S hQ hC ih x3 (0 : Int32) ((31 : Int64) * x1_9) w _ _ _ hM (lv_sub hl [1, 2] rfl) hf
      · have hf := if_f cn hf
        refine lv_iconst (v := (1 : Int32)) S.x S.b dX1_fingerprint_129 ki_1 ?_
        refine lv_goto (tgt := 134) S.x S.b dX1_fingerprint_130 rfl ?_
        exact wX1_fingerprint_2_b134 S hQ hC ih x3 (1 : Int32) ((31 : Int64) * x1_9) w _ _ _ hM (lv_sub hl [1, 2] rfl) hf
set_option maxHeartbeats 4000000 in
theorem metX1_fingerprint_2 {l : Launch} {D : va_G} {T : Nat → ClassId} {h me : Nat} {d a b sa : Nat → Nat} {tl : va_W} {rr : Int64} {wr : BW} {N : Nat} {w : BW} {ns : Nat} {q : MW} {nc : Nat} (hQ : SqI T b sa ns q (.ref (b 3)) tl) (hC : CuI T b nc q tl) (hf : gX1_fingerprint_2 N ns q nc w = some (rr, wr)) (sz : Nat) : MetL l yX1_fingerprint (ws_ yX1_fingerprint cX1_fingerprint 4 (some .long)) rmX1_fingerprint_2 D T (bcW 2 h d T me a b w tl) sz [.ref h] rr (bcW 2 h d T me a b wr tl) := by
  refine g_entry (Qc := fun A => gQl D T A rr (bcW 2 h d T me a b wr tl)) (by decide) rfl ?_
  intro p e s m below meth c ls S hM hl
  have hl : lv_has ls 4 [(0, .ref h)] := hl
  refine lv_ldc2 (v := (589 : Int64)) S.x S.b S.o (S.w _ q1005) dX1_fingerprint_0 ?_
  refine lv_aload_n S.x S.b dX1_fingerprint_3 rfl (lv_at hl 0 rfl) ?_
  refine bn_g S hM 8 rfl (Or.inl q328) rfl dX1_fingerprint_4 ?_
  refine br_g S hM 8 rfl (Or.inr ⟨_, q240⟩) rfl dX1_fingerprint_7 ?_
  refine lv_i2l S.x S.b dX1_fingerprint_10 rfl ?_
  refine lv_ladd S.x S.b dX1_fingerprint_11 ?_
  obtain ⟨x1_1, ex, hf⟩ := lt_some hf
  refine g_lstn S (x' := x1_1) ex hl dX1_fingerprint_12 rfl rfl (lv' := [(1, .long x1_1), (0, .ref h)]) rfl (fun ls hl => ?_)
  refine lv_ldc2 (v := (31 : Int64)) S.x S.b S.o (S.w _ q1006) dX1_fingerprint_13 ?_
  refine lv_lload_n S.x S.b dX1_fingerprint_16 rfl (lv_at hl 0 rfl) ?_
  refine lv_lmul S.x S.b dX1_fingerprint_17 ?_
  refine lv_aload_n S.x S.b dX1_fingerprint_18 rfl (lv_at hl 1 rfl) ?_
  obtain ⟨r_3, w_2, hc, hf⟩ := bd2_some hf
  refine gw_ci S hM hl [] 1 rfl ⟨0, _, rfl⟩ (metX1_active_2 hQ hC hc) hdX1_active q1007 q960 q961 q62 q962 ⟨rfl, rfl⟩ ⟨rfl, rfl⟩ rfl rfl rfl ⟨Nat.zero_le _, Nat.zero_le _⟩ dX1_fingerprint_19 (fun H locs hM => ?_)
  refine lv_i2l S.x S.b dX1_fingerprint_22 rfl ?_
  refine lv_ladd S.x S.b dX1_fingerprint_23 ?_
  obtain ⟨x1_4, ex, hf⟩ := lt_some hf
  refine g_lstn S (x' := x1_4) ex hl dX1_fingerprint_24 rfl rfl (lv' := [(1, .long x1_4), (0, .ref h)]) rfl (fun ls hl => ?_)
  refine lv_ldc2 (v := (31 : Int64)) S.x S.b S.o (S.w _ q1006) dX1_fingerprint_25 ?_
  refine lv_lload_n S.x S.b dX1_fingerprint_28 rfl (lv_at hl 0 rfl) ?_
  refine lv_lmul S.x S.b dX1_fingerprint_29 ?_
  refine lv_aload_n S.x S.b dX1_fingerprint_30 rfl (lv_at hl 1 rfl) ?_
  refine bn_g S hM 8 rfl (Or.inl q328) rfl dX1_fingerprint_31 ?_
  refine br_g S hM 17 rfl (Or.inr ⟨_, q255⟩) rfl dX1_fingerprint_34 ?_
  refine lv_i2l S.x S.b dX1_fingerprint_37 rfl ?_
  refine lv_ladd S.x S.b dX1_fingerprint_38 ?_
  obtain ⟨x1_5, ex, hf⟩ := lt_some hf
  refine g_lstn S (x' := x1_5) ex hl dX1_fingerprint_39 rfl rfl (lv' := [(1, .long x1_5), (0, .ref h)]) rfl (fun ls hl => ?_)
  refine lv_ldc2 (v := (31 : Int64)) S.x S.b S.o (S.w _ q1006) dX1_fingerprint_40 ?_
  refine lv_lload_n S.x S.b dX1_fingerprint_43 rfl (lv_at hl 0 rfl) ?_
  refine lv_lmul S.x S.b dX1_fingerprint_44 ?_
  refine lv_aload_n S.x S.b dX1_fingerprint_45 rfl (lv_at hl 1 rfl) ?_
  refine bn_g S hM 8 rfl (Or.inl q328) rfl dX1_fingerprint_46 ?_
  refine br_g S hM 18 rfl (Or.inr ⟨_, q257⟩) rfl dX1_fingerprint_49 ?_
  refine lv_i2l S.x S.b dX1_fingerprint_52 rfl ?_
  refine lv_ladd S.x S.b dX1_fingerprint_53 ?_
  obtain ⟨x1_6, ex, hf⟩ := lt_some hf
  refine g_lstn S (x' := x1_6) ex hl dX1_fingerprint_54 rfl rfl (lv' := [(1, .long x1_6), (0, .ref h)]) rfl (fun ls hl => ?_)
  refine lv_ldc2 (v := (31 : Int64)) S.x S.b S.o (S.w _ q1006) dX1_fingerprint_55 ?_
  refine lv_lload_n S.x S.b dX1_fingerprint_58 rfl (lv_at hl 0 rfl) ?_
  refine lv_lmul S.x S.b dX1_fingerprint_59 ?_
  refine lv_aload_n S.x S.b dX1_fingerprint_60 rfl (lv_at hl 1 rfl) ?_
  refine bn_g S hM 8 rfl (Or.inl q328) rfl dX1_fingerprint_61 ?_
  refine br_g S hM 22 rfl (Or.inr ⟨_, q262⟩) rfl dX1_fingerprint_64 ?_
  refine lv_i2l S.x S.b dX1_fingerprint_67 rfl ?_
  refine lv_ladd S.x S.b dX1_fingerprint_68 ?_
  obtain ⟨x1_7, ex, hf⟩ := lt_some hf
  refine g_lstn S (x' := x1_7) ex hl dX1_fingerprint_69 rfl rfl (lv' := [(1, .long x1_7), (0, .ref h)]) rfl (fun ls hl => ?_)
  refine lv_ldc2 (v := (31 : Int64)) S.x S.b S.o (S.w _ q1006) dX1_fingerprint_70 ?_
  refine lv_lload_n S.x S.b dX1_fingerprint_73 rfl (lv_at hl 0 rfl) ?_
  refine lv_lmul S.x S.b dX1_fingerprint_74 ?_
  refine lv_aload_n S.x S.b dX1_fingerprint_75 rfl (lv_at hl 1 rfl) ?_
  refine bn_g S hM 8 rfl (Or.inl q328) rfl dX1_fingerprint_76 ?_
  refine br_g S hM 9 rfl (Or.inr ⟨_, q242⟩) rfl dX1_fingerprint_79 ?_
  refine lv_i2l S.x S.b dX1_fingerprint_82 rfl ?_
  refine lv_ladd S.x S.b dX1_fingerprint_83 ?_
  obtain ⟨x1_8, ex, hf⟩ := lt_some hf
  refine g_lstn S (x' := x1_8) ex hl dX1_fingerprint_84 rfl rfl (lv' := [(1, .long x1_8), (0, .ref h)]) rfl (fun ls hl => ?_)
  refine lv_iconst (v := (0 : Int32)) S.x S.b dX1_fingerprint_85 ki_0 ?_
  refine g_istn S (x' := (0 : Int32)) rfl hl dX1_fingerprint_86 rfl rfl (lv' := [(3, .int (0 : Int32)), (1, .long x1_8), (0, .ref h)]) rfl (fun ls hl => ?_)
  exact wX1_fingerprint_2_b87 S hQ hC N x1_8 (0 : Int32) w_2 _ _ _ hM (lv_sub hl [2, 1, 0] rfl) hf
/-! SequenceBench.ticks(I)I -/
def gX1_ticks_2 (N : Nat) (ns : Nat) (q : MW) (nc : Nat) (x1 : Int32) (w : BW) : Option (Int32 × BW) :=
  bd (gX1_isIn x1.toInt64 (0 : Int64) (5000 : Int64)) fun r_1 =>
  bd (gX1_checkArgument r_1) fun _ =>
  bd (gX1_checkSequence ns q nc w) fun w_2 =>
  lt (rF w_2 30 (w.2.1 30)) fun w_4 =>
  bd2 (gX3_ticks_2 N ns q x1 w_4.2) fun r_6 w_5 =>
  lt (w_4.1, w_5) fun w_7 =>
  some (r_6, w_7)
abbrev rmX1_ticks_2 : Room := { frames := 8, cells := 0, slots := 0, locals := 164 }
set_option maxHeartbeats 4000000 in
theorem metX1_ticks_2 {l : Launch} {D : va_G} {T : Nat → ClassId} {h me : Nat} {d a b sa la : Nat → Nat} {tl : va_W} {rr : Int32} {wr : BW} {N : Nat} {x1 : Int32} {w : BW} {ns : Nat} {q : MW} {nc : Nat} (hQ : SqI T b sa ns q (.ref (b 3)) tl) (hC : CuI T b nc q tl) (hLa : ∀ w, LaF la 0 (bcW 2 h d T me a b w tl)) (hf : gX1_ticks_2 N ns q nc x1 w = some (rr, wr)) (sz : Nat) : MetIX l yX1_ticks (ws_ yX1_ticks cX1_ticks 2 (some .int)) rmX1_ticks_2 D T (bcW 2 h d T me a b w tl) sz [.ref h, .int x1] rr (bcW 2 h d T me a b wr tl) (LamI 2 D a la 0 q) := by
  refine g_entryX (Qc := fun A => gQi D T A rr (bcW 2 h d T me a b wr tl)) (by decide) rfl ?_
  intro p e s m below meth c ls S hM hX hl
  have hXA := (hLa w).na hX
  have hl : lv_has ls 2 [(0, .ref h), (1, .int x1)] := hl
  refine lv_iload_n S.x S.b dX1_ticks_0 rfl (lv_at hl 1 rfl) ?_
  refine lv_i2l S.x S.b dX1_ticks_1 rfl ?_
  refine lv_lconst (v := (0 : Int64)) S.x S.b dX1_ticks_2 kl_0 ?_
  refine lv_ldc2 (v := (5000 : Int64)) S.x S.b S.o (S.w _ q1248) dX1_ticks_3 ?_
  obtain ⟨r_1, hc, hf⟩ := bd_some hf
  refine gg_si S hM hl [.long x1.toInt64, .long (0 : Int64), .long (5000 : Int64)] (metX1_isIn hc) hdX1_isIn q1021 q788 q62 q789 ⟨rfl, rfl⟩ ⟨rfl, rfl⟩ rfl rfl rfl ⟨Nat.zero_le _, Nat.zero_le _⟩ dX1_ticks_6 (fun H locs hM => ?_)
  obtain ⟨_, hc, hf⟩ := bd_some hf
  refine gg_sv S hM hl [.int r_1] (metX1_checkArgument hc) hdX1_checkArgument q1022 q1023 q62 q1024 ⟨rfl, rfl⟩ ⟨rfl, rfl⟩ rfl rfl rfl ⟨Nat.zero_le _, Nat.zero_le _⟩ dX1_ticks_9 (fun H locs hM => ?_)
  refine lv_aload_n S.x S.b dX1_ticks_12 rfl (lv_at hl 0 rfl) ?_
  obtain ⟨w_2, hc, hf⟩ := bd_some hf
  obtain ⟨w_4, ew, hf⟩ := lt_some hf
  refine gw_cv S hM hl [] 1 rfl ⟨0, _, rfl⟩ (metX1_checkSequence (hQ.cons _) (hC.cons _) hc) hdX1_checkSequence q1126 q1128 qs19 q62 q1129 ⟨rfl, rfl⟩ ⟨rfl, rfl⟩ rfl rfl rfl ⟨Nat.zero_le _, Nat.zero_le _⟩ dX1_ticks_13 (fun H locs hM => ?_)
  replace hM := bc_fix hM ew
  refine lv_aload_n S.x S.b dX1_ticks_16 rfl (lv_at hl 0 rfl) ?_
  refine bn_g S hM 8 rfl (Or.inl q328) rfl dX1_ticks_17 ?_
  refine lv_iload_n S.x S.b dX1_ticks_20 rfl (lv_at hl 1 rfl) ?_
  obtain ⟨r_6, w_5, hc, hf⟩ := bd2_some hf
  obtain ⟨w_7, ew, hf⟩ := lt_some hf
  refine bc_iX S hM (hX.kept hXA hM.2.2.1) hl [.int x1] (metX3_ticks_2 (hQ.app _) (bc_la hLa _) hc) ew rfl hdX3_ticks q1249 q1250 q1251 q65 q1252 ⟨rfl, rfl⟩ ⟨rfl, rfl⟩ rfl rfl rfl ⟨Nat.zero_le _, Nat.zero_le _⟩ dX1_ticks_21 (fun H locs hM => ?_)
  obtain ⟨rfl, rfl⟩ := rt2 hf
  exact g_iret S hM rfl dX1_ticks_24
