set_option maxRecDepth 100000
/-! SequenceBenchModel.notesEvent([IIZ)V -/
theorem hdX7_notesEvent : gHd yX7_notesEvent 3 := by decide +kernel
def gX7_notesEvent_226 (N : Nat) (jr : Nat) (s0 : Int32) (s1 : Int32) (w : MW) : Option (MW) :=
  ck s1 140 <|
  lt (setA w jr s1.toNatClampNeg s0) fun w_20 =>
  ck (9 : Int32) 140 <|
  if (w_20.2 jr (9 : Int32).toNatClampNeg) = (2 : Int32) then (
  ck (0 : Int32) 140 <|
  ck (12 : Int32) 140 <|
  lt (setA w_20 jr (12 : Int32).toNatClampNeg (w_20.2 jr (0 : Int32).toNatClampNeg)) fun w_22 =>
  some w_22)
  else (
  ck (12 : Int32) 140 <|
  ck (12 : Int32) 140 <|
  lt (setA w_20 jr (12 : Int32).toNatClampNeg (w_20.2 jr (12 : Int32).toNatClampNeg)) fun w_21 =>
  some w_21)
def gX7_notesEvent_138 (N : Nat) (jr : Nat) : Nat → Int32 → MW → Option (MW)
  | 0, _, _ => none
  | n + 1, x6, w =>
    ck x6 16 <|
    if (w.2 5 x6.toNatClampNeg) ≤ 0 then (
    ck (7 : Int32) 140 <|
    lt (setA w jr (7 : Int32).toNatClampNeg x6) fun w_12 =>
    bd2 (gX7_movesOf x6 w_12) fun r_14 w_13 =>
    ck (8 : Int32) 140 <|
    lt (setA w_13 jr (8 : Int32).toNatClampNeg r_14) fun w_15 =>
    bd2 (gX7_firstWithMoves N w_15) fun r_17 w_16 =>
    if x6 = r_17 then (
    ck (9 : Int32) 140 <|
    ck (9 : Int32) 140 <|
    lt (setA w_16 jr (9 : Int32).toNatClampNeg ((w_16.2 jr (9 : Int32).toNatClampNeg) + (1 : Int32))) fun w_18 =>
    ck (9 : Int32) 140 <|
    if (w_18.2 jr (9 : Int32).toNatClampNeg) = (1 : Int32) then (
    ck (0 : Int32) 140 <|
    gX7_notesEvent_226 N jr (w_18.2 jr (0 : Int32).toNatClampNeg) (11 : Int32) w_18)
    else (
    ck (11 : Int32) 140 <|
    gX7_notesEvent_226 N jr (w_18.2 jr (11 : Int32).toNatClampNeg) (11 : Int32) w_18))
    else (
    some w_16))
    else (
    if (w.1 4) ≤ (x6 + (1 : Int32)) then (
    gX7_notesEvent_138 N jr n (0 : Int32) w)
    else (
    lt ((x6 + (1 : Int32))) fun x6_19 =>
    gX7_notesEvent_138 N jr n x6_19 w))
def gX7_notesEvent_58 (N : Nat) (jr : Nat) (s0 : Int32) (s1 : Int32) (w : MW) : Option (MW) :=
  lt ((s1 <<< (s0 &&& 31))) fun x5_5 =>
  ck (6 : Int32) 140 <|
  if (w.2 jr (6 : Int32).toNatClampNeg) = (1 : Int32) then (
  ck (6 : Int32) 140 <|
  lt (setA w jr (6 : Int32).toNatClampNeg (1 : Int32)) fun w_6 =>
  some w_6)
  else (
  ck (8 : Int32) 140 <|
  if ((w.2 jr (8 : Int32).toNatClampNeg) &&& x5_5) = 0 then (
  ck (6 : Int32) 140 <|
  lt (setA w jr (6 : Int32).toNatClampNeg (1 : Int32)) fun w_11 =>
  some w_11)
  else (
  ck (5 : Int32) 140 <|
  ck (5 : Int32) 140 <|
  lt (setA w jr (5 : Int32).toNatClampNeg ((w.2 jr (5 : Int32).toNatClampNeg) + (1 : Int32))) fun w_7 =>
  ck (8 : Int32) 140 <|
  ck (8 : Int32) 140 <|
  lt (setA w_7 jr (8 : Int32).toNatClampNeg ((w_7.2 jr (8 : Int32).toNatClampNeg) &&& (x5_5 ^^^ (-1 : Int32)))) fun w_8 =>
  ck (8 : Int32) 140 <|
  if (w_8.2 jr (8 : Int32).toNatClampNeg) = 0 then (
  ck (7 : Int32) 140 <|
  lt ((w_8.2 jr (7 : Int32).toNatClampNeg)) fun x6_9 =>
  if (w_8.1 4) ≤ (x6_9 + (1 : Int32)) then (
  gX7_notesEvent_138 N jr N (0 : Int32) w_8)
  else (
  lt ((x6_9 + (1 : Int32))) fun x6_10 =>
  gX7_notesEvent_138 N jr N x6_10 w_8))
  else (
  some w_8)))
def gX7_notesEvent_36 (N : Nat) (jr : Nat) (x2 : Int32) (x3 : Int32) (s0 : Int32) (s1 : Int32) (s2 : Int32) (w : MW) : Option (MW) :=
  ck s2 140 <|
  lt (setA w jr s2.toNatClampNeg (s1 + s0)) fun w_3 =>
  ck (4 : Int32) 140 <|
  ck (4 : Int32) 140 <|
  lt (setA w_3 jr (4 : Int32).toNatClampNeg ((w_3.2 jr (4 : Int32).toNatClampNeg) + (1 : Int32))) fun w_4 =>
  if x3 = 0 then (
  gX7_notesEvent_58 N jr ((6 : Int32) + x2) (1 : Int32) w_4)
  else (
  gX7_notesEvent_58 N jr x2 (1 : Int32) w_4)
def gX7_notesEvent (N : Nat) (jr : Nat) (x2 : Int32) (x3 : Int32) (w : MW) : Option (MW) :=
  ck (4 : Int32) 140 <|
  lt (((w.2 jr (4 : Int32).toNatClampNeg) - (w.2 jr (4 : Int32).toNatClampNeg) / (40 : Int32) * (40 : Int32))) fun x4_1 =>
  ck (0 : Int32) 140 <|
  ck ((60 : Int32) + x4_1) 140 <|
  lt (setA w jr ((60 : Int32) + x4_1).toNatClampNeg (w.2 jr (0 : Int32).toNatClampNeg)) fun w_2 =>
  if x3 = 0 then (
  gX7_notesEvent_36 N jr x2 x3 (0 : Int32) ((2 : Int32) * x2) ((100 : Int32) + x4_1) w_2)
  else (
  gX7_notesEvent_36 N jr x2 x3 (1 : Int32) ((2 : Int32) * x2) ((100 : Int32) + x4_1) w_2)
abbrev rmX7_notesEvent : Room := { frames := 2, cells := 0, slots := 0, locals := 33 }
set_option maxHeartbeats 4000000 in
theorem wX7_notesEvent_226 {p : Program} {l : Launch} {e : Env} {s : State} {m : MethodId} {args : Array Value} {below : List Frame} {meth : Method} {c : Code} {D : va_G} {T : Nat → ClassId} {A : Nat → Prop} {h : Nat} {ad : Nat → Nat} {wr : MW} {N : Nat} {jr : Nat} (S : gS p s m args meth c cX7_notesEvent 7 (none) RX7 D T) (hj : Nat.ble (jr + 1) 2 = true) : ∀ (s0 : Int32) (s1 : Int32) (w : MW) (H : Heap) (locs : List Loc) (ls : Array Slot), gM D A s.heap (mmW h ad (T 0) w) H locs → lv_has ls 7 [(1, .ref (ad jr))] → gX7_notesEvent_226 N jr s0 s1 w = some wr → W p l e rmX7_notesEvent s m args below meth c H locs 0 0 (MQ below (gQv D T A (mmW h ad (T 0) wr)) args s 0 0 A) (F0 m 226 ls [.int s0, .int s1, .ref (ad jr)]) := by
  intro s0 s1 w H locs ls hM hl hf
  obtain ⟨hi, hf⟩ := ck_some hf
  obtain ⟨w_20, ew, hf⟩ := lt_some hf
  refine mm_str S hM jr hj hi ew dX7_notesEvent_226 (fun H locs hM => ?_)
  refine lv_aload_n S.x S.b dX7_notesEvent_227 rfl (lv_at hl 0 rfl) ?_
  refine lv_bipush (v := (12 : Int32)) S.x S.b dX7_notesEvent_228 kb_12 ?_
  refine lv_aload_n S.x S.b dX7_notesEvent_230 rfl (lv_at hl 0 rfl) ?_
  refine lv_bipush (v := (9 : Int32)) S.x S.b dX7_notesEvent_231 kb_9 ?_
  obtain ⟨hi, hf⟩ := ck_some hf
  refine mm_ldr S hM jr hj hi dX7_notesEvent_233 ?_
  refine lv_iconst (v := (2 : Int32)) S.x S.b dX7_notesEvent_234 ki_2 ?_
  refine lv_icmp_ne (tgt := 244) S.x S.b dX7_notesEvent_235 rfl (fun cn => ?_) (fun cn => ?_)
  · have hf := if_f cn hf
    refine lv_aload_n S.x S.b dX7_notesEvent_244 rfl (lv_at hl 0 rfl) ?_
    refine lv_bipush (v := (12 : Int32)) S.x S.b dX7_notesEvent_245 kb_12 ?_
    obtain ⟨hi, hf⟩ := ck_some hf
    refine mm_ldr S hM jr hj hi dX7_notesEvent_247 ?_
    obtain ⟨hi, hf⟩ := ck_some hf
    obtain ⟨w_21, ew, hf⟩ := lt_some hf
    refine mm_str S hM jr hj hi ew dX7_notesEvent_248 (fun H locs hM => ?_)
    obtain rfl := rt1 hf
    exact g_vret S hM dX7_notesEvent_249
  · have hf := if_t cn hf
    refine lv_aload_n S.x S.b dX7_notesEvent_238 rfl (lv_at hl 0 rfl) ?_
    refine lv_iconst (v := (0 : Int32)) S.x S.b dX7_notesEvent_239 ki_0 ?_
    obtain ⟨hi, hf⟩ := ck_some hf
    refine mm_ldr S hM jr hj hi dX7_notesEvent_240 ?_
    refine lv_goto (tgt := 248) S.x S.b dX7_notesEvent_241 rfl ?_
    obtain ⟨hi, hf⟩ := ck_some hf
    obtain ⟨w_22, ew, hf⟩ := lt_some hf
    refine mm_str S hM jr hj hi ew dX7_notesEvent_248 (fun H locs hM => ?_)
    obtain rfl := rt1 hf
    exact g_vret S hM dX7_notesEvent_249
set_option maxHeartbeats 4000000 in
theorem wX7_notesEvent_138 {p : Program} {l : Launch} {e : Env} {s : State} {m : MethodId} {args : Array Value} {below : List Frame} {meth : Method} {c : Code} {D : va_G} {T : Nat → ClassId} {A : Nat → Prop} {h : Nat} {ad : Nat → Nat} {wr : MW} {N : Nat} {jr : Nat} (S : gS p s m args meth c cX7_notesEvent 7 (none) RX7 D T) (hj : Nat.ble (jr + 1) 2 = true) : ∀ (n : Nat) (x6 : Int32) (w : MW) (H : Heap) (locs : List Loc) (ls : Array Slot), gM D A s.heap (mmW h ad (T 0) w) H locs → lv_has ls 7 [(0, .ref h), (1, .ref (ad jr)), (6, .int x6)] → gX7_notesEvent_138 N jr n x6 w = some wr → W p l e rmX7_notesEvent s m args below meth c H locs 0 0 (MQ below (gQv D T A (mmW h ad (T 0) wr)) args s 0 0 A) (F0 m 138 ls []) := by
  intro n
  induction n with
  | zero =>
    intro x6 w H locs ls hM hl hf
    cases hf
  | succ n ih =>
    intro x6 w H locs ls hM hl hf
    refine lv_aload_n S.x S.b dX7_notesEvent_138 rfl (lv_at hl 0 rfl) ?_
    refine mm_g S hM 7 rfl q1455 rfl dX7_notesEvent_139 ?_
    refine lv_iload S.x S.b dX7_notesEvent_142 (lv_at hl 2 rfl) ?_
    obtain ⟨hi, hf⟩ := ck_some hf
    refine mm_ld S hM 5 rfl hi dX7_notesEvent_144 ?_
    refine lv_if_le (tgt := 172) S.x S.b dX7_notesEvent_145 rfl (fun cn => ?_) (fun cn => ?_)
    · have hf := if_t cn hf
      refine lv_aload_n S.x S.b dX7_notesEvent_172 rfl (lv_at hl 1 rfl) ?_
      refine lv_bipush (v := (7 : Int32)) S.x S.b dX7_notesEvent_173 kb_7 ?_
      refine lv_iload S.x S.b dX7_notesEvent_175 (lv_at hl 2 rfl) ?_
      obtain ⟨hi, hf⟩ := ck_some hf
      obtain ⟨w_12, ew, hf⟩ := lt_some hf
      refine mm_str S hM jr hj hi ew dX7_notesEvent_177 (fun H locs hM => ?_)
      refine lv_aload_n S.x S.b dX7_notesEvent_178 rfl (lv_at hl 1 rfl) ?_
      refine lv_bipush (v := (8 : Int32)) S.x S.b dX7_notesEvent_179 kb_8 ?_
      refine lv_aload_n S.x S.b dX7_notesEvent_181 rfl (lv_at hl 0 rfl) ?_
      refine lv_iload S.x S.b dX7_notesEvent_182 (lv_at hl 2 rfl) ?_
      obtain ⟨r_14, w_13, hc, hf⟩ := bd2_some hf
      refine mm_ci S hM hl [.int x6] rfl (metX7_movesOf hc) hdX7_movesOf q1444 q1446 qs31 q69 q1447 ⟨rfl, rfl⟩ ⟨rfl, rfl⟩ rfl rfl rfl ⟨Nat.zero_le _, Nat.zero_le _⟩ dX7_notesEvent_184 (fun H locs hM => ?_)
      obtain ⟨hi, hf⟩ := ck_some hf
      obtain ⟨w_15, ew, hf⟩ := lt_some hf
      refine mm_str S hM jr hj hi ew dX7_notesEvent_187 (fun H locs hM => ?_)
      refine lv_iload S.x S.b dX7_notesEvent_188 (lv_at hl 2 rfl) ?_
      refine lv_aload_n S.x S.b dX7_notesEvent_190 rfl (lv_at hl 0 rfl) ?_
      obtain ⟨r_17, w_16, hc, hf⟩ := bd2_some hf
      refine mm_ci S hM hl [] rfl (metX7_firstWithMoves hc) hdX7_firstWithMoves q1440 q1442 qs30 q69 q1443 ⟨rfl, rfl⟩ ⟨rfl, rfl⟩ rfl rfl rfl ⟨Nat.zero_le _, Nat.zero_le _⟩ dX7_notesEvent_191 (fun H locs hM => ?_)
      refine lv_icmp_ne (tgt := 249) S.x S.b dX7_notesEvent_194 rfl (fun cn => ?_) (fun cn => ?_)
      · have hf := if_f cn hf
        obtain rfl := rt1 hf
        exact g_vret S hM dX7_notesEvent_249
      · have hf := if_t cn hf
        refine lv_aload_n S.x S.b dX7_notesEvent_197 rfl (lv_at hl 1 rfl) ?_
        refine lv_bipush (v := (9 : Int32)) S.x S.b dX7_notesEvent_198 kb_9 ?_
        refine lv_dup2_11 S.x S.b dX7_notesEvent_200 rfl rfl ?_
        obtain ⟨hi, hf⟩ := ck_some hf
        refine mm_ldr S hM jr hj hi dX7_notesEvent_201 ?_
        refine lv_iconst (v := (1 : Int32)) S.x S.b dX7_notesEvent_202 ki_1 ?_
        refine lv_iadd S.x S.b dX7_notesEvent_203 ?_
        obtain ⟨hi, hf⟩ := ck_some hf
        obtain ⟨w_18, ew, hf⟩ := lt_some hf
        refine mm_str S hM jr hj hi ew dX7_notesEvent_204 (fun H locs hM => ?_)
        refine lv_aload_n S.x S.b dX7_notesEvent_205 rfl (lv_at hl 1 rfl) ?_
        refine lv_bipush (v := (11 : Int32)) S.x S.b dX7_notesEvent_206 kb_11 ?_
        refine lv_aload_n S.x S.b dX7_notesEvent_208 rfl (lv_at hl 1 rfl) ?_
        refine lv_bipush (v := (9 : Int32)) S.x S.b dX7_notesEvent_209 kb_9 ?_
        obtain ⟨hi, hf⟩ := ck_some hf
        refine mm_ldr S hM jr hj hi dX7_notesEvent_211 ?_
        refine lv_iconst (v := (1 : Int32)) S.x S.b dX7_notesEvent_212 ki_1 ?_
        refine lv_icmp_ne (tgt := 222) S.x S.b dX7_notesEvent_213 rfl (fun cn => ?_) (fun cn => ?_)
        · have hf := if_f cn hf
          refine lv_aload_n S.x S.b dX7_notesEvent_222 rfl (lv_at hl 1 rfl) ?_
          refine lv_bipush (v := (11 : Int32)) S.x S.b dX7_notesEvent_223 kb_11 ?_
          obtain ⟨hi, hf⟩ := ck_some hf
          refine mm_ldr S hM jr hj hi dX7_notesEvent_225 ?_
          exact wX7_notesEvent_226 S hj (w_18.2 jr (11 : Int32).toNatClampNeg) (11 : Int32) w_18 _ _ _ hM (lv_sub hl [1] rfl) hf
        · have hf := if_t cn hf
          refine lv_aload_n S.x S.b dX7_notesEvent_216 rfl (lv_at hl 1 rfl) ?_
          refine lv_iconst (v := (0 : Int32)) S.x S.b dX7_notesEvent_217 ki_0 ?_
          obtain ⟨hi, hf⟩ := ck_some hf
          refine mm_ldr S hM jr hj hi dX7_notesEvent_218 ?_
          refine lv_goto (tgt := 226) S.x S.b dX7_notesEvent_219 rfl ?_
          exact wX7_notesEvent_226 S hj (w_18.2 jr (0 : Int32).toNatClampNeg) (11 : Int32) w_18 _ _ _ hM (lv_sub hl [1] rfl) hf
    · have hf := if_f cn hf
      refine lv_iload S.x S.b dX7_notesEvent_148 (lv_at hl 2 rfl) ?_
      refine lv_iconst (v := (1 : Int32)) S.x S.b dX7_notesEvent_150 ki_1 ?_
      refine lv_iadd S.x S.b dX7_notesEvent_151 ?_
      refine lv_aload_n S.x S.b dX7_notesEvent_152 rfl (lv_at hl 0 rfl) ?_
      refine mm_g S hM 4 rfl q1452 rfl dX7_notesEvent_153 ?_
      refine lv_icmp_ge (tgt := 166) S.x S.b dX7_notesEvent_156 rfl (fun cn => ?_) (fun cn => ?_)
      · have hf := if_t cn hf
        refine lv_iconst (v := (0 : Int32)) S.x S.b dX7_notesEvent_166 ki_0 ?_
        refine g_ist S (x' := (0 : Int32)) rfl hl dX7_notesEvent_167 rfl (lv' := [(6, .int (0 : Int32)), (0, .ref h), (1, .ref (ad jr))]) rfl (fun ls hl => ?_)
        refine lv_goto (tgt := 138) S.x S.b dX7_notesEvent_169 rfl ?_
        exact ih (0 : Int32) w _ _ _ hM (lv_sub hl [1, 2, 0] rfl) hf
      · have hf := if_f cn hf
        refine lv_iload S.x S.b dX7_notesEvent_159 (lv_at hl 2 rfl) ?_
        refine lv_iconst (v := (1 : Int32)) S.x S.b dX7_notesEvent_161 ki_1 ?_
        refine lv_iadd S.x S.b dX7_notesEvent_162 ?_
        refine lv_goto (tgt := 167) S.x S.b dX7_notesEvent_163 rfl ?_
        obtain ⟨x6_19, ex, hf⟩ := lt_some hf
        refine g_ist S (x' := x6_19) ex hl dX7_notesEvent_167 rfl (lv' := [(6, .int x6_19), (0, .ref h), (1, .ref (ad jr))]) rfl (fun ls hl => ?_)
        refine lv_goto (tgt := 138) S.x S.b dX7_notesEvent_169 rfl ?_
        exact ih x6_19 w _ _ _ hM (lv_sub hl [1, 2, 0] rfl) hf
set_option maxHeartbeats 4000000 in
theorem wX7_notesEvent_58 {p : Program} {l : Launch} {e : Env} {s : State} {m : MethodId} {args : Array Value} {below : List Frame} {meth : Method} {c : Code} {D : va_G} {T : Nat → ClassId} {A : Nat → Prop} {h : Nat} {ad : Nat → Nat} {wr : MW} {N : Nat} {jr : Nat} (S : gS p s m args meth c cX7_notesEvent 7 (none) RX7 D T) (hj : Nat.ble (jr + 1) 2 = true) : ∀ (s0 : Int32) (s1 : Int32) (w : MW) (H : Heap) (locs : List Loc) (ls : Array Slot), gM D A s.heap (mmW h ad (T 0) w) H locs → lv_has ls 7 [(0, .ref h), (1, .ref (ad jr))] → gX7_notesEvent_58 N jr s0 s1 w = some wr → W p l e rmX7_notesEvent s m args below meth c H locs 0 0 (MQ below (gQv D T A (mmW h ad (T 0) wr)) args s 0 0 A) (F0 m 58 ls [.int s0, .int s1]) := by
  intro s0 s1 w H locs ls hM hl hf
  refine lv_ishl S.x S.b dX7_notesEvent_58 ?_
  obtain ⟨x5_5, ex, hf⟩ := lt_some hf
  refine g_ist S (x' := x5_5) ex hl dX7_notesEvent_59 rfl (lv' := [(5, .int x5_5), (0, .ref h), (1, .ref (ad jr))]) rfl (fun ls hl => ?_)
  refine lv_aload_n S.x S.b dX7_notesEvent_61 rfl (lv_at hl 2 rfl) ?_
  refine lv_bipush (v := (6 : Int32)) S.x S.b dX7_notesEvent_62 kb_6 ?_
  obtain ⟨hi, hf⟩ := ck_some hf
  refine mm_ldr S hM jr hj hi dX7_notesEvent_64 ?_
  refine lv_iconst (v := (1 : Int32)) S.x S.b dX7_notesEvent_65 ki_1 ?_
  refine lv_icmp_eq (tgt := 79) S.x S.b dX7_notesEvent_66 rfl (fun cn => ?_) (fun cn => ?_)
  · have hf := if_t cn hf
    refine lv_aload_n S.x S.b dX7_notesEvent_79 rfl (lv_at hl 2 rfl) ?_
    refine lv_bipush (v := (6 : Int32)) S.x S.b dX7_notesEvent_80 kb_6 ?_
    refine lv_iconst (v := (1 : Int32)) S.x S.b dX7_notesEvent_82 ki_1 ?_
    obtain ⟨hi, hf⟩ := ck_some hf
    obtain ⟨w_6, ew, hf⟩ := lt_some hf
    refine mm_str S hM jr hj hi ew dX7_notesEvent_83 (fun H locs hM => ?_)
    obtain rfl := rt1 hf
    exact g_vret S hM dX7_notesEvent_84
  · have hf := if_f cn hf
    refine lv_aload_n S.x S.b dX7_notesEvent_69 rfl (lv_at hl 2 rfl) ?_
    refine lv_bipush (v := (8 : Int32)) S.x S.b dX7_notesEvent_70 kb_8 ?_
    obtain ⟨hi, hf⟩ := ck_some hf
    refine mm_ldr S hM jr hj hi dX7_notesEvent_72 ?_
    refine lv_iload S.x S.b dX7_notesEvent_73 (lv_at hl 0 rfl) ?_
    refine lv_iand S.x S.b dX7_notesEvent_75 ?_
    refine lv_if_ne (tgt := 85) S.x S.b dX7_notesEvent_76 rfl (fun cn => ?_) (fun cn => ?_)
    · have hf := if_f cn hf
      refine lv_aload_n S.x S.b dX7_notesEvent_85 rfl (lv_at hl 2 rfl) ?_
      refine lv_iconst (v := (5 : Int32)) S.x S.b dX7_notesEvent_86 ki_5 ?_
      refine lv_dup2_11 S.x S.b dX7_notesEvent_87 rfl rfl ?_
      obtain ⟨hi, hf⟩ := ck_some hf
      refine mm_ldr S hM jr hj hi dX7_notesEvent_88 ?_
      refine lv_iconst (v := (1 : Int32)) S.x S.b dX7_notesEvent_89 ki_1 ?_
      refine lv_iadd S.x S.b dX7_notesEvent_90 ?_
      obtain ⟨hi, hf⟩ := ck_some hf
      obtain ⟨w_7, ew, hf⟩ := lt_some hf
      refine mm_str S hM jr hj hi ew dX7_notesEvent_91 (fun H locs hM => ?_)
      refine lv_aload_n S.x S.b dX7_notesEvent_92 rfl (lv_at hl 2 rfl) ?_
      refine lv_bipush (v := (8 : Int32)) S.x S.b dX7_notesEvent_93 kb_8 ?_
      refine lv_dup2_11 S.x S.b dX7_notesEvent_95 rfl rfl ?_
      obtain ⟨hi, hf⟩ := ck_some hf
      refine mm_ldr S hM jr hj hi dX7_notesEvent_96 ?_
      refine lv_iload S.x S.b dX7_notesEvent_97 (lv_at hl 0 rfl) ?_
      refine lv_iconst (v := (-1 : Int32)) S.x S.b dX7_notesEvent_99 ki_m1 ?_
      refine lv_ixor S.x S.b dX7_notesEvent_100 ?_
      refine lv_iand S.x S.b dX7_notesEvent_101 ?_
      obtain ⟨hi, hf⟩ := ck_some hf
      obtain ⟨w_8, ew, hf⟩ := lt_some hf
      refine mm_str S hM jr hj hi ew dX7_notesEvent_102 (fun H locs hM => ?_)
      refine lv_aload_n S.x S.b dX7_notesEvent_103 rfl (lv_at hl 2 rfl) ?_
      refine lv_bipush (v := (8 : Int32)) S.x S.b dX7_notesEvent_104 kb_8 ?_
      obtain ⟨hi, hf⟩ := ck_some hf
      refine mm_ldr S hM jr hj hi dX7_notesEvent_106 ?_
      refine lv_if_eq (tgt := 111) S.x S.b dX7_notesEvent_107 rfl (fun cn => ?_) (fun cn => ?_)
      · have hf := if_t cn hf
        refine lv_aload_n S.x S.b dX7_notesEvent_111 rfl (lv_at hl 2 rfl) ?_
        refine lv_bipush (v := (7 : Int32)) S.x S.b dX7_notesEvent_112 kb_7 ?_
        obtain ⟨hi, hf⟩ := ck_some hf
        refine mm_ldr S hM jr hj hi dX7_notesEvent_114 ?_
        obtain ⟨x6_9, ex, hf⟩ := lt_some hf
        refine g_ist S (x' := x6_9) ex hl dX7_notesEvent_115 rfl (lv' := [(6, .int x6_9), (5, .int x5_5), (0, .ref h), (1, .ref (ad jr))]) rfl (fun ls hl => ?_)
        refine lv_iload S.x S.b dX7_notesEvent_117 (lv_at hl 0 rfl) ?_
        refine lv_iconst (v := (1 : Int32)) S.x S.b dX7_notesEvent_119 ki_1 ?_
        refine lv_iadd S.x S.b dX7_notesEvent_120 ?_
        refine lv_aload_n S.x S.b dX7_notesEvent_121 rfl (lv_at hl 2 rfl) ?_
        refine mm_g S hM 4 rfl q1452 rfl dX7_notesEvent_122 ?_
        refine lv_icmp_ge (tgt := 135) S.x S.b dX7_notesEvent_125 rfl (fun cn => ?_) (fun cn => ?_)
        · have hf := if_t cn hf
          refine lv_iconst (v := (0 : Int32)) S.x S.b dX7_notesEvent_135 ki_0 ?_
          refine g_ist S (x' := (0 : Int32)) rfl hl dX7_notesEvent_136 rfl (lv' := [(6, .int (0 : Int32)), (5, .int x5_5), (0, .ref h), (1, .ref (ad jr))]) rfl (fun ls hl => ?_)
          exact wX7_notesEvent_138 S hj N (0 : Int32) w_8 _ _ _ hM (lv_sub hl [2, 3, 0] rfl) hf
        · have hf := if_f cn hf
          refine lv_iload S.x S.b dX7_notesEvent_128 (lv_at hl 0 rfl) ?_
          refine lv_iconst (v := (1 : Int32)) S.x S.b dX7_notesEvent_130 ki_1 ?_
          refine lv_iadd S.x S.b dX7_notesEvent_131 ?_
          refine lv_goto (tgt := 136) S.x S.b dX7_notesEvent_132 rfl ?_
          obtain ⟨x6_10, ex, hf⟩ := lt_some hf
          refine g_ist S (x' := x6_10) ex hl dX7_notesEvent_136 rfl (lv' := [(6, .int x6_10), (5, .int x5_5), (0, .ref h), (1, .ref (ad jr))]) rfl (fun ls hl => ?_)
          exact wX7_notesEvent_138 S hj N x6_10 w_8 _ _ _ hM (lv_sub hl [2, 3, 0] rfl) hf
      · have hf := if_f cn hf
        obtain rfl := rt1 hf
        exact g_vret S hM dX7_notesEvent_110
    · have hf := if_t cn hf
      refine lv_aload_n S.x S.b dX7_notesEvent_79 rfl (lv_at hl 2 rfl) ?_
      refine lv_bipush (v := (6 : Int32)) S.x S.b dX7_notesEvent_80 kb_6 ?_
      refine lv_iconst (v := (1 : Int32)) S.x S.b dX7_notesEvent_82 ki_1 ?_
      obtain ⟨hi, hf⟩ := ck_some hf
      obtain ⟨w_11, ew, hf⟩ := lt_some hf
      refine mm_str S hM jr hj hi ew dX7_notesEvent_83 (fun H locs hM => ?_)
      obtain rfl := rt1 hf
      exact g_vret S hM dX7_notesEvent_84
set_option maxHeartbeats 4000000 in
theorem wX7_notesEvent_36 {p : Program} {l : Launch} {e : Env} {s : State} {m : MethodId} {args : Array Value} {below : List Frame} {meth : Method} {c : Code} {D : va_G} {T : Nat → ClassId} {A : Nat → Prop} {h : Nat} {ad : Nat → Nat} {wr : MW} {N : Nat} {jr : Nat} (S : gS p s m args meth c cX7_notesEvent 7 (none) RX7 D T) (hj : Nat.ble (jr + 1) 2 = true) : ∀ (x2 : Int32) (x3 : Int32) (s0 : Int32) (s1 : Int32) (s2 : Int32) (w : MW) (H : Heap) (locs : List Loc) (ls : Array Slot), gM D A s.heap (mmW h ad (T 0) w) H locs → lv_has ls 7 [(0, .ref h), (1, .ref (ad jr)), (2, .int x2), (3, .int x3)] → gX7_notesEvent_36 N jr x2 x3 s0 s1 s2 w = some wr → W p l e rmX7_notesEvent s m args below meth c H locs 0 0 (MQ below (gQv D T A (mmW h ad (T 0) wr)) args s 0 0 A) (F0 m 36 ls [.int s0, .int s1, .int s2, .ref (ad jr)]) := by
  intro x2 x3 s0 s1 s2 w H locs ls hM hl hf
  refine lv_iadd S.x S.b dX7_notesEvent_36 ?_
  obtain ⟨hi, hf⟩ := ck_some hf
  obtain ⟨w_3, ew, hf⟩ := lt_some hf
  refine mm_str S hM jr hj hi ew dX7_notesEvent_37 (fun H locs hM => ?_)
  refine lv_aload_n S.x S.b dX7_notesEvent_38 rfl (lv_at hl 1 rfl) ?_
  refine lv_iconst (v := (4 : Int32)) S.x S.b dX7_notesEvent_39 ki_4 ?_
  refine lv_dup2_11 S.x S.b dX7_notesEvent_40 rfl rfl ?_
  obtain ⟨hi, hf⟩ := ck_some hf
  refine mm_ldr S hM jr hj hi dX7_notesEvent_41 ?_
  refine lv_iconst (v := (1 : Int32)) S.x S.b dX7_notesEvent_42 ki_1 ?_
  refine lv_iadd S.x S.b dX7_notesEvent_43 ?_
  obtain ⟨hi, hf⟩ := ck_some hf
  obtain ⟨w_4, ew, hf⟩ := lt_some hf
  refine mm_str S hM jr hj hi ew dX7_notesEvent_44 (fun H locs hM => ?_)
  refine lv_iconst (v := (1 : Int32)) S.x S.b dX7_notesEvent_45 ki_1 ?_
  refine lv_iload_n S.x S.b dX7_notesEvent_46 rfl (lv_at hl 3 rfl) ?_
  refine lv_if_eq (tgt := 54) S.x S.b dX7_notesEvent_47 rfl (fun cn => ?_) (fun cn => ?_)
  · have hf := if_t cn hf
    refine lv_bipush (v := (6 : Int32)) S.x S.b dX7_notesEvent_54 kb_6 ?_
    refine lv_iload_n S.x S.b dX7_notesEvent_56 rfl (lv_at hl 2 rfl) ?_
    refine lv_iadd S.x S.b dX7_notesEvent_57 ?_
    exact wX7_notesEvent_58 S hj ((6 : Int32) + x2) (1 : Int32) w_4 _ _ _ hM (lv_sub hl [0, 1] rfl) hf
  · have hf := if_f cn hf
    refine lv_iload_n S.x S.b dX7_notesEvent_50 rfl (lv_at hl 2 rfl) ?_
    refine lv_goto (tgt := 58) S.x S.b dX7_notesEvent_51 rfl ?_
    exact wX7_notesEvent_58 S hj x2 (1 : Int32) w_4 _ _ _ hM (lv_sub hl [0, 1] rfl) hf
set_option maxHeartbeats 4000000 in
theorem metX7_notesEvent {l : Launch} {D : va_G} {T : Nat → ClassId} {h : Nat} {ad : Nat → Nat} {wr : MW} {N : Nat} {x2 : Int32} {x3 : Int32} {w : MW} {jr : Nat} (hj : Nat.ble (jr + 1) 2 = true) (hf : gX7_notesEvent N jr x2 x3 w = some wr) (sz : Nat) : MetV l yX7_notesEvent (ws_ yX7_notesEvent cX7_notesEvent 7 (none)) rmX7_notesEvent D T (mmW h ad (T 0) w) sz [.ref h, .ref (ad jr), .int x2, .int x3] (mmW h ad (T 0) wr) := by
  refine g_entry (Qc := fun A => gQv D T A (mmW h ad (T 0) wr)) (by decide) rfl ?_
  intro p e s m below meth c ls S hM hl
  have hl : lv_has ls 7 [(0, .ref h), (1, .ref (ad jr)), (2, .int x2), (3, .int x3)] := hl
  refine lv_aload_n S.x S.b dX7_notesEvent_0 rfl (lv_at hl 1 rfl) ?_
  refine lv_iconst (v := (4 : Int32)) S.x S.b dX7_notesEvent_1 ki_4 ?_
  obtain ⟨hi, hf⟩ := ck_some hf
  refine mm_ldr S hM jr hj hi dX7_notesEvent_2 ?_
  refine lv_bipush (v := (40 : Int32)) S.x S.b dX7_notesEvent_3 kb_40 ?_
  refine lv_irem S.x S.b dX7_notesEvent_5 (by decide) ?_
  obtain ⟨x4_1, ex, hf⟩ := lt_some hf
  refine g_ist S (x' := x4_1) ex hl dX7_notesEvent_6 rfl (lv' := [(4, .int x4_1), (0, .ref h), (1, .ref (ad jr)), (2, .int x2), (3, .int x3)]) rfl (fun ls hl => ?_)
  refine lv_aload_n S.x S.b dX7_notesEvent_8 rfl (lv_at hl 2 rfl) ?_
  refine lv_bipush (v := (60 : Int32)) S.x S.b dX7_notesEvent_9 kb_60 ?_
  refine lv_iload S.x S.b dX7_notesEvent_11 (lv_at hl 0 rfl) ?_
  refine lv_iadd S.x S.b dX7_notesEvent_13 ?_
  refine lv_aload_n S.x S.b dX7_notesEvent_14 rfl (lv_at hl 2 rfl) ?_
  refine lv_iconst (v := (0 : Int32)) S.x S.b dX7_notesEvent_15 ki_0 ?_
  obtain ⟨hi, hf⟩ := ck_some hf
  refine mm_ldr S hM jr hj hi dX7_notesEvent_16 ?_
  obtain ⟨hi, hf⟩ := ck_some hf
  obtain ⟨w_2, ew, hf⟩ := lt_some hf
  refine mm_str S hM jr hj hi ew dX7_notesEvent_17 (fun H locs hM => ?_)
  refine lv_aload_n S.x S.b dX7_notesEvent_18 rfl (lv_at hl 2 rfl) ?_
  refine lv_bipush (v := (100 : Int32)) S.x S.b dX7_notesEvent_19 kb_100 ?_
  refine lv_iload S.x S.b dX7_notesEvent_21 (lv_at hl 0 rfl) ?_
  refine lv_iadd S.x S.b dX7_notesEvent_23 ?_
  refine lv_iconst (v := (2 : Int32)) S.x S.b dX7_notesEvent_24 ki_2 ?_
  refine lv_iload_n S.x S.b dX7_notesEvent_25 rfl (lv_at hl 3 rfl) ?_
  refine lv_imul S.x S.b dX7_notesEvent_26 ?_
  refine lv_iload_n S.x S.b dX7_notesEvent_27 rfl (lv_at hl 4 rfl) ?_
  refine lv_if_eq (tgt := 35) S.x S.b dX7_notesEvent_28 rfl (fun cn => ?_) (fun cn => ?_)
  · have hf := if_t cn hf
    refine lv_iconst (v := (0 : Int32)) S.x S.b dX7_notesEvent_35 ki_0 ?_
    exact wX7_notesEvent_36 S hj x2 x3 (0 : Int32) ((2 : Int32) * x2) ((100 : Int32) + x4_1) w_2 _ _ _ hM (lv_sub hl [1, 2, 3, 4] rfl) hf
  · have hf := if_f cn hf
    refine lv_iconst (v := (1 : Int32)) S.x S.b dX7_notesEvent_31 ki_1 ?_
    refine lv_goto (tgt := 36) S.x S.b dX7_notesEvent_32 rfl ?_
    exact wX7_notesEvent_36 S hj x2 x3 (1 : Int32) ((2 : Int32) * x2) ((100 : Int32) + x4_1) w_2 _ _ _ hM (lv_sub hl [1, 2, 3, 4] rfl) hf
/-! SequenceBenchModel.ticksOnce([I)V -/
theorem hdX7_ticksOnce : gHd yX7_ticksOnce 1 := by decide +kernel
def gX7_ticksOnce_55 (N : Nat) (jr : Nat) (k24 : Int32 → Int32 → Int32 → Int32 → Int32 → MW → Option (MW)) (x2 : Int32) (x3 : Int32) (x4 : Int32) (x5 : Int32) (x6 : Int32) (s0 : Int32) (w : MW) : Option (MW) :=
  if s0 ≤ 0 then (
  if 0 ≤ s0 then (
  lt ((x5 ||| (0 : Int32))) fun x5_6 =>
  lt (x6 + (1 : Int32)) fun x6_7 =>
  k24 x2 x3 x4 x5_6 x6_7 w)
  else (
  lt ((x5 ||| (2 : Int32))) fun x5_8 =>
  lt (x6 + (1 : Int32)) fun x6_9 =>
  k24 x2 x3 x4 x5_8 x6_9 w))
  else (
  lt ((x5 ||| (1 : Int32))) fun x5_10 =>
  lt (x6 + (1 : Int32)) fun x6_11 =>
  k24 x2 x3 x4 x5_10 x6_11 w)
def gX7_ticksOnce_123 (N : Nat) (jr : Nat) (k11 : Int32 → Int32 → Int32 → MW → Option (MW)) (x2 : Int32) (x3 : Int32) (x4 : Int32) (s0 : Int32) (w : MW) : Option (MW) :=
  ck ((26 : Int32) + x4) 140 <|
  if s0 = (w.2 jr ((26 : Int32) + x4).toNatClampNeg) then (
  lt (x4 + (1 : Int32)) fun x4_12 =>
  k11 x2 x3 x4_12 w)
  else (
  ck ((26 : Int32) + x4) 140 <|
  lt (setA w jr ((26 : Int32) + x4).toNatClampNeg s0) fun w_13 =>
  if s0 = (1 : Int32) then (
  bd (gX7_notesEvent N jr x4 (1 : Int32) w_13) fun w_16 =>
  lt (x4 + (1 : Int32)) fun x4_17 =>
  k11 x2 (1 : Int32) x4_17 w_16)
  else (
  bd (gX7_notesEvent N jr x4 (0 : Int32) w_13) fun w_14 =>
  lt (x4 + (1 : Int32)) fun x4_15 =>
  k11 x2 (1 : Int32) x4_15 w_14))
def gX7_ticksOnce_24 (N : Nat) (jr : Nat) (k11 : Int32 → Int32 → Int32 → MW → Option (MW)) : Nat → Int32 → Int32 → Int32 → Int32 → Int32 → MW → Option (MW)
  | 0, _, _, _, _, _, _ => none
  | n + 1, x2, x3, x4, x5, x6, w =>
    if (w.1 4) ≤ x6 then (
    ck ((32 : Int32) + x4) 140 <|
    lt (setA w jr ((32 : Int32) + x4).toNatClampNeg x5) fun w_3 =>
    if x5 = (1 : Int32) then (
    gX7_ticksOnce_123 N jr k11 x2 x3 x4 (1 : Int32) w_3)
    else (
    if x5 = (2 : Int32) then (
    gX7_ticksOnce_123 N jr k11 x2 x3 x4 (0 : Int32) w_3)
    else (
    ck ((26 : Int32) + x4) 140 <|
    gX7_ticksOnce_123 N jr k11 x2 x3 x4 (w_3.2 jr ((26 : Int32) + x4).toNatClampNeg) w_3)))
    else (
    if ((x2 >>> (x6 &&& 31)) &&& (1 : Int32)) = (1 : Int32) then (
    bd2 (gX7_directionOf x6 x4 w) fun r_5 w_4 =>
    gX7_ticksOnce_55 N jr (gX7_ticksOnce_24 N jr k11 n) x2 x3 x4 x5 x6 r_5 w_4)
    else (
    gX7_ticksOnce_55 N jr (gX7_ticksOnce_24 N jr k11 n) x2 x3 x4 x5 x6 (0 : Int32) w))
def gX7_ticksOnce_252 (N : Nat) (jr : Nat) (k175 : Int32 → Int32 → Int32 → MW → Option (MW)) (x2 : Int32) (x3 : Int32) (x4 : Int32) (s0 : Int32) (w : MW) : Option (MW) :=
  ck ((20 : Int32) + x4) 140 <|
  ck ((20 : Int32) + x4) 140 <|
  lt (setA w jr ((20 : Int32) + x4).toNatClampNeg ((w.2 jr ((20 : Int32) + x4).toNatClampNeg) + s0)) fun w_22 =>
  if x3 = 0 then (
  if s0 = 0 then (
  lt (x4 + (1 : Int32)) fun x4_24 =>
  k175 x2 (0 : Int32) x4_24 w_22)
  else (
  lt (x4 + (1 : Int32)) fun x4_25 =>
  k175 x2 (1 : Int32) x4_25 w_22))
  else (
  lt (x4 + (1 : Int32)) fun x4_23 =>
  k175 x2 (1 : Int32) x4_23 w_22)
def gX7_ticksOnce_231 (N : Nat) (jr : Nat) (k175 : Int32 → Int32 → Int32 → MW → Option (MW)) (x2 : Int32) (x3 : Int32) (x4 : Int32) (w : MW) : Option (MW) :=
  gX7_ticksOnce_252 N jr k175 x2 x3 x4 (0 : Int32) w
def gX7_ticksOnce_204 (N : Nat) (jr : Nat) (k175 : Int32 → Int32 → Int32 → MW → Option (MW)) (x2 : Int32) (x3 : Int32) (x4 : Int32) (s0 : Int32) (w : MW) : Option (MW) :=
  ck ((38 : Int32) + x4) 140 <|
  if ((w.2 jr ((38 : Int32) + x4).toNatClampNeg) &&& (1 : Int32)) = (1 : Int32) then (
  gX7_ticksOnce_231 N jr k175 x2 x3 x4 w)
  else (
  ck ((20 : Int32) + x4) 140 <|
  if (w.2 jr ((20 : Int32) + x4).toNatClampNeg) = s0 then (
  gX7_ticksOnce_231 N jr k175 x2 x3 x4 w)
  else (
  ck ((20 : Int32) + x4) 140 <|
  if s0 ≤ (w.2 jr ((20 : Int32) + x4).toNatClampNeg) then (
  gX7_ticksOnce_252 N jr k175 x2 x3 x4 (-1 : Int32) w)
  else (
  gX7_ticksOnce_252 N jr k175 x2 x3 x4 (1 : Int32) w)))
def gX7_ticksOnce_333 (N : Nat) (jr : Nat) (k290 : Int32 → Int32 → Int32 → MW → Option (MW)) (x2 : Int32) (x3 : Int32) (x4 : Int32) (x5 : Int32) (s0 : Int32) (w : MW) : Option (MW) :=
  if s0 = 0 then (
  ck ((44 : Int32) + x4) 140 <|
  lt (setA w jr ((44 : Int32) + x4).toNatClampNeg (0 : Int32)) fun w_30 =>
  lt (x4 + (1 : Int32)) fun x4_31 =>
  k290 x2 x3 x4_31 w_30)
  else (
  if (60 : Int32) ≤ x5 then (
  ck ((44 : Int32) + x4) 140 <|
  lt (setA w jr ((44 : Int32) + x4).toNatClampNeg (60 : Int32)) fun w_26 =>
  lt (x4 + (1 : Int32)) fun x4_27 =>
  k290 x2 x3 x4_27 w_26)
  else (
  ck ((44 : Int32) + x4) 140 <|
  lt (setA w jr ((44 : Int32) + x4).toNatClampNeg (x5 + (1 : Int32))) fun w_28 =>
  lt (x4 + (1 : Int32)) fun x4_29 =>
  k290 x2 x3 x4_29 w_28))
def gX7_ticksOnce_332 (N : Nat) (jr : Nat) (k290 : Int32 → Int32 → Int32 → MW → Option (MW)) (x2 : Int32) (x3 : Int32) (x4 : Int32) (x5 : Int32) (w : MW) : Option (MW) :=
  gX7_ticksOnce_333 N jr k290 x2 x3 x4 x5 (0 : Int32) w
def gX7_ticksOnce_290 (N : Nat) (jr : Nat) : Nat → Int32 → Int32 → Int32 → MW → Option (MW)
  | 0, _, _, _, _ => none
  | n + 1, x2, x3, x4, w =>
    if (w.1 4) ≤ x4 then (
    ck (0 : Int32) 140 <|
    ck (0 : Int32) 140 <|
    lt (setA w jr (0 : Int32).toNatClampNeg ((w.2 jr (0 : Int32).toNatClampNeg) + (1 : Int32))) fun w_18 =>
    if x3 = 0 then (
    ck (10 : Int32) 140 <|
    ck (10 : Int32) 140 <|
    lt (setA w_18 jr (10 : Int32).toNatClampNeg ((w_18.2 jr (10 : Int32).toNatClampNeg) + (1 : Int32))) fun w_19 =>
    some w_19)
    else (
    ck (10 : Int32) 140 <|
    lt (setA w_18 jr (10 : Int32).toNatClampNeg (0 : Int32)) fun w_20 =>
    some w_20))
    else (
    ck ((44 : Int32) + x4) 140 <|
    lt ((w.2 jr ((44 : Int32) + x4).toNatClampNeg)) fun x5_21 =>
    ck x4 16 <|
    if (w.2 5 x4.toNatClampNeg) ≤ 0 then (
    gX7_ticksOnce_332 N jr (gX7_ticksOnce_290 N jr n) x2 x3 x4 x5_21 w)
    else (
    if ((x2 >>> (x4 &&& 31)) &&& (1 : Int32)) = (1 : Int32) then (
    gX7_ticksOnce_333 N jr (gX7_ticksOnce_290 N jr n) x2 x3 x4 x5_21 (1 : Int32) w)
    else (
    gX7_ticksOnce_332 N jr (gX7_ticksOnce_290 N jr n) x2 x3 x4 x5_21 w)))
def gX7_ticksOnce_175 (N : Nat) (jr : Nat) : Nat → Int32 → Int32 → Int32 → MW → Option (MW)
  | 0, _, _, _, _ => none
  | n + 1, x2, x3, x4, w =>
    if (6 : Int32) ≤ x4 then (
    gX7_ticksOnce_290 N jr N x2 x3 (0 : Int32) w)
    else (
    ck ((26 : Int32) + x4) 140 <|
    if (w.2 jr ((26 : Int32) + x4).toNatClampNeg) = (1 : Int32) then (
    ck x4 6 <|
    gX7_ticksOnce_204 N jr (gX7_ticksOnce_175 N jr n) x2 x3 x4 (w.2 2 x4.toNatClampNeg) w)
    else (
    gX7_ticksOnce_204 N jr (gX7_ticksOnce_175 N jr n) x2 x3 x4 (0 : Int32) w))
def gX7_ticksOnce_11 (N : Nat) (jr : Nat) : Nat → Int32 → Int32 → Int32 → MW → Option (MW)
  | 0, _, _, _, _ => none
  | n + 1, x2, x3, x4, w =>
    if (6 : Int32) ≤ x4 then (
    gX7_ticksOnce_175 N jr N x2 x3 (0 : Int32) w)
    else (
    gX7_ticksOnce_24 N jr (gX7_ticksOnce_11 N jr n) N x2 x3 x4 (0 : Int32) (0 : Int32) w)
def gX7_ticksOnce (N : Nat) (jr : Nat) (w : MW) : Option (MW) :=
  bd2 (gX7_decides N jr w) fun r_2 w_1 =>
  gX7_ticksOnce_11 N jr N r_2 (0 : Int32) (0 : Int32) w_1
abbrev rmX7_ticksOnce : Room := { frames := 4, cells := 0, slots := 0, locals := 89 }
set_option maxHeartbeats 4000000 in
theorem wX7_ticksOnce_55 {p : Program} {l : Launch} {e : Env} {s : State} {m : MethodId} {args : Array Value} {below : List Frame} {meth : Method} {c : Code} {D : va_G} {T : Nat → ClassId} {A : Nat → Prop} {h : Nat} {ad : Nat → Nat} {wr : MW} {N : Nat} {jr : Nat} (S : gS p s m args meth c cX7_ticksOnce 8 (none) RX7 D T) (hj : Nat.ble (jr + 1) 2 = true) {k24 : Int32 → Int32 → Int32 → Int32 → Int32 → MW → Option (MW)} (hk24 : ∀ (x2 : Int32) (x3 : Int32) (x4 : Int32) (x5 : Int32) (x6 : Int32) (w : MW) (H : Heap) (locs : List Loc) (ls : Array Slot), gM D A s.heap (mmW h ad (T 0) w) H locs → lv_has ls 8 [(0, .ref h), (1, .ref (ad jr)), (2, .int x2), (3, .int x3), (4, .int x4), (5, .int x5), (6, .int x6)] → k24 x2 x3 x4 x5 x6 w = some wr → W p l e rmX7_ticksOnce s m args below meth c H locs 0 0 (MQ below (gQv D T A (mmW h ad (T 0) wr)) args s 0 0 A) (F0 m 24 ls [])) : ∀ (x2 : Int32) (x3 : Int32) (x4 : Int32) (x5 : Int32) (x6 : Int32) (s0 : Int32) (w : MW) (H : Heap) (locs : List Loc) (ls : Array Slot), gM D A s.heap (mmW h ad (T 0) w) H locs → lv_has ls 8 [(0, .ref h), (1, .ref (ad jr)), (2, .int x2), (3, .int x3), (4, .int x4), (5, .int x5), (6, .int x6)] → gX7_ticksOnce_55 N jr k24 x2 x3 x4 x5 x6 s0 w = some wr → W p l e rmX7_ticksOnce s m args below meth c H locs 0 0 (MQ below (gQv D T A (mmW h ad (T 0) wr)) args s 0 0 A) (F0 m 55 ls [.int s0]) := by
  intro x2 x3 x4 x5 x6 s0 w H locs ls hM hl hf
  refine g_ist S (x' := s0) rfl hl dX7_ticksOnce_55 rfl (lv' := [(7, .int s0), (0, .ref h), (1, .ref (ad jr)), (2, .int x2), (3, .int x3), (4, .int x4), (5, .int x5), (6, .int x6)]) rfl (fun ls hl => ?_)
  refine lv_iload S.x S.b dX7_ticksOnce_57 (lv_at hl 6 rfl) ?_
  refine lv_iload S.x S.b dX7_ticksOnce_59 (lv_at hl 0 rfl) ?_
  refine lv_if_le (tgt := 68) S.x S.b dX7_ticksOnce_61 rfl (fun cn => ?_) (fun cn => ?_)
  · have hf := if_t cn hf
    refine lv_iload S.x S.b dX7_ticksOnce_68 (lv_at hl 0 rfl) ?_
    refine lv_if_ge (tgt := 77) S.x S.b dX7_ticksOnce_70 rfl (fun cn => ?_) (fun cn => ?_)
    · have hf := if_t cn hf
      refine lv_iconst (v := (0 : Int32)) S.x S.b dX7_ticksOnce_77 ki_0 ?_
      refine lv_ior S.x S.b dX7_ticksOnce_78 ?_
      obtain ⟨x5_6, ex, hf⟩ := lt_some hf
      refine g_ist S (x' := x5_6) ex hl dX7_ticksOnce_79 rfl (lv' := [(5, .int x5_6), (7, .int s0), (0, .ref h), (1, .ref (ad jr)), (2, .int x2), (3, .int x3), (4, .int x4), (6, .int x6)]) rfl (fun ls hl => ?_)
      obtain ⟨x6_7, ex, hf⟩ := lt_some hf
      refine g_inc S (x' := x6_7) (d := (1 : Int32)) hl (k := 7) rfl ki_1 ex dX7_ticksOnce_81 rfl (lv' := [(6, .int x6_7), (5, .int x5_6), (7, .int s0), (0, .ref h), (1, .ref (ad jr)), (2, .int x2), (3, .int x3), (4, .int x4)]) rfl (fun ls hl => ?_)
      refine lv_goto (tgt := 24) S.x S.b dX7_ticksOnce_84 rfl ?_
      exact hk24 x2 x3 x4 x5_6 x6_7 w _ _ _ hM (lv_sub hl [3, 4, 5, 6, 7, 1, 0] rfl) hf
    · have hf := if_f cn hf
      refine lv_iconst (v := (2 : Int32)) S.x S.b dX7_ticksOnce_73 ki_2 ?_
      refine lv_goto (tgt := 78) S.x S.b dX7_ticksOnce_74 rfl ?_
      refine lv_ior S.x S.b dX7_ticksOnce_78 ?_
      obtain ⟨x5_8, ex, hf⟩ := lt_some hf
      refine g_ist S (x' := x5_8) ex hl dX7_ticksOnce_79 rfl (lv' := [(5, .int x5_8), (7, .int s0), (0, .ref h), (1, .ref (ad jr)), (2, .int x2), (3, .int x3), (4, .int x4), (6, .int x6)]) rfl (fun ls hl => ?_)
      obtain ⟨x6_9, ex, hf⟩ := lt_some hf
      refine g_inc S (x' := x6_9) (d := (1 : Int32)) hl (k := 7) rfl ki_1 ex dX7_ticksOnce_81 rfl (lv' := [(6, .int x6_9), (5, .int x5_8), (7, .int s0), (0, .ref h), (1, .ref (ad jr)), (2, .int x2), (3, .int x3), (4, .int x4)]) rfl (fun ls hl => ?_)
      refine lv_goto (tgt := 24) S.x S.b dX7_ticksOnce_84 rfl ?_
      exact hk24 x2 x3 x4 x5_8 x6_9 w _ _ _ hM (lv_sub hl [3, 4, 5, 6, 7, 1, 0] rfl) hf
  · have hf := if_f cn hf
    refine lv_iconst (v := (1 : Int32)) S.x S.b dX7_ticksOnce_64 ki_1 ?_
    refine lv_goto (tgt := 78) S.x S.b dX7_ticksOnce_65 rfl ?_
    refine lv_ior S.x S.b dX7_ticksOnce_78 ?_
    obtain ⟨x5_10, ex, hf⟩ := lt_some hf
    refine g_ist S (x' := x5_10) ex hl dX7_ticksOnce_79 rfl (lv' := [(5, .int x5_10), (7, .int s0), (0, .ref h), (1, .ref (ad jr)), (2, .int x2), (3, .int x3), (4, .int x4), (6, .int x6)]) rfl (fun ls hl => ?_)
    obtain ⟨x6_11, ex, hf⟩ := lt_some hf
    refine g_inc S (x' := x6_11) (d := (1 : Int32)) hl (k := 7) rfl ki_1 ex dX7_ticksOnce_81 rfl (lv' := [(6, .int x6_11), (5, .int x5_10), (7, .int s0), (0, .ref h), (1, .ref (ad jr)), (2, .int x2), (3, .int x3), (4, .int x4)]) rfl (fun ls hl => ?_)
    refine lv_goto (tgt := 24) S.x S.b dX7_ticksOnce_84 rfl ?_
    exact hk24 x2 x3 x4 x5_10 x6_11 w _ _ _ hM (lv_sub hl [3, 4, 5, 6, 7, 1, 0] rfl) hf
set_option maxHeartbeats 4000000 in
theorem wX7_ticksOnce_123 {p : Program} {l : Launch} {e : Env} {s : State} {m : MethodId} {args : Array Value} {below : List Frame} {meth : Method} {c : Code} {D : va_G} {T : Nat → ClassId} {A : Nat → Prop} {h : Nat} {ad : Nat → Nat} {wr : MW} {N : Nat} {jr : Nat} (S : gS p s m args meth c cX7_ticksOnce 8 (none) RX7 D T) (hj : Nat.ble (jr + 1) 2 = true) {k11 : Int32 → Int32 → Int32 → MW → Option (MW)} (hk11 : ∀ (x2 : Int32) (x3 : Int32) (x4 : Int32) (w : MW) (H : Heap) (locs : List Loc) (ls : Array Slot), gM D A s.heap (mmW h ad (T 0) w) H locs → lv_has ls 8 [(0, .ref h), (1, .ref (ad jr)), (2, .int x2), (3, .int x3), (4, .int x4)] → k11 x2 x3 x4 w = some wr → W p l e rmX7_ticksOnce s m args below meth c H locs 0 0 (MQ below (gQv D T A (mmW h ad (T 0) wr)) args s 0 0 A) (F0 m 11 ls [])) : ∀ (x2 : Int32) (x3 : Int32) (x4 : Int32) (s0 : Int32) (w : MW) (H : Heap) (locs : List Loc) (ls : Array Slot), gM D A s.heap (mmW h ad (T 0) w) H locs → lv_has ls 8 [(0, .ref h), (1, .ref (ad jr)), (2, .int x2), (3, .int x3), (4, .int x4)] → gX7_ticksOnce_123 N jr k11 x2 x3 x4 s0 w = some wr → W p l e rmX7_ticksOnce s m args below meth c H locs 0 0 (MQ below (gQv D T A (mmW h ad (T 0) wr)) args s 0 0 A) (F0 m 123 ls [.int s0]) := by
  intro x2 x3 x4 s0 w H locs ls hM hl hf
  refine g_ist S (x' := s0) rfl hl dX7_ticksOnce_123 rfl (lv' := [(6, .int s0), (0, .ref h), (1, .ref (ad jr)), (2, .int x2), (3, .int x3), (4, .int x4)]) rfl (fun ls hl => ?_)
  refine lv_iload S.x S.b dX7_ticksOnce_125 (lv_at hl 0 rfl) ?_
  refine lv_aload_n S.x S.b dX7_ticksOnce_127 rfl (lv_at hl 2 rfl) ?_
  refine lv_bipush (v := (26 : Int32)) S.x S.b dX7_ticksOnce_128 kb_26 ?_
  refine lv_iload S.x S.b dX7_ticksOnce_130 (lv_at hl 5 rfl) ?_
  refine lv_iadd S.x S.b dX7_ticksOnce_132 ?_
  obtain ⟨hi, hf⟩ := ck_some hf
  refine mm_ldr S hM jr hj hi dX7_ticksOnce_133 ?_
  refine lv_icmp_eq (tgt := 166) S.x S.b dX7_ticksOnce_134 rfl (fun cn => ?_) (fun cn => ?_)
  · have hf := if_t cn hf
    obtain ⟨x4_12, ex, hf⟩ := lt_some hf
    refine g_inc S (x' := x4_12) (d := (1 : Int32)) hl (k := 5) rfl ki_1 ex dX7_ticksOnce_166 rfl (lv' := [(4, .int x4_12), (6, .int s0), (0, .ref h), (1, .ref (ad jr)), (2, .int x2), (3, .int x3)]) rfl (fun ls hl => ?_)
    refine lv_goto (tgt := 11) S.x S.b dX7_ticksOnce_169 rfl ?_
    exact hk11 x2 x3 x4_12 w _ _ _ hM (lv_sub hl [2, 3, 4, 5, 0] rfl) hf
  · have hf := if_f cn hf
    refine lv_aload_n S.x S.b dX7_ticksOnce_137 rfl (lv_at hl 2 rfl) ?_
    refine lv_bipush (v := (26 : Int32)) S.x S.b dX7_ticksOnce_138 kb_26 ?_
    refine lv_iload S.x S.b dX7_ticksOnce_140 (lv_at hl 5 rfl) ?_
    refine lv_iadd S.x S.b dX7_ticksOnce_142 ?_
    refine lv_iload S.x S.b dX7_ticksOnce_143 (lv_at hl 0 rfl) ?_
    obtain ⟨hi, hf⟩ := ck_some hf
    obtain ⟨w_13, ew, hf⟩ := lt_some hf
    refine mm_str S hM jr hj hi ew dX7_ticksOnce_145 (fun H locs hM => ?_)
    refine lv_iconst (v := (1 : Int32)) S.x S.b dX7_ticksOnce_146 ki_1 ?_
    refine g_istn S (x' := (1 : Int32)) rfl hl dX7_ticksOnce_147 rfl rfl (lv' := [(3, .int (1 : Int32)), (6, .int s0), (0, .ref h), (1, .ref (ad jr)), (2, .int x2), (4, .int x4)]) rfl (fun ls hl => ?_)
    refine lv_aload_n S.x S.b dX7_ticksOnce_148 rfl (lv_at hl 2 rfl) ?_
    refine lv_aload_n S.x S.b dX7_ticksOnce_149 rfl (lv_at hl 3 rfl) ?_
    refine lv_iload S.x S.b dX7_ticksOnce_150 (lv_at hl 5 rfl) ?_
    refine lv_iload S.x S.b dX7_ticksOnce_152 (lv_at hl 1 rfl) ?_
    refine lv_iconst (v := (1 : Int32)) S.x S.b dX7_ticksOnce_154 ki_1 ?_
    refine lv_icmp_ne (tgt := 162) S.x S.b dX7_ticksOnce_155 rfl (fun cn => ?_) (fun cn => ?_)
    · have hf := if_f cn hf
      refine lv_iconst (v := (0 : Int32)) S.x S.b dX7_ticksOnce_162 ki_0 ?_
      obtain ⟨w_14, hc, hf⟩ := bd_some hf
      refine mm_cv S hM hl [.ref (ad jr), .int x4, .int (0 : Int32)] rfl (metX7_notesEvent (jr := jr) hj hc) hdX7_notesEvent q1691 q1693 qs55 q69 q1694 ⟨rfl, rfl⟩ ⟨rfl, rfl⟩ rfl rfl rfl ⟨Nat.zero_le _, Nat.zero_le _⟩ dX7_ticksOnce_163 (fun H locs hM => ?_)
      obtain ⟨x4_15, ex, hf⟩ := lt_some hf
      refine g_inc S (x' := x4_15) (d := (1 : Int32)) hl (k := 5) rfl ki_1 ex dX7_ticksOnce_166 rfl (lv' := [(4, .int x4_15), (3, .int (1 : Int32)), (6, .int s0), (0, .ref h), (1, .ref (ad jr)), (2, .int x2)]) rfl (fun ls hl => ?_)
      refine lv_goto (tgt := 11) S.x S.b dX7_ticksOnce_169 rfl ?_
      exact hk11 x2 (1 : Int32) x4_15 w_14 _ _ _ hM (lv_sub hl [3, 4, 5, 1, 0] rfl) hf
    · have hf := if_t cn hf
      refine lv_iconst (v := (1 : Int32)) S.x S.b dX7_ticksOnce_158 ki_1 ?_
      refine lv_goto (tgt := 163) S.x S.b dX7_ticksOnce_159 rfl ?_
      obtain ⟨w_16, hc, hf⟩ := bd_some hf
      refine mm_cv S hM hl [.ref (ad jr), .int x4, .int (1 : Int32)] rfl (metX7_notesEvent (jr := jr) hj hc) hdX7_notesEvent q1691 q1693 qs55 q69 q1694 ⟨rfl, rfl⟩ ⟨rfl, rfl⟩ rfl rfl rfl ⟨Nat.zero_le _, Nat.zero_le _⟩ dX7_ticksOnce_163 (fun H locs hM => ?_)
      obtain ⟨x4_17, ex, hf⟩ := lt_some hf
      refine g_inc S (x' := x4_17) (d := (1 : Int32)) hl (k := 5) rfl ki_1 ex dX7_ticksOnce_166 rfl (lv' := [(4, .int x4_17), (3, .int (1 : Int32)), (6, .int s0), (0, .ref h), (1, .ref (ad jr)), (2, .int x2)]) rfl (fun ls hl => ?_)
      refine lv_goto (tgt := 11) S.x S.b dX7_ticksOnce_169 rfl ?_
      exact hk11 x2 (1 : Int32) x4_17 w_16 _ _ _ hM (lv_sub hl [3, 4, 5, 1, 0] rfl) hf
set_option maxHeartbeats 4000000 in
theorem wX7_ticksOnce_24 {p : Program} {l : Launch} {e : Env} {s : State} {m : MethodId} {args : Array Value} {below : List Frame} {meth : Method} {c : Code} {D : va_G} {T : Nat → ClassId} {A : Nat → Prop} {h : Nat} {ad : Nat → Nat} {wr : MW} {N : Nat} {jr : Nat} (S : gS p s m args meth c cX7_ticksOnce 8 (none) RX7 D T) (hj : Nat.ble (jr + 1) 2 = true) {k11 : Int32 → Int32 → Int32 → MW → Option (MW)} (hk11 : ∀ (x2 : Int32) (x3 : Int32) (x4 : Int32) (w : MW) (H : Heap) (locs : List Loc) (ls : Array Slot), gM D A s.heap (mmW h ad (T 0) w) H locs → lv_has ls 8 [(0, .ref h), (1, .ref (ad jr)), (2, .int x2), (3, .int x3), (4, .int x4)] → k11 x2 x3 x4 w = some wr → W p l e rmX7_ticksOnce s m args below meth c H locs 0 0 (MQ below (gQv D T A (mmW h ad (T 0) wr)) args s 0 0 A) (F0 m 11 ls [])) : ∀ (n : Nat) (x2 : Int32) (x3 : Int32) (x4 : Int32) (x5 : Int32) (x6 : Int32) (w : MW) (H : Heap) (locs : List Loc) (ls : Array Slot), gM D A s.heap (mmW h ad (T 0) w) H locs → lv_has ls 8 [(0, .ref h), (1, .ref (ad jr)), (2, .int x2), (3, .int x3), (4, .int x4), (5, .int x5), (6, .int x6)] → gX7_ticksOnce_24 N jr k11 n x2 x3 x4 x5 x6 w = some wr → W p l e rmX7_ticksOnce s m args below meth c H locs 0 0 (MQ below (gQv D T A (mmW h ad (T 0) wr)) args s 0 0 A) (F0 m 24 ls []) := by
  intro n
  induction n with
  | zero =>
    intro x2 x3 x4 x5 x6 w H locs ls hM hl hf
    cases hf
  | succ n ih =>
    intro x2 x3 x4 x5 x6 w H locs ls hM hl hf
    refine lv_iload S.x S.b dX7_ticksOnce_24 (lv_at hl 6 rfl) ?_
    refine lv_aload_n S.x S.b dX7_ticksOnce_26 rfl (lv_at hl 0 rfl) ?_
    refine mm_g S hM 4 rfl q1452 rfl dX7_ticksOnce_27 ?_
    refine lv_icmp_ge (tgt := 87) S.x S.b dX7_ticksOnce_30 rfl (fun cn => ?_) (fun cn => ?_)
    · have hf := if_t cn hf
      refine lv_aload_n S.x S.b dX7_ticksOnce_87 rfl (lv_at hl 1 rfl) ?_
      refine lv_bipush (v := (32 : Int32)) S.x S.b dX7_ticksOnce_88 kb_32 ?_
      refine lv_iload S.x S.b dX7_ticksOnce_90 (lv_at hl 4 rfl) ?_
      refine lv_iadd S.x S.b dX7_ticksOnce_92 ?_
      refine lv_iload S.x S.b dX7_ticksOnce_93 (lv_at hl 5 rfl) ?_
      obtain ⟨hi, hf⟩ := ck_some hf
      obtain ⟨w_3, ew, hf⟩ := lt_some hf
      refine mm_str S hM jr hj hi ew dX7_ticksOnce_95 (fun H locs hM => ?_)
      refine lv_iload S.x S.b dX7_ticksOnce_96 (lv_at hl 5 rfl) ?_
      refine lv_iconst (v := (1 : Int32)) S.x S.b dX7_ticksOnce_98 ki_1 ?_
      refine lv_icmp_ne (tgt := 106) S.x S.b dX7_ticksOnce_99 rfl (fun cn => ?_) (fun cn => ?_)
      · have hf := if_f cn hf
        refine lv_iload S.x S.b dX7_ticksOnce_106 (lv_at hl 5 rfl) ?_
        refine lv_iconst (v := (2 : Int32)) S.x S.b dX7_ticksOnce_108 ki_2 ?_
        refine lv_icmp_ne (tgt := 116) S.x S.b dX7_ticksOnce_109 rfl (fun cn => ?_) (fun cn => ?_)
        · have hf := if_f cn hf
          refine lv_aload_n S.x S.b dX7_ticksOnce_116 rfl (lv_at hl 1 rfl) ?_
          refine lv_bipush (v := (26 : Int32)) S.x S.b dX7_ticksOnce_117 kb_26 ?_
          refine lv_iload S.x S.b dX7_ticksOnce_119 (lv_at hl 4 rfl) ?_
          refine lv_iadd S.x S.b dX7_ticksOnce_121 ?_
          obtain ⟨hi, hf⟩ := ck_some hf
          refine mm_ldr S hM jr hj hi dX7_ticksOnce_122 ?_
          exact wX7_ticksOnce_123 S hj hk11 x2 x3 x4 (w_3.2 jr ((26 : Int32) + x4).toNatClampNeg) w_3 _ _ _ hM (lv_sub hl [0, 1, 2, 3, 4] rfl) hf
        · have hf := if_t cn hf
          refine lv_iconst (v := (0 : Int32)) S.x S.b dX7_ticksOnce_112 ki_0 ?_
          refine lv_goto (tgt := 123) S.x S.b dX7_ticksOnce_113 rfl ?_
          exact wX7_ticksOnce_123 S hj hk11 x2 x3 x4 (0 : Int32) w_3 _ _ _ hM (lv_sub hl [0, 1, 2, 3, 4] rfl) hf
      · have hf := if_t cn hf
        refine lv_iconst (v := (1 : Int32)) S.x S.b dX7_ticksOnce_102 ki_1 ?_
        refine lv_goto (tgt := 123) S.x S.b dX7_ticksOnce_103 rfl ?_
        exact wX7_ticksOnce_123 S hj hk11 x2 x3 x4 (1 : Int32) w_3 _ _ _ hM (lv_sub hl [0, 1, 2, 3, 4] rfl) hf
    · have hf := if_f cn hf
      refine lv_iload_n S.x S.b dX7_ticksOnce_33 rfl (lv_at hl 2 rfl) ?_
      refine lv_iload S.x S.b dX7_ticksOnce_34 (lv_at hl 6 rfl) ?_
      refine lv_ishr S.x S.b dX7_ticksOnce_36 ?_
      refine lv_iconst (v := (1 : Int32)) S.x S.b dX7_ticksOnce_37 ki_1 ?_
      refine lv_iand S.x S.b dX7_ticksOnce_38 ?_
      refine lv_iconst (v := (1 : Int32)) S.x S.b dX7_ticksOnce_39 ki_1 ?_
      refine lv_icmp_ne (tgt := 54) S.x S.b dX7_ticksOnce_40 rfl (fun cn => ?_) (fun cn => ?_)
      · have hf := if_f cn hf
        refine lv_iconst (v := (0 : Int32)) S.x S.b dX7_ticksOnce_54 ki_0 ?_
        exact wX7_ticksOnce_55 S hj ih x2 x3 x4 x5 x6 (0 : Int32) w _ _ _ hM (lv_sub hl [0, 1, 2, 3, 4, 5, 6] rfl) hf
      · have hf := if_t cn hf
        refine lv_aload_n S.x S.b dX7_ticksOnce_43 rfl (lv_at hl 0 rfl) ?_
        refine lv_iload S.x S.b dX7_ticksOnce_44 (lv_at hl 6 rfl) ?_
        refine lv_iload S.x S.b dX7_ticksOnce_46 (lv_at hl 4 rfl) ?_
        obtain ⟨r_5, w_4, hc, hf⟩ := bd2_some hf
        refine mm_ci S hM hl [.int x6, .int x4] rfl (metX7_directionOf hc) hdX7_directionOf q1595 q1597 qs44 q69 q1598 ⟨rfl, rfl⟩ ⟨rfl, rfl⟩ rfl rfl rfl ⟨Nat.zero_le _, Nat.zero_le _⟩ dX7_ticksOnce_48 (fun H locs hM => ?_)
        refine lv_goto (tgt := 55) S.x S.b dX7_ticksOnce_51 rfl ?_
        exact wX7_ticksOnce_55 S hj ih x2 x3 x4 x5 x6 r_5 w_4 _ _ _ hM (lv_sub hl [0, 1, 2, 3, 4, 5, 6] rfl) hf
set_option maxHeartbeats 4000000 in
theorem wX7_ticksOnce_252 {p : Program} {l : Launch} {e : Env} {s : State} {m : MethodId} {args : Array Value} {below : List Frame} {meth : Method} {c : Code} {D : va_G} {T : Nat → ClassId} {A : Nat → Prop} {h : Nat} {ad : Nat → Nat} {wr : MW} {N : Nat} {jr : Nat} (S : gS p s m args meth c cX7_ticksOnce 8 (none) RX7 D T) (hj : Nat.ble (jr + 1) 2 = true) {k175 : Int32 → Int32 → Int32 → MW → Option (MW)} (hk175 : ∀ (x2 : Int32) (x3 : Int32) (x4 : Int32) (w : MW) (H : Heap) (locs : List Loc) (ls : Array Slot), gM D A s.heap (mmW h ad (T 0) w) H locs → lv_has ls 8 [(0, .ref h), (1, .ref (ad jr)), (2, .int x2), (3, .int x3), (4, .int x4)] → k175 x2 x3 x4 w = some wr → W p l e rmX7_ticksOnce s m args below meth c H locs 0 0 (MQ below (gQv D T A (mmW h ad (T 0) wr)) args s 0 0 A) (F0 m 175 ls [])) : ∀ (x2 : Int32) (x3 : Int32) (x4 : Int32) (s0 : Int32) (w : MW) (H : Heap) (locs : List Loc) (ls : Array Slot), gM D A s.heap (mmW h ad (T 0) w) H locs → lv_has ls 8 [(0, .ref h), (1, .ref (ad jr)), (2, .int x2), (3, .int x3), (4, .int x4)] → gX7_ticksOnce_252 N jr k175 x2 x3 x4 s0 w = some wr → W p l e rmX7_ticksOnce s m args below meth c H locs 0 0 (MQ below (gQv D T A (mmW h ad (T 0) wr)) args s 0 0 A) (F0 m 252 ls [.int s0]) := by
  intro x2 x3 x4 s0 w H locs ls hM hl hf
  refine g_ist S (x' := s0) rfl hl dX7_ticksOnce_252 rfl (lv' := [(6, .int s0), (0, .ref h), (1, .ref (ad jr)), (2, .int x2), (3, .int x3), (4, .int x4)]) rfl (fun ls hl => ?_)
  refine lv_aload_n S.x S.b dX7_ticksOnce_254 rfl (lv_at hl 2 rfl) ?_
  refine lv_bipush (v := (20 : Int32)) S.x S.b dX7_ticksOnce_255 kb_20 ?_
  refine lv_iload S.x S.b dX7_ticksOnce_257 (lv_at hl 5 rfl) ?_
  refine lv_iadd S.x S.b dX7_ticksOnce_259 ?_
  refine lv_dup2_11 S.x S.b dX7_ticksOnce_260 rfl rfl ?_
  obtain ⟨hi, hf⟩ := ck_some hf
  refine mm_ldr S hM jr hj hi dX7_ticksOnce_261 ?_
  refine lv_iload S.x S.b dX7_ticksOnce_262 (lv_at hl 0 rfl) ?_
  refine lv_iadd S.x S.b dX7_ticksOnce_264 ?_
  obtain ⟨hi, hf⟩ := ck_some hf
  obtain ⟨w_22, ew, hf⟩ := lt_some hf
  refine mm_str S hM jr hj hi ew dX7_ticksOnce_265 (fun H locs hM => ?_)
  refine lv_iload_n S.x S.b dX7_ticksOnce_266 rfl (lv_at hl 4 rfl) ?_
  refine lv_if_ne (tgt := 275) S.x S.b dX7_ticksOnce_267 rfl (fun cn => ?_) (fun cn => ?_)
  · have hf := if_f cn hf
    refine lv_iconst (v := (1 : Int32)) S.x S.b dX7_ticksOnce_275 ki_1 ?_
    refine lv_goto (tgt := 280) S.x S.b dX7_ticksOnce_276 rfl ?_
    refine g_istn S (x' := (1 : Int32)) rfl hl dX7_ticksOnce_280 rfl rfl (lv' := [(3, .int (1 : Int32)), (6, .int s0), (0, .ref h), (1, .ref (ad jr)), (2, .int x2), (4, .int x4)]) rfl (fun ls hl => ?_)
    obtain ⟨x4_23, ex, hf⟩ := lt_some hf
    refine g_inc S (x' := x4_23) (d := (1 : Int32)) hl (k := 5) rfl ki_1 ex dX7_ticksOnce_281 rfl (lv' := [(4, .int x4_23), (3, .int (1 : Int32)), (6, .int s0), (0, .ref h), (1, .ref (ad jr)), (2, .int x2)]) rfl (fun ls hl => ?_)
    refine lv_goto (tgt := 175) S.x S.b dX7_ticksOnce_284 rfl ?_
    exact hk175 x2 (1 : Int32) x4_23 w_22 _ _ _ hM (lv_sub hl [3, 4, 5, 1, 0] rfl) hf
  · have hf := if_t cn hf
    refine lv_iload S.x S.b dX7_ticksOnce_270 (lv_at hl 0 rfl) ?_
    refine lv_if_eq (tgt := 279) S.x S.b dX7_ticksOnce_272 rfl (fun cn => ?_) (fun cn => ?_)
    · have hf := if_t cn hf
      refine lv_iconst (v := (0 : Int32)) S.x S.b dX7_ticksOnce_279 ki_0 ?_
      refine g_istn S (x' := (0 : Int32)) rfl hl dX7_ticksOnce_280 rfl rfl (lv' := [(3, .int (0 : Int32)), (6, .int s0), (0, .ref h), (1, .ref (ad jr)), (2, .int x2), (4, .int x4)]) rfl (fun ls hl => ?_)
      obtain ⟨x4_24, ex, hf⟩ := lt_some hf
      refine g_inc S (x' := x4_24) (d := (1 : Int32)) hl (k := 5) rfl ki_1 ex dX7_ticksOnce_281 rfl (lv' := [(4, .int x4_24), (3, .int (0 : Int32)), (6, .int s0), (0, .ref h), (1, .ref (ad jr)), (2, .int x2)]) rfl (fun ls hl => ?_)
      refine lv_goto (tgt := 175) S.x S.b dX7_ticksOnce_284 rfl ?_
      exact hk175 x2 (0 : Int32) x4_24 w_22 _ _ _ hM (lv_sub hl [3, 4, 5, 1, 0] rfl) hf
    · have hf := if_f cn hf
      refine lv_iconst (v := (1 : Int32)) S.x S.b dX7_ticksOnce_275 ki_1 ?_
      refine lv_goto (tgt := 280) S.x S.b dX7_ticksOnce_276 rfl ?_
      refine g_istn S (x' := (1 : Int32)) rfl hl dX7_ticksOnce_280 rfl rfl (lv' := [(3, .int (1 : Int32)), (6, .int s0), (0, .ref h), (1, .ref (ad jr)), (2, .int x2), (4, .int x4)]) rfl (fun ls hl => ?_)
      obtain ⟨x4_25, ex, hf⟩ := lt_some hf
      refine g_inc S (x' := x4_25) (d := (1 : Int32)) hl (k := 5) rfl ki_1 ex dX7_ticksOnce_281 rfl (lv' := [(4, .int x4_25), (3, .int (1 : Int32)), (6, .int s0), (0, .ref h), (1, .ref (ad jr)), (2, .int x2)]) rfl (fun ls hl => ?_)
      refine lv_goto (tgt := 175) S.x S.b dX7_ticksOnce_284 rfl ?_
      exact hk175 x2 (1 : Int32) x4_25 w_22 _ _ _ hM (lv_sub hl [3, 4, 5, 1, 0] rfl) hf
set_option maxHeartbeats 4000000 in
theorem wX7_ticksOnce_231 {p : Program} {l : Launch} {e : Env} {s : State} {m : MethodId} {args : Array Value} {below : List Frame} {meth : Method} {c : Code} {D : va_G} {T : Nat → ClassId} {A : Nat → Prop} {h : Nat} {ad : Nat → Nat} {wr : MW} {N : Nat} {jr : Nat} (S : gS p s m args meth c cX7_ticksOnce 8 (none) RX7 D T) (hj : Nat.ble (jr + 1) 2 = true) {k175 : Int32 → Int32 → Int32 → MW → Option (MW)} (hk175 : ∀ (x2 : Int32) (x3 : Int32) (x4 : Int32) (w : MW) (H : Heap) (locs : List Loc) (ls : Array Slot), gM D A s.heap (mmW h ad (T 0) w) H locs → lv_has ls 8 [(0, .ref h), (1, .ref (ad jr)), (2, .int x2), (3, .int x3), (4, .int x4)] → k175 x2 x3 x4 w = some wr → W p l e rmX7_ticksOnce s m args below meth c H locs 0 0 (MQ below (gQv D T A (mmW h ad (T 0) wr)) args s 0 0 A) (F0 m 175 ls [])) : ∀ (x2 : Int32) (x3 : Int32) (x4 : Int32) (w : MW) (H : Heap) (locs : List Loc) (ls : Array Slot), gM D A s.heap (mmW h ad (T 0) w) H locs → lv_has ls 8 [(0, .ref h), (1, .ref (ad jr)), (2, .int x2), (3, .int x3), (4, .int x4)] → gX7_ticksOnce_231 N jr k175 x2 x3 x4 w = some wr → W p l e rmX7_ticksOnce s m args below meth c H locs 0 0 (MQ below (gQv D T A (mmW h ad (T 0) wr)) args s 0 0 A) (F0 m 231 ls []) := by
  intro x2 x3 x4 w H locs ls hM hl hf
  refine lv_iconst (v := (0 : Int32)) S.x S.b dX7_ticksOnce_231 ki_0 ?_
  refine lv_goto (tgt := 252) S.x S.b dX7_ticksOnce_232 rfl ?_
  exact wX7_ticksOnce_252 S hj hk175 x2 x3 x4 (0 : Int32) w _ _ _ hM (lv_sub hl [0, 1, 2, 3, 4] rfl) hf
set_option maxHeartbeats 4000000 in
theorem wX7_ticksOnce_204 {p : Program} {l : Launch} {e : Env} {s : State} {m : MethodId} {args : Array Value} {below : List Frame} {meth : Method} {c : Code} {D : va_G} {T : Nat → ClassId} {A : Nat → Prop} {h : Nat} {ad : Nat → Nat} {wr : MW} {N : Nat} {jr : Nat} (S : gS p s m args meth c cX7_ticksOnce 8 (none) RX7 D T) (hj : Nat.ble (jr + 1) 2 = true) {k175 : Int32 → Int32 → Int32 → MW → Option (MW)} (hk175 : ∀ (x2 : Int32) (x3 : Int32) (x4 : Int32) (w : MW) (H : Heap) (locs : List Loc) (ls : Array Slot), gM D A s.heap (mmW h ad (T 0) w) H locs → lv_has ls 8 [(0, .ref h), (1, .ref (ad jr)), (2, .int x2), (3, .int x3), (4, .int x4)] → k175 x2 x3 x4 w = some wr → W p l e rmX7_ticksOnce s m args below meth c H locs 0 0 (MQ below (gQv D T A (mmW h ad (T 0) wr)) args s 0 0 A) (F0 m 175 ls [])) : ∀ (x2 : Int32) (x3 : Int32) (x4 : Int32) (s0 : Int32) (w : MW) (H : Heap) (locs : List Loc) (ls : Array Slot), gM D A s.heap (mmW h ad (T 0) w) H locs → lv_has ls 8 [(0, .ref h), (1, .ref (ad jr)), (2, .int x2), (3, .int x3), (4, .int x4)] → gX7_ticksOnce_204 N jr k175 x2 x3 x4 s0 w = some wr → W p l e rmX7_ticksOnce s m args below meth c H locs 0 0 (MQ below (gQv D T A (mmW h ad (T 0) wr)) args s 0 0 A) (F0 m 204 ls [.int s0]) := by
  intro x2 x3 x4 s0 w H locs ls hM hl hf
  refine g_ist S (x' := s0) rfl hl dX7_ticksOnce_204 rfl (lv' := [(5, .int s0), (0, .ref h), (1, .ref (ad jr)), (2, .int x2), (3, .int x3), (4, .int x4)]) rfl (fun ls hl => ?_)
  refine lv_aload_n S.x S.b dX7_ticksOnce_206 rfl (lv_at hl 2 rfl) ?_
  refine lv_bipush (v := (38 : Int32)) S.x S.b dX7_ticksOnce_207 kb_38 ?_
  refine lv_iload S.x S.b dX7_ticksOnce_209 (lv_at hl 5 rfl) ?_
  refine lv_iadd S.x S.b dX7_ticksOnce_211 ?_
  obtain ⟨hi, hf⟩ := ck_some hf
  refine mm_ldr S hM jr hj hi dX7_ticksOnce_212 ?_
  refine lv_iconst (v := (1 : Int32)) S.x S.b dX7_ticksOnce_213 ki_1 ?_
  refine lv_iand S.x S.b dX7_ticksOnce_214 ?_
  refine lv_iconst (v := (1 : Int32)) S.x S.b dX7_ticksOnce_215 ki_1 ?_
  refine lv_icmp_eq (tgt := 231) S.x S.b dX7_ticksOnce_216 rfl (fun cn => ?_) (fun cn => ?_)
  · have hf := if_t cn hf
    exact wX7_ticksOnce_231 S hj hk175 x2 x3 x4 w _ _ _ hM (lv_sub hl [1, 2, 3, 4, 5] rfl) hf
  · have hf := if_f cn hf
    refine lv_aload_n S.x S.b dX7_ticksOnce_219 rfl (lv_at hl 2 rfl) ?_
    refine lv_bipush (v := (20 : Int32)) S.x S.b dX7_ticksOnce_220 kb_20 ?_
    refine lv_iload S.x S.b dX7_ticksOnce_222 (lv_at hl 5 rfl) ?_
    refine lv_iadd S.x S.b dX7_ticksOnce_224 ?_
    obtain ⟨hi, hf⟩ := ck_some hf
    refine mm_ldr S hM jr hj hi dX7_ticksOnce_225 ?_
    refine lv_iload S.x S.b dX7_ticksOnce_226 (lv_at hl 0 rfl) ?_
    refine lv_icmp_ne (tgt := 235) S.x S.b dX7_ticksOnce_228 rfl (fun cn => ?_) (fun cn => ?_)
    · have hf := if_f cn hf
      refine lv_aload_n S.x S.b dX7_ticksOnce_235 rfl (lv_at hl 2 rfl) ?_
      refine lv_bipush (v := (20 : Int32)) S.x S.b dX7_ticksOnce_236 kb_20 ?_
      refine lv_iload S.x S.b dX7_ticksOnce_238 (lv_at hl 5 rfl) ?_
      refine lv_iadd S.x S.b dX7_ticksOnce_240 ?_
      obtain ⟨hi, hf⟩ := ck_some hf
      refine mm_ldr S hM jr hj hi dX7_ticksOnce_241 ?_
      refine lv_iload S.x S.b dX7_ticksOnce_242 (lv_at hl 0 rfl) ?_
      refine lv_icmp_ge (tgt := 251) S.x S.b dX7_ticksOnce_244 rfl (fun cn => ?_) (fun cn => ?_)
      · have hf := if_t cn hf
        refine lv_iconst (v := (-1 : Int32)) S.x S.b dX7_ticksOnce_251 ki_m1 ?_
        exact wX7_ticksOnce_252 S hj hk175 x2 x3 x4 (-1 : Int32) w _ _ _ hM (lv_sub hl [1, 2, 3, 4, 5] rfl) hf
      · have hf := if_f cn hf
        refine lv_iconst (v := (1 : Int32)) S.x S.b dX7_ticksOnce_247 ki_1 ?_
        refine lv_goto (tgt := 252) S.x S.b dX7_ticksOnce_248 rfl ?_
        exact wX7_ticksOnce_252 S hj hk175 x2 x3 x4 (1 : Int32) w _ _ _ hM (lv_sub hl [1, 2, 3, 4, 5] rfl) hf
    · have hf := if_t cn hf
      exact wX7_ticksOnce_231 S hj hk175 x2 x3 x4 w _ _ _ hM (lv_sub hl [1, 2, 3, 4, 5] rfl) hf
set_option maxHeartbeats 4000000 in
theorem wX7_ticksOnce_333 {p : Program} {l : Launch} {e : Env} {s : State} {m : MethodId} {args : Array Value} {below : List Frame} {meth : Method} {c : Code} {D : va_G} {T : Nat → ClassId} {A : Nat → Prop} {h : Nat} {ad : Nat → Nat} {wr : MW} {N : Nat} {jr : Nat} (S : gS p s m args meth c cX7_ticksOnce 8 (none) RX7 D T) (hj : Nat.ble (jr + 1) 2 = true) {k290 : Int32 → Int32 → Int32 → MW → Option (MW)} (hk290 : ∀ (x2 : Int32) (x3 : Int32) (x4 : Int32) (w : MW) (H : Heap) (locs : List Loc) (ls : Array Slot), gM D A s.heap (mmW h ad (T 0) w) H locs → lv_has ls 8 [(0, .ref h), (1, .ref (ad jr)), (2, .int x2), (3, .int x3), (4, .int x4)] → k290 x2 x3 x4 w = some wr → W p l e rmX7_ticksOnce s m args below meth c H locs 0 0 (MQ below (gQv D T A (mmW h ad (T 0) wr)) args s 0 0 A) (F0 m 290 ls [])) : ∀ (x2 : Int32) (x3 : Int32) (x4 : Int32) (x5 : Int32) (s0 : Int32) (w : MW) (H : Heap) (locs : List Loc) (ls : Array Slot), gM D A s.heap (mmW h ad (T 0) w) H locs → lv_has ls 8 [(0, .ref h), (1, .ref (ad jr)), (2, .int x2), (3, .int x3), (4, .int x4), (5, .int x5)] → gX7_ticksOnce_333 N jr k290 x2 x3 x4 x5 s0 w = some wr → W p l e rmX7_ticksOnce s m args below meth c H locs 0 0 (MQ below (gQv D T A (mmW h ad (T 0) wr)) args s 0 0 A) (F0 m 333 ls [.int s0]) := by
  intro x2 x3 x4 x5 s0 w H locs ls hM hl hf
  refine g_ist S (x' := s0) rfl hl dX7_ticksOnce_333 rfl (lv' := [(6, .int s0), (0, .ref h), (1, .ref (ad jr)), (2, .int x2), (3, .int x3), (4, .int x4), (5, .int x5)]) rfl (fun ls hl => ?_)
  refine lv_aload_n S.x S.b dX7_ticksOnce_335 rfl (lv_at hl 2 rfl) ?_
  refine lv_bipush (v := (44 : Int32)) S.x S.b dX7_ticksOnce_336 kb_44 ?_
  refine lv_iload S.x S.b dX7_ticksOnce_338 (lv_at hl 5 rfl) ?_
  refine lv_iadd S.x S.b dX7_ticksOnce_340 ?_
  refine lv_iload S.x S.b dX7_ticksOnce_341 (lv_at hl 0 rfl) ?_
  refine lv_if_ne (tgt := 350) S.x S.b dX7_ticksOnce_343 rfl (fun cn => ?_) (fun cn => ?_)
  · have hf := if_f cn hf
    refine lv_iload S.x S.b dX7_ticksOnce_350 (lv_at hl 6 rfl) ?_
    refine lv_bipush (v := (60 : Int32)) S.x S.b dX7_ticksOnce_352 kb_60 ?_
    refine lv_icmp_ge (tgt := 364) S.x S.b dX7_ticksOnce_354 rfl (fun cn => ?_) (fun cn => ?_)
    · have hf := if_t cn hf
      refine lv_bipush (v := (60 : Int32)) S.x S.b dX7_ticksOnce_364 kb_60 ?_
      obtain ⟨hi, hf⟩ := ck_some hf
      obtain ⟨w_26, ew, hf⟩ := lt_some hf
      refine mm_str S hM jr hj hi ew dX7_ticksOnce_366 (fun H locs hM => ?_)
      obtain ⟨x4_27, ex, hf⟩ := lt_some hf
      refine g_inc S (x' := x4_27) (d := (1 : Int32)) hl (k := 5) rfl ki_1 ex dX7_ticksOnce_367 rfl (lv' := [(4, .int x4_27), (6, .int s0), (0, .ref h), (1, .ref (ad jr)), (2, .int x2), (3, .int x3), (5, .int x5)]) rfl (fun ls hl => ?_)
      refine lv_goto (tgt := 290) S.x S.b dX7_ticksOnce_370 rfl ?_
      exact hk290 x2 x3 x4_27 w_26 _ _ _ hM (lv_sub hl [2, 3, 4, 5, 0] rfl) hf
    · have hf := if_f cn hf
      refine lv_iload S.x S.b dX7_ticksOnce_357 (lv_at hl 6 rfl) ?_
      refine lv_iconst (v := (1 : Int32)) S.x S.b dX7_ticksOnce_359 ki_1 ?_
      refine lv_iadd S.x S.b dX7_ticksOnce_360 ?_
      refine lv_goto (tgt := 366) S.x S.b dX7_ticksOnce_361 rfl ?_
      obtain ⟨hi, hf⟩ := ck_some hf
      obtain ⟨w_28, ew, hf⟩ := lt_some hf
      refine mm_str S hM jr hj hi ew dX7_ticksOnce_366 (fun H locs hM => ?_)
      obtain ⟨x4_29, ex, hf⟩ := lt_some hf
      refine g_inc S (x' := x4_29) (d := (1 : Int32)) hl (k := 5) rfl ki_1 ex dX7_ticksOnce_367 rfl (lv' := [(4, .int x4_29), (6, .int s0), (0, .ref h), (1, .ref (ad jr)), (2, .int x2), (3, .int x3), (5, .int x5)]) rfl (fun ls hl => ?_)
      refine lv_goto (tgt := 290) S.x S.b dX7_ticksOnce_370 rfl ?_
      exact hk290 x2 x3 x4_29 w_28 _ _ _ hM (lv_sub hl [2, 3, 4, 5, 0] rfl) hf
  · have hf := if_t cn hf
    refine lv_iconst (v := (0 : Int32)) S.x S.b dX7_ticksOnce_346 ki_0 ?_
    refine lv_goto (tgt := 366) S.x S.b dX7_ticksOnce_347 rfl ?_
    obtain ⟨hi, hf⟩ := ck_some hf
    obtain ⟨w_30, ew, hf⟩ := lt_some hf
    refine mm_str S hM jr hj hi ew dX7_ticksOnce_366 (fun H locs hM => ?_)
    obtain ⟨x4_31, ex, hf⟩ := lt_some hf
    refine g_inc S (x' := x4_31) (d := (1 : Int32)) hl (k := 5) rfl ki_1 ex dX7_ticksOnce_367 rfl (lv' := [(4, .int x4_31), (6, .int s0), (0, .ref h), (1, .ref (ad jr)), (2, .int x2), (3, .int x3), (5, .int x5)]) rfl (fun ls hl => ?_)
    refine lv_goto (tgt := 290) S.x S.b dX7_ticksOnce_370 rfl ?_
    exact hk290 x2 x3 x4_31 w_30 _ _ _ hM (lv_sub hl [2, 3, 4, 5, 0] rfl) hf
set_option maxHeartbeats 4000000 in
theorem wX7_ticksOnce_332 {p : Program} {l : Launch} {e : Env} {s : State} {m : MethodId} {args : Array Value} {below : List Frame} {meth : Method} {c : Code} {D : va_G} {T : Nat → ClassId} {A : Nat → Prop} {h : Nat} {ad : Nat → Nat} {wr : MW} {N : Nat} {jr : Nat} (S : gS p s m args meth c cX7_ticksOnce 8 (none) RX7 D T) (hj : Nat.ble (jr + 1) 2 = true) {k290 : Int32 → Int32 → Int32 → MW → Option (MW)} (hk290 : ∀ (x2 : Int32) (x3 : Int32) (x4 : Int32) (w : MW) (H : Heap) (locs : List Loc) (ls : Array Slot), gM D A s.heap (mmW h ad (T 0) w) H locs → lv_has ls 8 [(0, .ref h), (1, .ref (ad jr)), (2, .int x2), (3, .int x3), (4, .int x4)] → k290 x2 x3 x4 w = some wr → W p l e rmX7_ticksOnce s m args below meth c H locs 0 0 (MQ below (gQv D T A (mmW h ad (T 0) wr)) args s 0 0 A) (F0 m 290 ls [])) : ∀ (x2 : Int32) (x3 : Int32) (x4 : Int32) (x5 : Int32) (w : MW) (H : Heap) (locs : List Loc) (ls : Array Slot), gM D A s.heap (mmW h ad (T 0) w) H locs → lv_has ls 8 [(0, .ref h), (1, .ref (ad jr)), (2, .int x2), (3, .int x3), (4, .int x4), (5, .int x5)] → gX7_ticksOnce_332 N jr k290 x2 x3 x4 x5 w = some wr → W p l e rmX7_ticksOnce s m args below meth c H locs 0 0 (MQ below (gQv D T A (mmW h ad (T 0) wr)) args s 0 0 A) (F0 m 332 ls []) := by
  intro x2 x3 x4 x5 w H locs ls hM hl hf
  refine lv_iconst (v := (0 : Int32)) S.x S.b dX7_ticksOnce_332 ki_0 ?_
  exact wX7_ticksOnce_333 S hj hk290 x2 x3 x4 x5 (0 : Int32) w _ _ _ hM (lv_sub hl [0, 1, 2, 3, 4, 5] rfl) hf
set_option maxHeartbeats 4000000 in
theorem wX7_ticksOnce_290 {p : Program} {l : Launch} {e : Env} {s : State} {m : MethodId} {args : Array Value} {below : List Frame} {meth : Method} {c : Code} {D : va_G} {T : Nat → ClassId} {A : Nat → Prop} {h : Nat} {ad : Nat → Nat} {wr : MW} {N : Nat} {jr : Nat} (S : gS p s m args meth c cX7_ticksOnce 8 (none) RX7 D T) (hj : Nat.ble (jr + 1) 2 = true) : ∀ (n : Nat) (x2 : Int32) (x3 : Int32) (x4 : Int32) (w : MW) (H : Heap) (locs : List Loc) (ls : Array Slot), gM D A s.heap (mmW h ad (T 0) w) H locs → lv_has ls 8 [(0, .ref h), (1, .ref (ad jr)), (2, .int x2), (3, .int x3), (4, .int x4)] → gX7_ticksOnce_290 N jr n x2 x3 x4 w = some wr → W p l e rmX7_ticksOnce s m args below meth c H locs 0 0 (MQ below (gQv D T A (mmW h ad (T 0) wr)) args s 0 0 A) (F0 m 290 ls []) := by
  intro n
  induction n with
  | zero =>
    intro x2 x3 x4 w H locs ls hM hl hf
    cases hf
  | succ n ih =>
    intro x2 x3 x4 w H locs ls hM hl hf
    refine lv_iload S.x S.b dX7_ticksOnce_290 (lv_at hl 4 rfl) ?_
    refine lv_aload_n S.x S.b dX7_ticksOnce_292 rfl (lv_at hl 0 rfl) ?_
    refine mm_g S hM 4 rfl q1452 rfl dX7_ticksOnce_293 ?_
    refine lv_icmp_ge (tgt := 373) S.x S.b dX7_ticksOnce_296 rfl (fun cn => ?_) (fun cn => ?_)
    · have hf := if_t cn hf
      refine lv_aload_n S.x S.b dX7_ticksOnce_373 rfl (lv_at hl 1 rfl) ?_
      refine lv_iconst (v := (0 : Int32)) S.x S.b dX7_ticksOnce_374 ki_0 ?_
      refine lv_dup2_11 S.x S.b dX7_ticksOnce_375 rfl rfl ?_
      obtain ⟨hi, hf⟩ := ck_some hf
      refine mm_ldr S hM jr hj hi dX7_ticksOnce_376 ?_
      refine lv_iconst (v := (1 : Int32)) S.x S.b dX7_ticksOnce_377 ki_1 ?_
      refine lv_iadd S.x S.b dX7_ticksOnce_378 ?_
      obtain ⟨hi, hf⟩ := ck_some hf
      obtain ⟨w_18, ew, hf⟩ := lt_some hf
      refine mm_str S hM jr hj hi ew dX7_ticksOnce_379 (fun H locs hM => ?_)
      refine lv_aload_n S.x S.b dX7_ticksOnce_380 rfl (lv_at hl 1 rfl) ?_
      refine lv_bipush (v := (10 : Int32)) S.x S.b dX7_ticksOnce_381 kb_10 ?_
      refine lv_iload_n S.x S.b dX7_ticksOnce_383 rfl (lv_at hl 3 rfl) ?_
      refine lv_if_eq (tgt := 391) S.x S.b dX7_ticksOnce_384 rfl (fun cn => ?_) (fun cn => ?_)
      · have hf := if_t cn hf
        refine lv_aload_n S.x S.b dX7_ticksOnce_391 rfl (lv_at hl 1 rfl) ?_
        refine lv_bipush (v := (10 : Int32)) S.x S.b dX7_ticksOnce_392 kb_10 ?_
        obtain ⟨hi, hf⟩ := ck_some hf
        refine mm_ldr S hM jr hj hi dX7_ticksOnce_394 ?_
        refine lv_iconst (v := (1 : Int32)) S.x S.b dX7_ticksOnce_395 ki_1 ?_
        refine lv_iadd S.x S.b dX7_ticksOnce_396 ?_
        obtain ⟨hi, hf⟩ := ck_some hf
        obtain ⟨w_19, ew, hf⟩ := lt_some hf
        refine mm_str S hM jr hj hi ew dX7_ticksOnce_397 (fun H locs hM => ?_)
        obtain rfl := rt1 hf
        exact g_vret S hM dX7_ticksOnce_398
      · have hf := if_f cn hf
        refine lv_iconst (v := (0 : Int32)) S.x S.b dX7_ticksOnce_387 ki_0 ?_
        refine lv_goto (tgt := 397) S.x S.b dX7_ticksOnce_388 rfl ?_
        obtain ⟨hi, hf⟩ := ck_some hf
        obtain ⟨w_20, ew, hf⟩ := lt_some hf
        refine mm_str S hM jr hj hi ew dX7_ticksOnce_397 (fun H locs hM => ?_)
        obtain rfl := rt1 hf
        exact g_vret S hM dX7_ticksOnce_398
    · have hf := if_f cn hf
      refine lv_aload_n S.x S.b dX7_ticksOnce_299 rfl (lv_at hl 1 rfl) ?_
      refine lv_bipush (v := (44 : Int32)) S.x S.b dX7_ticksOnce_300 kb_44 ?_
      refine lv_iload S.x S.b dX7_ticksOnce_302 (lv_at hl 4 rfl) ?_
      refine lv_iadd S.x S.b dX7_ticksOnce_304 ?_
      obtain ⟨hi, hf⟩ := ck_some hf
      refine mm_ldr S hM jr hj hi dX7_ticksOnce_305 ?_
      obtain ⟨x5_21, ex, hf⟩ := lt_some hf
      refine g_ist S (x' := x5_21) ex hl dX7_ticksOnce_306 rfl (lv' := [(5, .int x5_21), (0, .ref h), (1, .ref (ad jr)), (2, .int x2), (3, .int x3), (4, .int x4)]) rfl (fun ls hl => ?_)
      refine lv_aload_n S.x S.b dX7_ticksOnce_308 rfl (lv_at hl 1 rfl) ?_
      refine mm_g S hM 7 rfl q1455 rfl dX7_ticksOnce_309 ?_
      refine lv_iload S.x S.b dX7_ticksOnce_312 (lv_at hl 5 rfl) ?_
      obtain ⟨hi, hf⟩ := ck_some hf
      refine mm_ld S hM 5 rfl hi dX7_ticksOnce_314 ?_
      refine lv_if_le (tgt := 332) S.x S.b dX7_ticksOnce_315 rfl (fun cn => ?_) (fun cn => ?_)
      · have hf := if_t cn hf
        exact wX7_ticksOnce_332 S hj ih x2 x3 x4 x5_21 w _ _ _ hM (lv_sub hl [1, 2, 3, 4, 5, 0] rfl) hf
      · have hf := if_f cn hf
        refine lv_iload_n S.x S.b dX7_ticksOnce_318 rfl (lv_at hl 3 rfl) ?_
        refine lv_iload S.x S.b dX7_ticksOnce_319 (lv_at hl 5 rfl) ?_
        refine lv_ishr S.x S.b dX7_ticksOnce_321 ?_
        refine lv_iconst (v := (1 : Int32)) S.x S.b dX7_ticksOnce_322 ki_1 ?_
        refine lv_iand S.x S.b dX7_ticksOnce_323 ?_
        refine lv_iconst (v := (1 : Int32)) S.x S.b dX7_ticksOnce_324 ki_1 ?_
        refine lv_icmp_ne (tgt := 332) S.x S.b dX7_ticksOnce_325 rfl (fun cn => ?_) (fun cn => ?_)
        · have hf := if_f cn hf
          exact wX7_ticksOnce_332 S hj ih x2 x3 x4 x5_21 w _ _ _ hM (lv_sub hl [1, 2, 3, 4, 5, 0] rfl) hf
        · have hf := if_t cn hf
          refine lv_iconst (v := (1 : Int32)) S.x S.b dX7_ticksOnce_328 ki_1 ?_
          refine lv_goto (tgt := 333) S.x S.b dX7_ticksOnce_329 rfl ?_
          exact wX7_ticksOnce_333 S hj ih x2 x3 x4 x5_21 (1 : Int32) w _ _ _ hM (lv_sub hl [1, 2, 3, 4, 5, 0] rfl) hf
set_option maxHeartbeats 4000000 in
theorem wX7_ticksOnce_175 {p : Program} {l : Launch} {e : Env} {s : State} {m : MethodId} {args : Array Value} {below : List Frame} {meth : Method} {c : Code} {D : va_G} {T : Nat → ClassId} {A : Nat → Prop} {h : Nat} {ad : Nat → Nat} {wr : MW} {N : Nat} {jr : Nat} (S : gS p s m args meth c cX7_ticksOnce 8 (none) RX7 D T) (hj : Nat.ble (jr + 1) 2 = true) : ∀ (n : Nat) (x2 : Int32) (x3 : Int32) (x4 : Int32) (w : MW) (H : Heap) (locs : List Loc) (ls : Array Slot), gM D A s.heap (mmW h ad (T 0) w) H locs → lv_has ls 8 [(0, .ref h), (1, .ref (ad jr)), (2, .int x2), (3, .int x3), (4, .int x4)] → gX7_ticksOnce_175 N jr n x2 x3 x4 w = some wr → W p l e rmX7_ticksOnce s m args below meth c H locs 0 0 (MQ below (gQv D T A (mmW h ad (T 0) wr)) args s 0 0 A) (F0 m 175 ls []) := by
  intro n
  induction n with
  | zero =>
    intro x2 x3 x4 w H locs ls hM hl hf
    cases hf
  | succ n ih =>
    intro x2 x3 x4 w H locs ls hM hl hf
    refine lv_iload S.x S.b dX7_ticksOnce_175 (lv_at hl 4 rfl) ?_
    refine lv_bipush (v := (6 : Int32)) S.x S.b dX7_ticksOnce_177 kb_6 ?_
    refine lv_icmp_ge (tgt := 287) S.x S.b dX7_ticksOnce_179 rfl (fun cn => ?_) (fun cn => ?_)
    · have hf := if_t cn hf
      refine lv_iconst (v := (0 : Int32)) S.x S.b dX7_ticksOnce_287 ki_0 ?_
      refine g_ist S (x' := (0 : Int32)) rfl hl dX7_ticksOnce_288 rfl (lv' := [(4, .int (0 : Int32)), (0, .ref h), (1, .ref (ad jr)), (2, .int x2), (3, .int x3)]) rfl (fun ls hl => ?_)
      exact wX7_ticksOnce_290 S hj N x2 x3 (0 : Int32) w _ _ _ hM (lv_sub hl [1, 2, 3, 4, 0] rfl) hf
    · have hf := if_f cn hf
      refine lv_aload_n S.x S.b dX7_ticksOnce_182 rfl (lv_at hl 1 rfl) ?_
      refine lv_bipush (v := (26 : Int32)) S.x S.b dX7_ticksOnce_183 kb_26 ?_
      refine lv_iload S.x S.b dX7_ticksOnce_185 (lv_at hl 4 rfl) ?_
      refine lv_iadd S.x S.b dX7_ticksOnce_187 ?_
      obtain ⟨hi, hf⟩ := ck_some hf
      refine mm_ldr S hM jr hj hi dX7_ticksOnce_188 ?_
      refine lv_iconst (v := (1 : Int32)) S.x S.b dX7_ticksOnce_189 ki_1 ?_
      refine lv_icmp_ne (tgt := 203) S.x S.b dX7_ticksOnce_190 rfl (fun cn => ?_) (fun cn => ?_)
      · have hf := if_f cn hf
        refine lv_iconst (v := (0 : Int32)) S.x S.b dX7_ticksOnce_203 ki_0 ?_
        exact wX7_ticksOnce_204 S hj ih x2 x3 x4 (0 : Int32) w _ _ _ hM (lv_sub hl [0, 1, 2, 3, 4] rfl) hf
      · have hf := if_t cn hf
        refine lv_aload_n S.x S.b dX7_ticksOnce_193 rfl (lv_at hl 0 rfl) ?_
        refine mm_g S hM 2 rfl q1450 rfl dX7_ticksOnce_194 ?_
        refine lv_iload S.x S.b dX7_ticksOnce_197 (lv_at hl 4 rfl) ?_
        obtain ⟨hi, hf⟩ := ck_some hf
        refine mm_ld S hM 2 rfl hi dX7_ticksOnce_199 ?_
        refine lv_goto (tgt := 204) S.x S.b dX7_ticksOnce_200 rfl ?_
        exact wX7_ticksOnce_204 S hj ih x2 x3 x4 (w.2 2 x4.toNatClampNeg) w _ _ _ hM (lv_sub hl [0, 1, 2, 3, 4] rfl) hf
set_option maxHeartbeats 4000000 in
theorem wX7_ticksOnce_11 {p : Program} {l : Launch} {e : Env} {s : State} {m : MethodId} {args : Array Value} {below : List Frame} {meth : Method} {c : Code} {D : va_G} {T : Nat → ClassId} {A : Nat → Prop} {h : Nat} {ad : Nat → Nat} {wr : MW} {N : Nat} {jr : Nat} (S : gS p s m args meth c cX7_ticksOnce 8 (none) RX7 D T) (hj : Nat.ble (jr + 1) 2 = true) : ∀ (n : Nat) (x2 : Int32) (x3 : Int32) (x4 : Int32) (w : MW) (H : Heap) (locs : List Loc) (ls : Array Slot), gM D A s.heap (mmW h ad (T 0) w) H locs → lv_has ls 8 [(0, .ref h), (1, .ref (ad jr)), (2, .int x2), (3, .int x3), (4, .int x4)] → gX7_ticksOnce_11 N jr n x2 x3 x4 w = some wr → W p l e rmX7_ticksOnce s m args below meth c H locs 0 0 (MQ below (gQv D T A (mmW h ad (T 0) wr)) args s 0 0 A) (F0 m 11 ls []) := by
  intro n
  induction n with
  | zero =>
    intro x2 x3 x4 w H locs ls hM hl hf
    cases hf
  | succ n ih =>
    intro x2 x3 x4 w H locs ls hM hl hf
    refine lv_iload S.x S.b dX7_ticksOnce_11 (lv_at hl 4 rfl) ?_
    refine lv_bipush (v := (6 : Int32)) S.x S.b dX7_ticksOnce_13 kb_6 ?_
    refine lv_icmp_ge (tgt := 172) S.x S.b dX7_ticksOnce_15 rfl (fun cn => ?_) (fun cn => ?_)
    · have hf := if_t cn hf
      refine lv_iconst (v := (0 : Int32)) S.x S.b dX7_ticksOnce_172 ki_0 ?_
      refine g_ist S (x' := (0 : Int32)) rfl hl dX7_ticksOnce_173 rfl (lv' := [(4, .int (0 : Int32)), (0, .ref h), (1, .ref (ad jr)), (2, .int x2), (3, .int x3)]) rfl (fun ls hl => ?_)
      exact wX7_ticksOnce_175 S hj N x2 x3 (0 : Int32) w _ _ _ hM (lv_sub hl [1, 2, 3, 4, 0] rfl) hf
    · have hf := if_f cn hf
      refine lv_iconst (v := (0 : Int32)) S.x S.b dX7_ticksOnce_18 ki_0 ?_
      refine g_ist S (x' := (0 : Int32)) rfl hl dX7_ticksOnce_19 rfl (lv' := [(5, .int (0 : Int32)), (0, .ref h), (1, .ref (ad jr)), (2, .int x2), (3, .int x3), (4, .int x4)]) rfl (fun ls hl => ?_)
      refine lv_iconst (v := (0 : Int32)) S.x S.b dX7_ticksOnce_21 ki_0 ?_
      refine g_ist S (x' := (0 : Int32)) rfl hl dX7_ticksOnce_22 rfl (lv' := [(6, .int (0 : Int32)), (5, .int (0 : Int32)), (0, .ref h), (1, .ref (ad jr)), (2, .int x2), (3, .int x3), (4, .int x4)]) rfl (fun ls hl => ?_)
      exact wX7_ticksOnce_24 S hj ih N x2 x3 x4 (0 : Int32) (0 : Int32) w _ _ _ hM (lv_sub hl [2, 3, 4, 5, 6, 1, 0] rfl) hf
set_option maxHeartbeats 4000000 in
theorem metX7_ticksOnce {l : Launch} {D : va_G} {T : Nat → ClassId} {h : Nat} {ad : Nat → Nat} {wr : MW} {N : Nat} {w : MW} {jr : Nat} (hj : Nat.ble (jr + 1) 2 = true) (hf : gX7_ticksOnce N jr w = some wr) (sz : Nat) : MetV l yX7_ticksOnce (ws_ yX7_ticksOnce cX7_ticksOnce 8 (none)) rmX7_ticksOnce D T (mmW h ad (T 0) w) sz [.ref h, .ref (ad jr)] (mmW h ad (T 0) wr) := by
  refine g_entry (Qc := fun A => gQv D T A (mmW h ad (T 0) wr)) (by decide) rfl ?_
  intro p e s m below meth c ls S hM hl
  have hl : lv_has ls 8 [(0, .ref h), (1, .ref (ad jr))] := hl
  refine lv_aload_n S.x S.b dX7_ticksOnce_0 rfl (lv_at hl 0 rfl) ?_
  refine lv_aload_n S.x S.b dX7_ticksOnce_1 rfl (lv_at hl 1 rfl) ?_
  obtain ⟨r_2, w_1, hc, hf⟩ := bd2_some hf
  refine mm_ci S hM hl [.ref (ad jr)] rfl (metX7_decides (jr := jr) hj hc) hdX7_decides q1679 q1681 qs52 q69 q1682 ⟨rfl, rfl⟩ ⟨rfl, rfl⟩ rfl rfl rfl ⟨Nat.zero_le _, Nat.zero_le _⟩ dX7_ticksOnce_2 (fun H locs hM => ?_)
  refine g_istn S (x' := r_2) rfl hl dX7_ticksOnce_5 rfl rfl (lv' := [(2, .int r_2), (0, .ref h), (1, .ref (ad jr))]) rfl (fun ls hl => ?_)
  refine lv_iconst (v := (0 : Int32)) S.x S.b dX7_ticksOnce_6 ki_0 ?_
  refine g_istn S (x' := (0 : Int32)) rfl hl dX7_ticksOnce_7 rfl rfl (lv' := [(3, .int (0 : Int32)), (2, .int r_2), (0, .ref h), (1, .ref (ad jr))]) rfl (fun ls hl => ?_)
  refine lv_iconst (v := (0 : Int32)) S.x S.b dX7_ticksOnce_8 ki_0 ?_
  refine g_ist S (x' := (0 : Int32)) rfl hl dX7_ticksOnce_9 rfl (lv' := [(4, .int (0 : Int32)), (3, .int (0 : Int32)), (2, .int r_2), (0, .ref h), (1, .ref (ad jr))]) rfl (fun ls hl => ?_)
  exact wX7_ticksOnce_11 S hj N r_2 (0 : Int32) (0 : Int32) w_1 _ _ _ hM (lv_sub hl [3, 4, 2, 1, 0] rfl) hf
/-! SequenceBenchModel.tries(IIIIZ)V -/
theorem hdX7_tries : gHd yX7_tries 5 := by decide +kernel
def gX7_tries_66 (N : Nat) : Nat → Int32 → Int32 → Int32 → MW → Option (MW)
  | 0, _, _, _, _ => none
  | n + 1, x4, x5, x6, w =>
    if x4 ≤ x6 then (
    some w)
    else (
    if x5 = 0 then (
    bd (gX7_ticksOnce N 1 w) fun w_8 =>
    lt (x6 + (1 : Int32)) fun x6_9 =>
    gX7_tries_66 N n x4 x5 x6_9 w_8)
    else (
    ck (9 : Int32) 140 <|
    if (2 : Int32) ≤ (w.2 1 (9 : Int32).toNatClampNeg) then (
    some w)
    else (
    bd (gX7_ticksOnce N 1 w) fun w_10 =>
    lt (x6 + (1 : Int32)) fun x6_11 =>
    gX7_tries_66 N n x4 x5 x6_11 w_10)))
def gX7_tries_3 (N : Nat) : Nat → Int32 → Int32 → Int32 → Int32 → Int32 → Int32 → MW → Option (MW)
  | 0, _, _, _, _, _, _, _ => none
  | n + 1, x1, x2, x3, x4, x5, x6, w =>
    if (140 : Int32) ≤ x6 then (
    ck (1 : Int32) 140 <|
    lt (setA w 1 (1 : Int32).toNatClampNeg x1) fun w_1 =>
    ck (2 : Int32) 140 <|
    lt (setA w_1 1 (2 : Int32).toNatClampNeg (1 : Int32)) fun w_2 =>
    if x2 < 0 then (
    bd (gX7_rests N 1 w_2) fun w_3 =>
    gX7_tries_66 N N x4 x5 (0 : Int32) w_3)
    else (
    ck ((38 : Int32) + x2) 140 <|
    lt (setA w_2 1 ((38 : Int32) + x2).toNatClampNeg ((1 : Int32) <<< (x3 &&& 31))) fun w_4 =>
    bd (gX7_rests N 1 w_4) fun w_5 =>
    gX7_tries_66 N N x4 x5 (0 : Int32) w_5))
    else (
    ck x6 140 <|
    lt (setA w 1 x6.toNatClampNeg (0 : Int32)) fun w_6 =>
    lt (x6 + (1 : Int32)) fun x6_7 =>
    gX7_tries_3 N n x1 x2 x3 x4 x5 x6_7 w_6)
def gX7_tries (N : Nat) (x1 : Int32) (x2 : Int32) (x3 : Int32) (x4 : Int32) (x5 : Int32) (w : MW) : Option (MW) :=
  gX7_tries_3 N N x1 x2 x3 x4 x5 (0 : Int32) w
abbrev rmX7_tries : Room := { frames := 5, cells := 0, slots := 0, locals := 116 }
set_option maxHeartbeats 4000000 in
theorem wX7_tries_66 {p : Program} {l : Launch} {e : Env} {s : State} {m : MethodId} {args : Array Value} {below : List Frame} {meth : Method} {c : Code} {D : va_G} {T : Nat → ClassId} {A : Nat → Prop} {h : Nat} {ad : Nat → Nat} {wr : MW} {N : Nat} (S : gS p s m args meth c cX7_tries 7 (none) RX7 D T) : ∀ (n : Nat) (x4 : Int32) (x5 : Int32) (x6 : Int32) (w : MW) (H : Heap) (locs : List Loc) (ls : Array Slot), gM D A s.heap (mmW h ad (T 0) w) H locs → lv_has ls 7 [(0, .ref h), (4, .int x4), (5, .int x5), (6, .int x6)] → gX7_tries_66 N n x4 x5 x6 w = some wr → W p l e rmX7_tries s m args below meth c H locs 0 0 (MQ below (gQv D T A (mmW h ad (T 0) wr)) args s 0 0 A) (F0 m 66 ls []) := by
  intro n
  induction n with
  | zero =>
    intro x4 x5 x6 w H locs ls hM hl hf
    cases hf
  | succ n ih =>
    intro x4 x5 x6 w H locs ls hM hl hf
    refine lv_iload S.x S.b dX7_tries_66 (lv_at hl 3 rfl) ?_
    refine lv_iload S.x S.b dX7_tries_68 (lv_at hl 1 rfl) ?_
    refine lv_icmp_ge (tgt := 103) S.x S.b dX7_tries_70 rfl (fun cn => ?_) (fun cn => ?_)
    · have hf := if_t cn hf
      obtain rfl := rt1 hf
      exact g_vret S hM dX7_tries_103
    · have hf := if_f cn hf
      refine lv_iload S.x S.b dX7_tries_73 (lv_at hl 2 rfl) ?_
      refine lv_if_eq (tgt := 89) S.x S.b dX7_tries_75 rfl (fun cn => ?_) (fun cn => ?_)
      · have hf := if_t cn hf
        refine lv_aload_n S.x S.b dX7_tries_89 rfl (lv_at hl 0 rfl) ?_
        refine lv_aload_n S.x S.b dX7_tries_90 rfl (lv_at hl 0 rfl) ?_
        refine mm_g S hM 1 rfl q1449 rfl dX7_tries_91 ?_
        obtain ⟨w_8, hc, hf⟩ := bd_some hf
        refine mm_cv S hM hl [.ref (ad 1)] rfl (metX7_ticksOnce (jr := 1) rfl hc) hdX7_ticksOnce q1675 q1677 qs51 q69 q1678 ⟨rfl, rfl⟩ ⟨rfl, rfl⟩ rfl rfl rfl ⟨Nat.zero_le _, Nat.zero_le _⟩ dX7_tries_94 (fun H locs hM => ?_)
        obtain ⟨x6_9, ex, hf⟩ := lt_some hf
        refine g_inc S (x' := x6_9) (d := (1 : Int32)) hl (k := 3) rfl ki_1 ex dX7_tries_97 rfl (lv' := [(6, .int x6_9), (0, .ref h), (4, .int x4), (5, .int x5)]) rfl (fun ls hl => ?_)
        refine lv_goto (tgt := 66) S.x S.b dX7_tries_100 rfl ?_
        exact ih x4 x5 x6_9 w_8 _ _ _ hM (lv_sub hl [1, 2, 3, 0] rfl) hf
      · have hf := if_f cn hf
        refine lv_aload_n S.x S.b dX7_tries_78 rfl (lv_at hl 0 rfl) ?_
        refine mm_g S hM 1 rfl q1449 rfl dX7_tries_79 ?_
        refine lv_bipush (v := (9 : Int32)) S.x S.b dX7_tries_82 kb_9 ?_
        obtain ⟨hi, hf⟩ := ck_some hf
        refine mm_ld S hM 1 rfl hi dX7_tries_84 ?_
        refine lv_iconst (v := (2 : Int32)) S.x S.b dX7_tries_85 ki_2 ?_
        refine lv_icmp_ge (tgt := 103) S.x S.b dX7_tries_86 rfl (fun cn => ?_) (fun cn => ?_)
        · have hf := if_t cn hf
          obtain rfl := rt1 hf
          exact g_vret S hM dX7_tries_103
        · have hf := if_f cn hf
          refine lv_aload_n S.x S.b dX7_tries_89 rfl (lv_at hl 0 rfl) ?_
          refine lv_aload_n S.x S.b dX7_tries_90 rfl (lv_at hl 0 rfl) ?_
          refine mm_g S hM 1 rfl q1449 rfl dX7_tries_91 ?_
          obtain ⟨w_10, hc, hf⟩ := bd_some hf
          refine mm_cv S hM hl [.ref (ad 1)] rfl (metX7_ticksOnce (jr := 1) rfl hc) hdX7_ticksOnce q1675 q1677 qs51 q69 q1678 ⟨rfl, rfl⟩ ⟨rfl, rfl⟩ rfl rfl rfl ⟨Nat.zero_le _, Nat.zero_le _⟩ dX7_tries_94 (fun H locs hM => ?_)
          obtain ⟨x6_11, ex, hf⟩ := lt_some hf
          refine g_inc S (x' := x6_11) (d := (1 : Int32)) hl (k := 3) rfl ki_1 ex dX7_tries_97 rfl (lv' := [(6, .int x6_11), (0, .ref h), (4, .int x4), (5, .int x5)]) rfl (fun ls hl => ?_)
          refine lv_goto (tgt := 66) S.x S.b dX7_tries_100 rfl ?_
          exact ih x4 x5 x6_11 w_10 _ _ _ hM (lv_sub hl [1, 2, 3, 0] rfl) hf
set_option maxHeartbeats 4000000 in
theorem wX7_tries_3 {p : Program} {l : Launch} {e : Env} {s : State} {m : MethodId} {args : Array Value} {below : List Frame} {meth : Method} {c : Code} {D : va_G} {T : Nat → ClassId} {A : Nat → Prop} {h : Nat} {ad : Nat → Nat} {wr : MW} {N : Nat} (S : gS p s m args meth c cX7_tries 7 (none) RX7 D T) : ∀ (n : Nat) (x1 : Int32) (x2 : Int32) (x3 : Int32) (x4 : Int32) (x5 : Int32) (x6 : Int32) (w : MW) (H : Heap) (locs : List Loc) (ls : Array Slot), gM D A s.heap (mmW h ad (T 0) w) H locs → lv_has ls 7 [(0, .ref h), (1, .int x1), (2, .int x2), (3, .int x3), (4, .int x4), (5, .int x5), (6, .int x6)] → gX7_tries_3 N n x1 x2 x3 x4 x5 x6 w = some wr → W p l e rmX7_tries s m args below meth c H locs 0 0 (MQ below (gQv D T A (mmW h ad (T 0) wr)) args s 0 0 A) (F0 m 3 ls []) := by
  intro n
  induction n with
  | zero =>
    intro x1 x2 x3 x4 x5 x6 w H locs ls hM hl hf
    cases hf
  | succ n ih =>
    intro x1 x2 x3 x4 x5 x6 w H locs ls hM hl hf
    refine lv_iload S.x S.b dX7_tries_3 (lv_at hl 6 rfl) ?_
    refine lv_sipush (v := (140 : Int32)) S.x S.b dX7_tries_5 ks_140 ?_
    refine lv_icmp_ge (tgt := 25) S.x S.b dX7_tries_8 rfl (fun cn => ?_) (fun cn => ?_)
    · have hf := if_t cn hf
      refine lv_aload_n S.x S.b dX7_tries_25 rfl (lv_at hl 0 rfl) ?_
      refine mm_g S hM 1 rfl q1449 rfl dX7_tries_26 ?_
      refine lv_iconst (v := (1 : Int32)) S.x S.b dX7_tries_29 ki_1 ?_
      refine lv_iload_n S.x S.b dX7_tries_30 rfl (lv_at hl 1 rfl) ?_
      obtain ⟨hi, hf⟩ := ck_some hf
      obtain ⟨w_1, ew, hf⟩ := lt_some hf
      refine mm_st S hM 1 rfl hi ew dX7_tries_31 (fun H locs hM => ?_)
      refine lv_aload_n S.x S.b dX7_tries_32 rfl (lv_at hl 0 rfl) ?_
      refine mm_g S hM 1 rfl q1449 rfl dX7_tries_33 ?_
      refine lv_iconst (v := (2 : Int32)) S.x S.b dX7_tries_36 ki_2 ?_
      refine lv_iconst (v := (1 : Int32)) S.x S.b dX7_tries_37 ki_1 ?_
      obtain ⟨hi, hf⟩ := ck_some hf
      obtain ⟨w_2, ew, hf⟩ := lt_some hf
      refine mm_st S hM 1 rfl hi ew dX7_tries_38 (fun H locs hM => ?_)
      refine lv_iload_n S.x S.b dX7_tries_39 rfl (lv_at hl 2 rfl) ?_
      refine lv_if_lt (tgt := 55) S.x S.b dX7_tries_40 rfl (fun cn => ?_) (fun cn => ?_)
      · have hf := if_t cn hf
        refine lv_aload_n S.x S.b dX7_tries_55 rfl (lv_at hl 0 rfl) ?_
        refine lv_aload_n S.x S.b dX7_tries_56 rfl (lv_at hl 0 rfl) ?_
        refine mm_g S hM 1 rfl q1449 rfl dX7_tries_57 ?_
        obtain ⟨w_3, hc, hf⟩ := bd_some hf
        refine mm_cv S hM hl [.ref (ad 1)] rfl (metX7_rests (jr := 1) rfl hc) hdX7_rests q1433 q1435 qs29 q69 q1436 ⟨rfl, rfl⟩ ⟨rfl, rfl⟩ rfl rfl rfl ⟨Nat.zero_le _, Nat.zero_le _⟩ dX7_tries_60 (fun H locs hM => ?_)
        refine lv_iconst (v := (0 : Int32)) S.x S.b dX7_tries_63 ki_0 ?_
        refine g_ist S (x' := (0 : Int32)) rfl hl dX7_tries_64 rfl (lv' := [(6, .int (0 : Int32)), (0, .ref h), (1, .int x1), (2, .int x2), (3, .int x3), (4, .int x4), (5, .int x5)]) rfl (fun ls hl => ?_)
        exact wX7_tries_66 S N x4 x5 (0 : Int32) w_3 _ _ _ hM (lv_sub hl [1, 5, 6, 0] rfl) hf
      · have hf := if_f cn hf
        refine lv_aload_n S.x S.b dX7_tries_43 rfl (lv_at hl 0 rfl) ?_
        refine mm_g S hM 1 rfl q1449 rfl dX7_tries_44 ?_
        refine lv_bipush (v := (38 : Int32)) S.x S.b dX7_tries_47 kb_38 ?_
        refine lv_iload_n S.x S.b dX7_tries_49 rfl (lv_at hl 2 rfl) ?_
        refine lv_iadd S.x S.b dX7_tries_50 ?_
        refine lv_iconst (v := (1 : Int32)) S.x S.b dX7_tries_51 ki_1 ?_
        refine lv_iload_n S.x S.b dX7_tries_52 rfl (lv_at hl 3 rfl) ?_
        refine lv_ishl S.x S.b dX7_tries_53 ?_
        obtain ⟨hi, hf⟩ := ck_some hf
        obtain ⟨w_4, ew, hf⟩ := lt_some hf
        refine mm_st S hM 1 rfl hi ew dX7_tries_54 (fun H locs hM => ?_)
        refine lv_aload_n S.x S.b dX7_tries_55 rfl (lv_at hl 0 rfl) ?_
        refine lv_aload_n S.x S.b dX7_tries_56 rfl (lv_at hl 0 rfl) ?_
        refine mm_g S hM 1 rfl q1449 rfl dX7_tries_57 ?_
        obtain ⟨w_5, hc, hf⟩ := bd_some hf
        refine mm_cv S hM hl [.ref (ad 1)] rfl (metX7_rests (jr := 1) rfl hc) hdX7_rests q1433 q1435 qs29 q69 q1436 ⟨rfl, rfl⟩ ⟨rfl, rfl⟩ rfl rfl rfl ⟨Nat.zero_le _, Nat.zero_le _⟩ dX7_tries_60 (fun H locs hM => ?_)
        refine lv_iconst (v := (0 : Int32)) S.x S.b dX7_tries_63 ki_0 ?_
        refine g_ist S (x' := (0 : Int32)) rfl hl dX7_tries_64 rfl (lv' := [(6, .int (0 : Int32)), (0, .ref h), (1, .int x1), (2, .int x2), (3, .int x3), (4, .int x4), (5, .int x5)]) rfl (fun ls hl => ?_)
        exact wX7_tries_66 S N x4 x5 (0 : Int32) w_5 _ _ _ hM (lv_sub hl [1, 5, 6, 0] rfl) hf
    · have hf := if_f cn hf
      refine lv_aload_n S.x S.b dX7_tries_11 rfl (lv_at hl 0 rfl) ?_
      refine mm_g S hM 1 rfl q1449 rfl dX7_tries_12 ?_
      refine lv_iload S.x S.b dX7_tries_15 (lv_at hl 6 rfl) ?_
      refine lv_iconst (v := (0 : Int32)) S.x S.b dX7_tries_17 ki_0 ?_
      obtain ⟨hi, hf⟩ := ck_some hf
      obtain ⟨w_6, ew, hf⟩ := lt_some hf
      refine mm_st S hM 1 rfl hi ew dX7_tries_18 (fun H locs hM => ?_)
      obtain ⟨x6_7, ex, hf⟩ := lt_some hf
      refine g_inc S (x' := x6_7) (d := (1 : Int32)) hl (k := 6) rfl ki_1 ex dX7_tries_19 rfl (lv' := [(6, .int x6_7), (0, .ref h), (1, .int x1), (2, .int x2), (3, .int x3), (4, .int x4), (5, .int x5)]) rfl (fun ls hl => ?_)
      refine lv_goto (tgt := 3) S.x S.b dX7_tries_22 rfl ?_
      exact ih x1 x2 x3 x4 x5 x6_7 w_6 _ _ _ hM (lv_sub hl [1, 2, 3, 4, 5, 6, 0] rfl) hf
set_option maxHeartbeats 4000000 in
theorem metX7_tries {l : Launch} {D : va_G} {T : Nat → ClassId} {h : Nat} {ad : Nat → Nat} {wr : MW} {N : Nat} {x1 : Int32} {x2 : Int32} {x3 : Int32} {x4 : Int32} {x5 : Int32} {w : MW} (hf : gX7_tries N x1 x2 x3 x4 x5 w = some wr) (sz : Nat) : MetV l yX7_tries (ws_ yX7_tries cX7_tries 7 (none)) rmX7_tries D T (mmW h ad (T 0) w) sz [.ref h, .int x1, .int x2, .int x3, .int x4, .int x5] (mmW h ad (T 0) wr) := by
  refine g_entry (Qc := fun A => gQv D T A (mmW h ad (T 0) wr)) (by decide) rfl ?_
  intro p e s m below meth c ls S hM hl
  have hl : lv_has ls 7 [(0, .ref h), (1, .int x1), (2, .int x2), (3, .int x3), (4, .int x4), (5, .int x5)] := hl
  refine lv_iconst (v := (0 : Int32)) S.x S.b dX7_tries_0 ki_0 ?_
  refine g_ist S (x' := (0 : Int32)) rfl hl dX7_tries_1 rfl (lv' := [(6, .int (0 : Int32)), (0, .ref h), (1, .int x1), (2, .int x2), (3, .int x3), (4, .int x4), (5, .int x5)]) rfl (fun ls hl => ?_)
  exact wX7_tries_3 S N x1 x2 x3 x4 x5 (0 : Int32) w _ _ _ hM (lv_sub hl [1, 2, 3, 4, 5, 6, 0] rfl) hf
/-! SequenceBenchModel.cycleOf(I)I -/
theorem hdX7_cycleOf : gHd yX7_cycleOf 1 := by decide +kernel
def gX7_cycleOf (N : Nat) (x1 : Int32) (w : MW) : Option (Int32 × MW) :=
  bd (gX7_tries N x1 (-1 : Int32) (0 : Int32) (4000 : Int32) (1 : Int32) w) fun w_1 =>
  ck (12 : Int32) 140 <|
  if (w_1.2 1 (12 : Int32).toNatClampNeg) < 0 then (
  some ((-1 : Int32), w_1))
  else (
  ck (12 : Int32) 140 <|
  ck (11 : Int32) 140 <|
  some (((w_1.2 1 (12 : Int32).toNatClampNeg) - (w_1.2 1 (11 : Int32).toNatClampNeg)), w_1))
abbrev rmX7_cycleOf : Room := { frames := 6, cells := 0, slots := 0, locals := 142 }
set_option maxHeartbeats 4000000 in
theorem metX7_cycleOf {l : Launch} {D : va_G} {T : Nat → ClassId} {h : Nat} {ad : Nat → Nat} {rr : Int32} {wr : MW} {N : Nat} {x1 : Int32} {w : MW} (hf : gX7_cycleOf N x1 w = some (rr, wr)) (sz : Nat) : MetI l yX7_cycleOf (ws_ yX7_cycleOf cX7_cycleOf 2 (some .int)) rmX7_cycleOf D T (mmW h ad (T 0) w) sz [.ref h, .int x1] rr (mmW h ad (T 0) wr) := by
  refine g_entry (Qc := fun A => gQi D T A rr (mmW h ad (T 0) wr)) (by decide) rfl ?_
  intro p e s m below meth c ls S hM hl
  have hl : lv_has ls 2 [(0, .ref h), (1, .int x1)] := hl
  refine lv_aload_n S.x S.b dX7_cycleOf_0 rfl (lv_at hl 0 rfl) ?_
  refine lv_iload_n S.x S.b dX7_cycleOf_1 rfl (lv_at hl 1 rfl) ?_
  refine lv_iconst (v := (-1 : Int32)) S.x S.b dX7_cycleOf_2 ki_m1 ?_
  refine lv_iconst (v := (0 : Int32)) S.x S.b dX7_cycleOf_3 ki_0 ?_
  refine lv_sipush (v := (4000 : Int32)) S.x S.b dX7_cycleOf_4 ks_4000 ?_
  refine lv_iconst (v := (1 : Int32)) S.x S.b dX7_cycleOf_7 ki_1 ?_
  obtain ⟨w_1, hc, hf⟩ := bd_some hf
  refine mm_cv S hM hl [.int x1, .int (-1 : Int32), .int (0 : Int32), .int (4000 : Int32), .int (1 : Int32)] rfl (metX7_tries hc) hdX7_tries q1763 q1765 qs59 q69 q1766 ⟨rfl, rfl⟩ ⟨rfl, rfl⟩ rfl rfl rfl ⟨Nat.zero_le _, Nat.zero_le _⟩ dX7_cycleOf_8 (fun H locs hM => ?_)
  refine lv_aload_n S.x S.b dX7_cycleOf_11 rfl (lv_at hl 0 rfl) ?_
  refine mm_g S hM 1 rfl q1449 rfl dX7_cycleOf_12 ?_
  refine lv_bipush (v := (12 : Int32)) S.x S.b dX7_cycleOf_15 kb_12 ?_
  obtain ⟨hi, hf⟩ := ck_some hf
  refine mm_ld S hM 1 rfl hi dX7_cycleOf_17 ?_
  refine lv_if_lt (tgt := 39) S.x S.b dX7_cycleOf_18 rfl (fun cn => ?_) (fun cn => ?_)
  · have hf := if_t cn hf
    refine lv_iconst (v := (-1 : Int32)) S.x S.b dX7_cycleOf_39 ki_m1 ?_
    obtain ⟨rfl, rfl⟩ := rt2 hf
    exact g_iret S hM rfl dX7_cycleOf_40
  · have hf := if_f cn hf
    refine lv_aload_n S.x S.b dX7_cycleOf_21 rfl (lv_at hl 0 rfl) ?_
    refine mm_g S hM 1 rfl q1449 rfl dX7_cycleOf_22 ?_
    refine lv_bipush (v := (12 : Int32)) S.x S.b dX7_cycleOf_25 kb_12 ?_
    obtain ⟨hi, hf⟩ := ck_some hf
    refine mm_ld S hM 1 rfl hi dX7_cycleOf_27 ?_
    refine lv_aload_n S.x S.b dX7_cycleOf_28 rfl (lv_at hl 0 rfl) ?_
    refine mm_g S hM 1 rfl q1449 rfl dX7_cycleOf_29 ?_
    refine lv_bipush (v := (11 : Int32)) S.x S.b dX7_cycleOf_32 kb_11 ?_
    obtain ⟨hi, hf⟩ := ck_some hf
    refine mm_ld S hM 1 rfl hi dX7_cycleOf_34 ?_
    refine lv_isub S.x S.b dX7_cycleOf_35 ?_
    refine lv_goto (tgt := 40) S.x S.b dX7_cycleOf_36 rfl ?_
    obtain ⟨rfl, rfl⟩ := rt2 hf
    exact g_iret S hM rfl dX7_cycleOf_40
