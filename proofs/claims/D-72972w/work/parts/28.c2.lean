/-! constants -/
theorem hdDecide : gHd cDecide 0 := by decide +kernel
theorem hdActive : gHd cActive 0 := by decide +kernel
set_option maxRecDepth 100000
/-! SequenceBench$Direct.decide()V -/
theorem hdX4_decide : gHd yX4_decide 0 := by decide +kernel
def gX4_decide_2 (N : Nat) (ns : Nat) (q : MW) : Nat → Int32 → MW → Option (MW)
  | 0, _, _ => none
  | n + 1, x1, w =>
    if (Int32.ofNat ns) ≤ x1 then (
    some w)
    else (
    ck x1 ns <|
    bd2 (gHold0 ns q x1 w) fun r_3 w_2 =>
    if r_3 = 0 then (
    lt (x1 + (1 : Int32)) fun x1_4 =>
    gX4_decide_2 N ns q n x1_4 w_2)
    else (
    bd (gX3_command ns q x1 w_2) fun w_5 =>
    lt (setF w_5 30 (w_2.1 30)) fun w_7 =>
    lt (x1 + (1 : Int32)) fun x1_8 =>
    gX4_decide_2 N ns q n x1_8 w_7))
def gX4_decide (N : Nat) (ns : Nat) (q : MW) (w : MW) : Option (MW) :=
  gX4_decide_2 N ns q N (0 : Int32) w
abbrev rmX4_decide : Room := { frames := 4, cells := 0, slots := 0, locals := 75 }
set_option maxHeartbeats 4000000 in
theorem wX4_decide_2 {p : Program} {l : Launch} {e : Env} {s : State} {m : MethodId} {args : Array Value} {below : List Frame} {meth : Method} {c : Code} {D : va_G} {T : Nat → ClassId} {A : Nat → Prop} {a b sa la : Nat → Nat} {tl : va_W} {wr : MW} {N : Nat} {ns : Nat} {q : MW} (S : gS p s m args meth c cX4_decide 2 (none) RX4 D T) (hQ : SqI T b sa ns q (.ref (b 3)) tl) (hCo : CoI T a la ns tl) (hLa : ∀ w, LaF la ns (rcW 0 a (T 0) (some (b 0)) w tl)) (hX : LamI 0 D a la ns q s.heap) (hXA : ∀ k, k < ns → ¬ A (la k)) : ∀ (n : Nat) (x1 : Int32) (w : MW) (H : Heap) (locs : List Loc) (ls : Array Slot), gM D A s.heap (rcW 0 a (T 0) (some (b 0)) w tl) H locs → lv_has ls 2 [(0, .ref (a 7)), (1, .int x1)] → gX4_decide_2 N ns q n x1 w = some wr → W p l e rmX4_decide s m args below meth c H locs 0 0 (MQ below (gQv D T A (rcW 0 a (T 0) (some (b 0)) wr tl)) args s 0 0 A) (F0 m 2 ls []) := by
  intro n
  induction n with
  | zero =>
    intro x1 w H locs ls hM hl hf
    cases hf
  | succ n ih =>
    intro x1 w H locs ls hM hl hf
    refine lv_iload_n S.x S.b dX4_decide_2 rfl (lv_at hl 1 rfl) ?_
    refine lv_aload_n S.x S.b dX4_decide_3 rfl (lv_at hl 0 rfl) ?_
    refine cr_g S hM rfl rfl in_X4 1 rfl (Or.inl q147) rfl dX4_decide_4 ?_
    refine co_len S hM hCo.rc dX4_decide_7 ?_
    refine lv_icmp_ge (tgt := 39) S.x S.b dX4_decide_8 rfl (fun cn => ?_) (fun cn => ?_)
    · have hf := if_t cn hf
      obtain rfl := rt1 hf
      exact g_vret S hM dX4_decide_39
    · have hf := if_f cn hf
      refine lv_aload_n S.x S.b dX4_decide_11 rfl (lv_at hl 0 rfl) ?_
      refine cr_g S hM rfl rfl in_X4 1 rfl (Or.inl q147) rfl dX4_decide_12 ?_
      refine lv_iload_n S.x S.b dX4_decide_15 rfl (lv_at hl 1 rfl) ?_
      obtain ⟨hi_1, hf⟩ := ck_some hf
      refine co_ald S hM hCo.rc hi_1 dX4_decide_16 ?_
      obtain ⟨r_3, w_2, hc, hf⟩ := bd2_some hf
      refine hold0 S hM hl hQ (hX.kept hXA hM.2.2.1) hi_1 hc q1293 ⟨rfl, rfl⟩ rfl dX4_decide_17 (fun H locs hM => ?_)
      refine lv_if_eq (tgt := 33) S.x S.b dX4_decide_22 rfl (fun cn => ?_) (fun cn => ?_)
      · have hf := if_t cn hf
        obtain ⟨x1_4, ex, hf⟩ := lt_some hf
        refine g_inc S (x' := x1_4) (d := (1 : Int32)) hl (k := 1) rfl ki_1 ex dX4_decide_33 rfl (lv' := [(1, .int x1_4), (0, .ref (a 7))]) rfl (fun ls hl => ?_)
        refine lv_goto (tgt := 2) S.x S.b dX4_decide_36 rfl ?_
        exact ih x1_4 w_2 _ _ _ hM (lv_sub hl [1, 0] rfl) hf
      · have hf := if_f cn hf
        refine lv_aload_n S.x S.b dX4_decide_25 rfl (lv_at hl 0 rfl) ?_
        refine cr_g S hM rfl rfl in_X4 0 rfl (Or.inl q146) rfl dX4_decide_26 ?_
        refine lv_iload_n S.x S.b dX4_decide_29 rfl (lv_at hl 1 rfl) ?_
        obtain ⟨w_5, hc, hf⟩ := bd_some hf
        obtain ⟨w_7, ew, hf⟩ := lt_some hf
        refine rc_cv S hM hl [.int x1] 2 rfl ⟨0, _, rfl⟩ (metX3_command (hQ.cons _) hc) ew hdX3_command q1294 q1284 q1285 q65 q1286 ⟨rfl, rfl⟩ ⟨rfl, rfl⟩ rfl rfl rfl dX4_decide_30 (fun H locs hM => ?_)
        obtain ⟨x1_8, ex, hf⟩ := lt_some hf
        refine g_inc S (x' := x1_8) (d := (1 : Int32)) hl (k := 1) rfl ki_1 ex dX4_decide_33 rfl (lv' := [(1, .int x1_8), (0, .ref (a 7))]) rfl (fun ls hl => ?_)
        refine lv_goto (tgt := 2) S.x S.b dX4_decide_36 rfl ?_
        exact ih x1_8 w_7 _ _ _ hM (lv_sub hl [1, 0] rfl) hf
set_option maxHeartbeats 4000000 in
theorem metX4_decide {l : Launch} {D : va_G} {T : Nat → ClassId} {a b sa la : Nat → Nat} {tl : va_W} {wr : MW} {N : Nat} {w : MW} {ns : Nat} {q : MW} (hQ : SqI T b sa ns q (.ref (b 3)) tl) (hCo : CoI T a la ns tl) (hLa : ∀ w, LaF la ns (rcW 0 a (T 0) (some (b 0)) w tl)) (hf : gX4_decide N ns q w = some wr) (sz : Nat) : MetVX l yX4_decide (ws_ yX4_decide cX4_decide 2 (none)) rmX4_decide D T (rcW 0 a (T 0) (some (b 0)) w tl) sz [.ref (a 7)] (rcW 0 a (T 0) (some (b 0)) wr tl) (LamI 0 D a la ns q) := by
  refine g_entryX (Qc := fun A => gQv D T A (rcW 0 a (T 0) (some (b 0)) wr tl)) (by decide) rfl ?_
  intro p e s m below meth c ls S hM hX hl
  have hXA := (hLa w).na hX
  have hl : lv_has ls 2 [(0, .ref (a 7))] := hl
  refine lv_iconst (v := (0 : Int32)) S.x S.b dX4_decide_0 ki_0 ?_
  refine g_istn S (x' := (0 : Int32)) rfl hl dX4_decide_1 rfl rfl (lv' := [(1, .int (0 : Int32)), (0, .ref (a 7))]) rfl (fun ls hl => ?_)
  exact wX4_decide_2 S hQ hCo hLa hX hXA N (0 : Int32) w _ _ _ hM (lv_sub hl [1, 0] rfl) hf
/-! SequenceBench$Cascade.decide()V -/
theorem hdX5_decide : gHd yX5_decide 0 := by decide +kernel
def gX5_decide_76 (N : Nat) (ns : Nat) (q : MW) (nc : Nat) : Nat → Int32 → MW → Option (MW)
  | 0, _, _ => none
  | n + 1, x3, w =>
    if (Int32.ofNat ns) ≤ x3 then (
    some w)
    else (
    ck x3 ns <|
    bd2 (gHold1 ns q nc x3 w) fun r_12 w_11 =>
    if r_12 = 0 then (
    lt (x3 + (1 : Int32)) fun x3_13 =>
    gX5_decide_76 N ns q nc n x3_13 w_11)
    else (
    bd (gX3_command ns q x3 w_11) fun w_14 =>
    lt (setF w_14 30 (w_11.1 30)) fun w_16 =>
    lt (x3 + (1 : Int32)) fun x3_17 =>
    gX5_decide_76 N ns q nc n x3_17 w_16))
def gX5_decide_32 (N : Nat) (ns : Nat) (q : MW) (nc : Nat) (s0 : Int32) (w : MW) : Option (MW) :=
  bd (gX11_lastOf ns q nc (w.1 30)) fun r_2 =>
  bd2 (gX3_isComplete ns q r_2 w) fun r_4 w_3 =>
  lt (setF w_3 30 (w.1 30)) fun w_5 =>
  if r_4 = 0 then (
  gX5_decide_76 N ns q nc N (0 : Int32) w_5)
  else (
  bd (gX11_firstOf ns q nc s0) fun r_7 =>
  if r_7 = 0 then (
  if (w_5.1 6) = 0 then (
  gX5_decide_76 N ns q nc N (0 : Int32) w_5)
  else (
  lt (setF w_5 30 s0) fun w_9 =>
  gX5_decide_76 N ns q nc N (0 : Int32) w_9))
  else (
  lt (setF w_5 30 s0) fun w_8 =>
  gX5_decide_76 N ns q nc N (0 : Int32) w_8))
def gX5_decide (N : Nat) (ns : Nat) (q : MW) (nc : Nat) (w : MW) : Option (MW) :=
  if (w.1 30) = ((Int32.ofNat nc) - (1 : Int32)) then (
  gX5_decide_32 N ns q nc (0 : Int32) w)
  else (
  gX5_decide_32 N ns q nc ((w.1 30) + (1 : Int32)) w)
abbrev rmX5_decide : Room := { frames := 4, cells := 0, slots := 0, locals := 78 }
set_option maxHeartbeats 4000000 in
theorem wX5_decide_76 {p : Program} {l : Launch} {e : Env} {s : State} {m : MethodId} {args : Array Value} {below : List Frame} {meth : Method} {c : Code} {D : va_G} {T : Nat → ClassId} {A : Nat → Prop} {a b sa la : Nat → Nat} {tl : va_W} {wr : MW} {N : Nat} {ns : Nat} {q : MW} {nc : Nat} (S : gS p s m args meth c cX5_decide 4 (none) RX5 D T) (hQ : SqI T b sa ns q (.ref (b 3)) tl) (hC : CuI T b nc q tl) (hCo : CoI T a la ns tl) (hLa : ∀ w, LaF la ns (rcW 1 a (T 0) (some (b 0)) w tl)) (hX : LamI 1 D a la ns q s.heap) (hXA : ∀ k, k < ns → ¬ A (la k)) : ∀ (n : Nat) (x3 : Int32) (w : MW) (H : Heap) (locs : List Loc) (ls : Array Slot), gM D A s.heap (rcW 1 a (T 0) (some (b 0)) w tl) H locs → lv_has ls 4 [(0, .ref (a 7)), (3, .int x3)] → gX5_decide_76 N ns q nc n x3 w = some wr → W p l e rmX5_decide s m args below meth c H locs 0 0 (MQ below (gQv D T A (rcW 1 a (T 0) (some (b 0)) wr tl)) args s 0 0 A) (F0 m 76 ls []) := by
  intro n
  induction n with
  | zero =>
    intro x3 w H locs ls hM hl hf
    cases hf
  | succ n ih =>
    intro x3 w H locs ls hM hl hf
    refine lv_iload_n S.x S.b dX5_decide_76 rfl (lv_at hl 1 rfl) ?_
    refine lv_aload_n S.x S.b dX5_decide_77 rfl (lv_at hl 0 rfl) ?_
    refine cr_g S hM rfl rfl in_X5 1 rfl (Or.inl q182) rfl dX5_decide_78 ?_
    refine co_len S hM hCo.rc dX5_decide_81 ?_
    refine lv_icmp_ge (tgt := 113) S.x S.b dX5_decide_82 rfl (fun cn => ?_) (fun cn => ?_)
    · have hf := if_t cn hf
      obtain rfl := rt1 hf
      exact g_vret S hM dX5_decide_113
    · have hf := if_f cn hf
      refine lv_aload_n S.x S.b dX5_decide_85 rfl (lv_at hl 0 rfl) ?_
      refine cr_g S hM rfl rfl in_X5 1 rfl (Or.inl q182) rfl dX5_decide_86 ?_
      refine lv_iload_n S.x S.b dX5_decide_89 rfl (lv_at hl 1 rfl) ?_
      obtain ⟨hi_10, hf⟩ := ck_some hf
      refine co_ald S hM hCo.rc hi_10 dX5_decide_90 ?_
      obtain ⟨r_12, w_11, hc, hf⟩ := bd2_some hf
      refine hold1 S hM hl hQ hC (hX.kept hXA hM.2.2.1) hi_10 hc q1280 ⟨rfl, rfl⟩ rfl dX5_decide_91 (fun H locs hM => ?_)
      refine lv_if_eq (tgt := 107) S.x S.b dX5_decide_96 rfl (fun cn => ?_) (fun cn => ?_)
      · have hf := if_t cn hf
        obtain ⟨x3_13, ex, hf⟩ := lt_some hf
        refine g_inc S (x' := x3_13) (d := (1 : Int32)) hl (k := 1) rfl ki_1 ex dX5_decide_107 rfl (lv' := [(3, .int x3_13), (0, .ref (a 7))]) rfl (fun ls hl => ?_)
        refine lv_goto (tgt := 76) S.x S.b dX5_decide_110 rfl ?_
        exact ih x3_13 w_11 _ _ _ hM (lv_sub hl [1, 0] rfl) hf
      · have hf := if_f cn hf
        refine lv_aload_n S.x S.b dX5_decide_99 rfl (lv_at hl 0 rfl) ?_
        refine cr_g S hM rfl rfl in_X5 0 rfl (Or.inl q181) rfl dX5_decide_100 ?_
        refine lv_iload_n S.x S.b dX5_decide_103 rfl (lv_at hl 1 rfl) ?_
        obtain ⟨w_14, hc, hf⟩ := bd_some hf
        obtain ⟨w_16, ew, hf⟩ := lt_some hf
        refine rc_cv S hM hl [.int x3] 2 rfl ⟨0, _, rfl⟩ (metX3_command (hQ.cons _) hc) ew hdX3_command q1283 q1284 q1285 q65 q1286 ⟨rfl, rfl⟩ ⟨rfl, rfl⟩ rfl rfl rfl dX5_decide_104 (fun H locs hM => ?_)
        obtain ⟨x3_17, ex, hf⟩ := lt_some hf
        refine g_inc S (x' := x3_17) (d := (1 : Int32)) hl (k := 1) rfl ki_1 ex dX5_decide_107 rfl (lv' := [(3, .int x3_17), (0, .ref (a 7))]) rfl (fun ls hl => ?_)
        refine lv_goto (tgt := 76) S.x S.b dX5_decide_110 rfl ?_
        exact ih x3_17 w_16 _ _ _ hM (lv_sub hl [1, 0] rfl) hf
set_option maxHeartbeats 4000000 in
theorem wX5_decide_32 {p : Program} {l : Launch} {e : Env} {s : State} {m : MethodId} {args : Array Value} {below : List Frame} {meth : Method} {c : Code} {D : va_G} {T : Nat → ClassId} {A : Nat → Prop} {a b sa la : Nat → Nat} {tl : va_W} {wr : MW} {N : Nat} {ns : Nat} {q : MW} {nc : Nat} (S : gS p s m args meth c cX5_decide 4 (none) RX5 D T) (hQ : SqI T b sa ns q (.ref (b 3)) tl) (hC : CuI T b nc q tl) (hCo : CoI T a la ns tl) (hLa : ∀ w, LaF la ns (rcW 1 a (T 0) (some (b 0)) w tl)) (hX : LamI 1 D a la ns q s.heap) (hXA : ∀ k, k < ns → ¬ A (la k)) : ∀ (s0 : Int32) (w : MW) (H : Heap) (locs : List Loc) (ls : Array Slot), gM D A s.heap (rcW 1 a (T 0) (some (b 0)) w tl) H locs → lv_has ls 4 [(0, .ref (a 7)), (1, .ref (b 0))] → gX5_decide_32 N ns q nc s0 w = some wr → W p l e rmX5_decide s m args below meth c H locs 0 0 (MQ below (gQv D T A (rcW 1 a (T 0) (some (b 0)) wr tl)) args s 0 0 A) (F0 m 32 ls [.int s0]) := by
  intro s0 w H locs ls hM hl hf
  refine g_istn S (x' := s0) rfl hl dX5_decide_32 rfl rfl (lv' := [(2, .int s0), (0, .ref (a 7)), (1, .ref (b 0))]) rfl (fun ls hl => ?_)
  refine lv_aload_n S.x S.b dX5_decide_33 rfl (lv_at hl 1 rfl) ?_
  refine cr_g S hM rfl rfl in_X5 0 rfl (Or.inl q181) rfl dX5_decide_34 ?_
  refine lv_aload_n S.x S.b dX5_decide_37 rfl (lv_at hl 2 rfl) ?_
  refine lv_aload_n S.x S.b dX5_decide_38 rfl (lv_at hl 1 rfl) ?_
  refine cr_g S hM rfl rfl in_X5 2 rfl (Or.inl q183) rfl dX5_decide_39 ?_
  obtain ⟨r_2, hc, hf⟩ := bd_some hf
  refine gw_ci S hM hl [.int (w.1 30)] 9 rfl hQ.rc.sq (metX11_lastOf hQ.rc hC.rc hc) hdX11_lastOf q1275 q1276 q1277 q94 q1278 ⟨rfl, rfl⟩ ⟨rfl, rfl⟩ rfl rfl rfl ⟨Nat.zero_le _, Nat.zero_le _⟩ dX5_decide_42 (fun H locs hM => ?_)
  obtain ⟨r_4, w_3, hc, hf⟩ := bd2_some hf
  obtain ⟨w_5, ew, hf⟩ := lt_some hf
  refine rc_ci S hM hl [.int r_2] 2 rfl ⟨0, _, rfl⟩ (metX3_isComplete (hQ.cons _) hc) ew hdX3_isComplete q180 q141 q142 q65 q143 ⟨rfl, rfl⟩ ⟨rfl, rfl⟩ rfl rfl rfl dX5_decide_45 (fun H locs hM => ?_)
  refine lv_if_eq (tgt := 74) S.x S.b dX5_decide_48 rfl (fun cn => ?_) (fun cn => ?_)
  · have hf := if_t cn hf
    refine lv_iconst (v := (0 : Int32)) S.x S.b dX5_decide_74 ki_0 ?_
    refine g_istn S (x' := (0 : Int32)) rfl hl dX5_decide_75 rfl rfl (lv' := [(3, .int (0 : Int32)), (2, .int s0), (0, .ref (a 7)), (1, .ref (b 0))]) rfl (fun ls hl => ?_)
    exact wX5_decide_76 S hQ hC hCo hLa hX hXA N (0 : Int32) w_5 _ _ _ hM (lv_sub hl [2, 0] rfl) hf
  · have hf := if_f cn hf
    refine lv_aload_n S.x S.b dX5_decide_51 rfl (lv_at hl 2 rfl) ?_
    refine lv_iload_n S.x S.b dX5_decide_52 rfl (lv_at hl 0 rfl) ?_
    obtain ⟨r_7, hc, hf⟩ := bd_some hf
    refine gw_ci S hM hl [.int s0] 9 rfl hQ.rc.sq (metX11_firstOf hQ.rc hC.rc hc) hdX11_firstOf q170 q171 q172 q94 q173 ⟨rfl, rfl⟩ ⟨rfl, rfl⟩ rfl rfl rfl ⟨Nat.zero_le _, Nat.zero_le _⟩ dX5_decide_53 (fun H locs hM => ?_)
    refine lv_if_ne (tgt := 69) S.x S.b dX5_decide_56 rfl (fun cn => ?_) (fun cn => ?_)
    · have hf := if_f cn hf
      refine lv_aload_n S.x S.b dX5_decide_69 rfl (lv_at hl 1 rfl) ?_
      refine lv_iload_n S.x S.b dX5_decide_70 rfl (lv_at hl 0 rfl) ?_
      obtain ⟨w_8, ew, hf⟩ := lt_some hf
      refine cr_p1 S hM ew (Or.inl q183) dX5_decide_71 (fun H locs hM => ?_)
      refine lv_iconst (v := (0 : Int32)) S.x S.b dX5_decide_74 ki_0 ?_
      refine g_istn S (x' := (0 : Int32)) rfl hl dX5_decide_75 rfl rfl (lv' := [(3, .int (0 : Int32)), (2, .int s0), (0, .ref (a 7)), (1, .ref (b 0))]) rfl (fun ls hl => ?_)
      exact wX5_decide_76 S hQ hC hCo hLa hX hXA N (0 : Int32) w_8 _ _ _ hM (lv_sub hl [2, 0] rfl) hf
    · have hf := if_t cn hf
      refine lv_aload_n S.x S.b dX5_decide_59 rfl (lv_at hl 1 rfl) ?_
      refine cr_g S hM rfl rfl in_X5 0 rfl (Or.inl q181) rfl dX5_decide_60 ?_
      refine rg_g S hM 6 rfl (Or.inr ⟨_, q234⟩) rfl dX5_decide_63 ?_
      refine lv_if_eq (tgt := 74) S.x S.b dX5_decide_66 rfl (fun cn => ?_) (fun cn => ?_)
      · have hf := if_t cn hf
        refine lv_iconst (v := (0 : Int32)) S.x S.b dX5_decide_74 ki_0 ?_
        refine g_istn S (x' := (0 : Int32)) rfl hl dX5_decide_75 rfl rfl (lv' := [(3, .int (0 : Int32)), (2, .int s0), (0, .ref (a 7)), (1, .ref (b 0))]) rfl (fun ls hl => ?_)
        exact wX5_decide_76 S hQ hC hCo hLa hX hXA N (0 : Int32) w_5 _ _ _ hM (lv_sub hl [2, 0] rfl) hf
      · have hf := if_f cn hf
        refine lv_aload_n S.x S.b dX5_decide_69 rfl (lv_at hl 1 rfl) ?_
        refine lv_iload_n S.x S.b dX5_decide_70 rfl (lv_at hl 0 rfl) ?_
        obtain ⟨w_9, ew, hf⟩ := lt_some hf
        refine cr_p1 S hM ew (Or.inl q183) dX5_decide_71 (fun H locs hM => ?_)
        refine lv_iconst (v := (0 : Int32)) S.x S.b dX5_decide_74 ki_0 ?_
        refine g_istn S (x' := (0 : Int32)) rfl hl dX5_decide_75 rfl rfl (lv' := [(3, .int (0 : Int32)), (2, .int s0), (0, .ref (a 7)), (1, .ref (b 0))]) rfl (fun ls hl => ?_)
        exact wX5_decide_76 S hQ hC hCo hLa hX hXA N (0 : Int32) w_9 _ _ _ hM (lv_sub hl [2, 0] rfl) hf
set_option maxHeartbeats 4000000 in
theorem metX5_decide {l : Launch} {D : va_G} {T : Nat → ClassId} {a b sa la : Nat → Nat} {tl : va_W} {wr : MW} {N : Nat} {w : MW} {ns : Nat} {q : MW} {nc : Nat} (hQ : SqI T b sa ns q (.ref (b 3)) tl) (hC : CuI T b nc q tl) (hCo : CoI T a la ns tl) (hLa : ∀ w, LaF la ns (rcW 1 a (T 0) (some (b 0)) w tl)) (hf : gX5_decide N ns q nc w = some wr) (sz : Nat) : MetVX l yX5_decide (ws_ yX5_decide cX5_decide 4 (none)) rmX5_decide D T (rcW 1 a (T 0) (some (b 0)) w tl) sz [.ref (a 7)] (rcW 1 a (T 0) (some (b 0)) wr tl) (LamI 1 D a la ns q) := by
  refine g_entryX (Qc := fun A => gQv D T A (rcW 1 a (T 0) (some (b 0)) wr tl)) (by decide) rfl ?_
  intro p e s m below meth c ls S hM hX hl
  have hXA := (hLa w).na hX
  have hl : lv_has ls 4 [(0, .ref (a 7))] := hl
  refine lv_aload_n S.x S.b dX5_decide_0 rfl (lv_at hl 0 rfl) ?_
  refine cr_g S hM rfl rfl in_X5 0 rfl (Or.inl q181) rfl dX5_decide_1 ?_
  refine rg_g S hM 0 rfl (Or.inr ⟨_, q220⟩) rfl dX5_decide_4 ?_
  refine lv_astore_n (lv' := [(1, .ref (b 0)), (0, .ref (a 7))]) S.x S.b dX5_decide_7 rfl hl (by decide) rfl (fun ls hl => ?_)
  refine lv_aload_n S.x S.b dX5_decide_8 rfl (lv_at hl 1 rfl) ?_
  refine cr_g S hM rfl rfl in_X5 2 rfl (Or.inl q183) rfl dX5_decide_9 ?_
  refine lv_aload_n S.x S.b dX5_decide_12 rfl (lv_at hl 0 rfl) ?_
  refine sq_g S hM hQ.rc 2 rfl (Or.inr ⟨_, q923⟩) rfl dX5_decide_13 ?_
  refine sq_clen S hM hC.rc dX5_decide_16 ?_
  refine lv_iconst (v := (1 : Int32)) S.x S.b dX5_decide_17 ki_1 ?_
  refine lv_isub S.x S.b dX5_decide_18 ?_
  refine lv_icmp_ne (tgt := 26) S.x S.b dX5_decide_19 rfl (fun cn => ?_) (fun cn => ?_)
  · have hf := if_f cn hf
    refine lv_aload_n S.x S.b dX5_decide_26 rfl (lv_at hl 1 rfl) ?_
    refine cr_g S hM rfl rfl in_X5 2 rfl (Or.inl q183) rfl dX5_decide_27 ?_
    refine lv_iconst (v := (1 : Int32)) S.x S.b dX5_decide_30 ki_1 ?_
    refine lv_iadd S.x S.b dX5_decide_31 ?_
    exact wX5_decide_32 S hQ hC hCo hLa hX hXA ((w.1 30) + (1 : Int32)) w _ _ _ hM (lv_sub hl [1, 0] rfl) hf
  · have hf := if_t cn hf
    refine lv_iconst (v := (0 : Int32)) S.x S.b dX5_decide_22 ki_0 ?_
    refine lv_goto (tgt := 32) S.x S.b dX5_decide_23 rfl ?_
    exact wX5_decide_32 S hQ hC hCo hLa hX hXA (0 : Int32) w _ _ _ hM (lv_sub hl [1, 0] rfl) hf
/-! SequenceBench$Stepper.decide()V -/
theorem hdX6_decide : gHd yX6_decide 0 := by decide +kernel
def gX6_decide_77 (ns : Nat) (q : MW) (w : MW) : Option (MW) :=
  if (w.1 30) < 0 then (
  some w)
  else (
  bd (gX3_command ns q (w.1 30) w) fun w_6 =>
  lt (setF w_6 30 (w.1 30)) fun w_8 =>
  some w_8)
def gX6_decide_23 (ns : Nat) (q : MW) (s0 : Int32) (w : MW) : Option (MW) :=
  lt (setF w 30 s0) fun w_4 =>
  gX6_decide_77 ns q w_4
def gX6_decide_74 (ns : Nat) (q : MW) (s0 : Int32) (w : MW) : Option (MW) :=
  lt (setF w 30 s0) fun w_5 =>
  gX6_decide_77 ns q w_5
def gX6_decide (ns : Nat) (q : MW) (w : MW) : Option (MW) :=
  if 0 ≤ (w.1 30) then (
  bd2 (gX3_isComplete ns q (w.1 30) w) fun r_2 w_1 =>
  lt (setF w_1 30 (w.1 30)) fun w_3 =>
  if r_2 = 0 then (
  gX6_decide_77 ns q w_3)
  else (
  if (w_3.1 30) = ((Int32.ofNat ns) - (1 : Int32)) then (
  gX6_decide_74 ns q (-1 : Int32) w_3)
  else (
  gX6_decide_74 ns q ((w_3.1 30) + (1 : Int32)) w_3)))
  else (
  if (w.1 6) = 0 then (
  gX6_decide_23 ns q (-1 : Int32) w)
  else (
  gX6_decide_23 ns q (0 : Int32) w))
abbrev rmX6_decide : Room := { frames := 2, cells := 0, slots := 0, locals := 34 }
set_option maxHeartbeats 4000000 in
theorem wX6_decide_77 {p : Program} {l : Launch} {e : Env} {s : State} {m : MethodId} {args : Array Value} {below : List Frame} {meth : Method} {c : Code} {D : va_G} {T : Nat → ClassId} {A : Nat → Prop} {a b sa la : Nat → Nat} {tl : va_W} {wr : MW} {ns : Nat} {q : MW} (S : gS p s m args meth c cX6_decide 1 (none) RX6 D T) (hQ : SqI T b sa ns q (.ref (b 3)) tl) (hLa : ∀ w, LaF la 0 (rcW 2 a (T 0) (some (b 0)) w tl)) (hX : LamI 2 D a la 0 q s.heap) (hXA : ∀ k, k < 0 → ¬ A (la k)) : ∀ (w : MW) (H : Heap) (locs : List Loc) (ls : Array Slot), gM D A s.heap (rcW 2 a (T 0) (some (b 0)) w tl) H locs → lv_has ls 1 [(0, .ref (a 7))] → gX6_decide_77 ns q w = some wr → W p l e rmX6_decide s m args below meth c H locs 0 0 (MQ below (gQv D T A (rcW 2 a (T 0) (some (b 0)) wr tl)) args s 0 0 A) (F0 m 77 ls []) := by
  intro w H locs ls hM hl hf
  refine lv_aload_n S.x S.b dX6_decide_77 rfl (lv_at hl 0 rfl) ?_
  refine cr_g S hM rfl rfl in_X6 1 rfl (Or.inl q201) rfl dX6_decide_78 ?_
  refine lv_if_lt (tgt := 95) S.x S.b dX6_decide_81 rfl (fun cn => ?_) (fun cn => ?_)
  · have hf := if_t cn hf
    obtain rfl := rt1 hf
    exact g_vret S hM dX6_decide_95
  · have hf := if_f cn hf
    refine lv_aload_n S.x S.b dX6_decide_84 rfl (lv_at hl 0 rfl) ?_
    refine cr_g S hM rfl rfl in_X6 0 rfl (Or.inl q200) rfl dX6_decide_85 ?_
    refine lv_aload_n S.x S.b dX6_decide_88 rfl (lv_at hl 0 rfl) ?_
    refine cr_g S hM rfl rfl in_X6 1 rfl (Or.inl q201) rfl dX6_decide_89 ?_
    obtain ⟨w_6, hc, hf⟩ := bd_some hf
    obtain ⟨w_8, ew, hf⟩ := lt_some hf
    refine rc_cv S hM hl [.int (w.1 30)] 2 rfl ⟨0, _, rfl⟩ (metX3_command (hQ.cons _) hc) ew hdX3_command q1301 q1284 q1285 q65 q1286 ⟨rfl, rfl⟩ ⟨rfl, rfl⟩ rfl rfl rfl dX6_decide_92 (fun H locs hM => ?_)
    obtain rfl := rt1 hf
    exact g_vret S hM dX6_decide_95
set_option maxHeartbeats 4000000 in
theorem wX6_decide_23 {p : Program} {l : Launch} {e : Env} {s : State} {m : MethodId} {args : Array Value} {below : List Frame} {meth : Method} {c : Code} {D : va_G} {T : Nat → ClassId} {A : Nat → Prop} {a b sa la : Nat → Nat} {tl : va_W} {wr : MW} {ns : Nat} {q : MW} (S : gS p s m args meth c cX6_decide 1 (none) RX6 D T) (hQ : SqI T b sa ns q (.ref (b 3)) tl) (hLa : ∀ w, LaF la 0 (rcW 2 a (T 0) (some (b 0)) w tl)) (hX : LamI 2 D a la 0 q s.heap) (hXA : ∀ k, k < 0 → ¬ A (la k)) : ∀ (s0 : Int32) (w : MW) (H : Heap) (locs : List Loc) (ls : Array Slot), gM D A s.heap (rcW 2 a (T 0) (some (b 0)) w tl) H locs → lv_has ls 1 [(0, .ref (a 7))] → gX6_decide_23 ns q s0 w = some wr → W p l e rmX6_decide s m args below meth c H locs 0 0 (MQ below (gQv D T A (rcW 2 a (T 0) (some (b 0)) wr tl)) args s 0 0 A) (F0 m 23 ls [.int s0, .ref (a 7)]) := by
  intro s0 w H locs ls hM hl hf
  obtain ⟨w_4, ew, hf⟩ := lt_some hf
  refine cr_p2 S hM ew (Or.inl q201) dX6_decide_23 (fun H locs hM => ?_)
  refine lv_goto (tgt := 77) S.x S.b dX6_decide_26 rfl ?_
  exact wX6_decide_77 S hQ hLa hX hXA w_4 _ _ _ hM (lv_sub hl [0] rfl) hf
set_option maxHeartbeats 4000000 in
theorem wX6_decide_74 {p : Program} {l : Launch} {e : Env} {s : State} {m : MethodId} {args : Array Value} {below : List Frame} {meth : Method} {c : Code} {D : va_G} {T : Nat → ClassId} {A : Nat → Prop} {a b sa la : Nat → Nat} {tl : va_W} {wr : MW} {ns : Nat} {q : MW} (S : gS p s m args meth c cX6_decide 1 (none) RX6 D T) (hQ : SqI T b sa ns q (.ref (b 3)) tl) (hLa : ∀ w, LaF la 0 (rcW 2 a (T 0) (some (b 0)) w tl)) (hX : LamI 2 D a la 0 q s.heap) (hXA : ∀ k, k < 0 → ¬ A (la k)) : ∀ (s0 : Int32) (w : MW) (H : Heap) (locs : List Loc) (ls : Array Slot), gM D A s.heap (rcW 2 a (T 0) (some (b 0)) w tl) H locs → lv_has ls 1 [(0, .ref (a 7))] → gX6_decide_74 ns q s0 w = some wr → W p l e rmX6_decide s m args below meth c H locs 0 0 (MQ below (gQv D T A (rcW 2 a (T 0) (some (b 0)) wr tl)) args s 0 0 A) (F0 m 74 ls [.int s0, .ref (a 7)]) := by
  intro s0 w H locs ls hM hl hf
  obtain ⟨w_5, ew, hf⟩ := lt_some hf
  refine cr_p2 S hM ew (Or.inl q201) dX6_decide_74 (fun H locs hM => ?_)
  exact wX6_decide_77 S hQ hLa hX hXA w_5 _ _ _ hM (lv_sub hl [0] rfl) hf
set_option maxHeartbeats 4000000 in
theorem metX6_decide {l : Launch} {D : va_G} {T : Nat → ClassId} {a b sa la : Nat → Nat} {tl : va_W} {wr : MW} {w : MW} {ns : Nat} {q : MW} (hQ : SqI T b sa ns q (.ref (b 3)) tl) (hLa : ∀ w, LaF la 0 (rcW 2 a (T 0) (some (b 0)) w tl)) (hf : gX6_decide ns q w = some wr) (sz : Nat) : MetVX l yX6_decide (ws_ yX6_decide cX6_decide 1 (none)) rmX6_decide D T (rcW 2 a (T 0) (some (b 0)) w tl) sz [.ref (a 7)] (rcW 2 a (T 0) (some (b 0)) wr tl) (LamI 2 D a la 0 q) := by
  refine g_entryX (Qc := fun A => gQv D T A (rcW 2 a (T 0) (some (b 0)) wr tl)) (by decide) rfl ?_
  intro p e s m below meth c ls S hM hX hl
  have hXA := (hLa w).na hX
  have hl : lv_has ls 1 [(0, .ref (a 7))] := hl
  refine lv_aload_n S.x S.b dX6_decide_0 rfl (lv_at hl 0 rfl) ?_
  refine cr_g S hM rfl rfl in_X6 1 rfl (Or.inl q201) rfl dX6_decide_1 ?_
  refine lv_if_ge (tgt := 29) S.x S.b dX6_decide_4 rfl (fun cn => ?_) (fun cn => ?_)
  · have hf := if_t cn hf
    refine lv_aload_n S.x S.b dX6_decide_29 rfl (lv_at hl 0 rfl) ?_
    refine cr_g S hM rfl rfl in_X6 0 rfl (Or.inl q200) rfl dX6_decide_30 ?_
    refine lv_aload_n S.x S.b dX6_decide_33 rfl (lv_at hl 0 rfl) ?_
    refine cr_g S hM rfl rfl in_X6 1 rfl (Or.inl q201) rfl dX6_decide_34 ?_
    obtain ⟨r_2, w_1, hc, hf⟩ := bd2_some hf
    obtain ⟨w_3, ew, hf⟩ := lt_some hf
    refine rc_ci S hM hl [.int (w.1 30)] 2 rfl ⟨0, _, rfl⟩ (metX3_isComplete (hQ.cons _) hc) ew hdX3_isComplete q1300 q141 q142 q65 q143 ⟨rfl, rfl⟩ ⟨rfl, rfl⟩ rfl rfl rfl dX6_decide_37 (fun H locs hM => ?_)
    refine lv_if_eq (tgt := 77) S.x S.b dX6_decide_40 rfl (fun cn => ?_) (fun cn => ?_)
    · have hf := if_t cn hf
      exact wX6_decide_77 S hQ hLa hX hXA w_3 _ _ _ hM (lv_sub hl [0] rfl) hf
    · have hf := if_f cn hf
      refine lv_aload_n S.x S.b dX6_decide_43 rfl (lv_at hl 0 rfl) ?_
      refine lv_aload_n S.x S.b dX6_decide_44 rfl (lv_at hl 0 rfl) ?_
      refine cr_g S hM rfl rfl in_X6 1 rfl (Or.inl q201) rfl dX6_decide_45 ?_
      refine lv_aload_n S.x S.b dX6_decide_48 rfl (lv_at hl 0 rfl) ?_
      refine cr_g S hM rfl rfl in_X6 0 rfl (Or.inl q200) rfl dX6_decide_49 ?_
      refine rg_g S hM 0 rfl (Or.inr ⟨_, q222⟩) rfl dX6_decide_52 ?_
      refine sq_g S hM hQ.rc 0 rfl (Or.inr ⟨_, q919⟩) rfl dX6_decide_55 ?_
      refine sq_len S hM hQ.rc dX6_decide_58 ?_
      refine lv_iconst (v := (1 : Int32)) S.x S.b dX6_decide_59 ki_1 ?_
      refine lv_isub S.x S.b dX6_decide_60 ?_
      refine lv_icmp_ne (tgt := 68) S.x S.b dX6_decide_61 rfl (fun cn => ?_) (fun cn => ?_)
      · have hf := if_f cn hf
        refine lv_aload_n S.x S.b dX6_decide_68 rfl (lv_at hl 0 rfl) ?_
        refine cr_g S hM rfl rfl in_X6 1 rfl (Or.inl q201) rfl dX6_decide_69 ?_
        refine lv_iconst (v := (1 : Int32)) S.x S.b dX6_decide_72 ki_1 ?_
        refine lv_iadd S.x S.b dX6_decide_73 ?_
        exact wX6_decide_74 S hQ hLa hX hXA ((w_3.1 30) + (1 : Int32)) w_3 _ _ _ hM (lv_sub hl [0] rfl) hf
      · have hf := if_t cn hf
        refine lv_iconst (v := (-1 : Int32)) S.x S.b dX6_decide_64 ki_m1 ?_
        refine lv_goto (tgt := 74) S.x S.b dX6_decide_65 rfl ?_
        exact wX6_decide_74 S hQ hLa hX hXA (-1 : Int32) w_3 _ _ _ hM (lv_sub hl [0] rfl) hf
  · have hf := if_f cn hf
    refine lv_aload_n S.x S.b dX6_decide_7 rfl (lv_at hl 0 rfl) ?_
    refine lv_aload_n S.x S.b dX6_decide_8 rfl (lv_at hl 0 rfl) ?_
    refine cr_g S hM rfl rfl in_X6 0 rfl (Or.inl q200) rfl dX6_decide_9 ?_
    refine rg_g S hM 6 rfl (Or.inr ⟨_, q233⟩) rfl dX6_decide_12 ?_
    refine lv_if_eq (tgt := 22) S.x S.b dX6_decide_15 rfl (fun cn => ?_) (fun cn => ?_)
    · have hf := if_t cn hf
      refine lv_iconst (v := (-1 : Int32)) S.x S.b dX6_decide_22 ki_m1 ?_
      exact wX6_decide_23 S hQ hLa hX hXA (-1 : Int32) w _ _ _ hM (lv_sub hl [0] rfl) hf
    · have hf := if_f cn hf
      refine lv_iconst (v := (0 : Int32)) S.x S.b dX6_decide_18 ki_0 ?_
      refine lv_goto (tgt := 23) S.x S.b dX6_decide_19 rfl ?_
      exact wX6_decide_23 S hQ hLa hX hXA (0 : Int32) w _ _ _ hM (lv_sub hl [0] rfl) hf
/-! SequenceBench$Rig.tick()V -/
theorem hdX3_tick : gHd yX3_tick 0 := by decide +kernel
def gX3_tick_0_b62 (N : Nat) (ns : Nat) (q : MW) : Nat → Int32 → MW → Option (MW)
  | 0, _, _ => none
  | n + 1, x3, w =>
    if (Int32.ofNat ns) ≤ x3 then (
    lt (setF w 8 ((w.1 8) + (1 : Int32))) fun w_18 =>
    some w_18)
    else (
    bd (gX1_has (w.1 14) x3) fun r_19 =>
    if r_19 = 0 then (
    ck x3 16 <|
    lt (setA w 3 x3.toNatClampNeg (0 : Int32)) fun w_20 =>
    lt (x3 + (1 : Int32)) fun x3_21 =>
    gX3_tick_0_b62 N ns q n x3_21 w_20)
    else (
    ck x3 16 <|
    ck x3 16 <|
    lt (setA w 3 x3.toNatClampNeg (if ((w.2 3 x3.toNatClampNeg) + (1 : Int32)) < (60 : Int32) then ((w.2 3 x3.toNatClampNeg) + (1 : Int32)) else (60 : Int32))) fun w_22 =>
    lt (x3 + (1 : Int32)) fun x3_23 =>
    gX3_tick_0_b62 N ns q n x3_23 w_22))
def gX3_tick_0 (N : Nat) (ns : Nat) (q : MW) (w : MW) : Option (MW) :=
  bd (gX3_read N w) fun w_1 =>
  lt (setF w_1 30 (w.1 30)) fun w_3 =>
  lt (setF w_3 12 (0 : Int32)) fun w_4 =>
  lt (setF w_4 13 (0 : Int32)) fun w_5 =>
  lt (setF w_5 14 (0 : Int32)) fun w_6 =>
  bd (gX4_decide N ns q w_6) fun w_7 =>
  bd2 (gX3_switchValves N ns q w_7) fun r_10 w_9 =>
  lt (setF w_9 30 (w_7.1 30)) fun w_11 =>
  bd2 (gX3_moveCylinders N w_11) fun r_13 w_12 =>
  lt (setF w_12 30 (w_11.1 30)) fun w_14 =>
  if r_10 = 0 then (
  if r_13 = 0 then (
  lt (setF w_14 9 ((w_14.1 9) + (1 : Int32))) fun w_16 =>
  gX3_tick_0_b62 N ns q N (0 : Int32) w_16)
  else (
  lt (setF w_14 9 (0 : Int32)) fun w_17 =>
  gX3_tick_0_b62 N ns q N (0 : Int32) w_17))
  else (
  lt (setF w_14 9 (0 : Int32)) fun w_15 =>
  gX3_tick_0_b62 N ns q N (0 : Int32) w_15)
abbrev rmX3_tick_0 : Room := { frames := 6, cells := 0, slots := 0, locals := 118 }
set_option maxHeartbeats 4000000 in
theorem wX3_tick_0_b62 {p : Program} {l : Launch} {e : Env} {s : State} {m : MethodId} {args : Array Value} {below : List Frame} {meth : Method} {c : Code} {D : va_G} {T : Nat → ClassId} {A : Nat → Prop} {a b sa la : Nat → Nat} {tl : va_W} {wr : MW} {N : Nat} {ns : Nat} {q : MW} (S : gS p s m args meth c cX3_tick 4 (none) RX3 D T) (hQ : SqI T b sa ns q (.ref (b 3)) tl) (hCo : CoI T a la ns tl) (hLa : ∀ w, LaF la ns (rcW 0 a (T 0) (some (b 0)) w tl)) (hX : LamI 0 D a la ns q s.heap) (hXA : ∀ k, k < ns → ¬ A (la k)) : ∀ (n : Nat) (x3 : Int32) (w : MW) (H : Heap) (locs : List Loc) (ls : Array Slot), gM D A s.heap (rcW 0 a (T 0) (some (b 0)) w tl) H locs → lv_has ls 4 [(0, .ref (a 0)), (3, .int x3)] → gX3_tick_0_b62 N ns q n x3 w = some wr → W p l e rmX3_tick_0 s m args below meth c H locs 0 0 (MQ below (gQv D T A (rcW 0 a (T 0) (some (b 0)) wr tl)) args s 0 0 A) (F0 m 62 ls []) := by
  intro n
  induction n with
  | zero =>
    intro x3 w H locs ls hM hl hf
    cases hf
  | succ n ih =>
    intro x3 w H locs ls hM hl hf
    refine lv_iload_n S.x S.b dX3_tick_62 rfl (lv_at hl 1 rfl) ?_
    refine lv_aload_n S.x S.b dX3_tick_63 rfl (lv_at hl 0 rfl) ?_
    refine rg_g S hM 0 rfl (Or.inl q221) rfl dX3_tick_64 ?_
    refine sq_g S hM hQ.rc 0 rfl (Or.inr ⟨_, q918⟩) rfl dX3_tick_67 ?_
    refine sq_len S hM hQ.rc dX3_tick_70 ?_
    refine lv_icmp_ge (tgt := 114) S.x S.b dX3_tick_71 rfl (fun cn => ?_) (fun cn => ?_)
    · have hf := if_t cn hf
      refine lv_aload_n S.x S.b dX3_tick_114 rfl (lv_at hl 0 rfl) ?_
      refine lv_dup S.x S.b dX3_tick_115 rfl ?_
      refine rg_g S hM 8 rfl (Or.inl q239) rfl dX3_tick_116 ?_
      refine lv_iconst (v := (1 : Int32)) S.x S.b dX3_tick_119 ki_1 ?_
      refine lv_iadd S.x S.b dX3_tick_120 ?_
      obtain ⟨w_18, ew, hf⟩ := lt_some hf
      refine rcp S hM 8 rfl rfl ew (Or.inl q239) dX3_tick_121 (fun H locs hM => ?_)
      obtain rfl := rt1 hf
      exact g_vret S hM dX3_tick_124
    · have hf := if_f cn hf
      refine lv_aload_n S.x S.b dX3_tick_74 rfl (lv_at hl 0 rfl) ?_
      refine rg_g S hM 4 rfl (Or.inl q228) rfl dX3_tick_75 ?_
      refine lv_iload_n S.x S.b dX3_tick_78 rfl (lv_at hl 1 rfl) ?_
      refine lv_aload_n S.x S.b dX3_tick_79 rfl (lv_at hl 0 rfl) ?_
      refine rg_g S hM 14 rfl (Or.inl q249) rfl dX3_tick_80 ?_
      refine lv_iload_n S.x S.b dX3_tick_83 rfl (lv_at hl 1 rfl) ?_
      obtain ⟨r_19, hc, hf⟩ := bd_some hf
      refine gn_si S hM hl [.int (w.1 14), .int x3] (metX1_has hc) hdX1_has q1265 q791 q62 q792 ⟨rfl, rfl⟩ ⟨rfl, rfl⟩ rfl rfl rfl ⟨Nat.zero_le _, Nat.zero_le _⟩ dX3_tick_84 (fun H locs hM => ?_)
      refine lv_if_eq (tgt := 106) S.x S.b dX3_tick_87 rfl (fun cn => ?_) (fun cn => ?_)
      · have hf := if_t cn hf
        refine lv_iconst (v := (0 : Int32)) S.x S.b dX3_tick_106 ki_0 ?_
        obtain ⟨hi, hf⟩ := ck_some hf
        obtain ⟨w_20, ew, hf⟩ := lt_some hf
        refine rcst S hM 3 rfl hi ew dX3_tick_107 (fun H locs hM => ?_)
        obtain ⟨x3_21, ex, hf⟩ := lt_some hf
        refine g_inc S (x' := x3_21) (d := (1 : Int32)) hl (k := 1) rfl ki_1 ex dX3_tick_108 rfl (lv' := [(3, .int x3_21), (0, .ref (a 0))]) rfl (fun ls hl => ?_)
        refine lv_goto (tgt := 62) S.x S.b dX3_tick_111 rfl ?_
        exact ih x3_21 w_20 _ _ _ hM (lv_sub hl [1, 0] rfl) hf
      · have hf := if_f cn hf
        refine lv_bipush (v := (60 : Int32)) S.x S.b dX3_tick_90 kb_60 ?_
        refine lv_aload_n S.x S.b dX3_tick_92 rfl (lv_at hl 0 rfl) ?_
        refine rg_g S hM 4 rfl (Or.inl q228) rfl dX3_tick_93 ?_
        refine lv_iload_n S.x S.b dX3_tick_96 rfl (lv_at hl 1 rfl) ?_
        obtain ⟨hi, hf⟩ := ck_some hf
        refine rg_ld S hM 3 rfl hi dX3_tick_97 ?_
        refine lv_iconst (v := (1 : Int32)) S.x S.b dX3_tick_98 ki_1 ?_
        refine lv_iadd S.x S.b dX3_tick_99 ?_
        refine va_mmin S.x S.b (S.2.2.1.trans hl.1.symm) S.o (S.w _ q1319) (S.w _ q494) (S.w _ q84) (S.w _ q495) (Nat.le_of_ble_eq_true rfl) (Nat.le_of_ble_eq_true rfl) (Nat.zero_le _) (Nat.zero_le _) dX3_tick_100 ?_
        refine lv_goto (tgt := 107) S.x S.b dX3_tick_103 rfl ?_
        obtain ⟨hi, hf⟩ := ck_some hf
        obtain ⟨w_22, ew, hf⟩ := lt_some hf
        refine rcst S hM 3 rfl hi ew dX3_tick_107 (fun H locs hM => ?_)
        obtain ⟨x3_23, ex, hf⟩ := lt_some hf
        refine g_inc S (x' := x3_23) (d := (1 : Int32)) hl (k := 1) rfl ki_1 ex dX3_tick_108 rfl (lv' := [(3, .int x3_23), (0, .ref (a 0))]) rfl (fun ls hl => ?_)
        refine lv_goto (tgt := 62) S.x S.b dX3_tick_111 rfl ?_
        exact ih x3_23 w_22 _ _ _ hM (lv_sub hl [1, 0] rfl) hf
set_option maxHeartbeats 4000000 in
theorem metX3_tick_0 {l : Launch} {D : va_G} {T : Nat → ClassId} {a b sa la : Nat → Nat} {tl : va_W} {wr : MW} {N : Nat} {w : MW} {ns : Nat} {q : MW} (hQ : SqI T b sa ns q (.ref (b 3)) tl) (hCo : CoI T a la ns tl) (hLa : ∀ w, LaF la ns (rcW 0 a (T 0) (some (b 0)) w tl)) (hf : gX3_tick_0 N ns q w = some wr) (sz : Nat) : MetVX l yX3_tick (ws_ yX3_tick cX3_tick 4 (none)) rmX3_tick_0 D T (rcW 0 a (T 0) (some (b 0)) w tl) sz [.ref (a 0)] (rcW 0 a (T 0) (some (b 0)) wr tl) (LamI 0 D a la ns q) := by
  refine g_entryX (Qc := fun A => gQv D T A (rcW 0 a (T 0) (some (b 0)) wr tl)) (by decide) rfl ?_
  intro p e s m below meth c ls S hM hX hl
  have hXA := (hLa w).na hX
  have hl : lv_has ls 4 [(0, .ref (a 0))] := hl
  refine lv_aload_n S.x S.b dX3_tick_0 rfl (lv_at hl 0 rfl) ?_
  obtain ⟨w_1, hc, hf⟩ := bd_some hf
  obtain ⟨w_3, ew, hf⟩ := lt_some hf
  refine rc_cv S hM hl [] 2 rfl ⟨0, _, rfl⟩ (metX3_read hc) ew hdX3_read q1257 q1259 qs21 q65 q1260 ⟨rfl, rfl⟩ ⟨rfl, rfl⟩ rfl rfl rfl dX3_tick_1 (fun H locs hM => ?_)
  refine lv_aload_n S.x S.b dX3_tick_4 rfl (lv_at hl 0 rfl) ?_
  refine lv_iconst (v := (0 : Int32)) S.x S.b dX3_tick_5 ki_0 ?_
  obtain ⟨w_4, ew, hf⟩ := lt_some hf
  refine rcp S hM 12 rfl rfl ew (Or.inl q245) dX3_tick_6 (fun H locs hM => ?_)
  refine lv_aload_n S.x S.b dX3_tick_9 rfl (lv_at hl 0 rfl) ?_
  refine lv_iconst (v := (0 : Int32)) S.x S.b dX3_tick_10 ki_0 ?_
  obtain ⟨w_5, ew, hf⟩ := lt_some hf
  refine rcp S hM 13 rfl rfl ew (Or.inl q247) dX3_tick_11 (fun H locs hM => ?_)
  refine lv_aload_n S.x S.b dX3_tick_14 rfl (lv_at hl 0 rfl) ?_
  refine lv_iconst (v := (0 : Int32)) S.x S.b dX3_tick_15 ki_0 ?_
  obtain ⟨w_6, ew, hf⟩ := lt_some hf
  refine rcp S hM 14 rfl rfl ew (Or.inl q249) dX3_tick_16 (fun H locs hM => ?_)
  refine lv_aload_n S.x S.b dX3_tick_19 rfl (lv_at hl 0 rfl) ?_
  refine rg_g S hM 5 rfl (Or.inl q230) rfl dX3_tick_20 ?_
  obtain ⟨w_7, hc, hf⟩ := bd_some hf
  refine gx_F S hM (hX.kept hXA hM.2.2.1) hl 3 rfl ⟨7, _, rfl⟩ (metX4_decide hQ hCo hLa hc) S.g.2.1.1.1 hdDecide q1267 q1287 q1289 q66 q1291 ⟨rfl, rfl⟩ ⟨rfl, rfl⟩ rfl dX3_tick_23 (fun H locs hM => ?_)
  refine lv_aload_n S.x S.b dX3_tick_28 rfl (lv_at hl 0 rfl) ?_
  obtain ⟨r_10, w_9, hc, hf⟩ := bd2_some hf
  obtain ⟨w_11, ew, hf⟩ := lt_some hf
  refine rc_ci S hM hl [] 2 rfl ⟨0, _, rfl⟩ (metX3_switchValves (hQ.cons _) hc) ew hdX3_switchValves q1302 q1304 qs22 q65 q1305 ⟨rfl, rfl⟩ ⟨rfl, rfl⟩ rfl rfl rfl dX3_tick_29 (fun H locs hM => ?_)
  refine g_istn S (x' := r_10) rfl hl dX3_tick_32 rfl rfl (lv' := [(1, .int r_10), (0, .ref (a 0))]) rfl (fun ls hl => ?_)
  refine lv_aload_n S.x S.b dX3_tick_33 rfl (lv_at hl 1 rfl) ?_
  obtain ⟨r_13, w_12, hc, hf⟩ := bd2_some hf
  obtain ⟨w_14, ew, hf⟩ := lt_some hf
  refine rc_ci S hM hl [] 2 rfl ⟨0, _, rfl⟩ (metX3_moveCylinders hc) ew hdX3_moveCylinders q1315 q1317 qs25 q65 q1318 ⟨rfl, rfl⟩ ⟨rfl, rfl⟩ rfl rfl rfl dX3_tick_34 (fun H locs hM => ?_)
  refine g_istn S (x' := r_13) rfl hl dX3_tick_37 rfl rfl (lv' := [(2, .int r_13), (1, .int r_10), (0, .ref (a 0))]) rfl (fun ls hl => ?_)
  refine lv_aload_n S.x S.b dX3_tick_38 rfl (lv_at hl 2 rfl) ?_
  refine lv_iload_n S.x S.b dX3_tick_39 rfl (lv_at hl 1 rfl) ?_
  refine lv_if_ne (tgt := 47) S.x S.b dX3_tick_40 rfl (fun cn => ?_) (fun cn => ?_)
  · have hf := if_f cn hf
    refine lv_iconst (v := (0 : Int32)) S.x S.b dX3_tick_47 ki_0 ?_
    refine lv_goto (tgt := 57) S.x S.b dX3_tick_48 rfl ?_
    obtain ⟨w_15, ew, hf⟩ := lt_some hf
    refine rcp S hM 9 rfl rfl ew (Or.inl q241) dX3_tick_57 (fun H locs hM => ?_)
    refine lv_iconst (v := (0 : Int32)) S.x S.b dX3_tick_60 ki_0 ?_
    refine g_istn S (x' := (0 : Int32)) rfl hl dX3_tick_61 rfl rfl (lv' := [(3, .int (0 : Int32)), (2, .int r_13), (1, .int r_10), (0, .ref (a 0))]) rfl (fun ls hl => ?_)
    exact wX3_tick_0_b62 S hQ hCo hLa hX hXA N (0 : Int32) w_15 _ _ _ hM (lv_sub hl [3, 0] rfl) hf
  · have hf := if_t cn hf
    refine lv_iload_n S.x S.b dX3_tick_43 rfl (lv_at hl 0 rfl) ?_
    refine lv_if_eq (tgt := 51) S.x S.b dX3_tick_44 rfl (fun cn => ?_) (fun cn => ?_)
    · have hf := if_t cn hf
      refine lv_aload_n S.x S.b dX3_tick_51 rfl (lv_at hl 2 rfl) ?_
      refine rg_g S hM 9 rfl (Or.inl q241) rfl dX3_tick_52 ?_
      refine lv_iconst (v := (1 : Int32)) S.x S.b dX3_tick_55 ki_1 ?_
      refine lv_iadd S.x S.b dX3_tick_56 ?_
      obtain ⟨w_16, ew, hf⟩ := lt_some hf
      refine rcp S hM 9 rfl rfl ew (Or.inl q241) dX3_tick_57 (fun H locs hM => ?_)
      refine lv_iconst (v := (0 : Int32)) S.x S.b dX3_tick_60 ki_0 ?_
      refine g_istn S (x' := (0 : Int32)) rfl hl dX3_tick_61 rfl rfl (lv' := [(3, .int (0 : Int32)), (2, .int r_13), (1, .int r_10), (0, .ref (a 0))]) rfl (fun ls hl => ?_)
      exact wX3_tick_0_b62 S hQ hCo hLa hX hXA N (0 : Int32) w_16 _ _ _ hM (lv_sub hl [3, 0] rfl) hf
    · have hf := if_f cn hf
      refine lv_iconst (v := (0 : Int32)) S.x S.b dX3_tick_47 ki_0 ?_
      refine lv_goto (tgt := 57) S.x S.b dX3_tick_48 rfl ?_
      obtain ⟨w_17, ew, hf⟩ := lt_some hf
      refine rcp S hM 9 rfl rfl ew (Or.inl q241) dX3_tick_57 (fun H locs hM => ?_)
      refine lv_iconst (v := (0 : Int32)) S.x S.b dX3_tick_60 ki_0 ?_
      refine g_istn S (x' := (0 : Int32)) rfl hl dX3_tick_61 rfl rfl (lv' := [(3, .int (0 : Int32)), (2, .int r_13), (1, .int r_10), (0, .ref (a 0))]) rfl (fun ls hl => ?_)
      exact wX3_tick_0_b62 S hQ hCo hLa hX hXA N (0 : Int32) w_17 _ _ _ hM (lv_sub hl [3, 0] rfl) hf
/-! SequenceBench$Rig.ticks(I)I -/
theorem hdX3_ticks : gHd yX3_ticks 1 := by decide +kernel
def gX3_ticks_0_b7 (N : Nat) (ns : Nat) (q : MW) : Nat → Int32 → Int32 → Int32 → MW → Option (Int32 × MW)
  | 0, _, _, _, _ => none
  | n + 1, x1, x2, x3, w =>
    if x1 ≤ x3 then (
    some (((w.1 17) - x2), w))
    else (
    bd (gX3_tick_0 N ns q w) fun w_2 =>
    lt (x3 + (1 : Int32)) fun x3_4 =>
    gX3_ticks_0_b7 N ns q n x1 x2 x3_4 w_2)
def gX3_ticks_0 (N : Nat) (ns : Nat) (q : MW) (x1 : Int32) (w : MW) : Option (Int32 × MW) :=
  lt ((w.1 17)) fun x2_1 =>
  gX3_ticks_0_b7 N ns q N x1 x2_1 (0 : Int32) w
abbrev rmX3_ticks_0 : Room := { frames := 7, cells := 0, slots := 0, locals := 141 }
set_option maxHeartbeats 4000000 in
theorem wX3_ticks_0_b7 {p : Program} {l : Launch} {e : Env} {s : State} {m : MethodId} {args : Array Value} {below : List Frame} {meth : Method} {c : Code} {D : va_G} {T : Nat → ClassId} {A : Nat → Prop} {a b sa la : Nat → Nat} {tl : va_W} {rr : Int32} {wr : MW} {N : Nat} {ns : Nat} {q : MW} (S : gS p s m args meth c cX3_ticks 4 (some .int) RX3 D T) (hQ : SqI T b sa ns q (.ref (b 3)) tl) (hCo : CoI T a la ns tl) (hLa : ∀ w, LaF la ns (rcW 0 a (T 0) (some (b 0)) w tl)) (hX : LamI 0 D a la ns q s.heap) (hXA : ∀ k, k < ns → ¬ A (la k)) : ∀ (n : Nat) (x1 : Int32) (x2 : Int32) (x3 : Int32) (w : MW) (H : Heap) (locs : List Loc) (ls : Array Slot), gM D A s.heap (rcW 0 a (T 0) (some (b 0)) w tl) H locs → lv_has ls 4 [(0, .ref (a 0)), (1, .int x1), (2, .int x2), (3, .int x3)] → gX3_ticks_0_b7 N ns q n x1 x2 x3 w = some (rr, wr) → W p l e rmX3_ticks_0 s m args below meth c H locs 0 0 (MQ below (gQi D T A rr (rcW 0 a (T 0) (some (b 0)) wr tl)) args s 0 0 A) (F0 m 7 ls []) := by
  intro n
  induction n with
  | zero =>
    intro x1 x2 x3 w H locs ls hM hl hf
    cases hf
  | succ n ih =>
    intro x1 x2 x3 w H locs ls hM hl hf
    refine lv_iload_n S.x S.b dX3_ticks_7 rfl (lv_at hl 3 rfl) ?_
    refine lv_iload_n S.x S.b dX3_ticks_8 rfl (lv_at hl 1 rfl) ?_
    refine lv_icmp_ge (tgt := 22) S.x S.b dX3_ticks_9 rfl (fun cn => ?_) (fun cn => ?_)
    · have hf := if_t cn hf
      refine lv_aload_n S.x S.b dX3_ticks_22 rfl (lv_at hl 0 rfl) ?_
      refine rg_g S hM 17 rfl (Or.inl q254) rfl dX3_ticks_23 ?_
      refine lv_iload_n S.x S.b dX3_ticks_26 rfl (lv_at hl 2 rfl) ?_
      refine lv_isub S.x S.b dX3_ticks_27 ?_
      obtain ⟨rfl, rfl⟩ := rt2 hf
      exact g_iret S hM rfl dX3_ticks_28
    · have hf := if_f cn hf
      refine lv_aload_n S.x S.b dX3_ticks_12 rfl (lv_at hl 0 rfl) ?_
      obtain ⟨w_2, hc, hf⟩ := bd_some hf
      refine gx_cv S hM (hX.kept hXA hM.2.2.1) hl [] 2 rfl ⟨0, _, rfl⟩ (metX3_tick_0 hQ hCo hLa hc) hdX3_tick q1253 q1254 q1255 q65 q1256 ⟨rfl, rfl⟩ ⟨rfl, rfl⟩ rfl rfl rfl dX3_ticks_13 (fun H locs hM => ?_)
      obtain ⟨x3_4, ex, hf⟩ := lt_some hf
      refine g_inc S (x' := x3_4) (d := (1 : Int32)) hl (k := 3) rfl ki_1 ex dX3_ticks_16 rfl (lv' := [(3, .int x3_4), (0, .ref (a 0)), (1, .int x1), (2, .int x2)]) rfl (fun ls hl => ?_)
      refine lv_goto (tgt := 7) S.x S.b dX3_ticks_19 rfl ?_
      exact ih x1 x2 x3_4 w_2 _ _ _ hM (lv_sub hl [1, 2, 3, 0] rfl) hf
set_option maxHeartbeats 4000000 in
theorem metX3_ticks_0 {l : Launch} {D : va_G} {T : Nat → ClassId} {a b sa la : Nat → Nat} {tl : va_W} {rr : Int32} {wr : MW} {N : Nat} {x1 : Int32} {w : MW} {ns : Nat} {q : MW} (hQ : SqI T b sa ns q (.ref (b 3)) tl) (hCo : CoI T a la ns tl) (hLa : ∀ w, LaF la ns (rcW 0 a (T 0) (some (b 0)) w tl)) (hf : gX3_ticks_0 N ns q x1 w = some (rr, wr)) (sz : Nat) : MetIX l yX3_ticks (ws_ yX3_ticks cX3_ticks 4 (some .int)) rmX3_ticks_0 D T (rcW 0 a (T 0) (some (b 0)) w tl) sz [.ref (a 0), .int x1] rr (rcW 0 a (T 0) (some (b 0)) wr tl) (LamI 0 D a la ns q) := by
  refine g_entryX (Qc := fun A => gQi D T A rr (rcW 0 a (T 0) (some (b 0)) wr tl)) (by decide) rfl ?_
  intro p e s m below meth c ls S hM hX hl
  have hXA := (hLa w).na hX
  have hl : lv_has ls 4 [(0, .ref (a 0)), (1, .int x1)] := hl
  refine lv_aload_n S.x S.b dX3_ticks_0 rfl (lv_at hl 0 rfl) ?_
  refine rg_g S hM 17 rfl (Or.inl q254) rfl dX3_ticks_1 ?_
  obtain ⟨x2_1, ex, hf⟩ := lt_some hf
  refine g_istn S (x' := x2_1) ex hl dX3_ticks_4 rfl rfl (lv' := [(2, .int x2_1), (0, .ref (a 0)), (1, .int x1)]) rfl (fun ls hl => ?_)
  refine lv_iconst (v := (0 : Int32)) S.x S.b dX3_ticks_5 ki_0 ?_
  refine g_istn S (x' := (0 : Int32)) rfl hl dX3_ticks_6 rfl rfl (lv' := [(3, .int (0 : Int32)), (2, .int x2_1), (0, .ref (a 0)), (1, .int x1)]) rfl (fun ls hl => ?_)
  exact wX3_ticks_0_b7 S hQ hCo hLa hX hXA N x1 x2_1 (0 : Int32) w _ _ _ hM (lv_sub hl [2, 3, 1, 0] rfl) hf
/-! SequenceBench$Rig.makesCycles()Z -/
theorem hdX3_makesCycles : gHd yX3_makesCycles 0 := by decide +kernel
def gX3_makesCycles_0_b36 (N : Nat) (ns : Nat) (q : MW) (w : MW) : Option (Int32 × MW) :=
  if (w.1 22) < (2 : Int32) then (
  some ((0 : Int32), w))
  else (
  some ((1 : Int32), w))
def gX3_makesCycles_0_b0 (N : Nat) (ns : Nat) (q : MW) : Nat → MW → Option (Int32 × MW)
  | 0, _ => none
  | n + 1, w =>
    if (2 : Int32) ≤ (w.1 22) then (
    gX3_makesCycles_0_b36 N ns q w)
    else (
    if (w.1 18) = (w.1 17) then (
    if (4000 : Int32) ≤ (w.1 8) then (
    gX3_makesCycles_0_b36 N ns q w)
    else (
    bd (gX3_tick_0 N ns q w) fun w_1 =>
    gX3_makesCycles_0_b0 N ns q n w_1))
    else (
    gX3_makesCycles_0_b36 N ns q w))
def gX3_makesCycles_0 (N : Nat) (ns : Nat) (q : MW) (w : MW) : Option (Int32 × MW) :=
  gX3_makesCycles_0_b0 N ns q N w
abbrev rmX3_makesCycles_0 : Room := { frames := 7, cells := 0, slots := 0, locals := 141 }
set_option maxHeartbeats 4000000 in
theorem wX3_makesCycles_0_b36 {p : Program} {l : Launch} {e : Env} {s : State} {m : MethodId} {args : Array Value} {below : List Frame} {meth : Method} {c : Code} {D : va_G} {T : Nat → ClassId} {A : Nat → Prop} {a b sa la : Nat → Nat} {tl : va_W} {rr : Int32} {wr : MW} {N : Nat} {ns : Nat} {q : MW} (S : gS p s m args meth c cX3_makesCycles 1 (some .boolean) RX3 D T) (hQ : SqI T b sa ns q (.ref (b 3)) tl) (hCo : CoI T a la ns tl) (hLa : ∀ w, LaF la ns (rcW 0 a (T 0) (some (b 0)) w tl)) (hX : LamI 0 D a la ns q s.heap) (hXA : ∀ k, k < ns → ¬ A (la k)) : ∀ (w : MW) (H : Heap) (locs : List Loc) (ls : Array Slot), gM D A s.heap (rcW 0 a (T 0) (some (b 0)) w tl) H locs → lv_has ls 1 [(0, .ref (a 0))] → gX3_makesCycles_0_b36 N ns q w = some (rr, wr) → W p l e rmX3_makesCycles_0 s m args below meth c H locs 0 0 (MQ below (gQi D T A rr (rcW 0 a (T 0) (some (b 0)) wr tl)) args s 0 0 A) (F0 m 36 ls []) := by
  intro w H locs ls hM hl hf
  refine lv_aload_n S.x S.b dX3_makesCycles_36 rfl (lv_at hl 0 rfl) ?_
  refine rg_g S hM 22 rfl (Or.inl q261) rfl dX3_makesCycles_37 ?_
  refine lv_iconst (v := (2 : Int32)) S.x S.b dX3_makesCycles_40 ki_2 ?_
  refine lv_icmp_lt (tgt := 48) S.x S.b dX3_makesCycles_41 rfl (fun cn => ?_) (fun cn => ?_)
  · have hf := if_t cn hf
    refine lv_iconst (v := (0 : Int32)) S.x S.b dX3_makesCycles_48 ki_0 ?_
    obtain ⟨rfl, rfl⟩ := rt2 hf
    exact g_zret S hM rfl rfl dX3_makesCycles_49
  · have hf := if_f cn hf
    refine lv_iconst (v := (1 : Int32)) S.x S.b dX3_makesCycles_44 ki_1 ?_
    refine lv_goto (tgt := 49) S.x S.b dX3_makesCycles_45 rfl ?_
    obtain ⟨rfl, rfl⟩ := rt2 hf
    exact g_zret S hM rfl rfl dX3_makesCycles_49
set_option maxHeartbeats 4000000 in
theorem wX3_makesCycles_0_b0 {p : Program} {l : Launch} {e : Env} {s : State} {m : MethodId} {args : Array Value} {below : List Frame} {meth : Method} {c : Code} {D : va_G} {T : Nat → ClassId} {A : Nat → Prop} {a b sa la : Nat → Nat} {tl : va_W} {rr : Int32} {wr : MW} {N : Nat} {ns : Nat} {q : MW} (S : gS p s m args meth c cX3_makesCycles 1 (some .boolean) RX3 D T) (hQ : SqI T b sa ns q (.ref (b 3)) tl) (hCo : CoI T a la ns tl) (hLa : ∀ w, LaF la ns (rcW 0 a (T 0) (some (b 0)) w tl)) (hX : LamI 0 D a la ns q s.heap) (hXA : ∀ k, k < ns → ¬ A (la k)) : ∀ (n : Nat) (w : MW) (H : Heap) (locs : List Loc) (ls : Array Slot), gM D A s.heap (rcW 0 a (T 0) (some (b 0)) w tl) H locs → lv_has ls 1 [(0, .ref (a 0))] → gX3_makesCycles_0_b0 N ns q n w = some (rr, wr) → W p l e rmX3_makesCycles_0 s m args below meth c H locs 0 0 (MQ below (gQi D T A rr (rcW 0 a (T 0) (some (b 0)) wr tl)) args s 0 0 A) (F0 m 0 ls []) := by
  intro n
  induction n with
  | zero =>
    intro w H locs ls hM hl hf
    cases hf
  | succ n ih =>
    intro w H locs ls hM hl hf
    refine lv_aload_n S.x S.b dX3_makesCycles_0 rfl (lv_at hl 0 rfl) ?_
    refine rg_g S hM 22 rfl (Or.inl q261) rfl dX3_makesCycles_1 ?_
    refine lv_iconst (v := (2 : Int32)) S.x S.b dX3_makesCycles_4 ki_2 ?_
    refine lv_icmp_ge (tgt := 36) S.x S.b dX3_makesCycles_5 rfl (fun cn => ?_) (fun cn => ?_)
    · have hf := if_t cn hf
      exact wX3_makesCycles_0_b36 S hQ hCo hLa hX hXA w _ _ _ hM (lv_sub hl [0] rfl) hf
    · have hf := if_f cn hf
      refine lv_aload_n S.x S.b dX3_makesCycles_8 rfl (lv_at hl 0 rfl) ?_
      refine rg_g S hM 18 rfl (Or.inl q256) rfl dX3_makesCycles_9 ?_
      refine lv_aload_n S.x S.b dX3_makesCycles_12 rfl (lv_at hl 0 rfl) ?_
      refine rg_g S hM 17 rfl (Or.inl q254) rfl dX3_makesCycles_13 ?_
      refine lv_icmp_ne (tgt := 36) S.x S.b dX3_makesCycles_16 rfl (fun cn => ?_) (fun cn => ?_)
      · have hf := if_f cn hf
        exact wX3_makesCycles_0_b36 S hQ hCo hLa hX hXA w _ _ _ hM (lv_sub hl [0] rfl) hf
      · have hf := if_t cn hf
        refine lv_aload_n S.x S.b dX3_makesCycles_19 rfl (lv_at hl 0 rfl) ?_
        refine rg_g S hM 8 rfl (Or.inl q239) rfl dX3_makesCycles_20 ?_
        refine lv_sipush (v := (4000 : Int32)) S.x S.b dX3_makesCycles_23 ks_4000 ?_
        refine lv_icmp_ge (tgt := 36) S.x S.b dX3_makesCycles_26 rfl (fun cn => ?_) (fun cn => ?_)
        · have hf := if_t cn hf
          exact wX3_makesCycles_0_b36 S hQ hCo hLa hX hXA w _ _ _ hM (lv_sub hl [0] rfl) hf
        · have hf := if_f cn hf
          refine lv_aload_n S.x S.b dX3_makesCycles_29 rfl (lv_at hl 0 rfl) ?_
          obtain ⟨w_1, hc, hf⟩ := bd_some hf
          refine gx_cv S hM (hX.kept hXA hM.2.2.1) hl [] 2 rfl ⟨0, _, rfl⟩ (metX3_tick_0 hQ hCo hLa hc) hdX3_tick q1253 q1254 q1255 q65 q1256 ⟨rfl, rfl⟩ ⟨rfl, rfl⟩ rfl rfl rfl dX3_makesCycles_30 (fun H locs hM => ?_)
          refine lv_goto (tgt := 0) S.x S.b dX3_makesCycles_33 rfl ?_
          exact ih w_1 _ _ _ hM (lv_sub hl [0] rfl) hf
set_option maxHeartbeats 4000000 in
theorem metX3_makesCycles_0 {l : Launch} {D : va_G} {T : Nat → ClassId} {a b sa la : Nat → Nat} {tl : va_W} {rr : Int32} {wr : MW} {N : Nat} {w : MW} {ns : Nat} {q : MW} (hQ : SqI T b sa ns q (.ref (b 3)) tl) (hCo : CoI T a la ns tl) (hLa : ∀ w, LaF la ns (rcW 0 a (T 0) (some (b 0)) w tl)) (hf : gX3_makesCycles_0 N ns q w = some (rr, wr)) (sz : Nat) : MetIX l yX3_makesCycles (ws_ yX3_makesCycles cX3_makesCycles 1 (some .boolean)) rmX3_makesCycles_0 D T (rcW 0 a (T 0) (some (b 0)) w tl) sz [.ref (a 0)] rr (rcW 0 a (T 0) (some (b 0)) wr tl) (LamI 0 D a la ns q) := by
  refine g_entryX (Qc := fun A => gQi D T A rr (rcW 0 a (T 0) (some (b 0)) wr tl)) (by decide) rfl ?_
  intro p e s m below meth c ls S hM hX hl
  have hXA := (hLa w).na hX
  have hl : lv_has ls 1 [(0, .ref (a 0))] := hl
  exact wX3_makesCycles_0_b0 S hQ hCo hLa hX hXA N w _ _ _ hM (lv_sub hl [0] rfl) hf
/-! SequenceBench$Rig.tick()V -/
def gX3_tick_1_b62 (N : Nat) (ns : Nat) (q : MW) (nc : Nat) : Nat → Int32 → MW → Option (MW)
  | 0, _, _ => none
  | n + 1, x3, w =>
    if (Int32.ofNat ns) ≤ x3 then (
    lt (setF w 8 ((w.1 8) + (1 : Int32))) fun w_18 =>
    some w_18)
    else (
    bd (gX1_has (w.1 14) x3) fun r_19 =>
    if r_19 = 0 then (
    ck x3 16 <|
    lt (setA w 3 x3.toNatClampNeg (0 : Int32)) fun w_20 =>
    lt (x3 + (1 : Int32)) fun x3_21 =>
    gX3_tick_1_b62 N ns q nc n x3_21 w_20)
    else (
    ck x3 16 <|
    ck x3 16 <|
    lt (setA w 3 x3.toNatClampNeg (if ((w.2 3 x3.toNatClampNeg) + (1 : Int32)) < (60 : Int32) then ((w.2 3 x3.toNatClampNeg) + (1 : Int32)) else (60 : Int32))) fun w_22 =>
    lt (x3 + (1 : Int32)) fun x3_23 =>
    gX3_tick_1_b62 N ns q nc n x3_23 w_22))
def gX3_tick_1 (N : Nat) (ns : Nat) (q : MW) (nc : Nat) (w : MW) : Option (MW) :=
  bd (gX3_read N w) fun w_1 =>
  lt (setF w_1 30 (w.1 30)) fun w_3 =>
  lt (setF w_3 12 (0 : Int32)) fun w_4 =>
  lt (setF w_4 13 (0 : Int32)) fun w_5 =>
  lt (setF w_5 14 (0 : Int32)) fun w_6 =>
  bd (gX5_decide N ns q nc w_6) fun w_7 =>
  bd2 (gX3_switchValves N ns q w_7) fun r_10 w_9 =>
  lt (setF w_9 30 (w_7.1 30)) fun w_11 =>
  bd2 (gX3_moveCylinders N w_11) fun r_13 w_12 =>
  lt (setF w_12 30 (w_11.1 30)) fun w_14 =>
  if r_10 = 0 then (
  if r_13 = 0 then (
  lt (setF w_14 9 ((w_14.1 9) + (1 : Int32))) fun w_16 =>
  gX3_tick_1_b62 N ns q nc N (0 : Int32) w_16)
  else (
  lt (setF w_14 9 (0 : Int32)) fun w_17 =>
  gX3_tick_1_b62 N ns q nc N (0 : Int32) w_17))
  else (
  lt (setF w_14 9 (0 : Int32)) fun w_15 =>
  gX3_tick_1_b62 N ns q nc N (0 : Int32) w_15)
abbrev rmX3_tick_1 : Room := { frames := 6, cells := 0, slots := 0, locals := 118 }
set_option maxHeartbeats 4000000 in
theorem wX3_tick_1_b62 {p : Program} {l : Launch} {e : Env} {s : State} {m : MethodId} {args : Array Value} {below : List Frame} {meth : Method} {c : Code} {D : va_G} {T : Nat → ClassId} {A : Nat → Prop} {a b sa la : Nat → Nat} {tl : va_W} {wr : MW} {N : Nat} {ns : Nat} {q : MW} {nc : Nat} (S : gS p s m args meth c cX3_tick 4 (none) RX3 D T) (hQ : SqI T b sa ns q (.ref (b 3)) tl) (hC : CuI T b nc q tl) (hCo : CoI T a la ns tl) (hLa : ∀ w, LaF la ns (rcW 1 a (T 0) (some (b 0)) w tl)) (hX : LamI 1 D a la ns q s.heap) (hXA : ∀ k, k < ns → ¬ A (la k)) : ∀ (n : Nat) (x3 : Int32) (w : MW) (H : Heap) (locs : List Loc) (ls : Array Slot), gM D A s.heap (rcW 1 a (T 0) (some (b 0)) w tl) H locs → lv_has ls 4 [(0, .ref (a 0)), (3, .int x3)] → gX3_tick_1_b62 N ns q nc n x3 w = some wr → W p l e rmX3_tick_1 s m args below meth c H locs 0 0 (MQ below (gQv D T A (rcW 1 a (T 0) (some (b 0)) wr tl)) args s 0 0 A) (F0 m 62 ls []) := by
  intro n
  induction n with
  | zero =>
    intro x3 w H locs ls hM hl hf
    cases hf
  | succ n ih =>
    intro x3 w H locs ls hM hl hf
    refine lv_iload_n S.x S.b dX3_tick_62 rfl (lv_at hl 1 rfl) ?_
    refine lv_aload_n S.x S.b dX3_tick_63 rfl (lv_at hl 0 rfl) ?_
    refine rg_g S hM 0 rfl (Or.inl q221) rfl dX3_tick_64 ?_
    refine sq_g S hM hQ.rc 0 rfl (Or.inr ⟨_, q918⟩) rfl dX3_tick_67 ?_
    refine sq_len S hM hQ.rc dX3_tick_70 ?_
    refine lv_icmp_ge (tgt := 114) S.x S.b dX3_tick_71 rfl (fun cn => ?_) (fun cn => ?_)
    · have hf := if_t cn hf
      refine lv_aload_n S.x S.b dX3_tick_114 rfl (lv_at hl 0 rfl) ?_
      refine lv_dup S.x S.b dX3_tick_115 rfl ?_
      refine rg_g S hM 8 rfl (Or.inl q239) rfl dX3_tick_116 ?_
      refine lv_iconst (v := (1 : Int32)) S.x S.b dX3_tick_119 ki_1 ?_
      refine lv_iadd S.x S.b dX3_tick_120 ?_
      obtain ⟨w_18, ew, hf⟩ := lt_some hf
      refine rcp S hM 8 rfl rfl ew (Or.inl q239) dX3_tick_121 (fun H locs hM => ?_)
      obtain rfl := rt1 hf
      exact g_vret S hM dX3_tick_124
    · have hf := if_f cn hf
      refine lv_aload_n S.x S.b dX3_tick_74 rfl (lv_at hl 0 rfl) ?_
      refine rg_g S hM 4 rfl (Or.inl q228) rfl dX3_tick_75 ?_
      refine lv_iload_n S.x S.b dX3_tick_78 rfl (lv_at hl 1 rfl) ?_
      refine lv_aload_n S.x S.b dX3_tick_79 rfl (lv_at hl 0 rfl) ?_
      refine rg_g S hM 14 rfl (Or.inl q249) rfl dX3_tick_80 ?_
      refine lv_iload_n S.x S.b dX3_tick_83 rfl (lv_at hl 1 rfl) ?_
      obtain ⟨r_19, hc, hf⟩ := bd_some hf
      refine gn_si S hM hl [.int (w.1 14), .int x3] (metX1_has hc) hdX1_has q1265 q791 q62 q792 ⟨rfl, rfl⟩ ⟨rfl, rfl⟩ rfl rfl rfl ⟨Nat.zero_le _, Nat.zero_le _⟩ dX3_tick_84 (fun H locs hM => ?_)
      refine lv_if_eq (tgt := 106) S.x S.b dX3_tick_87 rfl (fun cn => ?_) (fun cn => ?_)
      · have hf := if_t cn hf
        refine lv_iconst (v := (0 : Int32)) S.x S.b dX3_tick_106 ki_0 ?_
        obtain ⟨hi, hf⟩ := ck_some hf
        obtain ⟨w_20, ew, hf⟩ := lt_some hf
        refine rcst S hM 3 rfl hi ew dX3_tick_107 (fun H locs hM => ?_)
        obtain ⟨x3_21, ex, hf⟩ := lt_some hf
        refine g_inc S (x' := x3_21) (d := (1 : Int32)) hl (k := 1) rfl ki_1 ex dX3_tick_108 rfl (lv' := [(3, .int x3_21), (0, .ref (a 0))]) rfl (fun ls hl => ?_)
        refine lv_goto (tgt := 62) S.x S.b dX3_tick_111 rfl ?_
        exact ih x3_21 w_20 _ _ _ hM (lv_sub hl [1, 0] rfl) hf
      · have hf := if_f cn hf
        refine lv_bipush (v := (60 : Int32)) S.x S.b dX3_tick_90 kb_60 ?_
        refine lv_aload_n S.x S.b dX3_tick_92 rfl (lv_at hl 0 rfl) ?_
        refine rg_g S hM 4 rfl (Or.inl q228) rfl dX3_tick_93 ?_
        refine lv_iload_n S.x S.b dX3_tick_96 rfl (lv_at hl 1 rfl) ?_
        obtain ⟨hi, hf⟩ := ck_some hf
        refine rg_ld S hM 3 rfl hi dX3_tick_97 ?_
        refine lv_iconst (v := (1 : Int32)) S.x S.b dX3_tick_98 ki_1 ?_
        refine lv_iadd S.x S.b dX3_tick_99 ?_
        refine va_mmin S.x S.b (S.2.2.1.trans hl.1.symm) S.o (S.w _ q1319) (S.w _ q494) (S.w _ q84) (S.w _ q495) (Nat.le_of_ble_eq_true rfl) (Nat.le_of_ble_eq_true rfl) (Nat.zero_le _) (Nat.zero_le _) dX3_tick_100 ?_
        refine lv_goto (tgt := 107) S.x S.b dX3_tick_103 rfl ?_
        obtain ⟨hi, hf⟩ := ck_some hf
        obtain ⟨w_22, ew, hf⟩ := lt_some hf
        refine rcst S hM 3 rfl hi ew dX3_tick_107 (fun H locs hM => ?_)
        obtain ⟨x3_23, ex, hf⟩ := lt_some hf
        refine g_inc S (x' := x3_23) (d := (1 : Int32)) hl (k := 1) rfl ki_1 ex dX3_tick_108 rfl (lv' := [(3, .int x3_23), (0, .ref (a 0))]) rfl (fun ls hl => ?_)
        refine lv_goto (tgt := 62) S.x S.b dX3_tick_111 rfl ?_
        exact ih x3_23 w_22 _ _ _ hM (lv_sub hl [1, 0] rfl) hf
set_option maxHeartbeats 4000000 in
theorem metX3_tick_1 {l : Launch} {D : va_G} {T : Nat → ClassId} {a b sa la : Nat → Nat} {tl : va_W} {wr : MW} {N : Nat} {w : MW} {ns : Nat} {q : MW} {nc : Nat} (hQ : SqI T b sa ns q (.ref (b 3)) tl) (hC : CuI T b nc q tl) (hCo : CoI T a la ns tl) (hLa : ∀ w, LaF la ns (rcW 1 a (T 0) (some (b 0)) w tl)) (hf : gX3_tick_1 N ns q nc w = some wr) (sz : Nat) : MetVX l yX3_tick (ws_ yX3_tick cX3_tick 4 (none)) rmX3_tick_1 D T (rcW 1 a (T 0) (some (b 0)) w tl) sz [.ref (a 0)] (rcW 1 a (T 0) (some (b 0)) wr tl) (LamI 1 D a la ns q) := by
  refine g_entryX (Qc := fun A => gQv D T A (rcW 1 a (T 0) (some (b 0)) wr tl)) (by decide) rfl ?_
  intro p e s m below meth c ls S hM hX hl
  have hXA := (hLa w).na hX
  have hl : lv_has ls 4 [(0, .ref (a 0))] := hl
  refine lv_aload_n S.x S.b dX3_tick_0 rfl (lv_at hl 0 rfl) ?_
  obtain ⟨w_1, hc, hf⟩ := bd_some hf
  obtain ⟨w_3, ew, hf⟩ := lt_some hf
  refine rc_cv S hM hl [] 2 rfl ⟨0, _, rfl⟩ (metX3_read hc) ew hdX3_read q1257 q1259 qs21 q65 q1260 ⟨rfl, rfl⟩ ⟨rfl, rfl⟩ rfl rfl rfl dX3_tick_1 (fun H locs hM => ?_)
  refine lv_aload_n S.x S.b dX3_tick_4 rfl (lv_at hl 0 rfl) ?_
  refine lv_iconst (v := (0 : Int32)) S.x S.b dX3_tick_5 ki_0 ?_
  obtain ⟨w_4, ew, hf⟩ := lt_some hf
  refine rcp S hM 12 rfl rfl ew (Or.inl q245) dX3_tick_6 (fun H locs hM => ?_)
  refine lv_aload_n S.x S.b dX3_tick_9 rfl (lv_at hl 0 rfl) ?_
  refine lv_iconst (v := (0 : Int32)) S.x S.b dX3_tick_10 ki_0 ?_
  obtain ⟨w_5, ew, hf⟩ := lt_some hf
  refine rcp S hM 13 rfl rfl ew (Or.inl q247) dX3_tick_11 (fun H locs hM => ?_)
  refine lv_aload_n S.x S.b dX3_tick_14 rfl (lv_at hl 0 rfl) ?_
  refine lv_iconst (v := (0 : Int32)) S.x S.b dX3_tick_15 ki_0 ?_
  obtain ⟨w_6, ew, hf⟩ := lt_some hf
  refine rcp S hM 14 rfl rfl ew (Or.inl q249) dX3_tick_16 (fun H locs hM => ?_)
  refine lv_aload_n S.x S.b dX3_tick_19 rfl (lv_at hl 0 rfl) ?_
  refine rg_g S hM 5 rfl (Or.inl q230) rfl dX3_tick_20 ?_
  obtain ⟨w_7, hc, hf⟩ := bd_some hf
  refine gx_F S hM (hX.kept hXA hM.2.2.1) hl 4 rfl ⟨7, _, rfl⟩ (metX5_decide hQ hC hCo hLa hc) S.g.2.1.1.2.1 hdDecide q1267 q1270 q1272 q67 q1274 ⟨rfl, rfl⟩ ⟨rfl, rfl⟩ rfl dX3_tick_23 (fun H locs hM => ?_)
  refine lv_aload_n S.x S.b dX3_tick_28 rfl (lv_at hl 0 rfl) ?_
  obtain ⟨r_10, w_9, hc, hf⟩ := bd2_some hf
  obtain ⟨w_11, ew, hf⟩ := lt_some hf
  refine rc_ci S hM hl [] 2 rfl ⟨0, _, rfl⟩ (metX3_switchValves (hQ.cons _) hc) ew hdX3_switchValves q1302 q1304 qs22 q65 q1305 ⟨rfl, rfl⟩ ⟨rfl, rfl⟩ rfl rfl rfl dX3_tick_29 (fun H locs hM => ?_)
  refine g_istn S (x' := r_10) rfl hl dX3_tick_32 rfl rfl (lv' := [(1, .int r_10), (0, .ref (a 0))]) rfl (fun ls hl => ?_)
  refine lv_aload_n S.x S.b dX3_tick_33 rfl (lv_at hl 1 rfl) ?_
  obtain ⟨r_13, w_12, hc, hf⟩ := bd2_some hf
  obtain ⟨w_14, ew, hf⟩ := lt_some hf
  refine rc_ci S hM hl [] 2 rfl ⟨0, _, rfl⟩ (metX3_moveCylinders hc) ew hdX3_moveCylinders q1315 q1317 qs25 q65 q1318 ⟨rfl, rfl⟩ ⟨rfl, rfl⟩ rfl rfl rfl dX3_tick_34 (fun H locs hM => ?_)
  refine g_istn S (x' := r_13) rfl hl dX3_tick_37 rfl rfl (lv' := [(2, .int r_13), (1, .int r_10), (0, .ref (a 0))]) rfl (fun ls hl => ?_)
  refine lv_aload_n S.x S.b dX3_tick_38 rfl (lv_at hl 2 rfl) ?_
  refine lv_iload_n S.x S.b dX3_tick_39 rfl (lv_at hl 1 rfl) ?_
  refine lv_if_ne (tgt := 47) S.x S.b dX3_tick_40 rfl (fun cn => ?_) (fun cn => ?_)
  · have hf := if_f cn hf
    refine lv_iconst (v := (0 : Int32)) S.x S.b dX3_tick_47 ki_0 ?_
    refine lv_goto (tgt := 57) S.x S.b dX3_tick_48 rfl ?_
    obtain ⟨w_15, ew, hf⟩ := lt_some hf
    refine rcp S hM 9 rfl rfl ew (Or.inl q241) dX3_tick_57 (fun H locs hM => ?_)
    refine lv_iconst (v := (0 : Int32)) S.x S.b dX3_tick_60 ki_0 ?_
    refine g_istn S (x' := (0 : Int32)) rfl hl dX3_tick_61 rfl rfl (lv' := [(3, .int (0 : Int32)), (2, .int r_13), (1, .int r_10), (0, .ref (a 0))]) rfl (fun ls hl => ?_)
    exact wX3_tick_1_b62 S hQ hC hCo hLa hX hXA N (0 : Int32) w_15 _ _ _ hM (lv_sub hl [3, 0] rfl) hf
  · have hf := if_t cn hf
    refine lv_iload_n S.x S.b dX3_tick_43 rfl (lv_at hl 0 rfl) ?_
    refine lv_if_eq (tgt := 51) S.x S.b dX3_tick_44 rfl (fun cn => ?_) (fun cn => ?_)
    · have hf := if_t cn hf
      refine lv_aload_n S.x S.b dX3_tick_51 rfl (lv_at hl 2 rfl) ?_
      refine rg_g S hM 9 rfl (Or.inl q241) rfl dX3_tick_52 ?_
      refine lv_iconst (v := (1 : Int32)) S.x S.b dX3_tick_55 ki_1 ?_
      refine lv_iadd S.x S.b dX3_tick_56 ?_
      obtain ⟨w_16, ew, hf⟩ := lt_some hf
      refine rcp S hM 9 rfl rfl ew (Or.inl q241) dX3_tick_57 (fun H locs hM => ?_)
      refine lv_iconst (v := (0 : Int32)) S.x S.b dX3_tick_60 ki_0 ?_
      refine g_istn S (x' := (0 : Int32)) rfl hl dX3_tick_61 rfl rfl (lv' := [(3, .int (0 : Int32)), (2, .int r_13), (1, .int r_10), (0, .ref (a 0))]) rfl (fun ls hl => ?_)
      exact wX3_tick_1_b62 S hQ hC hCo hLa hX hXA N (0 : Int32) w_16 _ _ _ hM (lv_sub hl [3, 0] rfl) hf
    · have hf := if_f cn hf
      refine lv_iconst (v := (0 : Int32)) S.x S.b dX3_tick_47 ki_0 ?_
      refine lv_goto (tgt := 57) S.x S.b dX3_tick_48 rfl ?_
      obtain ⟨w_17, ew, hf⟩ := lt_some hf
      refine rcp S hM 9 rfl rfl ew (Or.inl q241) dX3_tick_57 (fun H locs hM => ?_)
      refine lv_iconst (v := (0 : Int32)) S.x S.b dX3_tick_60 ki_0 ?_
      refine g_istn S (x' := (0 : Int32)) rfl hl dX3_tick_61 rfl rfl (lv' := [(3, .int (0 : Int32)), (2, .int r_13), (1, .int r_10), (0, .ref (a 0))]) rfl (fun ls hl => ?_)
      exact wX3_tick_1_b62 S hQ hC hCo hLa hX hXA N (0 : Int32) w_17 _ _ _ hM (lv_sub hl [3, 0] rfl) hf
/-! SequenceBench$Rig.ticks(I)I -/
def gX3_ticks_1_b7 (N : Nat) (ns : Nat) (q : MW) (nc : Nat) : Nat → Int32 → Int32 → Int32 → MW → Option (Int32 × MW)
  | 0, _, _, _, _ => none
  | n + 1, x1, x2, x3, w =>
    if x1 ≤ x3 then (
    some (((w.1 17) - x2), w))
    else (
    bd (gX3_tick_1 N ns q nc w) fun w_2 =>
    lt (x3 + (1 : Int32)) fun x3_4 =>
    gX3_ticks_1_b7 N ns q nc n x1 x2 x3_4 w_2)
def gX3_ticks_1 (N : Nat) (ns : Nat) (q : MW) (nc : Nat) (x1 : Int32) (w : MW) : Option (Int32 × MW) :=
  lt ((w.1 17)) fun x2_1 =>
  gX3_ticks_1_b7 N ns q nc N x1 x2_1 (0 : Int32) w
abbrev rmX3_ticks_1 : Room := { frames := 7, cells := 0, slots := 0, locals := 141 }
set_option maxHeartbeats 4000000 in
theorem wX3_ticks_1_b7 {p : Program} {l : Launch} {e : Env} {s : State} {m : MethodId} {args : Array Value} {below : List Frame} {meth : Method} {c : Code} {D : va_G} {T : Nat → ClassId} {A : Nat → Prop} {a b sa la : Nat → Nat} {tl : va_W} {rr : Int32} {wr : MW} {N : Nat} {ns : Nat} {q : MW} {nc : Nat} (S : gS p s m args meth c cX3_ticks 4 (some .int) RX3 D T) (hQ : SqI T b sa ns q (.ref (b 3)) tl) (hC : CuI T b nc q tl) (hCo : CoI T a la ns tl) (hLa : ∀ w, LaF la ns (rcW 1 a (T 0) (some (b 0)) w tl)) (hX : LamI 1 D a la ns q s.heap) (hXA : ∀ k, k < ns → ¬ A (la k)) : ∀ (n : Nat) (x1 : Int32) (x2 : Int32) (x3 : Int32) (w : MW) (H : Heap) (locs : List Loc) (ls : Array Slot), gM D A s.heap (rcW 1 a (T 0) (some (b 0)) w tl) H locs → lv_has ls 4 [(0, .ref (a 0)), (1, .int x1), (2, .int x2), (3, .int x3)] → gX3_ticks_1_b7 N ns q nc n x1 x2 x3 w = some (rr, wr) → W p l e rmX3_ticks_1 s m args below meth c H locs 0 0 (MQ below (gQi D T A rr (rcW 1 a (T 0) (some (b 0)) wr tl)) args s 0 0 A) (F0 m 7 ls []) := by
  intro n
  induction n with
  | zero =>
    intro x1 x2 x3 w H locs ls hM hl hf
    cases hf
  | succ n ih =>
    intro x1 x2 x3 w H locs ls hM hl hf
    refine lv_iload_n S.x S.b dX3_ticks_7 rfl (lv_at hl 3 rfl) ?_
    refine lv_iload_n S.x S.b dX3_ticks_8 rfl (lv_at hl 1 rfl) ?_
    refine lv_icmp_ge (tgt := 22) S.x S.b dX3_ticks_9 rfl (fun cn => ?_) (fun cn => ?_)
    · have hf := if_t cn hf
      refine lv_aload_n S.x S.b dX3_ticks_22 rfl (lv_at hl 0 rfl) ?_
      refine rg_g S hM 17 rfl (Or.inl q254) rfl dX3_ticks_23 ?_
      refine lv_iload_n S.x S.b dX3_ticks_26 rfl (lv_at hl 2 rfl) ?_
      refine lv_isub S.x S.b dX3_ticks_27 ?_
      obtain ⟨rfl, rfl⟩ := rt2 hf
      exact g_iret S hM rfl dX3_ticks_28
    · have hf := if_f cn hf
      refine lv_aload_n S.x S.b dX3_ticks_12 rfl (lv_at hl 0 rfl) ?_
      obtain ⟨w_2, hc, hf⟩ := bd_some hf
      refine gx_cv S hM (hX.kept hXA hM.2.2.1) hl [] 2 rfl ⟨0, _, rfl⟩ (metX3_tick_1 hQ hC hCo hLa hc) hdX3_tick q1253 q1254 q1255 q65 q1256 ⟨rfl, rfl⟩ ⟨rfl, rfl⟩ rfl rfl rfl dX3_ticks_13 (fun H locs hM => ?_)
      obtain ⟨x3_4, ex, hf⟩ := lt_some hf
      refine g_inc S (x' := x3_4) (d := (1 : Int32)) hl (k := 3) rfl ki_1 ex dX3_ticks_16 rfl (lv' := [(3, .int x3_4), (0, .ref (a 0)), (1, .int x1), (2, .int x2)]) rfl (fun ls hl => ?_)
      refine lv_goto (tgt := 7) S.x S.b dX3_ticks_19 rfl ?_
      exact ih x1 x2 x3_4 w_2 _ _ _ hM (lv_sub hl [1, 2, 3, 0] rfl) hf
set_option maxHeartbeats 4000000 in
theorem metX3_ticks_1 {l : Launch} {D : va_G} {T : Nat → ClassId} {a b sa la : Nat → Nat} {tl : va_W} {rr : Int32} {wr : MW} {N : Nat} {x1 : Int32} {w : MW} {ns : Nat} {q : MW} {nc : Nat} (hQ : SqI T b sa ns q (.ref (b 3)) tl) (hC : CuI T b nc q tl) (hCo : CoI T a la ns tl) (hLa : ∀ w, LaF la ns (rcW 1 a (T 0) (some (b 0)) w tl)) (hf : gX3_ticks_1 N ns q nc x1 w = some (rr, wr)) (sz : Nat) : MetIX l yX3_ticks (ws_ yX3_ticks cX3_ticks 4 (some .int)) rmX3_ticks_1 D T (rcW 1 a (T 0) (some (b 0)) w tl) sz [.ref (a 0), .int x1] rr (rcW 1 a (T 0) (some (b 0)) wr tl) (LamI 1 D a la ns q) := by
  refine g_entryX (Qc := fun A => gQi D T A rr (rcW 1 a (T 0) (some (b 0)) wr tl)) (by decide) rfl ?_
  intro p e s m below meth c ls S hM hX hl
  have hXA := (hLa w).na hX
  have hl : lv_has ls 4 [(0, .ref (a 0)), (1, .int x1)] := hl
  refine lv_aload_n S.x S.b dX3_ticks_0 rfl (lv_at hl 0 rfl) ?_
  refine rg_g S hM 17 rfl (Or.inl q254) rfl dX3_ticks_1 ?_
  obtain ⟨x2_1, ex, hf⟩ := lt_some hf
  refine g_istn S (x' := x2_1) ex hl dX3_ticks_4 rfl rfl (lv' := [(2, .int x2_1), (0, .ref (a 0)), (1, .int x1)]) rfl (fun ls hl => ?_)
  refine lv_iconst (v := (0 : Int32)) S.x S.b dX3_ticks_5 ki_0 ?_
  refine g_istn S (x' := (0 : Int32)) rfl hl dX3_ticks_6 rfl rfl (lv' := [(3, .int (0 : Int32)), (2, .int x2_1), (0, .ref (a 0)), (1, .int x1)]) rfl (fun ls hl => ?_)
  exact wX3_ticks_1_b7 S hQ hC hCo hLa hX hXA N x1 x2_1 (0 : Int32) w _ _ _ hM (lv_sub hl [2, 3, 1, 0] rfl) hf
/-! SequenceBench$Rig.makesCycles()Z -/
def gX3_makesCycles_1_b36 (N : Nat) (ns : Nat) (q : MW) (nc : Nat) (w : MW) : Option (Int32 × MW) :=
  if (w.1 22) < (2 : Int32) then (
  some ((0 : Int32), w))
  else (
  some ((1 : Int32), w))
def gX3_makesCycles_1_b0 (N : Nat) (ns : Nat) (q : MW) (nc : Nat) : Nat → MW → Option (Int32 × MW)
  | 0, _ => none
  | n + 1, w =>
    if (2 : Int32) ≤ (w.1 22) then (
    gX3_makesCycles_1_b36 N ns q nc w)
    else (
    if (w.1 18) = (w.1 17) then (
    if (4000 : Int32) ≤ (w.1 8) then (
    gX3_makesCycles_1_b36 N ns q nc w)
    else (
    bd (gX3_tick_1 N ns q nc w) fun w_1 =>
    gX3_makesCycles_1_b0 N ns q nc n w_1))
    else (
    gX3_makesCycles_1_b36 N ns q nc w))
def gX3_makesCycles_1 (N : Nat) (ns : Nat) (q : MW) (nc : Nat) (w : MW) : Option (Int32 × MW) :=
  gX3_makesCycles_1_b0 N ns q nc N w
abbrev rmX3_makesCycles_1 : Room := { frames := 7, cells := 0, slots := 0, locals := 141 }
set_option maxHeartbeats 4000000 in
theorem wX3_makesCycles_1_b36 {p : Program} {l : Launch} {e : Env} {s : State} {m : MethodId} {args : Array Value} {below : List Frame} {meth : Method} {c : Code} {D : va_G} {T : Nat → ClassId} {A : Nat → Prop} {a b sa la : Nat → Nat} {tl : va_W} {rr : Int32} {wr : MW} {N : Nat} {ns : Nat} {q : MW} {nc : Nat} (S : gS p s m args meth c cX3_makesCycles 1 (some .boolean) RX3 D T) (hQ : SqI T b sa ns q (.ref (b 3)) tl) (hC : CuI T b nc q tl) (hCo : CoI T a la ns tl) (hLa : ∀ w, LaF la ns (rcW 1 a (T 0) (some (b 0)) w tl)) (hX : LamI 1 D a la ns q s.heap) (hXA : ∀ k, k < ns → ¬ A (la k)) : ∀ (w : MW) (H : Heap) (locs : List Loc) (ls : Array Slot), gM D A s.heap (rcW 1 a (T 0) (some (b 0)) w tl) H locs → lv_has ls 1 [(0, .ref (a 0))] → gX3_makesCycles_1_b36 N ns q nc w = some (rr, wr) → W p l e rmX3_makesCycles_1 s m args below meth c H locs 0 0 (MQ below (gQi D T A rr (rcW 1 a (T 0) (some (b 0)) wr tl)) args s 0 0 A) (F0 m 36 ls []) := by
  intro w H locs ls hM hl hf
  refine lv_aload_n S.x S.b dX3_makesCycles_36 rfl (lv_at hl 0 rfl) ?_
  refine rg_g S hM 22 rfl (Or.inl q261) rfl dX3_makesCycles_37 ?_
  refine lv_iconst (v := (2 : Int32)) S.x S.b dX3_makesCycles_40 ki_2 ?_
  refine lv_icmp_lt (tgt := 48) S.x S.b dX3_makesCycles_41 rfl (fun cn => ?_) (fun cn => ?_)
  · have hf := if_t cn hf
    refine lv_iconst (v := (0 : Int32)) S.x S.b dX3_makesCycles_48 ki_0 ?_
    obtain ⟨rfl, rfl⟩ := rt2 hf
    exact g_zret S hM rfl rfl dX3_makesCycles_49
  · have hf := if_f cn hf
    refine lv_iconst (v := (1 : Int32)) S.x S.b dX3_makesCycles_44 ki_1 ?_
    refine lv_goto (tgt := 49) S.x S.b dX3_makesCycles_45 rfl ?_
    obtain ⟨rfl, rfl⟩ := rt2 hf
    exact g_zret S hM rfl rfl dX3_makesCycles_49
set_option maxHeartbeats 4000000 in
theorem wX3_makesCycles_1_b0 {p : Program} {l : Launch} {e : Env} {s : State} {m : MethodId} {args : Array Value} {below : List Frame} {meth : Method} {c : Code} {D : va_G} {T : Nat → ClassId} {A : Nat → Prop} {a b sa la : Nat → Nat} {tl : va_W} {rr : Int32} {wr : MW} {N : Nat} {ns : Nat} {q : MW} {nc : Nat} (S : gS p s m args meth c cX3_makesCycles 1 (some .boolean) RX3 D T) (hQ : SqI T b sa ns q (.ref (b 3)) tl) (hC : CuI T b nc q tl) (hCo : CoI T a la ns tl) (hLa : ∀ w, LaF la ns (rcW 1 a (T 0) (some (b 0)) w tl)) (hX : LamI 1 D a la ns q s.heap) (hXA : ∀ k, k < ns → ¬ A (la k)) : ∀ (n : Nat) (w : MW) (H : Heap) (locs : List Loc) (ls : Array Slot), gM D A s.heap (rcW 1 a (T 0) (some (b 0)) w tl) H locs → lv_has ls 1 [(0, .ref (a 0))] → gX3_makesCycles_1_b0 N ns q nc n w = some (rr, wr) → W p l e rmX3_makesCycles_1 s m args below meth c H locs 0 0 (MQ below (gQi D T A rr (rcW 1 a (T 0) (some (b 0)) wr tl)) args s 0 0 A) (F0 m 0 ls []) := by
  intro n
  induction n with
  | zero =>
    intro w H locs ls hM hl hf
    cases hf
  | succ n ih =>
    intro w H locs ls hM hl hf
    refine lv_aload_n S.x S.b dX3_makesCycles_0 rfl (lv_at hl 0 rfl) ?_
    refine rg_g S hM 22 rfl (Or.inl q261) rfl dX3_makesCycles_1 ?_
    refine lv_iconst (v := (2 : Int32)) S.x S.b dX3_makesCycles_4 ki_2 ?_
    refine lv_icmp_ge (tgt := 36) S.x S.b dX3_makesCycles_5 rfl (fun cn => ?_) (fun cn => ?_)
    · have hf := if_t cn hf
      exact wX3_makesCycles_1_b36 S hQ hC hCo hLa hX hXA w _ _ _ hM (lv_sub hl [0] rfl) hf
    · have hf := if_f cn hf
      refine lv_aload_n S.x S.b dX3_makesCycles_8 rfl (lv_at hl 0 rfl) ?_
      refine rg_g S hM 18 rfl (Or.inl q256) rfl dX3_makesCycles_9 ?_
      refine lv_aload_n S.x S.b dX3_makesCycles_12 rfl (lv_at hl 0 rfl) ?_
      refine rg_g S hM 17 rfl (Or.inl q254) rfl dX3_makesCycles_13 ?_
      refine lv_icmp_ne (tgt := 36) S.x S.b dX3_makesCycles_16 rfl (fun cn => ?_) (fun cn => ?_)
      · have hf := if_f cn hf
        exact wX3_makesCycles_1_b36 S hQ hC hCo hLa hX hXA w _ _ _ hM (lv_sub hl [0] rfl) hf
      · have hf := if_t cn hf
        refine lv_aload_n S.x S.b dX3_makesCycles_19 rfl (lv_at hl 0 rfl) ?_
        refine rg_g S hM 8 rfl (Or.inl q239) rfl dX3_makesCycles_20 ?_
        refine lv_sipush (v := (4000 : Int32)) S.x S.b dX3_makesCycles_23 ks_4000 ?_
        refine lv_icmp_ge (tgt := 36) S.x S.b dX3_makesCycles_26 rfl (fun cn => ?_) (fun cn => ?_)
        · have hf := if_t cn hf
          exact wX3_makesCycles_1_b36 S hQ hC hCo hLa hX hXA w _ _ _ hM (lv_sub hl [0] rfl) hf
        · have hf := if_f cn hf
          refine lv_aload_n S.x S.b dX3_makesCycles_29 rfl (lv_at hl 0 rfl) ?_
          obtain ⟨w_1, hc, hf⟩ := bd_some hf
          refine gx_cv S hM (hX.kept hXA hM.2.2.1) hl [] 2 rfl ⟨0, _, rfl⟩ (metX3_tick_1 hQ hC hCo hLa hc) hdX3_tick q1253 q1254 q1255 q65 q1256 ⟨rfl, rfl⟩ ⟨rfl, rfl⟩ rfl rfl rfl dX3_makesCycles_30 (fun H locs hM => ?_)
          refine lv_goto (tgt := 0) S.x S.b dX3_makesCycles_33 rfl ?_
          exact ih w_1 _ _ _ hM (lv_sub hl [0] rfl) hf
set_option maxHeartbeats 4000000 in
theorem metX3_makesCycles_1 {l : Launch} {D : va_G} {T : Nat → ClassId} {a b sa la : Nat → Nat} {tl : va_W} {rr : Int32} {wr : MW} {N : Nat} {w : MW} {ns : Nat} {q : MW} {nc : Nat} (hQ : SqI T b sa ns q (.ref (b 3)) tl) (hC : CuI T b nc q tl) (hCo : CoI T a la ns tl) (hLa : ∀ w, LaF la ns (rcW 1 a (T 0) (some (b 0)) w tl)) (hf : gX3_makesCycles_1 N ns q nc w = some (rr, wr)) (sz : Nat) : MetIX l yX3_makesCycles (ws_ yX3_makesCycles cX3_makesCycles 1 (some .boolean)) rmX3_makesCycles_1 D T (rcW 1 a (T 0) (some (b 0)) w tl) sz [.ref (a 0)] rr (rcW 1 a (T 0) (some (b 0)) wr tl) (LamI 1 D a la ns q) := by
  refine g_entryX (Qc := fun A => gQi D T A rr (rcW 1 a (T 0) (some (b 0)) wr tl)) (by decide) rfl ?_
  intro p e s m below meth c ls S hM hX hl
  have hXA := (hLa w).na hX
  have hl : lv_has ls 1 [(0, .ref (a 0))] := hl
  exact wX3_makesCycles_1_b0 S hQ hC hCo hLa hX hXA N w _ _ _ hM (lv_sub hl [0] rfl) hf
/-! SequenceBench$Rig.tick()V -/
def gX3_tick_2_b62 (N : Nat) (ns : Nat) (q : MW) : Nat → Int32 → MW → Option (MW)
  | 0, _, _ => none
  | n + 1, x3, w =>
    if (Int32.ofNat ns) ≤ x3 then (
    lt (setF w 8 ((w.1 8) + (1 : Int32))) fun w_18 =>
    some w_18)
    else (
    bd (gX1_has (w.1 14) x3) fun r_19 =>
    if r_19 = 0 then (
    ck x3 16 <|
    lt (setA w 3 x3.toNatClampNeg (0 : Int32)) fun w_20 =>
    lt (x3 + (1 : Int32)) fun x3_21 =>
    gX3_tick_2_b62 N ns q n x3_21 w_20)
    else (
    ck x3 16 <|
    ck x3 16 <|
    lt (setA w 3 x3.toNatClampNeg (if ((w.2 3 x3.toNatClampNeg) + (1 : Int32)) < (60 : Int32) then ((w.2 3 x3.toNatClampNeg) + (1 : Int32)) else (60 : Int32))) fun w_22 =>
    lt (x3 + (1 : Int32)) fun x3_23 =>
    gX3_tick_2_b62 N ns q n x3_23 w_22))
def gX3_tick_2 (N : Nat) (ns : Nat) (q : MW) (w : MW) : Option (MW) :=
  bd (gX3_read N w) fun w_1 =>
  lt (setF w_1 30 (w.1 30)) fun w_3 =>
  lt (setF w_3 12 (0 : Int32)) fun w_4 =>
  lt (setF w_4 13 (0 : Int32)) fun w_5 =>
  lt (setF w_5 14 (0 : Int32)) fun w_6 =>
  bd (gX6_decide ns q w_6) fun w_7 =>
  bd2 (gX3_switchValves N ns q w_7) fun r_10 w_9 =>
  lt (setF w_9 30 (w_7.1 30)) fun w_11 =>
  bd2 (gX3_moveCylinders N w_11) fun r_13 w_12 =>
  lt (setF w_12 30 (w_11.1 30)) fun w_14 =>
  if r_10 = 0 then (
  if r_13 = 0 then (
  lt (setF w_14 9 ((w_14.1 9) + (1 : Int32))) fun w_16 =>
  gX3_tick_2_b62 N ns q N (0 : Int32) w_16)
  else (
  lt (setF w_14 9 (0 : Int32)) fun w_17 =>
  gX3_tick_2_b62 N ns q N (0 : Int32) w_17))
  else (
  lt (setF w_14 9 (0 : Int32)) fun w_15 =>
  gX3_tick_2_b62 N ns q N (0 : Int32) w_15)
abbrev rmX3_tick_2 : Room := { frames := 6, cells := 0, slots := 0, locals := 118 }
set_option maxHeartbeats 4000000 in
theorem wX3_tick_2_b62 {p : Program} {l : Launch} {e : Env} {s : State} {m : MethodId} {args : Array Value} {below : List Frame} {meth : Method} {c : Code} {D : va_G} {T : Nat → ClassId} {A : Nat → Prop} {a b sa la : Nat → Nat} {tl : va_W} {wr : MW} {N : Nat} {ns : Nat} {q : MW} (S : gS p s m args meth c cX3_tick 4 (none) RX3 D T) (hQ : SqI T b sa ns q (.ref (b 3)) tl) (hLa : ∀ w, LaF la 0 (rcW 2 a (T 0) (some (b 0)) w tl)) (hX : LamI 2 D a la 0 q s.heap) (hXA : ∀ k, k < 0 → ¬ A (la k)) : ∀ (n : Nat) (x3 : Int32) (w : MW) (H : Heap) (locs : List Loc) (ls : Array Slot), gM D A s.heap (rcW 2 a (T 0) (some (b 0)) w tl) H locs → lv_has ls 4 [(0, .ref (a 0)), (3, .int x3)] → gX3_tick_2_b62 N ns q n x3 w = some wr → W p l e rmX3_tick_2 s m args below meth c H locs 0 0 (MQ below (gQv D T A (rcW 2 a (T 0) (some (b 0)) wr tl)) args s 0 0 A) (F0 m 62 ls []) := by
  intro n
  induction n with
  | zero =>
    intro x3 w H locs ls hM hl hf
    cases hf
  | succ n ih =>
    intro x3 w H locs ls hM hl hf
    refine lv_iload_n S.x S.b dX3_tick_62 rfl (lv_at hl 1 rfl) ?_
    refine lv_aload_n S.x S.b dX3_tick_63 rfl (lv_at hl 0 rfl) ?_
    refine rg_g S hM 0 rfl (Or.inl q221) rfl dX3_tick_64 ?_
    refine sq_g S hM hQ.rc 0 rfl (Or.inr ⟨_, q918⟩) rfl dX3_tick_67 ?_
    refine sq_len S hM hQ.rc dX3_tick_70 ?_
    refine lv_icmp_ge (tgt := 114) S.x S.b dX3_tick_71 rfl (fun cn => ?_) (fun cn => ?_)
    · have hf := if_t cn hf
      refine lv_aload_n S.x S.b dX3_tick_114 rfl (lv_at hl 0 rfl) ?_
      refine lv_dup S.x S.b dX3_tick_115 rfl ?_
      refine rg_g S hM 8 rfl (Or.inl q239) rfl dX3_tick_116 ?_
      refine lv_iconst (v := (1 : Int32)) S.x S.b dX3_tick_119 ki_1 ?_
      refine lv_iadd S.x S.b dX3_tick_120 ?_
      obtain ⟨w_18, ew, hf⟩ := lt_some hf
      refine rcp S hM 8 rfl rfl ew (Or.inl q239) dX3_tick_121 (fun H locs hM => ?_)
      obtain rfl := rt1 hf
      exact g_vret S hM dX3_tick_124
    · have hf := if_f cn hf
      refine lv_aload_n S.x S.b dX3_tick_74 rfl (lv_at hl 0 rfl) ?_
      refine rg_g S hM 4 rfl (Or.inl q228) rfl dX3_tick_75 ?_
      refine lv_iload_n S.x S.b dX3_tick_78 rfl (lv_at hl 1 rfl) ?_
      refine lv_aload_n S.x S.b dX3_tick_79 rfl (lv_at hl 0 rfl) ?_
      refine rg_g S hM 14 rfl (Or.inl q249) rfl dX3_tick_80 ?_
      refine lv_iload_n S.x S.b dX3_tick_83 rfl (lv_at hl 1 rfl) ?_
      obtain ⟨r_19, hc, hf⟩ := bd_some hf
      refine gn_si S hM hl [.int (w.1 14), .int x3] (metX1_has hc) hdX1_has q1265 q791 q62 q792 ⟨rfl, rfl⟩ ⟨rfl, rfl⟩ rfl rfl rfl ⟨Nat.zero_le _, Nat.zero_le _⟩ dX3_tick_84 (fun H locs hM => ?_)
      refine lv_if_eq (tgt := 106) S.x S.b dX3_tick_87 rfl (fun cn => ?_) (fun cn => ?_)
      · have hf := if_t cn hf
        refine lv_iconst (v := (0 : Int32)) S.x S.b dX3_tick_106 ki_0 ?_
        obtain ⟨hi, hf⟩ := ck_some hf
        obtain ⟨w_20, ew, hf⟩ := lt_some hf
        refine rcst S hM 3 rfl hi ew dX3_tick_107 (fun H locs hM => ?_)
        obtain ⟨x3_21, ex, hf⟩ := lt_some hf
        refine g_inc S (x' := x3_21) (d := (1 : Int32)) hl (k := 1) rfl ki_1 ex dX3_tick_108 rfl (lv' := [(3, .int x3_21), (0, .ref (a 0))]) rfl (fun ls hl => ?_)
        refine lv_goto (tgt := 62) S.x S.b dX3_tick_111 rfl ?_
        exact ih x3_21 w_20 _ _ _ hM (lv_sub hl [1, 0] rfl) hf
      · have hf := if_f cn hf
        refine lv_bipush (v := (60 : Int32)) S.x S.b dX3_tick_90 kb_60 ?_
        refine lv_aload_n S.x S.b dX3_tick_92 rfl (lv_at hl 0 rfl) ?_
        refine rg_g S hM 4 rfl (Or.inl q228) rfl dX3_tick_93 ?_
        refine lv_iload_n S.x S.b dX3_tick_96 rfl (lv_at hl 1 rfl) ?_
        obtain ⟨hi, hf⟩ := ck_some hf
        refine rg_ld S hM 3 rfl hi dX3_tick_97 ?_
        refine lv_iconst (v := (1 : Int32)) S.x S.b dX3_tick_98 ki_1 ?_
        refine lv_iadd S.x S.b dX3_tick_99 ?_
        refine va_mmin S.x S.b (S.2.2.1.trans hl.1.symm) S.o (S.w _ q1319) (S.w _ q494) (S.w _ q84) (S.w _ q495) (Nat.le_of_ble_eq_true rfl) (Nat.le_of_ble_eq_true rfl) (Nat.zero_le _) (Nat.zero_le _) dX3_tick_100 ?_
        refine lv_goto (tgt := 107) S.x S.b dX3_tick_103 rfl ?_
        obtain ⟨hi, hf⟩ := ck_some hf
        obtain ⟨w_22, ew, hf⟩ := lt_some hf
        refine rcst S hM 3 rfl hi ew dX3_tick_107 (fun H locs hM => ?_)
        obtain ⟨x3_23, ex, hf⟩ := lt_some hf
        refine g_inc S (x' := x3_23) (d := (1 : Int32)) hl (k := 1) rfl ki_1 ex dX3_tick_108 rfl (lv' := [(3, .int x3_23), (0, .ref (a 0))]) rfl (fun ls hl => ?_)
        refine lv_goto (tgt := 62) S.x S.b dX3_tick_111 rfl ?_
        exact ih x3_23 w_22 _ _ _ hM (lv_sub hl [1, 0] rfl) hf
set_option maxHeartbeats 4000000 in
theorem metX3_tick_2 {l : Launch} {D : va_G} {T : Nat → ClassId} {a b sa la : Nat → Nat} {tl : va_W} {wr : MW} {N : Nat} {w : MW} {ns : Nat} {q : MW} (hQ : SqI T b sa ns q (.ref (b 3)) tl) (hLa : ∀ w, LaF la 0 (rcW 2 a (T 0) (some (b 0)) w tl)) (hf : gX3_tick_2 N ns q w = some wr) (sz : Nat) : MetVX l yX3_tick (ws_ yX3_tick cX3_tick 4 (none)) rmX3_tick_2 D T (rcW 2 a (T 0) (some (b 0)) w tl) sz [.ref (a 0)] (rcW 2 a (T 0) (some (b 0)) wr tl) (LamI 2 D a la 0 q) := by
  refine g_entryX (Qc := fun A => gQv D T A (rcW 2 a (T 0) (some (b 0)) wr tl)) (by decide) rfl ?_
  intro p e s m below meth c ls S hM hX hl
  have hXA := (hLa w).na hX
  have hl : lv_has ls 4 [(0, .ref (a 0))] := hl
  refine lv_aload_n S.x S.b dX3_tick_0 rfl (lv_at hl 0 rfl) ?_
  obtain ⟨w_1, hc, hf⟩ := bd_some hf
  obtain ⟨w_3, ew, hf⟩ := lt_some hf
  refine rc_cv S hM hl [] 2 rfl ⟨0, _, rfl⟩ (metX3_read hc) ew hdX3_read q1257 q1259 qs21 q65 q1260 ⟨rfl, rfl⟩ ⟨rfl, rfl⟩ rfl rfl rfl dX3_tick_1 (fun H locs hM => ?_)
  refine lv_aload_n S.x S.b dX3_tick_4 rfl (lv_at hl 0 rfl) ?_
  refine lv_iconst (v := (0 : Int32)) S.x S.b dX3_tick_5 ki_0 ?_
  obtain ⟨w_4, ew, hf⟩ := lt_some hf
  refine rcp S hM 12 rfl rfl ew (Or.inl q245) dX3_tick_6 (fun H locs hM => ?_)
  refine lv_aload_n S.x S.b dX3_tick_9 rfl (lv_at hl 0 rfl) ?_
  refine lv_iconst (v := (0 : Int32)) S.x S.b dX3_tick_10 ki_0 ?_
  obtain ⟨w_5, ew, hf⟩ := lt_some hf
  refine rcp S hM 13 rfl rfl ew (Or.inl q247) dX3_tick_11 (fun H locs hM => ?_)
  refine lv_aload_n S.x S.b dX3_tick_14 rfl (lv_at hl 0 rfl) ?_
  refine lv_iconst (v := (0 : Int32)) S.x S.b dX3_tick_15 ki_0 ?_
  obtain ⟨w_6, ew, hf⟩ := lt_some hf
  refine rcp S hM 14 rfl rfl ew (Or.inl q249) dX3_tick_16 (fun H locs hM => ?_)
  refine lv_aload_n S.x S.b dX3_tick_19 rfl (lv_at hl 0 rfl) ?_
  refine rg_g S hM 5 rfl (Or.inl q230) rfl dX3_tick_20 ?_
  obtain ⟨w_7, hc, hf⟩ := bd_some hf
  refine gx_F S hM (hX.kept hXA hM.2.2.1) hl 5 rfl ⟨7, _, rfl⟩ (metX6_decide hQ hLa hc) S.g.2.1.1.2.2 hdDecide q1267 q1295 q1297 q68 q1299 ⟨rfl, rfl⟩ ⟨rfl, rfl⟩ rfl dX3_tick_23 (fun H locs hM => ?_)
  refine lv_aload_n S.x S.b dX3_tick_28 rfl (lv_at hl 0 rfl) ?_
  obtain ⟨r_10, w_9, hc, hf⟩ := bd2_some hf
  obtain ⟨w_11, ew, hf⟩ := lt_some hf
  refine rc_ci S hM hl [] 2 rfl ⟨0, _, rfl⟩ (metX3_switchValves (hQ.cons _) hc) ew hdX3_switchValves q1302 q1304 qs22 q65 q1305 ⟨rfl, rfl⟩ ⟨rfl, rfl⟩ rfl rfl rfl dX3_tick_29 (fun H locs hM => ?_)
  refine g_istn S (x' := r_10) rfl hl dX3_tick_32 rfl rfl (lv' := [(1, .int r_10), (0, .ref (a 0))]) rfl (fun ls hl => ?_)
  refine lv_aload_n S.x S.b dX3_tick_33 rfl (lv_at hl 1 rfl) ?_
  obtain ⟨r_13, w_12, hc, hf⟩ := bd2_some hf
  obtain ⟨w_14, ew, hf⟩ := lt_some hf
  refine rc_ci S hM hl [] 2 rfl ⟨0, _, rfl⟩ (metX3_moveCylinders hc) ew hdX3_moveCylinders q1315 q1317 qs25 q65 q1318 ⟨rfl, rfl⟩ ⟨rfl, rfl⟩ rfl rfl rfl dX3_tick_34 (fun H locs hM => ?_)
  refine g_istn S (x' := r_13) rfl hl dX3_tick_37 rfl rfl (lv' := [(2, .int r_13), (1, .int r_10), (0, .ref (a 0))]) rfl (fun ls hl => ?_)
  refine lv_aload_n S.x S.b dX3_tick_38 rfl (lv_at hl 2 rfl) ?_
  refine lv_iload_n S.x S.b dX3_tick_39 rfl (lv_at hl 1 rfl) ?_
  refine lv_if_ne (tgt := 47) S.x S.b dX3_tick_40 rfl (fun cn => ?_) (fun cn => ?_)
  · have hf := if_f cn hf
    refine lv_iconst (v := (0 : Int32)) S.x S.b dX3_tick_47 ki_0 ?_
    refine lv_goto (tgt := 57) S.x S.b dX3_tick_48 rfl ?_
    obtain ⟨w_15, ew, hf⟩ := lt_some hf
    refine rcp S hM 9 rfl rfl ew (Or.inl q241) dX3_tick_57 (fun H locs hM => ?_)
    refine lv_iconst (v := (0 : Int32)) S.x S.b dX3_tick_60 ki_0 ?_
    refine g_istn S (x' := (0 : Int32)) rfl hl dX3_tick_61 rfl rfl (lv' := [(3, .int (0 : Int32)), (2, .int r_13), (1, .int r_10), (0, .ref (a 0))]) rfl (fun ls hl => ?_)
    exact wX3_tick_2_b62 S hQ hLa hX hXA N (0 : Int32) w_15 _ _ _ hM (lv_sub hl [3, 0] rfl) hf
  · have hf := if_t cn hf
    refine lv_iload_n S.x S.b dX3_tick_43 rfl (lv_at hl 0 rfl) ?_
    refine lv_if_eq (tgt := 51) S.x S.b dX3_tick_44 rfl (fun cn => ?_) (fun cn => ?_)
    · have hf := if_t cn hf
      refine lv_aload_n S.x S.b dX3_tick_51 rfl (lv_at hl 2 rfl) ?_
      refine rg_g S hM 9 rfl (Or.inl q241) rfl dX3_tick_52 ?_
      refine lv_iconst (v := (1 : Int32)) S.x S.b dX3_tick_55 ki_1 ?_
      refine lv_iadd S.x S.b dX3_tick_56 ?_
      obtain ⟨w_16, ew, hf⟩ := lt_some hf
      refine rcp S hM 9 rfl rfl ew (Or.inl q241) dX3_tick_57 (fun H locs hM => ?_)
      refine lv_iconst (v := (0 : Int32)) S.x S.b dX3_tick_60 ki_0 ?_
      refine g_istn S (x' := (0 : Int32)) rfl hl dX3_tick_61 rfl rfl (lv' := [(3, .int (0 : Int32)), (2, .int r_13), (1, .int r_10), (0, .ref (a 0))]) rfl (fun ls hl => ?_)
      exact wX3_tick_2_b62 S hQ hLa hX hXA N (0 : Int32) w_16 _ _ _ hM (lv_sub hl [3, 0] rfl) hf
    · have hf := if_f cn hf
      refine lv_iconst (v := (0 : Int32)) S.x S.b dX3_tick_47 ki_0 ?_
      refine lv_goto (tgt := 57) S.x S.b dX3_tick_48 rfl ?_
      obtain ⟨w_17, ew, hf⟩ := lt_some hf
      refine rcp S hM 9 rfl rfl ew (Or.inl q241) dX3_tick_57 (fun H locs hM => ?_)
      refine lv_iconst (v := (0 : Int32)) S.x S.b dX3_tick_60 ki_0 ?_
      refine g_istn S (x' := (0 : Int32)) rfl hl dX3_tick_61 rfl rfl (lv' := [(3, .int (0 : Int32)), (2, .int r_13), (1, .int r_10), (0, .ref (a 0))]) rfl (fun ls hl => ?_)
      exact wX3_tick_2_b62 S hQ hLa hX hXA N (0 : Int32) w_17 _ _ _ hM (lv_sub hl [3, 0] rfl) hf
/-! SequenceBench$Rig.ticks(I)I -/
def gX3_ticks_2_b7 (N : Nat) (ns : Nat) (q : MW) : Nat → Int32 → Int32 → Int32 → MW → Option (Int32 × MW)
  | 0, _, _, _, _ => none
  | n + 1, x1, x2, x3, w =>
    if x1 ≤ x3 then (
    some (((w.1 17) - x2), w))
    else (
    bd (gX3_tick_2 N ns q w) fun w_2 =>
    lt (x3 + (1 : Int32)) fun x3_4 =>
    gX3_ticks_2_b7 N ns q n x1 x2 x3_4 w_2)
def gX3_ticks_2 (N : Nat) (ns : Nat) (q : MW) (x1 : Int32) (w : MW) : Option (Int32 × MW) :=
  lt ((w.1 17)) fun x2_1 =>
  gX3_ticks_2_b7 N ns q N x1 x2_1 (0 : Int32) w
abbrev rmX3_ticks_2 : Room := { frames := 7, cells := 0, slots := 0, locals := 141 }
set_option maxHeartbeats 4000000 in
theorem wX3_ticks_2_b7 {p : Program} {l : Launch} {e : Env} {s : State} {m : MethodId} {args : Array Value} {below : List Frame} {meth : Method} {c : Code} {D : va_G} {T : Nat → ClassId} {A : Nat → Prop} {a b sa la : Nat → Nat} {tl : va_W} {rr : Int32} {wr : MW} {N : Nat} {ns : Nat} {q : MW} (S : gS p s m args meth c cX3_ticks 4 (some .int) RX3 D T) (hQ : SqI T b sa ns q (.ref (b 3)) tl) (hLa : ∀ w, LaF la 0 (rcW 2 a (T 0) (some (b 0)) w tl)) (hX : LamI 2 D a la 0 q s.heap) (hXA : ∀ k, k < 0 → ¬ A (la k)) : ∀ (n : Nat) (x1 : Int32) (x2 : Int32) (x3 : Int32) (w : MW) (H : Heap) (locs : List Loc) (ls : Array Slot), gM D A s.heap (rcW 2 a (T 0) (some (b 0)) w tl) H locs → lv_has ls 4 [(0, .ref (a 0)), (1, .int x1), (2, .int x2), (3, .int x3)] → gX3_ticks_2_b7 N ns q n x1 x2 x3 w = some (rr, wr) → W p l e rmX3_ticks_2 s m args below meth c H locs 0 0 (MQ below (gQi D T A rr (rcW 2 a (T 0) (some (b 0)) wr tl)) args s 0 0 A) (F0 m 7 ls []) := by
  intro n
  induction n with
  | zero =>
    intro x1 x2 x3 w H locs ls hM hl hf
    cases hf
  | succ n ih =>
    intro x1 x2 x3 w H locs ls hM hl hf
    refine lv_iload_n S.x S.b dX3_ticks_7 rfl (lv_at hl 3 rfl) ?_
    refine lv_iload_n S.x S.b dX3_ticks_8 rfl (lv_at hl 1 rfl) ?_
    refine lv_icmp_ge (tgt := 22) S.x S.b dX3_ticks_9 rfl (fun cn => ?_) (fun cn => ?_)
    · have hf := if_t cn hf
      refine lv_aload_n S.x S.b dX3_ticks_22 rfl (lv_at hl 0 rfl) ?_
      refine rg_g S hM 17 rfl (Or.inl q254) rfl dX3_ticks_23 ?_
      refine lv_iload_n S.x S.b dX3_ticks_26 rfl (lv_at hl 2 rfl) ?_
      refine lv_isub S.x S.b dX3_ticks_27 ?_
      obtain ⟨rfl, rfl⟩ := rt2 hf
      exact g_iret S hM rfl dX3_ticks_28
    · have hf := if_f cn hf
      refine lv_aload_n S.x S.b dX3_ticks_12 rfl (lv_at hl 0 rfl) ?_
      obtain ⟨w_2, hc, hf⟩ := bd_some hf
      refine gx_cv S hM (hX.kept hXA hM.2.2.1) hl [] 2 rfl ⟨0, _, rfl⟩ (metX3_tick_2 hQ hLa hc) hdX3_tick q1253 q1254 q1255 q65 q1256 ⟨rfl, rfl⟩ ⟨rfl, rfl⟩ rfl rfl rfl dX3_ticks_13 (fun H locs hM => ?_)
      obtain ⟨x3_4, ex, hf⟩ := lt_some hf
      refine g_inc S (x' := x3_4) (d := (1 : Int32)) hl (k := 3) rfl ki_1 ex dX3_ticks_16 rfl (lv' := [(3, .int x3_4), (0, .ref (a 0)), (1, .int x1), (2, .int x2)]) rfl (fun ls hl => ?_)
      refine lv_goto (tgt := 7) S.x S.b dX3_ticks_19 rfl ?_
      exact ih x1 x2 x3_4 w_2 _ _ _ hM (lv_sub hl [1, 2, 3, 0] rfl) hf
set_option maxHeartbeats 4000000 in
theorem metX3_ticks_2 {l : Launch} {D : va_G} {T : Nat → ClassId} {a b sa la : Nat → Nat} {tl : va_W} {rr : Int32} {wr : MW} {N : Nat} {x1 : Int32} {w : MW} {ns : Nat} {q : MW} (hQ : SqI T b sa ns q (.ref (b 3)) tl) (hLa : ∀ w, LaF la 0 (rcW 2 a (T 0) (some (b 0)) w tl)) (hf : gX3_ticks_2 N ns q x1 w = some (rr, wr)) (sz : Nat) : MetIX l yX3_ticks (ws_ yX3_ticks cX3_ticks 4 (some .int)) rmX3_ticks_2 D T (rcW 2 a (T 0) (some (b 0)) w tl) sz [.ref (a 0), .int x1] rr (rcW 2 a (T 0) (some (b 0)) wr tl) (LamI 2 D a la 0 q) := by
  refine g_entryX (Qc := fun A => gQi D T A rr (rcW 2 a (T 0) (some (b 0)) wr tl)) (by decide) rfl ?_
  intro p e s m below meth c ls S hM hX hl
  have hXA := (hLa w).na hX
  have hl : lv_has ls 4 [(0, .ref (a 0)), (1, .int x1)] := hl
  refine lv_aload_n S.x S.b dX3_ticks_0 rfl (lv_at hl 0 rfl) ?_
  refine rg_g S hM 17 rfl (Or.inl q254) rfl dX3_ticks_1 ?_
  obtain ⟨x2_1, ex, hf⟩ := lt_some hf
  refine g_istn S (x' := x2_1) ex hl dX3_ticks_4 rfl rfl (lv' := [(2, .int x2_1), (0, .ref (a 0)), (1, .int x1)]) rfl (fun ls hl => ?_)
  refine lv_iconst (v := (0 : Int32)) S.x S.b dX3_ticks_5 ki_0 ?_
  refine g_istn S (x' := (0 : Int32)) rfl hl dX3_ticks_6 rfl rfl (lv' := [(3, .int (0 : Int32)), (2, .int x2_1), (0, .ref (a 0)), (1, .int x1)]) rfl (fun ls hl => ?_)
  exact wX3_ticks_2_b7 S hQ hLa hX hXA N x1 x2_1 (0 : Int32) w _ _ _ hM (lv_sub hl [2, 3, 1, 0] rfl) hf
/-! SequenceBench$Rig.makesCycles()Z -/
def gX3_makesCycles_2_b36 (N : Nat) (ns : Nat) (q : MW) (w : MW) : Option (Int32 × MW) :=
  if (w.1 22) < (2 : Int32) then (
  some ((0 : Int32), w))
  else (
  some ((1 : Int32), w))
def gX3_makesCycles_2_b0 (N : Nat) (ns : Nat) (q : MW) : Nat → MW → Option (Int32 × MW)
  | 0, _ => none
  | n + 1, w =>
    if (2 : Int32) ≤ (w.1 22) then (
    gX3_makesCycles_2_b36 N ns q w)
    else (
    if (w.1 18) = (w.1 17) then (
    if (4000 : Int32) ≤ (w.1 8) then (
    gX3_makesCycles_2_b36 N ns q w)
    else (
    bd (gX3_tick_2 N ns q w) fun w_1 =>
    gX3_makesCycles_2_b0 N ns q n w_1))
    else (
    gX3_makesCycles_2_b36 N ns q w))
def gX3_makesCycles_2 (N : Nat) (ns : Nat) (q : MW) (w : MW) : Option (Int32 × MW) :=
  gX3_makesCycles_2_b0 N ns q N w
abbrev rmX3_makesCycles_2 : Room := { frames := 7, cells := 0, slots := 0, locals := 141 }
set_option maxHeartbeats 4000000 in
theorem wX3_makesCycles_2_b36 {p : Program} {l : Launch} {e : Env} {s : State} {m : MethodId} {args : Array Value} {below : List Frame} {meth : Method} {c : Code} {D : va_G} {T : Nat → ClassId} {A : Nat → Prop} {a b sa la : Nat → Nat} {tl : va_W} {rr : Int32} {wr : MW} {N : Nat} {ns : Nat} {q : MW} (S : gS p s m args meth c cX3_makesCycles 1 (some .boolean) RX3 D T) (hQ : SqI T b sa ns q (.ref (b 3)) tl) (hLa : ∀ w, LaF la 0 (rcW 2 a (T 0) (some (b 0)) w tl)) (hX : LamI 2 D a la 0 q s.heap) (hXA : ∀ k, k < 0 → ¬ A (la k)) : ∀ (w : MW) (H : Heap) (locs : List Loc) (ls : Array Slot), gM D A s.heap (rcW 2 a (T 0) (some (b 0)) w tl) H locs → lv_has ls 1 [(0, .ref (a 0))] → gX3_makesCycles_2_b36 N ns q w = some (rr, wr) → W p l e rmX3_makesCycles_2 s m args below meth c H locs 0 0 (MQ below (gQi D T A rr (rcW 2 a (T 0) (some (b 0)) wr tl)) args s 0 0 A) (F0 m 36 ls []) := by
  intro w H locs ls hM hl hf
  refine lv_aload_n S.x S.b dX3_makesCycles_36 rfl (lv_at hl 0 rfl) ?_
  refine rg_g S hM 22 rfl (Or.inl q261) rfl dX3_makesCycles_37 ?_
  refine lv_iconst (v := (2 : Int32)) S.x S.b dX3_makesCycles_40 ki_2 ?_
  refine lv_icmp_lt (tgt := 48) S.x S.b dX3_makesCycles_41 rfl (fun cn => ?_) (fun cn => ?_)
  · have hf := if_t cn hf
    refine lv_iconst (v := (0 : Int32)) S.x S.b dX3_makesCycles_48 ki_0 ?_
    obtain ⟨rfl, rfl⟩ := rt2 hf
    exact g_zret S hM rfl rfl dX3_makesCycles_49
  · have hf := if_f cn hf
    refine lv_iconst (v := (1 : Int32)) S.x S.b dX3_makesCycles_44 ki_1 ?_
    refine lv_goto (tgt := 49) S.x S.b dX3_makesCycles_45 rfl ?_
    obtain ⟨rfl, rfl⟩ := rt2 hf
    exact g_zret S hM rfl rfl dX3_makesCycles_49
set_option maxHeartbeats 4000000 in
theorem wX3_makesCycles_2_b0 {p : Program} {l : Launch} {e : Env} {s : State} {m : MethodId} {args : Array Value} {below : List Frame} {meth : Method} {c : Code} {D : va_G} {T : Nat → ClassId} {A : Nat → Prop} {a b sa la : Nat → Nat} {tl : va_W} {rr : Int32} {wr : MW} {N : Nat} {ns : Nat} {q : MW} (S : gS p s m args meth c cX3_makesCycles 1 (some .boolean) RX3 D T) (hQ : SqI T b sa ns q (.ref (b 3)) tl) (hLa : ∀ w, LaF la 0 (rcW 2 a (T 0) (some (b 0)) w tl)) (hX : LamI 2 D a la 0 q s.heap) (hXA : ∀ k, k < 0 → ¬ A (la k)) : ∀ (n : Nat) (w : MW) (H : Heap) (locs : List Loc) (ls : Array Slot), gM D A s.heap (rcW 2 a (T 0) (some (b 0)) w tl) H locs → lv_has ls 1 [(0, .ref (a 0))] → gX3_makesCycles_2_b0 N ns q n w = some (rr, wr) → W p l e rmX3_makesCycles_2 s m args below meth c H locs 0 0 (MQ below (gQi D T A rr (rcW 2 a (T 0) (some (b 0)) wr tl)) args s 0 0 A) (F0 m 0 ls []) := by
  intro n
  induction n with
  | zero =>
    intro w H locs ls hM hl hf
    cases hf
  | succ n ih =>
    intro w H locs ls hM hl hf
    refine lv_aload_n S.x S.b dX3_makesCycles_0 rfl (lv_at hl 0 rfl) ?_
    refine rg_g S hM 22 rfl (Or.inl q261) rfl dX3_makesCycles_1 ?_
    refine lv_iconst (v := (2 : Int32)) S.x S.b dX3_makesCycles_4 ki_2 ?_
    refine lv_icmp_ge (tgt := 36) S.x S.b dX3_makesCycles_5 rfl (fun cn => ?_) (fun cn => ?_)
    · have hf := if_t cn hf
      exact wX3_makesCycles_2_b36 S hQ hLa hX hXA w _ _ _ hM (lv_sub hl [0] rfl) hf
    · have hf := if_f cn hf
      refine lv_aload_n S.x S.b dX3_makesCycles_8 rfl (lv_at hl 0 rfl) ?_
      refine rg_g S hM 18 rfl (Or.inl q256) rfl dX3_makesCycles_9 ?_
      refine lv_aload_n S.x S.b dX3_makesCycles_12 rfl (lv_at hl 0 rfl) ?_
      refine rg_g S hM 17 rfl (Or.inl q254) rfl dX3_makesCycles_13 ?_
      refine lv_icmp_ne (tgt := 36) S.x S.b dX3_makesCycles_16 rfl (fun cn => ?_) (fun cn => ?_)
      · have hf := if_f cn hf
        exact wX3_makesCycles_2_b36 S hQ hLa hX hXA w _ _ _ hM (lv_sub hl [0] rfl) hf
      · have hf := if_t cn hf
        refine lv_aload_n S.x S.b dX3_makesCycles_19 rfl (lv_at hl 0 rfl) ?_
        refine rg_g S hM 8 rfl (Or.inl q239) rfl dX3_makesCycles_20 ?_
        refine lv_sipush (v := (4000 : Int32)) S.x S.b dX3_makesCycles_23 ks_4000 ?_
        refine lv_icmp_ge (tgt := 36) S.x S.b dX3_makesCycles_26 rfl (fun cn => ?_) (fun cn => ?_)
        · have hf := if_t cn hf
          exact wX3_makesCycles_2_b36 S hQ hLa hX hXA w _ _ _ hM (lv_sub hl [0] rfl) hf
        · have hf := if_f cn hf
          refine lv_aload_n S.x S.b dX3_makesCycles_29 rfl (lv_at hl 0 rfl) ?_
          obtain ⟨w_1, hc, hf⟩ := bd_some hf
          refine gx_cv S hM (hX.kept hXA hM.2.2.1) hl [] 2 rfl ⟨0, _, rfl⟩ (metX3_tick_2 hQ hLa hc) hdX3_tick q1253 q1254 q1255 q65 q1256 ⟨rfl, rfl⟩ ⟨rfl, rfl⟩ rfl rfl rfl dX3_makesCycles_30 (fun H locs hM => ?_)
          refine lv_goto (tgt := 0) S.x S.b dX3_makesCycles_33 rfl ?_
          exact ih w_1 _ _ _ hM (lv_sub hl [0] rfl) hf
set_option maxHeartbeats 4000000 in
theorem metX3_makesCycles_2 {l : Launch} {D : va_G} {T : Nat → ClassId} {a b sa la : Nat → Nat} {tl : va_W} {rr : Int32} {wr : MW} {N : Nat} {w : MW} {ns : Nat} {q : MW} (hQ : SqI T b sa ns q (.ref (b 3)) tl) (hLa : ∀ w, LaF la 0 (rcW 2 a (T 0) (some (b 0)) w tl)) (hf : gX3_makesCycles_2 N ns q w = some (rr, wr)) (sz : Nat) : MetIX l yX3_makesCycles (ws_ yX3_makesCycles cX3_makesCycles 1 (some .boolean)) rmX3_makesCycles_2 D T (rcW 2 a (T 0) (some (b 0)) w tl) sz [.ref (a 0)] rr (rcW 2 a (T 0) (some (b 0)) wr tl) (LamI 2 D a la 0 q) := by
  refine g_entryX (Qc := fun A => gQi D T A rr (rcW 2 a (T 0) (some (b 0)) wr tl)) (by decide) rfl ?_
  intro p e s m below meth c ls S hM hX hl
  have hXA := (hLa w).na hX
  have hl : lv_has ls 1 [(0, .ref (a 0))] := hl
  exact wX3_makesCycles_2_b0 S hQ hLa hX hXA N w _ _ _ hM (lv_sub hl [0] rfl) hf
