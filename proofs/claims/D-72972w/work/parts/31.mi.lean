set_option maxRecDepth 100000
theorem hdX7_init : gHd yX7_init 0 := by decide +kernel
def gX7_init_t_b96 (N : Nat) : Nat → Int32 → MW → Option (MW)
  | 0, _, _ => none
  | n + 1, x1, w =>
    if (6 : Int32) ≤ x1 then (
    ck (1 : Int32) 140 <|
    lt (setA w 0 (1 : Int32).toNatClampNeg (1 : Int32)) fun w_1 =>
    ck (2 : Int32) 140 <|
    lt (setA w_1 0 (2 : Int32).toNatClampNeg (1 : Int32)) fun w_2 =>
    bd (gX7_rests N 0 w_2) fun w_3 =>
    some w_3)
    else (
    ck x1 6 <|
    lt (setA w 2 x1.toNatClampNeg (3 : Int32)) fun w_4 =>
    lt (x1 + (1 : Int32)) fun x1_5 =>
    gX7_init_t_b96 N n x1_5 w_4)
def gX7_init_t (N : Nat) (w : MW) : Option (MW) :=
  gX7_init_t_b96 N N (0 : Int32) w
abbrev rmX7_init_t : Room := { frames := 3, cells := 11, slots := 481, locals := 57 }
set_option maxHeartbeats 4000000 in
theorem wX7_init_t_b96 {p : Program} {l : Launch} {e : Env} {s : State} {m : MethodId} {args : Array Value} {below : List Frame} {meth : Method} {c : Code} {D : va_G} {T : Nat → ClassId} {A : Nat → Prop} {h : Nat} {ad : Nat → Nat} {cells slots : Nat} {Q : State → Prop} {H0 : Heap} {wr : MW} {N : Nat} (S : gS p s m args meth c cX7_init 2 (none) RX7 D T) (hcs : cells + 0 ≤ rmX7_init_t.cells ∧ slots + 0 ≤ rmX7_init_t.slots) (hend : ∀ (w : MW) (H : Heap) (locs : List Loc) (ls : Array Slot), gM D A H0 (mmW h ad (T 0) w) H locs → ls.size = 2 → w = wr → W p l e rmX7_init_t s m args below meth c H locs cells slots Q (F0 m 137 ls [])) : ∀ (n : Nat) (x1 : Int32) (w : MW) (H : Heap) (locs : List Loc) (ls : Array Slot), gM D A H0 (mmW h ad (T 0) w) H locs → lv_has ls 2 [(0, .ref h), (1, .int x1)] → gX7_init_t_b96 N n x1 w = some wr → W p l e rmX7_init_t s m args below meth c H locs cells slots Q (F0 m 96 ls []) := by
  intro n
  induction n with
  | zero =>
    intro x1 w H locs ls hM hl hf
    cases hf
  | succ n ih =>
    intro x1 w H locs ls hM hl hf
    refine lv_iload_n S.x S.b dX7_init_96 rfl (lv_at hl 1 rfl) ?_
    refine lv_bipush (v := (6 : Int32)) S.x S.b dX7_init_97 kb_6 ?_
    refine lv_icmp_ge (tgt := 115) S.x S.b dX7_init_99 rfl (fun cn => ?_) (fun cn => ?_)
    · have hf := if_t cn hf
      refine lv_aload_n S.x S.b dX7_init_115 rfl (lv_at hl 0 rfl) ?_
      refine mm_g S hM 0 rfl q1448 rfl dX7_init_116 ?_
      refine lv_iconst (v := (1 : Int32)) S.x S.b dX7_init_119 ki_1 ?_
      refine lv_iconst (v := (1 : Int32)) S.x S.b dX7_init_120 ki_1 ?_
      obtain ⟨hi, hf⟩ := ck_some hf
      obtain ⟨w_1, ew, hf⟩ := lt_some hf
      refine mm_st S hM 0 rfl hi ew dX7_init_121 (fun H locs hM => ?_)
      refine lv_aload_n S.x S.b dX7_init_122 rfl (lv_at hl 0 rfl) ?_
      refine mm_g S hM 0 rfl q1448 rfl dX7_init_123 ?_
      refine lv_iconst (v := (2 : Int32)) S.x S.b dX7_init_126 ki_2 ?_
      refine lv_iconst (v := (1 : Int32)) S.x S.b dX7_init_127 ki_1 ?_
      obtain ⟨hi, hf⟩ := ck_some hf
      obtain ⟨w_2, ew, hf⟩ := lt_some hf
      refine mm_st S hM 0 rfl hi ew dX7_init_128 (fun H locs hM => ?_)
      refine lv_aload_n S.x S.b dX7_init_129 rfl (lv_at hl 0 rfl) ?_
      refine lv_aload_n S.x S.b dX7_init_130 rfl (lv_at hl 0 rfl) ?_
      refine mm_g S hM 0 rfl q1448 rfl dX7_init_131 ?_
      obtain ⟨w_3, hc, hf⟩ := bd_some hf
      refine mm_cv S hM hl [.ref (ad 0)] rfl (metX7_rests (jr := 0) rfl hc) hdX7_rests q1433 q1435 qs29 q69 q1436 ⟨rfl, rfl⟩ ⟨rfl, rfl⟩ rfl rfl rfl hcs dX7_init_134 (fun H locs hM => ?_)
      obtain rfl := rt1 hf
      exact hend _ _ _ _ hM hl.1 rfl
    · have hf := if_f cn hf
      refine lv_aload_n S.x S.b dX7_init_102 rfl (lv_at hl 0 rfl) ?_
      refine mm_g S hM 2 rfl q1450 rfl dX7_init_103 ?_
      refine lv_iload_n S.x S.b dX7_init_106 rfl (lv_at hl 1 rfl) ?_
      refine lv_iconst (v := (3 : Int32)) S.x S.b dX7_init_107 ki_3 ?_
      obtain ⟨hi, hf⟩ := ck_some hf
      obtain ⟨w_4, ew, hf⟩ := lt_some hf
      refine mm_st S hM 2 rfl hi ew dX7_init_108 (fun H locs hM => ?_)
      obtain ⟨x1_5, ex, hf⟩ := lt_some hf
      refine g_inc S (x' := x1_5) (d := (1 : Int32)) hl (k := 1) rfl ki_1 ex dX7_init_109 rfl (lv' := [(1, .int x1_5), (0, .ref h)]) rfl (fun ls hl => ?_)
      refine lv_goto (tgt := 96) S.x S.b dX7_init_112 rfl ?_
      exact ih x1_5 w_4 _ _ _ hM (lv_sub hl [1, 0] rfl) hf
set_option maxHeartbeats 4000000 in
theorem tlX7_init_t {p : Program} {l : Launch} {e : Env} {s : State} {m : MethodId} {args : Array Value} {below : List Frame} {meth : Method} {c : Code} {D : va_G} {T : Nat → ClassId} {A : Nat → Prop} {h : Nat} {ad : Nat → Nat} {cells slots : Nat} {Q : State → Prop} {H0 : Heap} {wr : MW} {N : Nat} {w : MW} (S : gS p s m args meth c cX7_init 2 (none) RX7 D T) (hcs : cells + 0 ≤ rmX7_init_t.cells ∧ slots + 0 ≤ rmX7_init_t.slots) (hend : ∀ (w : MW) (H : Heap) (locs : List Loc) (ls : Array Slot), gM D A H0 (mmW h ad (T 0) w) H locs → ls.size = 2 → w = wr → W p l e rmX7_init_t s m args below meth c H locs cells slots Q (F0 m 137 ls [])) {H : Heap} {locs : List Loc} {ls : Array Slot} (hM : gM D A H0 (mmW h ad (T 0) w) H locs) (hl : lv_has ls 2 [(0, .ref h)]) (hf : gX7_init_t N w = some wr) : W p l e rmX7_init_t s m args below meth c H locs cells slots Q (F0 m 94 ls []) := by
  refine lv_iconst (v := (0 : Int32)) S.x S.b dX7_init_94 ki_0 ?_
  refine g_istn S (x' := (0 : Int32)) rfl hl dX7_init_95 rfl rfl (lv' := [(1, .int (0 : Int32)), (0, .ref h)]) rfl (fun ls hl => ?_)
  exact wX7_init_t_b96 S hcs hend N (0 : Int32) w _ _ _ hM (lv_sub hl [1, 0] rfl) hf

set_option maxHeartbeats 4000000 in
theorem metX7_init {l : Launch} {D : va_G} {T : Nat → ClassId} {h : Nat} {wr : MW} {N : Nat} (hf : gX7_init_t N (fun _ => 0, fun _ _ => 0) = some wr) (sz : Nat) : MetA (Nat → Nat) l yX7_init (ws_ yX7_init cX7_init 2 none) rmX7_init_t D T [(h, .inr (0, [.null, .null, .null, .int 0, .int 0, .null, .null, .null, .int 0, .null, .null, .int 0, .int 0, .int 0, .int 0, .null, .null, .null, .int 0, .int 0]))] sz [.ref h] (fun ad => mmW h ad (T 0) wr) (fun _ _ => True) 11 481 := by
  refine g_entryA (Qc := fun A => va_Qv (fun (_ : Nat → Nat) => True) (fun u t => gPost D T A (mmW h u (T 0) wr) t ∧ True) A) (by decide) rfl ?_
  intro p e s m below meth c ls S hini hM hl
  have hl : lv_has ls 2 [(0, .ref h)] := hl
  refine lv_aload_n S.x S.b dX7_init_0 rfl (lv_at hl 0 rfl) ?_
  refine g_objInit S hl q1432 q103 q104 ⟨rfl, rfl⟩ dX7_init_1 ?_
  refine lv_aload_n S.x S.b dX7_init_4 rfl (lv_at hl 0 rfl) ?_
  refine lv_sipush (v := (140 : Int32)) S.x S.b dX7_init_5 (by decide) ?_
  refine g_newa S hM (N := 140) (by decide) (by decide) (Nat.le_of_ble_eq_true rfl) (Nat.le_of_ble_eq_true rfl) (Nat.le_of_ble_eq_true rfl) dX7_init_8 (fun z1 H hM => ?_)
  refine g_putF S hM 1 rfl (ci := 0) rfl in_X7 tyX7_ok nmX7 0 rfl q1448 rfl hini rfl rfl rfl rfl (ws' := [(z1, .inl (T 0, 140, .inl (fun _ => 0))), (h, .inr (0, [.ref z1, .null, .null, .int 0, .int 0, .null, .null, .null, .int 0, .null, .null, .int 0, .int 0, .int 0, .int 0, .null, .null, .null, .int 0, .int 0]))]) rfl dX7_init_10 (fun H locs hM => ?_)
  refine lv_aload_n S.x S.b dX7_init_13 rfl (lv_at hl 0 rfl) ?_
  refine lv_sipush (v := (140 : Int32)) S.x S.b dX7_init_14 (by decide) ?_
  refine g_newa S hM (N := 140) (by decide) (by decide) (Nat.le_of_ble_eq_true rfl) (Nat.le_of_ble_eq_true rfl) (Nat.le_of_ble_eq_true rfl) dX7_init_17 (fun z2 H hM => ?_)
  refine g_putF S hM 2 rfl (ci := 0) rfl in_X7 tyX7_ok nmX7 1 rfl q1449 rfl hini rfl rfl rfl rfl (ws' := [(z2, .inl (T 0, 140, .inl (fun _ => 0))), (z1, .inl (T 0, 140, .inl (fun _ => 0))), (h, .inr (0, [.ref z1, .ref z2, .null, .int 0, .int 0, .null, .null, .null, .int 0, .null, .null, .int 0, .int 0, .int 0, .int 0, .null, .null, .null, .int 0, .int 0]))]) rfl dX7_init_19 (fun H locs hM => ?_)
  refine lv_aload_n S.x S.b dX7_init_22 rfl (lv_at hl 0 rfl) ?_
  refine lv_bipush (v := (6 : Int32)) S.x S.b dX7_init_23 (by decide) ?_
  refine g_newa S hM (N := 6) (by decide) (by decide) (Nat.le_of_ble_eq_true rfl) (Nat.le_of_ble_eq_true rfl) (Nat.le_of_ble_eq_true rfl) dX7_init_25 (fun z3 H hM => ?_)
  refine g_putF S hM 3 rfl (ci := 0) rfl in_X7 tyX7_ok nmX7 2 rfl q1450 rfl hini rfl rfl rfl rfl (ws' := [(z3, .inl (T 0, 6, .inl (fun _ => 0))), (z2, .inl (T 0, 140, .inl (fun _ => 0))), (z1, .inl (T 0, 140, .inl (fun _ => 0))), (h, .inr (0, [.ref z1, .ref z2, .ref z3, .int 0, .int 0, .null, .null, .null, .int 0, .null, .null, .int 0, .int 0, .int 0, .int 0, .null, .null, .null, .int 0, .int 0]))]) rfl dX7_init_27 (fun H locs hM => ?_)
  refine lv_aload_n S.x S.b dX7_init_30 rfl (lv_at hl 0 rfl) ?_
  refine lv_bipush (v := (16 : Int32)) S.x S.b dX7_init_31 (by decide) ?_
  refine g_newa S hM (N := 16) (by decide) (by decide) (Nat.le_of_ble_eq_true rfl) (Nat.le_of_ble_eq_true rfl) (Nat.le_of_ble_eq_true rfl) dX7_init_33 (fun z4 H hM => ?_)
  refine g_putF S hM 4 rfl (ci := 0) rfl in_X7 tyX7_ok nmX7 5 rfl q1453 rfl hini rfl rfl rfl rfl (ws' := [(z4, .inl (T 0, 16, .inl (fun _ => 0))), (z3, .inl (T 0, 6, .inl (fun _ => 0))), (z2, .inl (T 0, 140, .inl (fun _ => 0))), (z1, .inl (T 0, 140, .inl (fun _ => 0))), (h, .inr (0, [.ref z1, .ref z2, .ref z3, .int 0, .int 0, .ref z4, .null, .null, .int 0, .null, .null, .int 0, .int 0, .int 0, .int 0, .null, .null, .null, .int 0, .int 0]))]) rfl dX7_init_35 (fun H locs hM => ?_)
  refine lv_aload_n S.x S.b dX7_init_38 rfl (lv_at hl 0 rfl) ?_
  refine lv_bipush (v := (16 : Int32)) S.x S.b dX7_init_39 (by decide) ?_
  refine g_newa S hM (N := 16) (by decide) (by decide) (Nat.le_of_ble_eq_true rfl) (Nat.le_of_ble_eq_true rfl) (Nat.le_of_ble_eq_true rfl) dX7_init_41 (fun z5 H hM => ?_)
  refine g_putF S hM 5 rfl (ci := 0) rfl in_X7 tyX7_ok nmX7 6 rfl q1454 rfl hini rfl rfl rfl rfl (ws' := [(z5, .inl (T 0, 16, .inl (fun _ => 0))), (z4, .inl (T 0, 16, .inl (fun _ => 0))), (z3, .inl (T 0, 6, .inl (fun _ => 0))), (z2, .inl (T 0, 140, .inl (fun _ => 0))), (z1, .inl (T 0, 140, .inl (fun _ => 0))), (h, .inr (0, [.ref z1, .ref z2, .ref z3, .int 0, .int 0, .ref z4, .ref z5, .null, .int 0, .null, .null, .int 0, .int 0, .int 0, .int 0, .null, .null, .null, .int 0, .int 0]))]) rfl dX7_init_43 (fun H locs hM => ?_)
  refine lv_aload_n S.x S.b dX7_init_46 rfl (lv_at hl 0 rfl) ?_
  refine lv_bipush (v := (16 : Int32)) S.x S.b dX7_init_47 (by decide) ?_
  refine g_newa S hM (N := 16) (by decide) (by decide) (Nat.le_of_ble_eq_true rfl) (Nat.le_of_ble_eq_true rfl) (Nat.le_of_ble_eq_true rfl) dX7_init_49 (fun z6 H hM => ?_)
  refine g_putF S hM 6 rfl (ci := 0) rfl in_X7 tyX7_ok nmX7 7 rfl q1455 rfl hini rfl rfl rfl rfl (ws' := [(z6, .inl (T 0, 16, .inl (fun _ => 0))), (z5, .inl (T 0, 16, .inl (fun _ => 0))), (z4, .inl (T 0, 16, .inl (fun _ => 0))), (z3, .inl (T 0, 6, .inl (fun _ => 0))), (z2, .inl (T 0, 140, .inl (fun _ => 0))), (z1, .inl (T 0, 140, .inl (fun _ => 0))), (h, .inr (0, [.ref z1, .ref z2, .ref z3, .int 0, .int 0, .ref z4, .ref z5, .ref z6, .int 0, .null, .null, .int 0, .int 0, .int 0, .int 0, .null, .null, .null, .int 0, .int 0]))]) rfl dX7_init_51 (fun H locs hM => ?_)
  refine lv_aload_n S.x S.b dX7_init_54 rfl (lv_at hl 0 rfl) ?_
  refine lv_bipush (v := (16 : Int32)) S.x S.b dX7_init_55 (by decide) ?_
  refine g_newa S hM (N := 16) (by decide) (by decide) (Nat.le_of_ble_eq_true rfl) (Nat.le_of_ble_eq_true rfl) (Nat.le_of_ble_eq_true rfl) dX7_init_57 (fun z7 H hM => ?_)
  refine g_putF S hM 7 rfl (ci := 0) rfl in_X7 tyX7_ok nmX7 9 rfl q1457 rfl hini rfl rfl rfl rfl (ws' := [(z7, .inl (T 0, 16, .inl (fun _ => 0))), (z6, .inl (T 0, 16, .inl (fun _ => 0))), (z5, .inl (T 0, 16, .inl (fun _ => 0))), (z4, .inl (T 0, 16, .inl (fun _ => 0))), (z3, .inl (T 0, 6, .inl (fun _ => 0))), (z2, .inl (T 0, 140, .inl (fun _ => 0))), (z1, .inl (T 0, 140, .inl (fun _ => 0))), (h, .inr (0, [.ref z1, .ref z2, .ref z3, .int 0, .int 0, .ref z4, .ref z5, .ref z6, .int 0, .ref z7, .null, .int 0, .int 0, .int 0, .int 0, .null, .null, .null, .int 0, .int 0]))]) rfl dX7_init_59 (fun H locs hM => ?_)
  refine lv_aload_n S.x S.b dX7_init_62 rfl (lv_at hl 0 rfl) ?_
  refine lv_bipush (v := (80 : Int32)) S.x S.b dX7_init_63 (by decide) ?_
  refine g_newa S hM (N := 80) (by decide) (by decide) (Nat.le_of_ble_eq_true rfl) (Nat.le_of_ble_eq_true rfl) (Nat.le_of_ble_eq_true rfl) dX7_init_65 (fun z8 H hM => ?_)
  refine g_putF S hM 8 rfl (ci := 0) rfl in_X7 tyX7_ok nmX7 10 rfl q1458 rfl hini rfl rfl rfl rfl (ws' := [(z8, .inl (T 0, 80, .inl (fun _ => 0))), (z7, .inl (T 0, 16, .inl (fun _ => 0))), (z6, .inl (T 0, 16, .inl (fun _ => 0))), (z5, .inl (T 0, 16, .inl (fun _ => 0))), (z4, .inl (T 0, 16, .inl (fun _ => 0))), (z3, .inl (T 0, 6, .inl (fun _ => 0))), (z2, .inl (T 0, 140, .inl (fun _ => 0))), (z1, .inl (T 0, 140, .inl (fun _ => 0))), (h, .inr (0, [.ref z1, .ref z2, .ref z3, .int 0, .int 0, .ref z4, .ref z5, .ref z6, .int 0, .ref z7, .ref z8, .int 0, .int 0, .int 0, .int 0, .null, .null, .null, .int 0, .int 0]))]) rfl dX7_init_67 (fun H locs hM => ?_)
  refine lv_aload_n S.x S.b dX7_init_70 rfl (lv_at hl 0 rfl) ?_
  refine lv_bipush (v := (17 : Int32)) S.x S.b dX7_init_71 (by decide) ?_
  refine g_newa S hM (N := 17) (by decide) (by decide) (Nat.le_of_ble_eq_true rfl) (Nat.le_of_ble_eq_true rfl) (Nat.le_of_ble_eq_true rfl) dX7_init_73 (fun z9 H hM => ?_)
  refine g_putF S hM 9 rfl (ci := 0) rfl in_X7 tyX7_ok nmX7 15 rfl q1463 rfl hini rfl rfl rfl rfl (ws' := [(z9, .inl (T 0, 17, .inl (fun _ => 0))), (z8, .inl (T 0, 80, .inl (fun _ => 0))), (z7, .inl (T 0, 16, .inl (fun _ => 0))), (z6, .inl (T 0, 16, .inl (fun _ => 0))), (z5, .inl (T 0, 16, .inl (fun _ => 0))), (z4, .inl (T 0, 16, .inl (fun _ => 0))), (z3, .inl (T 0, 6, .inl (fun _ => 0))), (z2, .inl (T 0, 140, .inl (fun _ => 0))), (z1, .inl (T 0, 140, .inl (fun _ => 0))), (h, .inr (0, [.ref z1, .ref z2, .ref z3, .int 0, .int 0, .ref z4, .ref z5, .ref z6, .int 0, .ref z7, .ref z8, .int 0, .int 0, .int 0, .int 0, .ref z9, .null, .null, .int 0, .int 0]))]) rfl dX7_init_75 (fun H locs hM => ?_)
  refine lv_aload_n S.x S.b dX7_init_78 rfl (lv_at hl 0 rfl) ?_
  refine lv_bipush (v := (17 : Int32)) S.x S.b dX7_init_79 (by decide) ?_
  refine g_newa S hM (N := 17) (by decide) (by decide) (Nat.le_of_ble_eq_true rfl) (Nat.le_of_ble_eq_true rfl) (Nat.le_of_ble_eq_true rfl) dX7_init_81 (fun z10 H hM => ?_)
  refine g_putF S hM 10 rfl (ci := 0) rfl in_X7 tyX7_ok nmX7 16 rfl q1464 rfl hini rfl rfl rfl rfl (ws' := [(z10, .inl (T 0, 17, .inl (fun _ => 0))), (z9, .inl (T 0, 17, .inl (fun _ => 0))), (z8, .inl (T 0, 80, .inl (fun _ => 0))), (z7, .inl (T 0, 16, .inl (fun _ => 0))), (z6, .inl (T 0, 16, .inl (fun _ => 0))), (z5, .inl (T 0, 16, .inl (fun _ => 0))), (z4, .inl (T 0, 16, .inl (fun _ => 0))), (z3, .inl (T 0, 6, .inl (fun _ => 0))), (z2, .inl (T 0, 140, .inl (fun _ => 0))), (z1, .inl (T 0, 140, .inl (fun _ => 0))), (h, .inr (0, [.ref z1, .ref z2, .ref z3, .int 0, .int 0, .ref z4, .ref z5, .ref z6, .int 0, .ref z7, .ref z8, .int 0, .int 0, .int 0, .int 0, .ref z9, .ref z10, .null, .int 0, .int 0]))]) rfl dX7_init_83 (fun H locs hM => ?_)
  refine lv_aload_n S.x S.b dX7_init_86 rfl (lv_at hl 0 rfl) ?_
  refine lv_bipush (v := (17 : Int32)) S.x S.b dX7_init_87 (by decide) ?_
  refine g_newa S hM (N := 17) (by decide) (by decide) (Nat.le_of_ble_eq_true rfl) (Nat.le_of_ble_eq_true rfl) (Nat.le_of_ble_eq_true rfl) dX7_init_89 (fun z11 H hM => ?_)
  refine g_putF S hM 11 rfl (ci := 0) rfl in_X7 tyX7_ok nmX7 17 rfl q1465 rfl hini rfl rfl rfl rfl (ws' := [(z11, .inl (T 0, 17, .inl (fun _ => 0))), (z10, .inl (T 0, 17, .inl (fun _ => 0))), (z9, .inl (T 0, 17, .inl (fun _ => 0))), (z8, .inl (T 0, 80, .inl (fun _ => 0))), (z7, .inl (T 0, 16, .inl (fun _ => 0))), (z6, .inl (T 0, 16, .inl (fun _ => 0))), (z5, .inl (T 0, 16, .inl (fun _ => 0))), (z4, .inl (T 0, 16, .inl (fun _ => 0))), (z3, .inl (T 0, 6, .inl (fun _ => 0))), (z2, .inl (T 0, 140, .inl (fun _ => 0))), (z1, .inl (T 0, 140, .inl (fun _ => 0))), (h, .inr (0, [.ref z1, .ref z2, .ref z3, .int 0, .int 0, .ref z4, .ref z5, .ref z6, .int 0, .ref z7, .ref z8, .int 0, .int 0, .int 0, .int 0, .ref z9, .ref z10, .ref z11, .int 0, .int 0]))]) rfl dX7_init_91 (fun H locs hM => ?_)
  have hM : gM D _ s.heap (mmW h (fun j => match j with | 0 => z1 | 1 => z2 | 2 => z3 | 3 => z4 | 4 => z5 | 5 => z6 | 6 => z7 | 7 => z8 | 8 => z9 | 9 => z10 | _ => z11) (T 0) (fun _ => 0, fun _ _ => 0)) H locs := hM.perm (List.reverse_perm _).symm
  refine tlX7_init_t (N := N) S ⟨Nat.le_refl _, Nat.le_refl _⟩ ?_ hM hl hf
  intro w H locs ls hM hsz e
  subst e
  exact ga_vret (ws' := fun ad => mmW h ad (T 0) w) (X := fun _ _ => True) S _ hM trivial dX7_init_137
