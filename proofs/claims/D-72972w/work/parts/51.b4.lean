/-! constants -/
set_option maxRecDepth 100000
/-! SequenceBench$Rig.isLike(LSequenceBench$Rig;)Z -/
theorem hdX3_isLike : gHd yX3_isLike 1 := by decide +kernel
def gX3_isLike_19 (N : Nat) (F1 : Nat → Int32) (p1 : Nat → Int32) (F2 : Nat → Int32) (p2 : Nat → Int32) : Nat → Int32 → Int32 → Option (Int32)
  | 0, _, _ => none
  | n + 1, x2, x3 =>
    if (6 : Int32) ≤ x3 then (
    bz x2 (some x2))
    else (
    ck x3 6 <|
    ck x3 6 <|
    if (p1 x3.toNatClampNeg) = (p2 x3.toNatClampNeg) then (
    lt ((x2 &&& (1 : Int32))) fun x2_3 =>
    lt (x3 + (1 : Int32)) fun x3_4 =>
    gX3_isLike_19 N F1 p1 F2 p2 n x2_3 x3_4)
    else (
    lt ((x2 &&& (0 : Int32))) fun x2_1 =>
    lt (x3 + (1 : Int32)) fun x3_2 =>
    gX3_isLike_19 N F1 p1 F2 p2 n x2_1 x3_2))
def gX3_isLike (N : Nat) (F1 : Nat → Int32) (p1 : Nat → Int32) (F2 : Nat → Int32) (p2 : Nat → Int32) : Option (Int32) :=
  if (F1 7) = (F2 7) then (
  gX3_isLike_19 N F1 p1 F2 p2 N (1 : Int32) (0 : Int32))
  else (
  gX3_isLike_19 N F1 p1 F2 p2 N (0 : Int32) (0 : Int32))
abbrev rmX3_isLike : Room := { frames := 1, cells := 0, slots := 0, locals := 12 }
set_option maxHeartbeats 4000000 in
theorem wX3_isLike_19 {p : Program} {l : Launch} {e : Env} {s : State} {m : MethodId} {args : Array Value} {below : List Frame} {meth : Method} {c : Code} {D : va_G} {T : Nat → ClassId} {A : Nat → Prop} {a a1 : Nat → Nat} {so co so1 co1 : Option Nat} {ws : va_W} {rr : Int32} {N : Nat} {F1 : Nat → Int32} {p1 : Nat → Int32} {F2 : Nat → Int32} {p2 : Nat → Int32} (S : gS p s m args meth c cX3_isLike 4 (some .boolean) RX3 D T) (hR1 : ∃ i : Nat, ws[i]? = some (a 0, .inr (2, rgF a so co F1))) (hP1 : ∃ i : Nat, ws[i]? = some (a 3, .inl (T 0, 6, .inl p1))) (hR2 : ∃ i : Nat, ws[i]? = some (a1 0, .inr (2, rgF a1 so1 co1 F2))) (hP2 : ∃ i : Nat, ws[i]? = some (a1 3, .inl (T 0, 6, .inl p2))) : ∀ (n : Nat) (x2 : Int32) (x3 : Int32) (H : Heap) (locs : List Loc) (ls : Array Slot), gM D A s.heap (ws) H locs → lv_has ls 4 [(0, .ref (a 0)), (1, .ref (a1 0)), (2, .int x2), (3, .int x3)] → gX3_isLike_19 N F1 p1 F2 p2 n x2 x3 = some rr → W p l e rmX3_isLike s m args below meth c H locs 0 0 (MQ below (gQi D T A rr (ws)) args s 0 0 A) (F0 m 19 ls []) := by
  intro n
  induction n with
  | zero =>
    intro x2 x3 H locs ls hM hl hf
    cases hf
  | succ n ih =>
    intro x2 x3 H locs ls hM hl hf
    refine lv_iload_n S.x S.b dX3_isLike_19 rfl (lv_at hl 3 rfl) ?_
    refine lv_bipush (v := (6 : Int32)) S.x S.b dX3_isLike_20 kb_6 ?_
    refine lv_icmp_ge (tgt := 54) S.x S.b dX3_isLike_22 rfl (fun cn => ?_) (fun cn => ?_)
    · have hf := if_t cn hf
      refine lv_iload_n S.x S.b dX3_isLike_54 rfl (lv_at hl 2 rfl) ?_
      obtain ⟨hz, hf⟩ := bz_some hf
      obtain rfl := rt1 hf
      exact g_zret S hM rfl hz dX3_isLike_55
    · have hf := if_f cn hf
      refine lv_iload_n S.x S.b dX3_isLike_25 rfl (lv_at hl 2 rfl) ?_
      refine lv_aload_n S.x S.b dX3_isLike_26 rfl (lv_at hl 0 rfl) ?_
      refine g_getL S hM hR1 (ci := 2) rfl in_X3 3 rfl (Or.inl q226) rfl dX3_isLike_27 ?_
      refine lv_iload_n S.x S.b dX3_isLike_30 rfl (lv_at hl 3 rfl) ?_
      obtain ⟨hi, hf⟩ := ck_some hf
      refine lk_ld S hM hP1 hi dX3_isLike_31 ?_
      refine lv_aload_n S.x S.b dX3_isLike_32 rfl (lv_at hl 1 rfl) ?_
      refine g_getL S hM hR2 (ci := 2) rfl in_X3 3 rfl (Or.inl q226) rfl dX3_isLike_33 ?_
      refine lv_iload_n S.x S.b dX3_isLike_36 rfl (lv_at hl 3 rfl) ?_
      obtain ⟨hi, hf⟩ := ck_some hf
      refine lk_ld S hM hP2 hi dX3_isLike_37 ?_
      refine lv_icmp_ne (tgt := 45) S.x S.b dX3_isLike_38 rfl (fun cn => ?_) (fun cn => ?_)
      · have hf := if_f cn hf
        refine lv_iconst (v := (0 : Int32)) S.x S.b dX3_isLike_45 ki_0 ?_
        refine lv_iand S.x S.b dX3_isLike_46 ?_
        obtain ⟨x2_1, ex, hf⟩ := lt_some hf
        refine g_istn S (x' := x2_1) ex hl dX3_isLike_47 rfl rfl (lv' := [(2, .int x2_1), (0, .ref (a 0)), (1, .ref (a1 0)), (3, .int x3)]) rfl (fun ls hl => ?_)
        obtain ⟨x3_2, ex, hf⟩ := lt_some hf
        refine g_inc S (x' := x3_2) (d := (1 : Int32)) hl (k := 3) rfl ki_1 ex dX3_isLike_48 rfl (lv' := [(3, .int x3_2), (2, .int x2_1), (0, .ref (a 0)), (1, .ref (a1 0))]) rfl (fun ls hl => ?_)
        refine lv_goto (tgt := 19) S.x S.b dX3_isLike_51 rfl ?_
        exact ih x2_1 x3_2 _ _ _ hM (lv_sub hl [2, 3, 1, 0] rfl) hf
      · have hf := if_t cn hf
        refine lv_iconst (v := (1 : Int32)) S.x S.b dX3_isLike_41 ki_1 ?_
        refine lv_goto (tgt := 46) S.x S.b dX3_isLike_42 rfl ?_
        refine lv_iand S.x S.b dX3_isLike_46 ?_
        obtain ⟨x2_3, ex, hf⟩ := lt_some hf
        refine g_istn S (x' := x2_3) ex hl dX3_isLike_47 rfl rfl (lv' := [(2, .int x2_3), (0, .ref (a 0)), (1, .ref (a1 0)), (3, .int x3)]) rfl (fun ls hl => ?_)
        obtain ⟨x3_4, ex, hf⟩ := lt_some hf
        refine g_inc S (x' := x3_4) (d := (1 : Int32)) hl (k := 3) rfl ki_1 ex dX3_isLike_48 rfl (lv' := [(3, .int x3_4), (2, .int x2_3), (0, .ref (a 0)), (1, .ref (a1 0))]) rfl (fun ls hl => ?_)
        refine lv_goto (tgt := 19) S.x S.b dX3_isLike_51 rfl ?_
        exact ih x2_3 x3_4 _ _ _ hM (lv_sub hl [2, 3, 1, 0] rfl) hf
set_option maxHeartbeats 4000000 in
theorem metX3_isLike {l : Launch} {D : va_G} {T : Nat → ClassId} {a a1 : Nat → Nat} {so co so1 co1 : Option Nat} {ws : va_W} {rr : Int32} {N : Nat} {F1 : Nat → Int32} {p1 : Nat → Int32} {F2 : Nat → Int32} {p2 : Nat → Int32} (hR1 : ∃ i : Nat, ws[i]? = some (a 0, .inr (2, rgF a so co F1))) (hP1 : ∃ i : Nat, ws[i]? = some (a 3, .inl (T 0, 6, .inl p1))) (hR2 : ∃ i : Nat, ws[i]? = some (a1 0, .inr (2, rgF a1 so1 co1 F2))) (hP2 : ∃ i : Nat, ws[i]? = some (a1 3, .inl (T 0, 6, .inl p2))) (hf : gX3_isLike N F1 p1 F2 p2 = some rr) (sz : Nat) : MetI l yX3_isLike (ws_ yX3_isLike cX3_isLike 4 (some .boolean)) rmX3_isLike D T (ws) sz [.ref (a 0), .ref (a1 0)] rr (ws) := by
  refine g_entry (Qc := fun A => gQi D T A rr (ws)) (by decide) rfl ?_
  intro p e s m below meth c ls S hM hl
  have hl : lv_has ls 4 [(0, .ref (a 0)), (1, .ref (a1 0))] := hl
  refine lv_aload_n S.x S.b dX3_isLike_0 rfl (lv_at hl 0 rfl) ?_
  refine g_getL S hM hR1 (ci := 2) rfl in_X3 7 rfl (Or.inl q237) rfl dX3_isLike_1 ?_
  refine lv_aload_n S.x S.b dX3_isLike_4 rfl (lv_at hl 1 rfl) ?_
  refine g_getL S hM hR2 (ci := 2) rfl in_X3 7 rfl (Or.inl q237) rfl dX3_isLike_5 ?_
  refine lv_icmp_ne (tgt := 15) S.x S.b dX3_isLike_8 rfl (fun cn => ?_) (fun cn => ?_)
  · have hf := if_f cn hf
    refine lv_iconst (v := (0 : Int32)) S.x S.b dX3_isLike_15 ki_0 ?_
    refine g_istn S (x' := (0 : Int32)) rfl hl dX3_isLike_16 rfl rfl (lv' := [(2, .int (0 : Int32)), (0, .ref (a 0)), (1, .ref (a1 0))]) rfl (fun ls hl => ?_)
    refine lv_iconst (v := (0 : Int32)) S.x S.b dX3_isLike_17 ki_0 ?_
    refine g_istn S (x' := (0 : Int32)) rfl hl dX3_isLike_18 rfl rfl (lv' := [(3, .int (0 : Int32)), (2, .int (0 : Int32)), (0, .ref (a 0)), (1, .ref (a1 0))]) rfl (fun ls hl => ?_)
    exact wX3_isLike_19 S hR1 hP1 hR2 hP2 N (0 : Int32) (0 : Int32) _ _ _ hM (lv_sub hl [2, 3, 1, 0] rfl) hf
  · have hf := if_t cn hf
    refine lv_iconst (v := (1 : Int32)) S.x S.b dX3_isLike_11 ki_1 ?_
    refine lv_goto (tgt := 16) S.x S.b dX3_isLike_12 rfl ?_
    refine g_istn S (x' := (1 : Int32)) rfl hl dX3_isLike_16 rfl rfl (lv' := [(2, .int (1 : Int32)), (0, .ref (a 0)), (1, .ref (a1 0))]) rfl (fun ls hl => ?_)
    refine lv_iconst (v := (0 : Int32)) S.x S.b dX3_isLike_17 ki_0 ?_
    refine g_istn S (x' := (0 : Int32)) rfl hl dX3_isLike_18 rfl rfl (lv' := [(3, .int (0 : Int32)), (2, .int (1 : Int32)), (0, .ref (a 0)), (1, .ref (a1 0))]) rfl (fun ls hl => ?_)
    exact wX3_isLike_19 S hR1 hP1 hR2 hP2 N (1 : Int32) (0 : Int32) _ _ _ hM (lv_sub hl [2, 3, 1, 0] rfl) hf
