/-! suspect(i): a loop of at most 30 trial rigs -/
set_option maxRecDepth 100000
theorem ex_sub {ws ws' : va_W} {x : Nat × va_E} (h : ws.Sublist ws') (hx : ∃ i : Nat, ws[i]? = some x) : ∃ i : Nat, ws'[i]? = some x := by
  obtain ⟨i, hi⟩ := hx
  exact List.getElem?_of_mem (h.subset (List.mem_of_getElem? hi))
def gSusp (i N ns nc : Nat) (q : MW) (x2 : Int32) (w : BW) : Nat → Int32 → Int32 → Option Int32
  | 0, _, _ => none
  | n + 1, x3, x4 =>
    if (30 : Int32) ≤ x4 then some (-1) else
    bd (gFaulty i N ns nc q (x4 / 5) (x4 - x4 / 5 * 5) x2 w) fun wt =>
    bd (gX3_isLike N wt.1 (wt.2 2) w.2.1 (w.2.2 2)) fun r =>
    if r = 0 then gSusp i N ns nc q x2 w n x3 (x4 + 1) else
    if x3 = 0 then some (10 * (x4 / 5) + (x4 - x4 / 5 * 5)) else
    gSusp i N ns nc q x2 w n (x3 + -1) (x4 + 1)
abbrev rmX1_suspect : Room := { frames := 10, cells := 775, slots := 7378, locals := 3600 }
theorem hdX1_suspect : gHd yX1_suspect 1 := by decide +kernel
theorem ie5 : Int32.ofInt 5 = (5 : Int32) := by decide
theorem iem1 : Int32.ofInt (-1) = (-1 : Int32) := by decide
set_option maxHeartbeats 4000000 in
theorem su_loop {p : Program} {l : Launch} {e : Env} {s : State} {m : MethodId} {args : Array Value} {below : List Frame} {meth : Method} {c : Code} {D : va_G} {T : Nat → ClassId} {A : Nat → Prop} {h N ns nc i : Nat} {d a b sa em : Nat → Nat} {co : Option Nat} {tl : va_W} {q : MW} {w : BW} {x1 x2 rr : Int32}
    (S : gS p s m args meth c cX1_suspect 5 (some .int) RX1 D T) (hY : EnY em A s s.heap) (hi3 : i < 3) (hK : SqK N ns nc q) (hQ : SqI T b sa ns q (.ref (b 3)) tl) (hC : CuI T b nc q tl) :
    ∀ (n t : Nat), t + n = 31 → ∀ (x3 x4 : Int32) (H : Heap) (locs : List Loc) (ls : Array Slot), gM D A s.heap (bwW h d T (some (b 0)) co (em i) a w tl) H locs → lv_has ls 5 [(0, .ref h), (1, .int x1), (2, .int x2), (3, .int x3), (4, .int x4)] → gSusp i N ns nc q x2 w n x3 x4 = some rr →
      W p l e rmX1_suspect s m args below meth c H locs (25 * t) (238 * t) (MQ below (va_Qi (fun r' (_ : Unit) => r' = rr) (fun _ t => gPost D T A (bwW h d T (some (b 0)) co (em i) a w tl) t ∧ True) A) args s 775 7378 A) (F0 m 35 ls []) := by
  intro n
  induction n with
  | zero =>
    intro t ht x3 x4 H locs ls hM hl hf
    cases hf
  | succ n ih =>
    intro t ht x3 x4 H locs ls hM hl hf
    have ht30 : t ≤ 30 := by omega
    refine lv_iload S.x S.b dX1_suspect_35 (lv_at hl 4 rfl) ?_
    refine lv_bipush (v := (30 : Int32)) S.x S.b dX1_suspect_37 (by decide) ?_
    refine lv_icmp_ge (tgt := 91) S.x S.b dX1_suspect_39 rfl (fun cn => ?_) (fun cn => ?_)
    · have hf := if_t cn hf
      refine lv_iconst (v := (-1 : Int32)) S.x S.b dX1_suspect_91 iem1 ?_
      obtain rfl := rt1 hf
      refine W.widen (k := 775) (n := 7378) (by omega) (by omega) ?_
      exact ga_iret (U := Unit) (ws' := fun _ => bwW h d T (some (b 0)) co (em i) a w tl) (X := fun _ _ => True) S () hM trivial rfl dX1_suspect_92
    · have hf := if_f cn hf
      refine lv_aload_n S.x S.b dX1_suspect_42 rfl (lv_at hl 0 rfl) ?_
      refine lv_iload S.x S.b dX1_suspect_43 (lv_at hl 4 rfl) ?_
      refine lv_iconst (v := (5 : Int32)) S.x S.b dX1_suspect_45 ie5 ?_
      refine lv_idiv S.x S.b dX1_suspect_46 (by decide) ?_
      refine lv_iload S.x S.b dX1_suspect_47 (lv_at hl 4 rfl) ?_
      refine lv_iconst (v := (5 : Int32)) S.x S.b dX1_suspect_49 ie5 ?_
      refine lv_irem S.x S.b dX1_suspect_50 (by decide) ?_
      refine lv_iload_n S.x S.b dX1_suspect_51 rfl (lv_at hl 2 rfl) ?_
      obtain ⟨wt, hc, hf⟩ := bd_some hf
      refine gf_call S hM hl hY hi3 hK hQ hC hc ⟨rfl, rfl⟩ rfl ⟨by show 25 * t + 25 ≤ 775; omega, by show 238 * t + 238 ≤ 7378; omega⟩ dX1_suspect_52 (fun u H locs hM => ?_)
      have hs : (bwW h d T (some (b 0)) co (em i) a w tl).Sublist (rcW i u.1 (T 0) (some (b 0)) wt (cdL i u.1 u.2 T ns (bwW h d T (some (b 0)) co (em i) a w tl))) := cd_sub.trans rc_sub
      refine lv_aload_n S.x S.b dX1_suspect_55 rfl (lv_at hl 0 rfl) ?_
      refine g_getL S hM (ex_sub hs ⟨0, rfl⟩) (ci := 1) rfl in_X1 8 rfl (Or.inl q328) rfl dX1_suspect_56 ?_
      obtain ⟨r, hc, hf⟩ := bd_some hf
      refine gw_ci S hM hl [.ref (a 0)] 2 rfl ⟨0, _, rfl⟩ (metX3_isLike (a := u.1) (a1 := a) ⟨0, rfl⟩ ⟨3, rfl⟩ (ex_sub hs ⟨4, rfl⟩) (ex_sub hs ⟨7, rfl⟩) hc) hdX3_isLike q1423 q1424 q1425 q65 q1426 ⟨rfl, rfl⟩ ⟨rfl, rfl⟩ rfl rfl rfl ⟨by show 25 * t + 25 + 0 ≤ 775; omega, by show 238 * t + 238 + 0 ≤ 7378; omega⟩ dX1_suspect_59 (fun H locs hM => ?_)
      have hM := hM.drop
      have ec : 25 * t + 25 = 25 * (t + 1) := by omega
      have es : 238 * t + 238 = 238 * (t + 1) := by omega
      rw [ec, es]
      refine lv_if_eq (tgt := 85) S.x S.b dX1_suspect_62 rfl (fun cm => ?_) (fun cm => ?_)
      · have hf := if_t cm hf
        refine g_inc S (x' := x4 + 1) (d := (1 : Int32)) hl (k := 4) rfl ie1 rfl dX1_suspect_85 rfl (lv' := [(4, .int (x4 + 1)), (0, .ref h), (1, .int x1), (2, .int x2), (3, .int x3)]) rfl (fun ls hl => ?_)
        refine lv_goto (tgt := 35) S.x S.b dX1_suspect_88 rfl ?_
        exact ih (t + 1) (by omega) x3 (x4 + 1) _ _ _ hM (lv_sub hl [1, 2, 3, 4, 0] rfl) hf
      · have hf := if_f cm hf
        refine lv_iload_n S.x S.b dX1_suspect_65 rfl (lv_at hl 3 rfl) ?_
        refine lv_if_ne (tgt := 82) S.x S.b dX1_suspect_66 rfl (fun ck => ?_) (fun ck => ?_)
        · have hf := if_f ck hf
          refine g_inc S (x' := x3 + -1) (d := (-1 : Int32)) hl (k := 3) rfl iem1 rfl dX1_suspect_82 rfl (lv' := [(3, .int (x3 + -1)), (0, .ref h), (1, .int x1), (2, .int x2), (4, .int x4)]) rfl (fun ls hl => ?_)
          refine g_inc S (x' := x4 + 1) (d := (1 : Int32)) hl (k := 4) rfl ie1 rfl dX1_suspect_85 rfl (lv' := [(4, .int (x4 + 1)), (3, .int (x3 + -1)), (0, .ref h), (1, .int x1), (2, .int x2)]) rfl (fun ls hl => ?_)
          refine lv_goto (tgt := 35) S.x S.b dX1_suspect_88 rfl ?_
          exact ih (t + 1) (by omega) (x3 + -1) (x4 + 1) _ _ _ hM (lv_sub hl [2, 3, 4, 1, 0] rfl) hf
        · have hf := if_t ck hf
          refine lv_bipush (v := (10 : Int32)) S.x S.b dX1_suspect_69 (by decide) ?_
          refine lv_iload S.x S.b dX1_suspect_71 (lv_at hl 4 rfl) ?_
          refine lv_iconst (v := (5 : Int32)) S.x S.b dX1_suspect_73 ie5 ?_
          refine lv_idiv S.x S.b dX1_suspect_74 (by decide) ?_
          refine lv_imul S.x S.b dX1_suspect_75 ?_
          refine lv_iload S.x S.b dX1_suspect_76 (lv_at hl 4 rfl) ?_
          refine lv_iconst (v := (5 : Int32)) S.x S.b dX1_suspect_78 ie5 ?_
          refine lv_irem S.x S.b dX1_suspect_79 (by decide) ?_
          refine lv_iadd S.x S.b dX1_suspect_80 ?_
          obtain rfl := rt1 hf
          refine W.widen (k := 775) (n := 7378) (by omega) (by omega) ?_
          exact ga_iret (U := Unit) (ws' := fun _ => bwW h d T (some (b 0)) co (em i) a w tl) (X := fun _ _ => True) S () hM trivial rfl dX1_suspect_81
def gX1_suspect (i N ns nc : Nat) (q : MW) (x1 : Int32) (w : BW) : Option (Int32 × BW) :=
  if 0 ≤ x1 then
    bd (gX1_checkSequence ns q nc w) fun w1 =>
    lt (if (5000 : Int32) < w1.2.1 8 then (5000 : Int32) else w1.2.1 8) fun x2 =>
    bd (gSusp i N ns nc q x2 w1 31 x1 0) fun r =>
    some (r, w1)
  else none
set_option maxHeartbeats 4000000 in
theorem metX1_suspect {l : Launch} {D : va_G} {T : Nat → ClassId} {h N ns nc i : Nat} {d a b sa em : Nat → Nat} {co : Option Nat} {tl : va_W} {q : MW} {w wr : BW} {x1 rr : Int32} (hi3 : i < 3) (hK : SqK N ns nc q) (hQ : SqI T b sa ns q (.ref (b 3)) tl) (hC : CuI T b nc q tl) (hf : gX1_suspect i N ns nc q x1 w = some (rr, wr)) (sz : Nat) :
    MetIY Unit l yX1_suspect (ws_ yX1_suspect cX1_suspect 5 (some .int)) rmX1_suspect D T (EnY em) (bwW h d T (some (b 0)) co (em i) a w tl) sz [.ref h, .int x1] rr (fun _ => bwW h d T (some (b 0)) co (em i) a wr tl) (fun _ _ => True) 775 7378 := by
  refine g_entryY (y := yX1_suspect) (Y := EnY em) (Qc := fun A => va_Qi (fun r' (_ : Unit) => r' = rr) (fun _ t => gPost D T A (bwW h d T (some (b 0)) co (em i) a wr tl) t ∧ True) A) (by decide) rfl ?_
  intro p e s m below meth c ls S hini hM hY hl
  have hl : lv_has ls 5 [(0, .ref h), (1, .int x1)] := hl
  refine lv_iload_n S.x S.b dX1_suspect_0 rfl (lv_at hl 1 rfl) ?_
  refine lv_if_ge (tgt := 12) S.x S.b dX1_suspect_1 rfl (fun cn => ?_) (fun cn => ?_)
  · have hf := if_t cn hf
    refine lv_aload_n S.x S.b dX1_suspect_12 rfl (lv_at hl 0 rfl) ?_
    obtain ⟨w1, hc, hf⟩ := bd_some hf
    refine gw_cv S hM hl [] 1 rfl ⟨0, _, rfl⟩ (metX1_checkSequence hQ hC hc) hdX1_checkSequence q1126 q1128 qs19 q62 q1129 ⟨rfl, rfl⟩ ⟨rfl, rfl⟩ rfl rfl rfl ⟨Nat.zero_le _, Nat.zero_le _⟩ dX1_suspect_13 (fun H locs hM => ?_)
    refine lv_aload_n S.x S.b dX1_suspect_16 rfl (lv_at hl 0 rfl) ?_
    refine bn_g S hM 8 rfl (Or.inl q328) rfl dX1_suspect_17 ?_
    refine br_g S hM 8 rfl (Or.inr ⟨_, q240⟩) rfl dX1_suspect_20 ?_
    refine lv_sipush (v := (5000 : Int32)) S.x S.b dX1_suspect_23 (by decide) ?_
    refine va_mmin S.x S.b (S.2.2.1.trans hl.1.symm) S.o (S.w _ q1422) (S.w _ q494) (S.w _ q84) (S.w _ q495) (Nat.le_of_ble_eq_true rfl) (Nat.le_of_ble_eq_true rfl) (Nat.zero_le _) (Nat.zero_le _) dX1_suspect_26 ?_
    obtain ⟨x2, ex, hf⟩ := lt_some hf
    refine g_istn S (x' := x2) ex hl dX1_suspect_29 rfl rfl (lv' := [(2, .int x2), (0, .ref h), (1, .int x1)]) rfl (fun ls hl => ?_)
    refine lv_iload_n S.x S.b dX1_suspect_30 rfl (lv_at hl 2 rfl) ?_
    refine g_istn S (x' := x1) rfl hl dX1_suspect_31 rfl rfl (lv' := [(3, .int x1), (2, .int x2), (0, .ref h), (1, .int x1)]) rfl (fun ls hl => ?_)
    refine lv_iconst (v := (0 : Int32)) S.x S.b dX1_suspect_32 ie0 ?_
    refine g_ist S (x' := 0) rfl hl dX1_suspect_33 rfl (lv' := [(4, .int 0), (3, .int x1), (2, .int x2), (0, .ref h), (1, .int x1)]) rfl (fun ls hl => ?_)
    obtain ⟨r, hc, hf⟩ := bd_some hf
    obtain ⟨rfl, rfl⟩ := rt2 hf
    exact su_loop S hY hi3 hK hQ hC 31 0 rfl x1 0 _ _ _ hM (lv_sub hl [3, 4, 2, 1, 0] rfl) hc
  · have hf := if_f cn hf
    cases hf
