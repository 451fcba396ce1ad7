/-! cheapest(): a loop of at most three trial rigs -/
set_option maxRecDepth 100000
def gCheapJ (N ns : Nat) (q : MW) (nc : Nat) (k : Int32 → Int32 → BW → Option (Int32 × BW)) (x1 x2 x3 : Int32) (w : BW) : Option (Int32 × BW) :=
  if x3 = 0 then k x1 (x2 + 1) w else
  bd (gX3_init N ns (qD N ns nc q (moI x2)) (w.1.2 1) (cgI (moI x2) nc)) fun wt =>
  bd2 (gMakes (moI x2) N ns nc (qD N ns nc q (moI x2)) wt) fun r _ =>
  if r = 0 then k x1 (x2 + 1) w else k x2 (x2 + 1) w
def gCheap (N ns : Nat) (q : MW) (nc : Nat) : Nat → Int32 → Int32 → BW → Option (Int32 × BW)
  | 0, _, _, _ => none
  | n + 1, x1, x2, w =>
    if (3 : Int32) ≤ x2 then some (x1, w) else
    if x1 < 0 then gCheapJ N ns q nc (gCheap N ns q nc n) x1 x2 1 w else
    bd2 (gX1_valvesOf N ns q nc (moI x2) w) fun r1 w1 =>
    bd2 (gX1_valvesOf N ns q nc (moI x1) w1) fun r2 w2 =>
    if r2 ≤ r1 then gCheapJ N ns q nc (gCheap N ns q nc n) x1 x2 0 w2 else gCheapJ N ns q nc (gCheap N ns q nc n) x1 x2 1 w2
abbrev rmX1_cheapest : Room := { frames := 10, cells := 100, slots := 952, locals := 3600 }
theorem hdX1_cheapest : gHd yX1_cheapest 0 := by decide +kernel
theorem ie3 : Int32.ofInt 3 = (3 : Int32) := by decide
section CH
variable {p : Program} {l : Launch} {e : Env} {s : State} {m : MethodId} {args : Array Value} {below : List Frame} {meth : Method} {c : Code} {D : va_G} {T : Nat → ClassId} {A : Nat → Prop} {h me N ns nc : Nat} {d a b sa em : Nat → Nat} {co : Option Nat} {tl : va_W} {q : MW} {rr : Int32} {wr : BW} {Q : State → Prop}
set_option maxHeartbeats 4000000 in
theorem ch_j {k : Int32 → Int32 → BW → Option (Int32 × BW)} {t : Nat} (S : gS p s m args meth c cX1_cheapest 4 (some .int) RX1 D T) (hY : EnY em A s s.heap) (hK : SqK N ns nc q) (hQ : SqI T b sa ns q (.ref (b 3)) tl) (hC : CuI T b nc q tl) (ht : t ≤ 3)
    (hk : ∀ (x1 x2 : Int32) (w : BW) (H : Heap) (locs : List Loc) (ls : Array Slot), gM D A s.heap (bwW h d T (some (b 0)) co me a w tl) H locs → lv_has ls 4 [(0, .ref h), (1, .int x1), (2, .int x2)] → k x1 x2 w = some (rr, wr) → W p l e rmX1_cheapest s m args below meth c H locs (25 * (t + 1)) (238 * (t + 1)) Q (F0 m 8 ls []))
    (x1 x2 x3 : Int32) (w : BW) (H : Heap) (locs : List Loc) (ls : Array Slot) (hM : gM D A s.heap (bwW h d T (some (b 0)) co me a w tl) H locs) (hl : lv_has ls 4 [(0, .ref h), (1, .int x1), (2, .int x2)]) (hf : gCheapJ N ns q nc k x1 x2 x3 w = some (rr, wr)) :
    W p l e rmX1_cheapest s m args below meth c H locs (25 * t) (238 * t) Q (F0 m 41 ls [.int x3]) := by
  have E : ∀ (y : Int32) (H : Heap) (locs : List Loc) (ls : Array Slot), gM D A s.heap (bwW h d T (some (b 0)) co me a w tl) H locs → lv_has ls 4 [(0, .ref h), (1, .int x1), (2, .int x2)] → k y (x2 + 1) w = some (rr, wr) → W p l e rmX1_cheapest s m args below meth c H locs (25 * (t + 1)) (238 * (t + 1)) Q (F0 m 65 ls [.int y]) := by
    intro y H locs ls hM hl hf
    refine g_istn S (x' := y) rfl hl dX1_cheapest_65 rfl rfl (lv' := [(1, .int y), (0, .ref h), (2, .int x2)]) rfl (fun ls hl => ?_)
    refine g_inc S (x' := x2 + 1) (d := (1 : Int32)) hl (k := 2) rfl ie1 rfl dX1_cheapest_66 rfl (lv' := [(2, .int (x2 + 1)), (1, .int y), (0, .ref h)]) rfl (fun ls hl => ?_)
    refine lv_goto (tgt := 8) S.x S.b dX1_cheapest_69 rfl ?_
    exact hk y (x2 + 1) w _ _ _ hM (lv_sub hl [2, 1, 0] rfl) hf
  unfold gCheapJ at hf
  refine g_istn S (x' := x3) rfl hl dX1_cheapest_41 rfl rfl (lv' := [(3, .int x3), (0, .ref h), (1, .int x1), (2, .int x2)]) rfl (fun ls hl => ?_)
  refine lv_iload_n S.x S.b dX1_cheapest_42 rfl (lv_at hl 0 rfl) ?_
  refine lv_if_eq (tgt := 64) S.x S.b dX1_cheapest_43 rfl (fun cn => ?_) (fun cn => ?_)
  · have hf := if_t cn hf
    refine lv_iload_n S.x S.b dX1_cheapest_64 rfl (lv_at hl 2 rfl) ?_
    refine W.widen (k := 25 * (t + 1)) (n := 238 * (t + 1)) (by omega) (by omega) ?_
    exact E x1 _ _ _ hM (lv_sub hl [1, 2, 3] rfl) hf
  · have hf := if_f cn hf
    refine lv_aload_n S.x S.b dX1_cheapest_46 rfl (lv_at hl 1 rfl) ?_
    refine lv_iload_n S.x S.b dX1_cheapest_47 rfl (lv_at hl 3 rfl) ?_
    refine gy_sr S hM hl [.int x2] EnY.c hY metX2_of hdX2_of q1177 q1178 q64 q1179 ⟨rfl, rfl⟩ ⟨rfl, rfl⟩ rfl rfl rfl ⟨by show 25 * t + 0 ≤ 100; omega, by show 238 * t + 0 ≤ 952; omega⟩ dX1_cheapest_48 (fun H locs hM => ?_)
    obtain ⟨wt, hc, hf⟩ := bd_some hf
    refine gt_call S hM hl hY moI_lt hK hQ hC hc ⟨rfl, rfl⟩ rfl ⟨by show 25 * t + 25 ≤ 100; omega, by show 238 * t + 238 ≤ 952; omega⟩ dX1_cheapest_51 (fun u H locs hM hLam hLF => ?_)
    obtain ⟨r, wt', hc, hf⟩ := bd2_some hf
    refine gk_call S hM hl moI_lt hQ.bw hC.bw hLam hLF hc ⟨rfl, rfl⟩ rfl ⟨by show 25 * t + 25 + 0 ≤ 100; omega, by show 238 * t + 238 + 0 ≤ 952; omega⟩ dX1_cheapest_54 (fun H locs hM => ?_)
    have hM := hM.drop
    have ec : 25 * t + 25 = 25 * (t + 1) := by omega
    have es : 238 * t + 238 = 238 * (t + 1) := by omega
    rw [ec, es]
    refine lv_if_eq (tgt := 64) S.x S.b dX1_cheapest_57 rfl (fun cm => ?_) (fun cm => ?_)
    · have hf := if_t cm hf
      refine lv_iload_n S.x S.b dX1_cheapest_64 rfl (lv_at hl 2 rfl) ?_
      exact E x1 _ _ _ hM (lv_sub hl [1, 2, 3] rfl) hf
    · have hf := if_f cm hf
      refine lv_iload_n S.x S.b dX1_cheapest_60 rfl (lv_at hl 3 rfl) ?_
      refine lv_goto (tgt := 65) S.x S.b dX1_cheapest_61 rfl ?_
      exact E x2 _ _ _ hM (lv_sub hl [1, 2, 3] rfl) hf
set_option maxHeartbeats 4000000 in
theorem ch_loop (S : gS p s m args meth c cX1_cheapest 4 (some .int) RX1 D T) (hY : EnY em A s s.heap) (hK : SqK N ns nc q) (hQ : SqI T b sa ns q (.ref (b 3)) tl) (hC : CuI T b nc q tl) :
    ∀ (n t : Nat), t + n = 4 → ∀ (x1 x2 : Int32) (w : BW) (H : Heap) (locs : List Loc) (ls : Array Slot), gM D A s.heap (bwW h d T (some (b 0)) co me a w tl) H locs → lv_has ls 4 [(0, .ref h), (1, .int x1), (2, .int x2)] → gCheap N ns q nc n x1 x2 w = some (rr, wr) →
      W p l e rmX1_cheapest s m args below meth c H locs (25 * t) (238 * t) (MQ below (va_Qi (fun r' (_ : Unit) => r' = rr) (fun _ t => gPost D T A (bwW h d T (some (b 0)) co me a wr tl) t ∧ True) A) args s 100 952 A) (F0 m 8 ls []) := by
  intro n
  induction n with
  | zero =>
    intro t ht x1 x2 w H locs ls hM hl hf
    cases hf
  | succ n ih =>
    intro t ht x1 x2 w H locs ls hM hl hf
    have ht3 : t ≤ 3 := by omega
    have J := ch_j (k := gCheap N ns q nc n) (h := h) (me := me) (d := d) (a := a) (co := co) (rr := rr) (wr := wr) S hY hK hQ hC ht3 (ih (t + 1) (by omega))
    refine lv_iload_n S.x S.b dX1_cheapest_8 rfl (lv_at hl 2 rfl) ?_
    refine lv_iconst (v := (3 : Int32)) S.x S.b dX1_cheapest_9 ie3 ?_
    refine lv_icmp_ge (tgt := 72) S.x S.b dX1_cheapest_10 rfl (fun cn => ?_) (fun cn => ?_)
    · have hf := if_t cn hf
      refine lv_iload_n S.x S.b dX1_cheapest_72 rfl (lv_at hl 1 rfl) ?_
      obtain ⟨rfl, rfl⟩ := rt2 hf
      refine W.widen (k := 100) (n := 952) (by omega) (by omega) ?_
      exact ga_iret (U := Unit) (ws' := fun _ => bwW h d T (some (b 0)) co me a _ tl) (X := fun _ _ => True) S () hM trivial rfl dX1_cheapest_73
    · have hf := if_f cn hf
      refine lv_iload_n S.x S.b dX1_cheapest_13 rfl (lv_at hl 1 rfl) ?_
      refine lv_if_lt (tgt := 36) S.x S.b dX1_cheapest_14 rfl (fun cm => ?_) (fun cm => ?_)
      · have hf := if_t cm hf
        refine lv_iconst (v := (1 : Int32)) S.x S.b dX1_cheapest_36 ie1 ?_
        refine lv_goto (tgt := 41) S.x S.b dX1_cheapest_37 rfl ?_
        exact J x1 x2 1 w _ _ _ hM hl hf
      · have hf := if_f cm hf
        have fit : 25 * t + 0 ≤ rmX1_cheapest.cells ∧ 238 * t + 0 ≤ rmX1_cheapest.slots := ⟨by show 25 * t + 0 ≤ 100; omega, by show 238 * t + 0 ≤ 952; omega⟩
        refine lv_aload_n S.x S.b dX1_cheapest_17 rfl (lv_at hl 0 rfl) ?_
        refine lv_iload_n S.x S.b dX1_cheapest_18 rfl (lv_at hl 2 rfl) ?_
        refine gy_sr S hM hl [.int x2] EnY.c hY metX2_of hdX2_of q1177 q1178 q64 q1179 ⟨rfl, rfl⟩ ⟨rfl, rfl⟩ rfl rfl rfl fit dX1_cheapest_19 (fun H locs hM => ?_)
        obtain ⟨r1, w1, hc, hf⟩ := bd2_some hf
        refine gyw_ci S hM hl [.ref (em (moI x2))] 1 rfl ⟨0, _, rfl⟩ EnY.c hY (metX1_valvesOf hQ hC moI_lt hc) hdX1_valvesOf q1185 q1187 qs20 q62 q1188 ⟨rfl, rfl⟩ ⟨rfl, rfl⟩ rfl rfl rfl fit dX1_cheapest_22 (fun H locs hM => ?_)
        refine lv_aload_n S.x S.b dX1_cheapest_25 rfl (lv_at hl 0 rfl) ?_
        refine lv_iload_n S.x S.b dX1_cheapest_26 rfl (lv_at hl 1 rfl) ?_
        refine gy_sr S hM hl [.int x1] EnY.c hY metX2_of hdX2_of q1177 q1178 q64 q1179 ⟨rfl, rfl⟩ ⟨rfl, rfl⟩ rfl rfl rfl fit dX1_cheapest_27 (fun H locs hM => ?_)
        obtain ⟨r2, w2, hc, hf⟩ := bd2_some hf
        refine gyw_ci S hM hl [.ref (em (moI x1))] 1 rfl ⟨0, _, rfl⟩ EnY.c hY (metX1_valvesOf hQ hC moI_lt hc) hdX1_valvesOf q1185 q1187 qs20 q62 q1188 ⟨rfl, rfl⟩ ⟨rfl, rfl⟩ rfl rfl rfl fit dX1_cheapest_30 (fun H locs hM => ?_)
        refine lv_icmp_ge (tgt := 40) S.x S.b dX1_cheapest_33 rfl (fun ck => ?_) (fun ck => ?_)
        · have hf := if_t ck hf
          refine lv_iconst (v := (0 : Int32)) S.x S.b dX1_cheapest_40 ie0 ?_
          exact J x1 x2 0 w2 _ _ _ hM hl hf
        · have hf := if_f ck hf
          refine lv_iconst (v := (1 : Int32)) S.x S.b dX1_cheapest_36 ie1 ?_
          refine lv_goto (tgt := 41) S.x S.b dX1_cheapest_37 rfl ?_
          exact J x1 x2 1 w2 _ _ _ hM hl hf
end CH
def gX1_cheapest (N ns : Nat) (q : MW) (nc : Nat) (w : BW) : Option (Int32 × BW) :=
  bd (gX1_checkSequence ns q nc w) fun w1 => gCheap N ns q nc 4 (-1) 0 w1
set_option maxHeartbeats 4000000 in
theorem metX1_cheapest {l : Launch} {D : va_G} {T : Nat → ClassId} {h me N ns nc : Nat} {d a b sa em : Nat → Nat} {co : Option Nat} {tl : va_W} {q : MW} {w wr : BW} {rr : Int32} (hK : SqK N ns nc q) (hQ : SqI T b sa ns q (.ref (b 3)) tl) (hC : CuI T b nc q tl) (hf : gX1_cheapest N ns q nc w = some (rr, wr)) (sz : Nat) :
    MetIY Unit l yX1_cheapest (ws_ yX1_cheapest cX1_cheapest 4 (some .int)) rmX1_cheapest D T (EnY em) (bwW h d T (some (b 0)) co me a w tl) sz [.ref h] rr (fun _ => bwW h d T (some (b 0)) co me a wr tl) (fun _ _ => True) 100 952 := by
  refine g_entryY (y := yX1_cheapest) (Y := EnY em) (Qc := fun A => va_Qi (fun r' (_ : Unit) => r' = rr) (fun _ t => gPost D T A (bwW h d T (some (b 0)) co me a wr tl) t ∧ True) A) (by decide) rfl ?_
  intro p e s m below meth c ls S hini hM hY hl
  have hl : lv_has ls 4 [(0, .ref h)] := hl
  refine lv_aload_n S.x S.b dX1_cheapest_0 rfl (lv_at hl 0 rfl) ?_
  obtain ⟨w1, hc, hf⟩ := bd_some hf
  refine gw_cv S hM hl [] 1 rfl ⟨0, _, rfl⟩ (metX1_checkSequence hQ hC hc) hdX1_checkSequence q1126 q1128 qs19 q62 q1129 ⟨rfl, rfl⟩ ⟨rfl, rfl⟩ rfl rfl rfl ⟨Nat.zero_le _, Nat.zero_le _⟩ dX1_cheapest_1 (fun H locs hM => ?_)
  refine lv_iconst (v := (-1 : Int32)) S.x S.b dX1_cheapest_4 iem1 ?_
  refine g_istn S (x' := -1) rfl hl dX1_cheapest_5 rfl rfl (lv' := [(1, .int (-1)), (0, .ref h)]) rfl (fun ls hl => ?_)
  refine lv_iconst (v := (0 : Int32)) S.x S.b dX1_cheapest_6 ie0 ?_
  refine g_istn S (x' := 0) rfl hl dX1_cheapest_7 rfl rfl (lv' := [(2, .int 0), (1, .int (-1)), (0, .ref h)]) rfl (fun ls hl => ?_)
  exact ch_loop S hY hK hQ hC 4 0 rfl (-1) 0 w1 _ _ _ hM (lv_sub hl [2, 1, 0] rfl) hf
