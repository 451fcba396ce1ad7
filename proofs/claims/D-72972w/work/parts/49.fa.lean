/-! faulty(cylinder, kind, n), effect -/
set_option maxRecDepth 100000
def gFaulty (i N ns nc : Nat) (q : MW) (x1 x2 x3 : Int32) (w : BW) : Option MW :=
  bd (gX3_init N ns (qD N ns nc q i) (w.1.2 1) (cgI i nc)) fun wt =>
  ck x1 6 <|
  lt (setA wt 1 x1.toNatClampNeg ((1 : Int32) <<< (x2 &&& 31))) fun wt1 =>
  bd2 (gTicks i N ns nc (qD N ns nc q i) x3 wt1) fun _ wt2 =>
  some wt2
abbrev rmFaulty : Room := { frames := 9, cells := 25, slots := 238, locals := 3500 }
theorem hdX1_faulty : gHd yX1_faulty 3 := by decide +kernel
section FA
variable {p : Program} {l : Launch} {e : Env} {R : Room} {s : State} {m : MethodId} {args : Array Value} {below : List Frame} {meth : Method} {c : Code} {H : Heap} {locs : List Loc} {cells slots : Nat} {Q : State → Prop}
variable {cc : ByteArray} {nL : Nat} {ret : Option FieldType} {D : va_G} {T : Nat → ClassId} {A : Nat → Prop} {pc : Nat} {ls : Array Slot} {rest st0 : List Value} {lv : List (Nat × Value)} {H0 : Heap}
variable {h ns nc N i j : Nat} {d a b sa la em : Nat → Nat} {co : Option Nat} {w : BW} {wt wt' q : MW} {tl WB : va_W}
theorem gtk_call {r x : Int32} (S : gS p s m args meth c cc nL ret RX1 D T) (hM : gM D A H0 (rcW j a (T 0) (some (b 0)) wt (cdL j a la T ns WB)) H locs) (hl : lv_has ls nL lv) (hj : j < 3) (hQ : SqI T b sa ns q (.ref (b 3)) WB) (hC : CuI T b nc q WB) (hLam : LamI j D a la (nlI j ns) (qD N ns nc q j) H) (hLF : LaF la (nlI j ns) (rcW j a (T 0) (some (b 0)) wt (cdL j a la T ns WB))) (hf : gTicks j N ns nc (qD N ns nc q j) x wt = some (r, wt')) (hR : Nat.ble (rmX3_ticks_0.frames + 1) R.frames = true ∧ Nat.ble (8 + (4 + 11) + rmX3_ticks_0.locals) R.locals = true) (hrm : Nat.ble (rest.map fun v => v.category).sum 8 = true) (hfit : cells + 0 ≤ R.cells ∧ slots + 0 ≤ R.slots) (hdg : decode cc pc = .ok (.invokevirtual 182, 3))
    (kk : ∀ (H1 : Heap) (locs1 : List Loc), gM D A H0 (rcW j a (T 0) (some (b 0)) wt' (cdL j a la T ns WB)) H1 locs1 → W p l e R s m args below meth c H1 locs1 cells slots Q (F0 m (pc + 3) ls (.int r :: rest))) : W p l e R s m args below meth c H locs cells slots Q (F0 m pc ls (.int x :: .ref (a 0) :: rest)) :=
  gx_ci (X := LamI j D a la (nlI j ns) (qD N ns nc q j)) S hM hLam hl [.int x] 2 rfl ⟨0, _, rfl⟩ (metX3_ticksI hj hQ.qD hC.qD (fun w => hLF.of rc_addr) hf) hdX3_ticks q1249 q1250 q1251 q65 q1252 ⟨rfl, rfl⟩ hR rfl rfl hrm hfit hdg kk
end FA
set_option maxHeartbeats 4000000 in
theorem metX1_faulty {l : Launch} {D : va_G} {T : Nat → ClassId} {h N ns nc i : Nat} {d a b sa em : Nat → Nat} {co : Option Nat} {tl : va_W} {q wt : MW} {w : BW} {x1 x2 x3 : Int32} (hi3 : i < 3) (hK : SqK N ns nc q) (hQ : SqI T b sa ns q (.ref (b 3)) tl) (hC : CuI T b nc q tl) (hf : gFaulty i N ns nc q x1 x2 x3 w = some wt) (sz : Nat) :
    MetRY ((Nat → Nat) × (Nat → Nat)) l yX1_faulty (ws_ yX1_faulty cX1_faulty 6 (some (.object "SequenceBench$Rig"))) rmFaulty D T (EnY em) (bwW h d T (some (b 0)) co (em i) a w tl) sz [.ref h, .int x1, .int x2, .int x3] (fun u => u.1 0) (fun u => rcW i u.1 (T 0) (some (b 0)) wt (cdL i u.1 u.2 T ns (bwW h d T (some (b 0)) co (em i) a w tl))) (fun _ _ => True) 25 238 := by
  refine g_entryY (y := yX1_faulty) (Y := EnY em) (Qc := fun A => va_Qr (fun (_ : (Nat → Nat) × (Nat → Nat)) => True) (fun u aa t => aa = u.1 0 ∧ gPost D T A (rcW i u.1 (T 0) (some (b 0)) wt (cdL i u.1 u.2 T ns (bwW h d T (some (b 0)) co (em i) a w tl))) t ∧ True) A) (by decide) rfl ?_
  intro p e s m below meth c ls S hini hM hY hl
  have hl : lv_has ls 6 [(0, .ref h), (1, .int x1), (2, .int x2), (3, .int x3)] := hl
  refine lv_aload_n S.x S.b dX1_faulty_0 rfl (lv_at hl 0 rfl) ?_
  refine lv_aload_n S.x S.b dX1_faulty_1 rfl (lv_at hl 0 rfl) ?_
  refine bn_g S hM 7 rfl (Or.inl q327) rfl dX1_faulty_2 ?_
  obtain ⟨wt0, hc, hf⟩ := bd_some hf
  refine gt_call S hM hl hY hi3 hK hQ hC hc ⟨rfl, rfl⟩ rfl ⟨Nat.le_of_ble_eq_true rfl, Nat.le_of_ble_eq_true rfl⟩ dX1_faulty_5 (fun u H locs hM hLam hLF => ?_)
  refine g_reb hM hLam hLF (fun q h => (vaA_mem.mp h).imp (fun h => ((cd_sub.trans rc_sub).map (·.1)).subset h) id) (fun locs A' hA1 hA2 hM9 => ?_)
  have hSb := hM.2.2.1
  have hAb := hM.2.2.2
  have hM := hM9
  refine lv_astore (lv' := [(4, .ref (u.1 0)), (0, .ref h), (1, .int x1), (2, .int x2), (3, .int x3)]) S.x S.b dX1_faulty_8 hl (by decide) rfl (fun ls hl => ?_)
  refine lv_aload S.x S.b dX1_faulty_10 (lv_at hl 0 rfl) ?_
  refine g_getL S hM ⟨0, rfl⟩ (ci := 2) rfl in_X3 2 rfl (Or.inr ⟨_, q225⟩) rfl dX1_faulty_12 ?_
  refine lv_iload_n S.x S.b dX1_faulty_15 rfl (lv_at hl 2 rfl) ?_
  refine lv_iconst (v := (1 : Int32)) S.x S.b dX1_faulty_16 ie1 ?_
  refine lv_iload_n S.x S.b dX1_faulty_17 rfl (lv_at hl 3 rfl) ?_
  refine lv_ishl S.x S.b dX1_faulty_18 ?_
  obtain ⟨hi, hf⟩ := ck_some hf
  obtain ⟨wt1, ew, hf⟩ := lt_some hf
  refine rcst S hM 1 rfl hi ew dX1_faulty_19 (fun H locs hM => ?_)
  refine lv_aload S.x S.b dX1_faulty_20 (lv_at hl 0 rfl) ?_
  refine lv_iload_n S.x S.b dX1_faulty_22 rfl (lv_at hl 4 rfl) ?_
  obtain ⟨r, wt2, hc, hf⟩ := bd2_some hf
  refine gtk_call S hM hl hi3 hQ.bw hC.bw (LamI.kept hLam hA2 hM.2.2.1) (hLF.of rc_addr) hc ⟨rfl, rfl⟩ rfl ⟨Nat.le_of_ble_eq_true rfl, Nat.le_of_ble_eq_true rfl⟩ dX1_faulty_23 (fun H locs hM => ?_)
  refine g_ist S (x' := r) rfl hl dX1_faulty_26 rfl (lv' := [(5, .int r), (4, .ref (u.1 0)), (0, .ref h), (1, .int x1), (2, .int x2), (3, .int x3)]) rfl (fun ls hl => ?_)
  refine lv_aload S.x S.b dX1_faulty_28 (lv_at hl 1 rfl) ?_
  obtain rfl := rt1 hf
  have hM := hM.unbase hSb hA1 hAb
  exact ga_aret (U := (Nat → Nat) × (Nat → Nat)) (ad := fun u => u.1 0) (ws' := fun u => rcW i u.1 (T 0) (some (b 0)) _ (cdL i u.1 u.2 T ns (bwW h d T (some (b 0)) co (em i) a w tl))) (X := fun _ _ => True) S (Or.inl ⟨_, rfl⟩) u hM trivial rfl dX1_faulty_30
section FC
variable {p : Program} {l : Launch} {e : Env} {R : Room} {s : State} {m : MethodId} {args : Array Value} {below : List Frame} {meth : Method} {c : Code} {H : Heap} {locs : List Loc} {cells slots : Nat} {Q : State → Prop}
variable {cc : ByteArray} {nL : Nat} {ret : Option FieldType} {D : va_G} {T : Nat → ClassId} {A : Nat → Prop} {pc : Nat} {ls : Array Slot} {rest : List Value} {lv : List (Nat × Value)}
variable {h ns nc N i : Nat} {d a b sa em : Nat → Nat} {co : Option Nat} {w : BW} {wt q : MW} {tl : va_W} {x1 x2 x3 : Int32}
theorem gf_call (S : gS p s m args meth c cc nL ret RX1 D T) (hM : gM D A s.heap (bwW h d T (some (b 0)) co (em i) a w tl) H locs) (hl : lv_has ls nL lv) (hY : EnY em A s s.heap) (hi : i < 3) (hK : SqK N ns nc q) (hQ : SqI T b sa ns q (.ref (b 3)) tl) (hC : CuI T b nc q tl) (hf : gFaulty i N ns nc q x1 x2 x3 w = some wt) (hR : Nat.ble (rmFaulty.frames + 1) R.frames = true ∧ Nat.ble (8 + (6 + 11) + rmFaulty.locals) R.locals = true) (hrm : Nat.ble (rest.map fun v => v.category).sum 8 = true) (hfit : cells + 25 ≤ R.cells ∧ slots + 238 ≤ R.slots) (hdg : decode cc pc = .ok (.invokevirtual 249, 3))
    (kk : ∀ (u : (Nat → Nat) × (Nat → Nat)) (H1 : Heap) (locs1 : List Loc), gM D A s.heap (rcW i u.1 (T 0) (some (b 0)) wt (cdL i u.1 u.2 T ns (bwW h d T (some (b 0)) co (em i) a w tl))) H1 locs1 → W p l e R s m args below meth c H1 locs1 (cells + 25) (slots + 238) Q (F0 m (pc + 3) ls (.ref (u.1 0) :: rest))) : W p l e R s m args below meth c H locs cells slots Q (F0 m pc ls (.int x3 :: .int x2 :: .int x1 :: .ref h :: rest)) := by
  have hM' : gM D A s.heap (bwW h d T (some (b 0)) co (em i) a w tl ++ []) H locs := by rw [List.append_nil]; exact hM
  refine gy_r (U := (Nat → Nat) × (Nat → Nat)) (wc := bwW h d T (some (b 0)) co (em i) a w tl) (wr := []) (q0 := 0) (ci := 1) S hM' hl [.int x1, .int x2, .int x3] rfl rfl EnY.c (EnY.c.sub hY hM') (metX1_faulty hi hK hQ hC hf) hdX1_faulty q1411 q1413 qs28 q62 q1414 ⟨rfl, rfl⟩ hR rfl rfl hrm hfit hdg ?_
  intro u H1 locs1 h1 hX _ _
  rw [List.append_nil] at h1
  exact kk u H1 locs1 h1
end FC
