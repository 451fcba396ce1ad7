/-! trial(its): a rig of its own -/
set_option maxRecDepth 100000
abbrev rmTrial : Room := { frames := 8, cells := 25, slots := 238, locals := 3400 }
theorem hdX1_trial : gHd yX1_trial 1 := by decide +kernel
/-- some cell of the list is the bench -/
def BnI (h : Nat) (d : Nat → Nat) (so : Option Nat) (me ra : Nat) (F : Nat → Int32) (ws : va_W) : Prop := ∃ i : Nat, ws[i]? = some (h, .inr (1, bnF d so me ra F))
theorem hdX3_init3 : gHd yX3_init 3 := by decide +kernel
set_option maxHeartbeats 4000000 in
theorem metX1_trial {l : Launch} {D : va_G} {T : Nat → ClassId} {h me ra N ns nc j : Nat} {d b sa em : Nat → Nat} {q w : MW} {F f : Nat → Int32} {WB : va_W} (hj : j < 3) (hK : SqK N ns nc q) (hB : BnI h d (some (b 0)) me ra F WB) (hQ : SqI T b sa ns q (.ref (b 3)) WB) (hC : CuI T b nc q WB) (hSt : ∃ i : Nat, WB[i]? = some (d 1, .inl (T 0, 6, .inl f))) (hf : gX3_init N ns (qD N ns nc q j) f (cgI j nc) = some w) (sz : Nat) :
    MetRY ((Nat → Nat) × (Nat → Nat)) l yX1_trial (ws_ yX1_trial cX1_trial 2 (some (.object "SequenceBench$Rig"))) rmTrial D T (EnY em) WB sz [.ref h, .ref (em j)] (fun u => u.1 0) (fun u => rcW j u.1 (T 0) (some (b 0)) w (cdL j u.1 u.2 T ns WB)) (fun u H => LamI j D u.1 u.2 (nlI j ns) (qD N ns nc q j) H ∧ LaF u.2 (nlI j ns) (rcW j u.1 (T 0) (some (b 0)) w (cdL j u.1 u.2 T ns WB))) 25 238 := by
  refine g_entryY (y := yX1_trial) (Y := EnY em) (Qc := fun A => va_Qr (fun (_ : (Nat → Nat) × (Nat → Nat)) => True) (fun u aa t => aa = u.1 0 ∧ gPost D T A (rcW j u.1 (T 0) (some (b 0)) w (cdL j u.1 u.2 T ns WB)) t ∧ (LamI j D u.1 u.2 (nlI j ns) (qD N ns nc q j) t.heap ∧ LaF u.2 (nlI j ns) (rcW j u.1 (T 0) (some (b 0)) w (cdL j u.1 u.2 T ns WB)))) A) (by decide) rfl ?_
  intro p e s m below meth c ls S hini hM hY hl
  have hl : lv_has ls 2 [(0, .ref h), (1, .ref (em j))] := hl
  refine g_new S hM 2 rfl in_X3 tyX3_ok q107 q108 q65 (fs := rgD) (fun k hk => ?_) (Nat.le_of_ble_eq_true rfl) (Nat.le_of_ble_eq_true rfl) dX1_trial_0 (fun r0 H hM => ?_)
  · have hrg : ∀ k : Fin 25, defaultValue (tyX3 k) = vp_V rgD k := by decide +kernel
    exact hrg ⟨k, hk⟩
  refine lv_dup S.x S.b dX1_trial_3 rfl ?_
  refine lv_aload_n S.x S.b dX1_trial_4 rfl (lv_at hl 0 rfl) ?_
  refine g_getL S hM (ex_cons hB) (ci := 1) rfl in_X1 3 rfl (Or.inl q323) rfl dX1_trial_5 ?_
  refine lv_aload_n S.x S.b dX1_trial_8 rfl (lv_at hl 1 rfl) ?_
  refine lv_aload_n S.x S.b dX1_trial_9 rfl (lv_at hl 0 rfl) ?_
  refine g_getL S hM (ex_cons hB) (ci := 1) rfl in_X1 4 rfl (Or.inl q324) rfl dX1_trial_10 ?_
  have hM' : gM D (va_A WB s.heap.size) s.heap (((r0, .inr (2, rgD)) :: WB) ++ []) H [] := by rw [List.append_nil]; exact hM
  refine gy_I (U := (Nat → Nat) × (Nat → Nat)) (wc := (r0, .inr (2, rgD)) :: WB) (wr := []) (b := r0) S hM' hl [.ref (b 0), .ref (em j), .ref (d 1)] EnY.c (EnY.c.sub hY hM') (metX3_init hj hK hQ hC hSt hf) hdX3_init3 rfl q109 q110 q65 q111 ⟨rfl, rfl⟩ ⟨rfl, rfl⟩ rfl rfl rfl ⟨Nat.le_of_ble_eq_true rfl, Nat.le_of_ble_eq_true rfl⟩ dX1_trial_13 ?_
  intro u H locs hM hX hz hk
  rw [List.append_nil] at hM
  exact ga_aret (U := (Nat → Nat) × (Nat → Nat)) (ad := fun u => u.1 0) (ws' := fun u => rcW j u.1 (T 0) (some (b 0)) w (cdL j u.1 u.2 T ns WB)) (X := fun u H => LamI j D u.1 u.2 (nlI j ns) (qD N ns nc q j) H ∧ LaF u.2 (nlI j ns) (rcW j u.1 (T 0) (some (b 0)) w (cdL j u.1 u.2 T ns WB))) S (Or.inl ⟨_, rfl⟩) u hM hX.2 hX.1.symm dX1_trial_16
