/-! conditions[i].holds(): the lambdas of a Direct and of a Cascade circuit -/
set_option maxRecDepth 100000
def gHold0 (ns : Nat) (q : MW) (i : Int32) (w : MW) : Option (Int32 × MW) :=
  if q.2 7 i.toNatClampNeg = 1 then (
    bd2 (gX4_lambda_new_0 ns q (q.2 5 i.toNatClampNeg) w) fun r w1 => bz r (some (r, setF w1 30 (w.1 30))))
  else (
    bd2 (gX4_lambda_new_1 ns q (q.2 5 i.toNatClampNeg) w) fun r w1 => bz r (some (r, setF w1 30 (w.1 30))))
def gHold1 (ns : Nat) (q : MW) (nc : Nat) (i : Int32) (w : MW) : Option (Int32 × MW) :=
  if q.2 7 i.toNatClampNeg = 1 then (
    bd2 (gX5_lambda_new_0 ns q nc (q.2 6 i.toNatClampNeg) w) fun r w1 => bz r (some (r, w1)))
  else (
    bd2 (gX5_lambda_new_1 ns q nc (q.2 6 i.toNatClampNeg) (q.2 5 i.toNatClampNeg) (q.2 8 i.toNatClampNeg) w) fun r w1 => bz r (some (r, w1)))
theorem hz_sigRI : parseMethodDescriptor yX4_lambda_new_0.desc = some ⟨[.object "SequenceBench$Rig", .int], some .boolean⟩ := by decide +kernel
theorem hz_sigI : parseMethodDescriptor yX5_lambda_new_0.desc = some ⟨[.int], some .boolean⟩ := by decide +kernel
theorem hz_sig4 : parseMethodDescriptor yX5_lambda_new_1.desc = some ⟨[.int, .object "SequenceBench$Rig", .int, .boolean], some .boolean⟩ := by decide +kernel
theorem hz_sh0 : lamS0.iface = cHolds.cls ∧ lamS0.name = cHolds.name ∧ lamS0.sam.toString = cHolds.desc := by decide +kernel
theorem hz_sh1 : lamS1.iface = cHolds.cls ∧ lamS1.name = cHolds.name ∧ lamS1.sam.toString = cHolds.desc := by decide +kernel
theorem hz_sh2 : lamS2.iface = cHolds.cls ∧ lamS2.name = cHolds.name ∧ lamS2.sam.toString = cHolds.desc := by decide +kernel
theorem hz_sh3 : lamS3.iface = cHolds.cls ∧ lamS3.name = cHolds.name ∧ lamS3.sam.toString = cHolds.desc := by decide +kernel
theorem hz_ble {a b c : Nat} (h : Nat.ble b c = true) (h2 : Nat.ble a b = true) : Nat.ble a c = true := Nat.ble_eq_true_of_le (Nat.le_trans (Nat.le_of_ble_eq_true h2) (Nat.le_of_ble_eq_true h))
theorem hz_lt {i : Int32} {n : Nat} (h : vp_in i n) : i.toNatClampNeg < n := Nat.not_le.mp fun q => h (Or.inr q)
section HOLD
variable {p : Program} {l : Launch} {e : Env} {R : Room} {s : State} {m : MethodId} {args : Array Value} {below : List Frame} {meth : Method} {c : Code} {H : Heap} {locs : List Loc} {Q : State → Prop}
variable {cc : ByteArray} {nL : Nat} {ret : Option FieldType} {own : String} {D : va_G} {T : Nat → ClassId} {A : Nat → Prop} {pc : Nat} {ls : Array Slot} {rest : List Value} {H0 : Heap} {lv : List (Nat × Value)}
variable {a b sa la : Nat → Nat} {tl : va_W} {w w1 : MW} {ns nc index count : Nat} {q : MW} {i r : Int32}
theorem hold0 (S : gS p s m args meth c cc nL ret own D T) (hM : gM D A H0 (rcW 0 a (T 0) (some (b 0)) w tl) H locs) (hl : lv_has ls nL lv) (hQ : SqI T b sa ns q (.ref (b 3)) tl) (hX : LamI 0 D a la ns q H) (hi : vp_in i ns) (hf : gHold0 ns q i w = some (r, w1)) (hlink : Cond.methodLink own index cHolds ∈ lw_all)
    (hR : Nat.ble 4 R.frames = true ∧ Nat.ble 75 R.locals = true) (hrm : Nat.ble (rest.map fun v => v.category).sum 8 = true) (hdg : decode cc pc = .ok (.invokeinterface index count, 5))
    (kk : ∀ (H1 : Heap) (locs1 : List Loc), gM D A H0 (rcW 0 a (T 0) (some (b 0)) w1 tl) H1 locs1 → W p l e R s m args below meth c H1 locs1 0 0 Q (F0 m (pc + 5) ls (.int r :: rest))) : W p l e R s m args below meth c H locs 0 0 Q (F0 m pc ls (.ref (la i.toNatClampNeg) :: rest)) := by
  have hc := hX _ (hz_lt hi)
  unfold gHold0 at hf
  by_cases h7 : q.2 7 i.toNatClampNeg = 1
  · have hf := if_t h7 hf
    obtain ⟨r1, w2, hg, hf⟩ := bd2_some hf
    obtain ⟨hz, hf⟩ := bz_some hf
    obtain ⟨rfl, rfl⟩ := rt2 hf
    have hc : H[la i.toNatClampNeg]? = some { cls := D.1 100, slots := #[.ref (a 0), .int (q.2 5 i.toNatClampNeg)], vm := .none } := by rw [hc]; simp only [lamC, if_pos h7]
    exact lc_S2 S hM hl S.g.2.2.2.1.1 lm_ok0 hz_sh0 (by decide) lmd0_0 lmd0_1 lmd0_4 lmd0_5 lmd0_8 lmd0_11 hc (metX4_lambda_new_0 (hQ.cons _) hg) rfl (by decide) hz_sigRI rfl q138 q66 q139 ⟨rfl, rfl⟩ hz hlink ⟨hz_ble hR.1 rfl, hz_ble hR.2 rfl⟩ hrm hdg kk
  · have hf := if_f h7 hf
    obtain ⟨r1, w2, hg, hf⟩ := bd2_some hf
    obtain ⟨hz, hf⟩ := bz_some hf
    obtain ⟨rfl, rfl⟩ := rt2 hf
    have hc : H[la i.toNatClampNeg]? = some { cls := D.1 101, slots := #[.ref (a 0), .int (q.2 5 i.toNatClampNeg)], vm := .none } := by rw [hc]; simp only [lamC, if_neg h7]
    exact lc_S2 S hM hl S.g.2.2.2.1.2.1 lm_ok1 hz_sh1 (by decide) lmd1_0 lmd1_1 lmd1_4 lmd1_5 lmd1_8 lmd1_11 hc (metX4_lambda_new_1 (hQ.cons _) hg) rfl (by decide) hz_sigRI rfl q144 q66 q145 ⟨rfl, rfl⟩ hz hlink ⟨hz_ble hR.1 rfl, hz_ble hR.2 rfl⟩ hrm hdg kk
theorem hold1 (S : gS p s m args meth c cc nL ret own D T) (hM : gM D A H0 (rcW 1 a (T 0) (some (b 0)) w tl) H locs) (hl : lv_has ls nL lv) (hQ : SqI T b sa ns q (.ref (b 3)) tl) (hC : CuI T b nc q tl) (hX : LamI 1 D a la ns q H) (hi : vp_in i ns) (hf : gHold1 ns q nc i w = some (r, w1)) (hlink : Cond.methodLink own index cHolds ∈ lw_all)
    (hR : Nat.ble 4 R.frames = true ∧ Nat.ble 78 R.locals = true) (hrm : Nat.ble (rest.map fun v => v.category).sum 8 = true) (hdg : decode cc pc = .ok (.invokeinterface index count, 5))
    (kk : ∀ (H1 : Heap) (locs1 : List Loc), gM D A H0 (rcW 1 a (T 0) (some (b 0)) w1 tl) H1 locs1 → W p l e R s m args below meth c H1 locs1 0 0 Q (F0 m (pc + 5) ls (.int r :: rest))) : W p l e R s m args below meth c H locs 0 0 Q (F0 m pc ls (.ref (la i.toNatClampNeg) :: rest)) := by
  have hc := hX _ (hz_lt hi)
  unfold gHold1 at hf
  by_cases h7 : q.2 7 i.toNatClampNeg = 1
  · have hf := if_t h7 hf
    obtain ⟨r1, w2, hg, hf⟩ := bd2_some hf
    obtain ⟨hz, hf⟩ := bz_some hf
    obtain ⟨rfl, rfl⟩ := rt2 hf
    have hc : H[la i.toNatClampNeg]? = some { cls := D.1 102, slots := #[.ref (a 7), .int (q.2 6 i.toNatClampNeg)], vm := .none } := by rw [hc]; simp only [lamC, if_pos h7]
    exact lc_V2 S hM hl S.g.2.2.2.1.2.2.1 lm_ok2 hz_sh2 (by decide) lmd2_0 lmd2_1 lmd2_4 lmd2_5 lmd2_8 lmd2_11 hc (metX5_lambda_new_0 hQ hC hg) rfl (by decide) hz_sigI rfl q175 qs0 (cib := 4) rfl ⟨7, _, rfl⟩ q67 q176 ⟨rfl, rfl⟩ hz hlink ⟨hz_ble hR.1 rfl, hz_ble hR.2 rfl⟩ hrm hdg kk
  · have hf := if_f h7 hf
    obtain ⟨r1, w2, hg, hf⟩ := bd2_some hf
    obtain ⟨hz, hf⟩ := bz_some hf
    obtain ⟨rfl, rfl⟩ := rt2 hf
    have hc : H[la i.toNatClampNeg]? = some { cls := D.1 103, slots := #[.ref (a 7), .int (q.2 6 i.toNatClampNeg), .ref (a 0), .int (q.2 5 i.toNatClampNeg), .int (q.2 8 i.toNatClampNeg)], vm := .none } := by rw [hc]; simp only [lamC, if_neg h7]
    exact lc_V5 S hM hl S.g.2.2.2.1.2.2.2 lm_ok3 hz_sh3 (by decide) lmd3_0 lmd3_1 lmd3_4 lmd3_5 lmd3_8 lmd3_9 lmd3_12 lmd3_13 lmd3_16 lmd3_17 lmd3_20 lmd3_23 hc (metX5_lambda_new_1 hQ hC hg) rfl (by decide) hz_sig4 rfl q178 qs1 (cib := 4) rfl ⟨7, _, rfl⟩ q67 q179 ⟨rfl, rfl⟩ hz hlink ⟨hz_ble hR.1 rfl, hz_ble hR.2 rfl⟩ hrm hdg kk
end HOLD
