/-! Rig.<init>(sequence, method, strokes) -/
set_option maxRecDepth 100000
/-- a rig just made -/
def rig0 (f : Nat → Int32) (cg : Int32) : MW := (fun k => match k with
  | 6 => 1
  | 30 => cg
  | _ => 0, fun j => match j with
  | 0 => f
  | _ => fun _ => 0)
def rgD : List Value := [.null, .null, .null, .null, .null, .null, .int 0, .int 0, .int 0, .int 0, .int 0, .int 0, .int 0, .int 0, .int 0, .null, .null, .int 0, .int 0, .int 0, .int 0, .int 0, .int 0, .int 0, .int 0]
def gX3_init (N ns : Nat) (q : MW) (f : Nat → Int32) (cg : Int32) : Option MW :=
  bd (gX11_firstWithMoves N ns q) fun r => gX3_expect ns q r (rig0 f cg)
theorem gX3_expect_30 {ns : Nat} {q : MW} {x : Int32} {w w' : MW} (h : gX3_expect ns q x w = some w') : w'.1 30 = w.1 30 := by
  unfold gX3_expect at h
  obtain ⟨w1, e1, h⟩ := lt_some h
  obtain ⟨-, h⟩ := ck_some h
  obtain ⟨w2, e2, h⟩ := lt_some h
  obtain ⟨-, h⟩ := ck_some h
  obtain ⟨w3, e3, h⟩ := lt_some h
  cases h
  subst e3 e2 e1
  rfl
/-- the circuit's conditions, ahead of the other cells -/
def cdL (kd : Nat) (a la : Nat → Nat) (T : Nat → ClassId) (ns : Nat) (wr : va_W) : va_W := match kd with
  | 0 => (a 8, .inl (T 4, ns, .inr (.inr (.inr (.inr (fun k => some (la k))))))) :: wr
  | 1 => (a 8, .inl (T 4, ns, .inr (.inr (.inr (.inr (fun k => some (la k))))))) :: wr
  | _ => wr
/-- a rig's addresses -/
def adR (r0 z1 z2 z3 z4 z5 z6 : Nat) : Nat → Nat := fun j => match j with
  | 0 => r0
  | 1 => z1
  | 2 => z2
  | 3 => z3
  | 4 => z4
  | 5 => z5
  | _ => z6
theorem permR9 {α : Type} (x0 x1 x2 x3 x4 x5 x6 x7 x8 : α) (r : List α) : (x0 :: x1 :: x2 :: x3 :: x4 :: x5 :: x6 :: x7 :: x8 :: r).Perm (x8 :: x2 :: x7 :: x6 :: x5 :: x4 :: x3 :: x1 :: x0 :: r) := by
  have h := List.Perm.map (fun i : Nat => match i with | 0 => x0 | 1 => x1 | 2 => x2 | 3 => x3 | 4 => x4 | 5 => x5 | 6 => x6 | 7 => x7 | _ => x8) (show [0, 1, 2, 3, 4, 5, 6, 7, 8].Perm [8, 2, 7, 6, 5, 4, 3, 1, 0] by decide)
  exact h.append_right r
theorem permR8 {α : Type} (x0 x1 x2 x3 x4 x5 x6 x7 : α) (r : List α) : (x0 :: x1 :: x2 :: x3 :: x4 :: x5 :: x6 :: x7 :: r).Perm (x7 :: x1 :: x6 :: x5 :: x4 :: x3 :: x2 :: x0 :: r) := by
  have h := List.Perm.map (fun i : Nat => match i with | 0 => x0 | 1 => x1 | 2 => x2 | 3 => x3 | 4 => x4 | 5 => x5 | 6 => x6 | _ => x7) (show [0, 1, 2, 3, 4, 5, 6, 7].Perm [7, 1, 6, 5, 4, 3, 2, 0] by decide)
  exact h.append_right r
theorem permR7 {α : Type} (x0 x1 x2 x3 x4 x5 x6 : α) (r : List α) : (x0 :: x1 :: x2 :: x3 :: x4 :: x5 :: x6 :: r).Perm (x6 :: x0 :: x5 :: x4 :: x3 :: x2 :: x1 :: r) := by
  have h := List.Perm.map (fun i : Nat => match i with | 0 => x0 | 1 => x1 | 2 => x2 | 3 => x3 | 4 => x4 | 5 => x5 | _ => x6) (show [0, 1, 2, 3, 4, 5, 6].Perm [6, 0, 5, 4, 3, 2, 1] by decide)
  exact h.append_right r
theorem hdX3_init : gHd yX3_init 3 := by decide +kernel
theorem hdMc : ("SequenceBench$Method" : String) ≠ "java/lang/invoke/MethodHandle" ∧ ("SequenceBench$Method" : String) ≠ "java/lang/invoke/VarHandle" ∧ (parseMethodDescriptor "(LSequenceBench$Rig;)LSequenceBench$Circuit;").map (fun d => d.parameters.length) = some 1 := by decide +kernel
abbrev rmX3_init_n : Room := { frames := 7, cells := 24, slots := 213, locals := 3300 }
set_option maxHeartbeats 8000000 in
theorem metX3_init_n {l : Launch} {D : va_G} {T : Nat → ClassId} {r0 st : Nat} {f : Nat → Int32} {wr : va_W} {mv : Nat} (hSt : ∃ i : Nat, wr[i]? = some (st, .inl (T 0, 6, .inl f))) (sz : Nat) : MetA (Nat → Nat) l yX3_init (ws_ yX3_init cX3_init 4 none) rmX3_init_n D T ((r0, .inr (2, rgD)) :: wr) sz [.ref r0, .null, .ref mv, .ref st] (fun u => rgW u (T 0) none none (rig0 f 0) wr) (fun u _ => u 0 = r0) 24 213 := by
  refine g_entryA (Qc := fun A => va_Qv (fun (_ : (Nat → Nat)) => True) (fun u t => gPost D T A (rgW u (T 0) none none (rig0 f 0) wr) t ∧ u 0 = r0) A) (by decide) rfl ?_
  intro p e s m below meth c ls S hini hM hl
  have hl : lv_has ls 4 [(0, .ref r0), (1, .null), (2, .ref mv), (3, .ref st)] := hl
  have hM : gM D _ s.heap ((r0, .inr (2, [.null, .null, .null, .null, .null, .null, .int 0, .int 0, .int 0, .int 0, .int 0, .int 0, .int 0, .int 0, .int 0, .null, .null, .int 0, .int 0, .int 0, .int 0, .int 0, .int 0, .int 0, .int 0])) :: wr : va_W) s.heap [] := hM
  refine lv_aload_n S.x S.b dX3_init_0 rfl (lv_at hl 0 rfl) ?_
  refine g_objInit S hl q112 q103 q104 ⟨rfl, rfl⟩ dX3_init_1 ?_
  refine lv_aload_n S.x S.b dX3_init_4 rfl (lv_at hl 0 rfl) ?_
  refine lv_bipush (v := (6 : Int32)) S.x S.b dX3_init_5 (by decide) ?_
  refine g_newa S hM (N := 6) (by decide) (by decide) (Nat.le_of_ble_eq_true rfl) (Nat.le_of_ble_eq_true rfl) (Nat.le_of_ble_eq_true rfl) dX3_init_7 (fun z1 H hM => ?_)
  refine g_putF S hM 1 rfl (ci := 2) rfl in_X3 tyX3_ok nmX3 2 rfl q224 rfl hini rfl rfl rfl rfl (ws' := ((z1, .inl (T 0, 6, .inl (fun _ => 0))) :: (r0, .inr (2, [.null, .null, .ref z1, .null, .null, .null, .int 0, .int 0, .int 0, .int 0, .int 0, .int 0, .int 0, .int 0, .int 0, .null, .null, .int 0, .int 0, .int 0, .int 0, .int 0, .int 0, .int 0, .int 0])) :: wr : va_W)) rfl dX3_init_9 (fun H locs hM => ?_)
  refine lv_aload_n S.x S.b dX3_init_12 rfl (lv_at hl 0 rfl) ?_
  refine lv_bipush (v := (6 : Int32)) S.x S.b dX3_init_13 (by decide) ?_
  refine g_newa S hM (N := 6) (by decide) (by decide) (Nat.le_of_ble_eq_true rfl) (Nat.le_of_ble_eq_true rfl) (Nat.le_of_ble_eq_true rfl) dX3_init_15 (fun z2 H hM => ?_)
  refine g_putF S hM 2 rfl (ci := 2) rfl in_X3 tyX3_ok nmX3 3 rfl q226 rfl hini rfl rfl rfl rfl (ws' := ((z2, .inl (T 0, 6, .inl (fun _ => 0))) :: (z1, .inl (T 0, 6, .inl (fun _ => 0))) :: (r0, .inr (2, [.null, .null, .ref z1, .ref z2, .null, .null, .int 0, .int 0, .int 0, .int 0, .int 0, .int 0, .int 0, .int 0, .int 0, .null, .null, .int 0, .int 0, .int 0, .int 0, .int 0, .int 0, .int 0, .int 0])) :: wr : va_W)) rfl dX3_init_17 (fun H locs hM => ?_)
  refine lv_aload_n S.x S.b dX3_init_20 rfl (lv_at hl 0 rfl) ?_
  refine lv_bipush (v := (16 : Int32)) S.x S.b dX3_init_21 (by decide) ?_
  refine g_newa S hM (N := 16) (by decide) (by decide) (Nat.le_of_ble_eq_true rfl) (Nat.le_of_ble_eq_true rfl) (Nat.le_of_ble_eq_true rfl) dX3_init_23 (fun z3 H hM => ?_)
  refine g_putF S hM 3 rfl (ci := 2) rfl in_X3 tyX3_ok nmX3 4 rfl q228 rfl hini rfl rfl rfl rfl (ws' := ((z3, .inl (T 0, 16, .inl (fun _ => 0))) :: (z2, .inl (T 0, 6, .inl (fun _ => 0))) :: (z1, .inl (T 0, 6, .inl (fun _ => 0))) :: (r0, .inr (2, [.null, .null, .ref z1, .ref z2, .ref z3, .null, .int 0, .int 0, .int 0, .int 0, .int 0, .int 0, .int 0, .int 0, .int 0, .null, .null, .int 0, .int 0, .int 0, .int 0, .int 0, .int 0, .int 0, .int 0])) :: wr : va_W)) rfl dX3_init_25 (fun H locs hM => ?_)
  refine lv_aload_n S.x S.b dX3_init_28 rfl (lv_at hl 0 rfl) ?_
  refine lv_iconst (v := (1 : Int32)) S.x S.b dX3_init_29 rfl ?_
  refine g_putL S hM 3 rfl (ci := 2) rfl in_X3 tyX3_ok nmX3 6 rfl (Or.inl q232) rfl rfl rfl rfl (ws' := ((z3, .inl (T 0, 16, .inl (fun _ => 0))) :: (z2, .inl (T 0, 6, .inl (fun _ => 0))) :: (z1, .inl (T 0, 6, .inl (fun _ => 0))) :: (r0, .inr (2, [.null, .null, .ref z1, .ref z2, .ref z3, .null, .int 1, .int 0, .int 0, .int 0, .int 0, .int 0, .int 0, .int 0, .int 0, .null, .null, .int 0, .int 0, .int 0, .int 0, .int 0, .int 0, .int 0, .int 0])) :: wr : va_W)) rfl dX3_init_30 (fun H locs hM => ?_)
  refine lv_aload_n S.x S.b dX3_init_33 rfl (lv_at hl 0 rfl) ?_
  refine lv_bipush (v := (40 : Int32)) S.x S.b dX3_init_34 (by decide) ?_
  refine g_newa S hM (N := 40) (by decide) (by decide) (Nat.le_of_ble_eq_true rfl) (Nat.le_of_ble_eq_true rfl) (Nat.le_of_ble_eq_true rfl) dX3_init_36 (fun z4 H hM => ?_)
  refine g_putF S hM 4 rfl (ci := 2) rfl in_X3 tyX3_ok nmX3 15 rfl q250 rfl hini rfl rfl rfl rfl (ws' := ((z4, .inl (T 0, 40, .inl (fun _ => 0))) :: (z3, .inl (T 0, 16, .inl (fun _ => 0))) :: (z2, .inl (T 0, 6, .inl (fun _ => 0))) :: (z1, .inl (T 0, 6, .inl (fun _ => 0))) :: (r0, .inr (2, [.null, .null, .ref z1, .ref z2, .ref z3, .null, .int 1, .int 0, .int 0, .int 0, .int 0, .int 0, .int 0, .int 0, .int 0, .ref z4, .null, .int 0, .int 0, .int 0, .int 0, .int 0, .int 0, .int 0, .int 0])) :: wr : va_W)) rfl dX3_init_38 (fun H locs hM => ?_)
  refine lv_aload_n S.x S.b dX3_init_41 rfl (lv_at hl 0 rfl) ?_
  refine lv_bipush (v := (40 : Int32)) S.x S.b dX3_init_42 (by decide) ?_
  refine g_newa S hM (N := 40) (by decide) (by decide) (Nat.le_of_ble_eq_true rfl) (Nat.le_of_ble_eq_true rfl) (Nat.le_of_ble_eq_true rfl) dX3_init_44 (fun z5 H hM => ?_)
  refine g_putF S hM 5 rfl (ci := 2) rfl in_X3 tyX3_ok nmX3 16 rfl q252 rfl hini rfl rfl rfl rfl (ws' := ((z5, .inl (T 0, 40, .inl (fun _ => 0))) :: (z4, .inl (T 0, 40, .inl (fun _ => 0))) :: (z3, .inl (T 0, 16, .inl (fun _ => 0))) :: (z2, .inl (T 0, 6, .inl (fun _ => 0))) :: (z1, .inl (T 0, 6, .inl (fun _ => 0))) :: (r0, .inr (2, [.null, .null, .ref z1, .ref z2, .ref z3, .null, .int 1, .int 0, .int 0, .int 0, .int 0, .int 0, .int 0, .int 0, .int 0, .ref z4, .ref z5, .int 0, .int 0, .int 0, .int 0, .int 0, .int 0, .int 0, .int 0])) :: wr : va_W)) rfl dX3_init_46 (fun H locs hM => ?_)
  refine lv_aload_n S.x S.b dX3_init_49 rfl (lv_at hl 0 rfl) ?_
  refine lv_aload_nN S.x S.b dX3_init_50 rfl (lv_at hl 1 rfl) ?_
  refine g_putF S hM 5 rfl (ci := 2) rfl in_X3 tyX3_ok nmX3 0 rfl q221 rfl hini rfl rfl rfl rfl (ws' := ((z5, .inl (T 0, 40, .inl (fun _ => 0))) :: (z4, .inl (T 0, 40, .inl (fun _ => 0))) :: (z3, .inl (T 0, 16, .inl (fun _ => 0))) :: (z2, .inl (T 0, 6, .inl (fun _ => 0))) :: (z1, .inl (T 0, 6, .inl (fun _ => 0))) :: (r0, .inr (2, [.null, .null, .ref z1, .ref z2, .ref z3, .null, .int 1, .int 0, .int 0, .int 0, .int 0, .int 0, .int 0, .int 0, .int 0, .ref z4, .ref z5, .int 0, .int 0, .int 0, .int 0, .int 0, .int 0, .int 0, .int 0])) :: wr : va_W)) rfl dX3_init_51 (fun H locs hM => ?_)
  refine lv_aload_n S.x S.b dX3_init_54 rfl (lv_at hl 0 rfl) ?_
  refine lv_aload_n S.x S.b dX3_init_55 rfl (lv_at hl 3 rfl) ?_
  obtain ⟨i9, h9s⟩ : ∃ i : Nat, ((z5, .inl (T 0, 40, .inl (fun _ => 0))) :: (z4, .inl (T 0, 40, .inl (fun _ => 0))) :: (z3, .inl (T 0, 16, .inl (fun _ => 0))) :: (z2, .inl (T 0, 6, .inl (fun _ => 0))) :: (z1, .inl (T 0, 6, .inl (fun _ => 0))) :: (r0, .inr (2, [.null, .null, .ref z1, .ref z2, .ref z3, .null, .int 1, .int 0, .int 0, .int 0, .int 0, .int 0, .int 0, .int 0, .int 0, .ref z4, .ref z5, .int 0, .int 0, .int 0, .int 0, .int 0, .int 0, .int 0, .int 0])) :: wr : va_W)[i]? = some (st, .inl (T 0, 6, .inl f)) := ex_cons (ex_cons (ex_cons (ex_cons (ex_cons (ex_cons hSt)))))
  refine g_clone S hM hl i9 h9s q113 q114 q115 q116 q117 q118 ⟨rfl, rfl⟩ (Nat.le_of_ble_eq_true rfl) (Nat.le_of_ble_eq_true rfl) dX3_init_56 (fun z6 H hM => ?_)
  refine g_castA S hM 0 rfl q119 dX3_init_59 ?_
  refine g_putF S hM 6 rfl (ci := 2) rfl in_X3 tyX3_ok nmX3 1 rfl q223 rfl hini rfl rfl rfl rfl (ws' := ((z6, .inl (T 0, 6, .inl f)) :: (z5, .inl (T 0, 40, .inl (fun _ => 0))) :: (z4, .inl (T 0, 40, .inl (fun _ => 0))) :: (z3, .inl (T 0, 16, .inl (fun _ => 0))) :: (z2, .inl (T 0, 6, .inl (fun _ => 0))) :: (z1, .inl (T 0, 6, .inl (fun _ => 0))) :: (r0, .inr (2, [.null, .ref z6, .ref z1, .ref z2, .ref z3, .null, .int 1, .int 0, .int 0, .int 0, .int 0, .int 0, .int 0, .int 0, .int 0, .ref z4, .ref z5, .int 0, .int 0, .int 0, .int 0, .int 0, .int 0, .int 0, .int 0])) :: wr : va_W)) rfl dX3_init_62 (fun H locs hM => ?_)
  refine lv_aload_n S.x S.b dX3_init_65 rfl (lv_at hl 0 rfl) ?_
  refine lv_aload_nN S.x S.b dX3_init_66 rfl (lv_at hl 1 rfl) ?_
  refine lv_ifnonnullN S.x S.b dX3_init_67 ?_
  refine lv_null S.x S.b dX3_init_70 ?_
  refine lv_goto (tgt := 79) S.x S.b dX3_init_71 rfl ?_
  refine g_putF S hM 6 rfl (ci := 2) rfl in_X3 tyX3_ok nmX3 5 rfl q230 rfl hini rfl rfl rfl rfl (ws' := ((z6, .inl (T 0, 6, .inl f)) :: (z5, .inl (T 0, 40, .inl (fun _ => 0))) :: (z4, .inl (T 0, 40, .inl (fun _ => 0))) :: (z3, .inl (T 0, 16, .inl (fun _ => 0))) :: (z2, .inl (T 0, 6, .inl (fun _ => 0))) :: (z1, .inl (T 0, 6, .inl (fun _ => 0))) :: (r0, .inr (2, [.null, .ref z6, .ref z1, .ref z2, .ref z3, .null, .int 1, .int 0, .int 0, .int 0, .int 0, .int 0, .int 0, .int 0, .int 0, .ref z4, .ref z5, .int 0, .int 0, .int 0, .int 0, .int 0, .int 0, .int 0, .int 0])) :: wr : va_W)) rfl dX3_init_79 (fun H locs hM => ?_)
  refine lv_aload_nN S.x S.b dX3_init_82 rfl (lv_at hl 1 rfl) ?_
  refine lv_ifnullN (tgt := 94) S.x S.b dX3_init_83 rfl ?_
  have hM : gM D _ s.heap (rgW (adR r0 z6 z1 z2 z3 z4 z5) (T 0) none none (rig0 f 0) wr) H locs := hM.perm (permR7 _ _ _ _ _ _ _ _)
  refine W.widen (k := 24) (n := 213) (by decide) (by decide) ?_
  exact ga_vret (U := (Nat → Nat)) (ws' := (fun u => rgW u (T 0) none none (rig0 f 0) wr)) (X := (fun u _ => u 0 = r0)) S (adR r0 z6 z1 z2 z3 z4 z5) hM rfl dX3_init_94
abbrev rmX3_init_0 : Room := { frames := 7, cells := 24, slots := 213, locals := 3300 }
set_option maxHeartbeats 8000000 in
theorem metX3_init_0 {l : Launch} {D : va_G} {T : Nat → ClassId} {r0 st N : Nat} {b sa em : Nat → Nat} {q w : MW} {f : Nat → Int32} {wr : va_W} {cv : Value} {ns : Nat} (hns : ns ≤ 16) (hQ : SqI T b sa ns q cv wr) (h5 : ∀ k, k < ns → gX11_before ns q (nI k) = some (q.2 5 k)) (h7 : ∀ k, k < ns → q.2 7 k = if k = 0 then 1 else 0) (hSt : ∃ i : Nat, wr[i]? = some (st, .inl (T 0, 6, .inl f))) (hf : gX3_init N ns q f 0 = some w) (sz : Nat) : MetAY ((Nat → Nat) × (Nat → Nat)) l yX3_init (ws_ yX3_init cX3_init 4 none) rmX3_init_0 D T (EnY em) ((r0, .inr (2, rgD)) :: wr) sz [.ref r0, .ref (b 0), .ref (em 0), .ref st] (fun u => rcW 0 u.1 (T 0) (some (b 0)) w (cdL 0 u.1 u.2 T ns wr)) (fun u H => u.1 0 = r0 ∧ LamI 0 D u.1 u.2 ns q H ∧ LaF u.2 ns (rcW 0 u.1 (T 0) (some (b 0)) w (cdL 0 u.1 u.2 T ns wr))) 24 213 := by
  refine g_entryY (y := yX3_init) (Y := EnY em) (Qc := fun A => va_Qv (fun (_ : ((Nat → Nat) × (Nat → Nat))) => True) (fun u t => gPost D T A (rcW 0 u.1 (T 0) (some (b 0)) w (cdL 0 u.1 u.2 T ns wr)) t ∧ (u.1 0 = r0 ∧ LamI 0 D u.1 u.2 ns q t.heap ∧ LaF u.2 ns (rcW 0 u.1 (T 0) (some (b 0)) w (cdL 0 u.1 u.2 T ns wr)))) A) (by decide) rfl ?_
  intro p e s m below meth c ls S hini hM hY hl
  have hl : lv_has ls 4 [(0, .ref r0), (1, .ref (b 0)), (2, .ref (em 0)), (3, .ref st)] := hl
  have hM : gM D _ s.heap ((r0, .inr (2, [.null, .null, .null, .null, .null, .null, .int 0, .int 0, .int 0, .int 0, .int 0, .int 0, .int 0, .int 0, .int 0, .null, .null, .int 0, .int 0, .int 0, .int 0, .int 0, .int 0, .int 0, .int 0])) :: wr : va_W) s.heap [] := hM
  refine lv_aload_n S.x S.b dX3_init_0 rfl (lv_at hl 0 rfl) ?_
  refine g_objInit S hl q112 q103 q104 ⟨rfl, rfl⟩ dX3_init_1 ?_
  refine lv_aload_n S.x S.b dX3_init_4 rfl (lv_at hl 0 rfl) ?_
  refine lv_bipush (v := (6 : Int32)) S.x S.b dX3_init_5 (by decide) ?_
  refine g_newa S hM (N := 6) (by decide) (by decide) (Nat.le_of_ble_eq_true rfl) (Nat.le_of_ble_eq_true rfl) (Nat.le_of_ble_eq_true rfl) dX3_init_7 (fun z1 H hM => ?_)
  refine g_putF S hM 1 rfl (ci := 2) rfl in_X3 tyX3_ok nmX3 2 rfl q224 rfl hini rfl rfl rfl rfl (ws' := ((z1, .inl (T 0, 6, .inl (fun _ => 0))) :: (r0, .inr (2, [.null, .null, .ref z1, .null, .null, .null, .int 0, .int 0, .int 0, .int 0, .int 0, .int 0, .int 0, .int 0, .int 0, .null, .null, .int 0, .int 0, .int 0, .int 0, .int 0, .int 0, .int 0, .int 0])) :: wr : va_W)) rfl dX3_init_9 (fun H locs hM => ?_)
  refine lv_aload_n S.x S.b dX3_init_12 rfl (lv_at hl 0 rfl) ?_
  refine lv_bipush (v := (6 : Int32)) S.x S.b dX3_init_13 (by decide) ?_
  refine g_newa S hM (N := 6) (by decide) (by decide) (Nat.le_of_ble_eq_true rfl) (Nat.le_of_ble_eq_true rfl) (Nat.le_of_ble_eq_true rfl) dX3_init_15 (fun z2 H hM => ?_)
  refine g_putF S hM 2 rfl (ci := 2) rfl in_X3 tyX3_ok nmX3 3 rfl q226 rfl hini rfl rfl rfl rfl (ws' := ((z2, .inl (T 0, 6, .inl (fun _ => 0))) :: (z1, .inl (T 0, 6, .inl (fun _ => 0))) :: (r0, .inr (2, [.null, .null, .ref z1, .ref z2, .null, .null, .int 0, .int 0, .int 0, .int 0, .int 0, .int 0, .int 0, .int 0, .int 0, .null, .null, .int 0, .int 0, .int 0, .int 0, .int 0, .int 0, .int 0, .int 0])) :: wr : va_W)) rfl dX3_init_17 (fun H locs hM => ?_)
  refine lv_aload_n S.x S.b dX3_init_20 rfl (lv_at hl 0 rfl) ?_
  refine lv_bipush (v := (16 : Int32)) S.x S.b dX3_init_21 (by decide) ?_
  refine g_newa S hM (N := 16) (by decide) (by decide) (Nat.le_of_ble_eq_true rfl) (Nat.le_of_ble_eq_true rfl) (Nat.le_of_ble_eq_true rfl) dX3_init_23 (fun z3 H hM => ?_)
  refine g_putF S hM 3 rfl (ci := 2) rfl in_X3 tyX3_ok nmX3 4 rfl q228 rfl hini rfl rfl rfl rfl (ws' := ((z3, .inl (T 0, 16, .inl (fun _ => 0))) :: (z2, .inl (T 0, 6, .inl (fun _ => 0))) :: (z1, .inl (T 0, 6, .inl (fun _ => 0))) :: (r0, .inr (2, [.null, .null, .ref z1, .ref z2, .ref z3, .null, .int 0, .int 0, .int 0, .int 0, .int 0, .int 0, .int 0, .int 0, .int 0, .null, .null, .int 0, .int 0, .int 0, .int 0, .int 0, .int 0, .int 0, .int 0])) :: wr : va_W)) rfl dX3_init_25 (fun H locs hM => ?_)
  refine lv_aload_n S.x S.b dX3_init_28 rfl (lv_at hl 0 rfl) ?_
  refine lv_iconst (v := (1 : Int32)) S.x S.b dX3_init_29 rfl ?_
  refine g_putL S hM 3 rfl (ci := 2) rfl in_X3 tyX3_ok nmX3 6 rfl (Or.inl q232) rfl rfl rfl rfl (ws' := ((z3, .inl (T 0, 16, .inl (fun _ => 0))) :: (z2, .inl (T 0, 6, .inl (fun _ => 0))) :: (z1, .inl (T 0, 6, .inl (fun _ => 0))) :: (r0, .inr (2, [.null, .null, .ref z1, .ref z2, .ref z3, .null, .int 1, .int 0, .int 0, .int 0, .int 0, .int 0, .int 0, .int 0, .int 0, .null, .null, .int 0, .int 0, .int 0, .int 0, .int 0, .int 0, .int 0, .int 0])) :: wr : va_W)) rfl dX3_init_30 (fun H locs hM => ?_)
  refine lv_aload_n S.x S.b dX3_init_33 rfl (lv_at hl 0 rfl) ?_
  refine lv_bipush (v := (40 : Int32)) S.x S.b dX3_init_34 (by decide) ?_
  refine g_newa S hM (N := 40) (by decide) (by decide) (Nat.le_of_ble_eq_true rfl) (Nat.le_of_ble_eq_true rfl) (Nat.le_of_ble_eq_true rfl) dX3_init_36 (fun z4 H hM => ?_)
  refine g_putF S hM 4 rfl (ci := 2) rfl in_X3 tyX3_ok nmX3 15 rfl q250 rfl hini rfl rfl rfl rfl (ws' := ((z4, .inl (T 0, 40, .inl (fun _ => 0))) :: (z3, .inl (T 0, 16, .inl (fun _ => 0))) :: (z2, .inl (T 0, 6, .inl (fun _ => 0))) :: (z1, .inl (T 0, 6, .inl (fun _ => 0))) :: (r0, .inr (2, [.null, .null, .ref z1, .ref z2, .ref z3, .null, .int 1, .int 0, .int 0, .int 0, .int 0, .int 0, .int 0, .int 0, .int 0, .ref z4, .null, .int 0, .int 0, .int 0, .int 0, .int 0, .int 0, .int 0, .int 0])) :: wr : va_W)) rfl dX3_init_38 (fun H locs hM => ?_)
  refine lv_aload_n S.x S.b dX3_init_41 rfl (lv_at hl 0 rfl) ?_
  refine lv_bipush (v := (40 : Int32)) S.x S.b dX3_init_42 (by decide) ?_
  refine g_newa S hM (N := 40) (by decide) (by decide) (Nat.le_of_ble_eq_true rfl) (Nat.le_of_ble_eq_true rfl) (Nat.le_of_ble_eq_true rfl) dX3_init_44 (fun z5 H hM => ?_)
  refine g_putF S hM 5 rfl (ci := 2) rfl in_X3 tyX3_ok nmX3 16 rfl q252 rfl hini rfl rfl rfl rfl (ws' := ((z5, .inl (T 0, 40, .inl (fun _ => 0))) :: (z4, .inl (T 0, 40, .inl (fun _ => 0))) :: (z3, .inl (T 0, 16, .inl (fun _ => 0))) :: (z2, .inl (T 0, 6, .inl (fun _ => 0))) :: (z1, .inl (T 0, 6, .inl (fun _ => 0))) :: (r0, .inr (2, [.null, .null, .ref z1, .ref z2, .ref z3, .null, .int 1, .int 0, .int 0, .int 0, .int 0, .int 0, .int 0, .int 0, .int 0, .ref z4, .ref z5, .int 0, .int 0, .int 0, .int 0, .int 0, .int 0, .int 0, .int 0])) :: wr : va_W)) rfl dX3_init_46 (fun H locs hM => ?_)
  refine lv_aload_n S.x S.b dX3_init_49 rfl (lv_at hl 0 rfl) ?_
  refine lv_aload_n S.x S.b dX3_init_50 rfl (lv_at hl 1 rfl) ?_
  refine g_putF S hM 5 rfl (ci := 2) rfl in_X3 tyX3_ok nmX3 0 rfl q221 rfl hini rfl rfl rfl rfl (ws' := ((z5, .inl (T 0, 40, .inl (fun _ => 0))) :: (z4, .inl (T 0, 40, .inl (fun _ => 0))) :: (z3, .inl (T 0, 16, .inl (fun _ => 0))) :: (z2, .inl (T 0, 6, .inl (fun _ => 0))) :: (z1, .inl (T 0, 6, .inl (fun _ => 0))) :: (r0, .inr (2, [.ref (b 0), .null, .ref z1, .ref z2, .ref z3, .null, .int 1, .int 0, .int 0, .int 0, .int 0, .int 0, .int 0, .int 0, .int 0, .ref z4, .ref z5, .int 0, .int 0, .int 0, .int 0, .int 0, .int 0, .int 0, .int 0])) :: wr : va_W)) rfl dX3_init_51 (fun H locs hM => ?_)
  refine lv_aload_n S.x S.b dX3_init_54 rfl (lv_at hl 0 rfl) ?_
  refine lv_aload_n S.x S.b dX3_init_55 rfl (lv_at hl 3 rfl) ?_
  obtain ⟨i9, h9s⟩ : ∃ i : Nat, ((z5, .inl (T 0, 40, .inl (fun _ => 0))) :: (z4, .inl (T 0, 40, .inl (fun _ => 0))) :: (z3, .inl (T 0, 16, .inl (fun _ => 0))) :: (z2, .inl (T 0, 6, .inl (fun _ => 0))) :: (z1, .inl (T 0, 6, .inl (fun _ => 0))) :: (r0, .inr (2, [.ref (b 0), .null, .ref z1, .ref z2, .ref z3, .null, .int 1, .int 0, .int 0, .int 0, .int 0, .int 0, .int 0, .int 0, .int 0, .ref z4, .ref z5, .int 0, .int 0, .int 0, .int 0, .int 0, .int 0, .int 0, .int 0])) :: wr : va_W)[i]? = some (st, .inl (T 0, 6, .inl f)) := ex_cons (ex_cons (ex_cons (ex_cons (ex_cons (ex_cons hSt)))))
  refine g_clone S hM hl i9 h9s q113 q114 q115 q116 q117 q118 ⟨rfl, rfl⟩ (Nat.le_of_ble_eq_true rfl) (Nat.le_of_ble_eq_true rfl) dX3_init_56 (fun z6 H hM => ?_)
  refine g_castA S hM 0 rfl q119 dX3_init_59 ?_
  refine g_putF S hM 6 rfl (ci := 2) rfl in_X3 tyX3_ok nmX3 1 rfl q223 rfl hini rfl rfl rfl rfl (ws' := ((z6, .inl (T 0, 6, .inl f)) :: (z5, .inl (T 0, 40, .inl (fun _ => 0))) :: (z4, .inl (T 0, 40, .inl (fun _ => 0))) :: (z3, .inl (T 0, 16, .inl (fun _ => 0))) :: (z2, .inl (T 0, 6, .inl (fun _ => 0))) :: (z1, .inl (T 0, 6, .inl (fun _ => 0))) :: (r0, .inr (2, [.ref (b 0), .ref z6, .ref z1, .ref z2, .ref z3, .null, .int 1, .int 0, .int 0, .int 0, .int 0, .int 0, .int 0, .int 0, .int 0, .ref z4, .ref z5, .int 0, .int 0, .int 0, .int 0, .int 0, .int 0, .int 0, .int 0])) :: wr : va_W)) rfl dX3_init_62 (fun H locs hM => ?_)
  refine lv_aload_n S.x S.b dX3_init_65 rfl (lv_at hl 0 rfl) ?_
  refine lv_aload_n S.x S.b dX3_init_66 rfl (lv_at hl 1 rfl) ?_
  refine lv_ifnonnull (tgt := 74) S.x S.b dX3_init_67 rfl ?_
  refine lv_aload_n S.x S.b dX3_init_74 rfl (lv_at hl 2 rfl) ?_
  refine lv_aload_n S.x S.b dX3_init_75 rfl (lv_at hl 0 rfl) ?_
  have hQ9 : SqI T b sa ns q cv ((z6, .inl (T 0, 6, .inl f)) :: (z5, .inl (T 0, 40, .inl (fun _ => 0))) :: (z4, .inl (T 0, 40, .inl (fun _ => 0))) :: (z3, .inl (T 0, 16, .inl (fun _ => 0))) :: (z2, .inl (T 0, 6, .inl (fun _ => 0))) :: (z1, .inl (T 0, 6, .inl (fun _ => 0))) :: (r0, .inr (2, [.ref (b 0), .ref z6, .ref z1, .ref z2, .ref z3, .null, .int 1, .int 0, .int 0, .int 0, .int 0, .int 0, .int 0, .int 0, .int 0, .ref z4, .ref z5, .int 0, .int 0, .int 0, .int 0, .int 0, .int 0, .int 0, .int 0])) :: wr : va_W) := (((((((hQ.cons _).cons _).cons _).cons _).cons _).cons _).cons _)
  have hO := va_Orecv (hY.1 0 (by decide)).2 hM.2.2.1
  refine gc_r (C := enC 0) (owner := "SequenceBench$Method") S hM hl [.ref r0] hO (by decide) (metX12_circuit (a := (adR r0 z6 z1 z2 z3 z4 z5)) hns hQ9 ⟨6, rfl⟩ rfl h5 h7) q120 q122 q121 hdMc q123 q124 q125 ⟨rfl, rfl⟩ ⟨rfl, rfl⟩ rfl rfl rfl ⟨Nat.le_of_ble_eq_true rfl, Nat.le_of_ble_eq_true rfl⟩ dX3_init_76 (fun u H locs hM hX hsz hk => ?_)
  obtain ⟨z7, z8, la⟩ := u
  have hM : gM D _ s.heap ((z8, .inl (T 4, ns, .inr (.inr (.inr (.inr (fun k => some (la k))))))) :: (z7, .inr (3, [.ref r0, .ref z8])) :: (z6, .inl (T 0, 6, .inl f)) :: (z5, .inl (T 0, 40, .inl (fun _ => 0))) :: (z4, .inl (T 0, 40, .inl (fun _ => 0))) :: (z3, .inl (T 0, 16, .inl (fun _ => 0))) :: (z2, .inl (T 0, 6, .inl (fun _ => 0))) :: (z1, .inl (T 0, 6, .inl (fun _ => 0))) :: (r0, .inr (2, [.ref (b 0), .ref z6, .ref z1, .ref z2, .ref z3, .null, .int 1, .int 0, .int 0, .int 0, .int 0, .int 0, .int 0, .int 0, .int 0, .ref z4, .ref z5, .int 0, .int 0, .int 0, .int 0, .int 0, .int 0, .int 0, .int 0])) :: wr : va_W) H locs := hM
  obtain ⟨hLam, hLF⟩ := hX
  have hLF : LaF la ns ((z8, .inl (T 4, ns, .inr (.inr (.inr (.inr (fun k => some (la k))))))) :: (z7, .inr (3, [.ref r0, .ref z8])) :: (z6, .inl (T 0, 6, .inl f)) :: (z5, .inl (T 0, 40, .inl (fun _ => 0))) :: (z4, .inl (T 0, 40, .inl (fun _ => 0))) :: (z3, .inl (T 0, 16, .inl (fun _ => 0))) :: (z2, .inl (T 0, 6, .inl (fun _ => 0))) :: (z1, .inl (T 0, 6, .inl (fun _ => 0))) :: (r0, .inr (2, [.ref (b 0), .ref z6, .ref z1, .ref z2, .ref z3, .null, .int 1, .int 0, .int 0, .int 0, .int 0, .int 0, .int 0, .int 0, .int 0, .ref z4, .ref z5, .int 0, .int 0, .int 0, .int 0, .int 0, .int 0, .int 0, .int 0])) :: wr : va_W) := hLF
  refine g_reb hM hLam hLF (fun q h => (vaA_mem.mp h).imp (fun h => List.mem_cons_of_mem _ (List.mem_cons_of_mem _ (List.mem_cons_of_mem _ (List.mem_cons_of_mem _ (List.mem_cons_of_mem _ (List.mem_cons_of_mem _ (List.mem_cons_of_mem _ (List.mem_cons_of_mem _ (h))))))))) id) (fun locs A' hA1 hA2 hM9 => ?_)
  have hSb := hM.2.2.1
  have hAb := hM.2.2.2
  have hM := hM9
  refine g_putF S hM 8 rfl (ci := 2) rfl in_X3 tyX3_ok nmX3 5 rfl q230 rfl hini rfl rfl rfl rfl (ws' := ((z8, .inl (T 4, ns, .inr (.inr (.inr (.inr (fun k => some (la k))))))) :: (z7, .inr (3, [.ref r0, .ref z8])) :: (z6, .inl (T 0, 6, .inl f)) :: (z5, .inl (T 0, 40, .inl (fun _ => 0))) :: (z4, .inl (T 0, 40, .inl (fun _ => 0))) :: (z3, .inl (T 0, 16, .inl (fun _ => 0))) :: (z2, .inl (T 0, 6, .inl (fun _ => 0))) :: (z1, .inl (T 0, 6, .inl (fun _ => 0))) :: (r0, .inr (2, [.ref (b 0), .ref z6, .ref z1, .ref z2, .ref z3, .ref z7, .int 1, .int 0, .int 0, .int 0, .int 0, .int 0, .int 0, .int 0, .int 0, .ref z4, .ref z5, .int 0, .int 0, .int 0, .int 0, .int 0, .int 0, .int 0, .int 0])) :: wr : va_W)) rfl dX3_init_79 (fun H locs hM => ?_)
  have hM : gM D _ _ (rgW (adC (adR r0 z6 z1 z2 z3 z4 z5) z7 z8) (T 0) (some (b 0)) (some z7) (rig0 f 0) ((z7, crE 0 (adC (adR r0 z6 z1 z2 z3 z4 z5) z7 z8) 0) :: cdL 0 (adC (adR r0 z6 z1 z2 z3 z4 z5) z7 z8) la T ns wr)) H locs := hM.perm (permR9 _ _ _ _ _ _ _ _ _ _)
  have hQ8 : SqI T b sa ns q cv ((z7, crE 0 (adC (adR r0 z6 z1 z2 z3 z4 z5) z7 z8) 0) :: cdL 0 (adC (adR r0 z6 z1 z2 z3 z4 z5) z7 z8) la T ns wr) := (hQ.cons _).cons _
  obtain ⟨r, hr, hf⟩ := bd_some hf
  refine lv_aload_n S.x S.b dX3_init_82 rfl (lv_at hl 1 rfl) ?_
  refine lv_ifnull S.x S.b dX3_init_83 ?_
  refine lv_aload_n S.x S.b dX3_init_86 rfl (lv_at hl 0 rfl) ?_
  refine lv_aload_n S.x S.b dX3_init_87 rfl (lv_at hl 1 rfl) ?_
  refine gw_ci S hM hl [] 9 rfl hQ8.rg.sq (metX11_firstWithMoves hQ8.rg hr) hdX11_firstWithMoves q207 q208 q209 q94 q210 ⟨rfl, rfl⟩ ⟨rfl, rfl⟩ rfl rfl rfl ⟨Nat.le_of_ble_eq_true rfl, Nat.le_of_ble_eq_true rfl⟩ dX3_init_88 (fun H locs hM => ?_)
  refine gw_cv (b := r0) S hM hl [.int r] 2 rfl ⟨0, _, rfl⟩ (metX3_expect (a := (adC (adR r0 z6 z1 z2 z3 z4 z5) z7 z8)) hQ8 hf) hdX3_expect q215 q217 qs2 q65 q218 ⟨rfl, rfl⟩ ⟨rfl, rfl⟩ rfl rfl rfl ⟨Nat.le_of_ble_eq_true rfl, Nat.le_of_ble_eq_true rfl⟩ dX3_init_91 (fun H locs hM => ?_)
  refine W.widen (k := 24) (n := 213) (by decide) (by decide) ?_
  have e30 : w.1 30 = 0 := gX3_expect_30 hf
  have hLam9 := LamI.kept hLam hA2 hM.2.2.1
  have hM8 := hM.2.1.2
  have hM := hM.unbase hSb hA1 hAb
  have hM : gM D (va_A ((r0, .inr (2, rgD)) :: wr) s.heap.size) s.heap (rgW (adC (adR r0 z6 z1 z2 z3 z4 z5) z7 z8) (T 0) (some (b 0)) (some z7) w ((z7, crE 0 (adC (adR r0 z6 z1 z2 z3 z4 z5) z7 z8) (w.1 30)) :: cdL 0 (adC (adR r0 z6 z1 z2 z3 z4 z5) z7 z8) la T ns wr)) H locs := by rw [e30]; exact hM
  have hLF9 : LaF la ns (rgW (adC (adR r0 z6 z1 z2 z3 z4 z5) z7 z8) (T 0) (some (b 0)) (some z7) w ((z7, crE 0 (adC (adR r0 z6 z1 z2 z3 z4 z5) z7 z8) (w.1 30)) :: cdL 0 (adC (adR r0 z6 z1 z2 z3 z4 z5) z7 z8) la T ns wr)) := by
    intro k hk i e h1
    rw [e30] at h1
    exact hA2 k hk (hM8 i _ h1)
  exact ga_vret (U := ((Nat → Nat) × (Nat → Nat))) (ws' := (fun u => rcW 0 u.1 (T 0) (some (b 0)) w (cdL 0 u.1 u.2 T ns wr))) (X := (fun u H => u.1 0 = r0 ∧ LamI 0 D u.1 u.2 ns q H ∧ LaF u.2 ns (rcW 0 u.1 (T 0) (some (b 0)) w (cdL 0 u.1 u.2 T ns wr)))) S ((adC (adR r0 z6 z1 z2 z3 z4 z5) z7 z8), la) hM ⟨rfl, fun k hk => (hLam9 k hk).trans (congrArg some (lamC_ad rfl rfl)), hLF9⟩ dX3_init_94
abbrev rmX3_init_1 : Room := { frames := 7, cells := 24, slots := 213, locals := 3300 }
set_option maxHeartbeats 8000000 in
theorem metX3_init_1 {l : Launch} {D : va_G} {T : Nat → ClassId} {r0 st N : Nat} {b sa em : Nat → Nat} {q w : MW} {f : Nat → Int32} {wr : va_W} {ns nc : Nat} {fo : Nat → Int32} (hns : ns ≤ 16) (hQ : SqI T b sa ns q (.ref (b 3)) wr) (hC : CuI T b nc q wr) (h5 : ∀ k, k < ns → gX11_before ns q (nI k) = some (q.2 5 k)) (h6 : ∀ k, k < ns → gX11_groupOf N ns q nc (nI k) = some (q.2 6 k)) (hfo : ∀ k, k < ns → gX11_firstOf ns q nc (q.2 6 k) = some (fo k)) (h7 : ∀ k, k < ns → q.2 7 k = if fo k = nI k then 1 else 0) (h8 : ∀ k, k < ns → q.2 8 k = if k = 0 then 1 else 0) (hSt : ∃ i : Nat, wr[i]? = some (st, .inl (T 0, 6, .inl f))) (hf : gX3_init N ns q f (Int32.ofNat nc - 1) = some w) (sz : Nat) : MetAY ((Nat → Nat) × (Nat → Nat)) l yX3_init (ws_ yX3_init cX3_init 4 none) rmX3_init_1 D T (EnY em) ((r0, .inr (2, rgD)) :: wr) sz [.ref r0, .ref (b 0), .ref (em 1), .ref st] (fun u => rcW 1 u.1 (T 0) (some (b 0)) w (cdL 1 u.1 u.2 T ns wr)) (fun u H => u.1 0 = r0 ∧ LamI 1 D u.1 u.2 ns q H ∧ LaF u.2 ns (rcW 1 u.1 (T 0) (some (b 0)) w (cdL 1 u.1 u.2 T ns wr))) 24 213 := by
  refine g_entryY (y := yX3_init) (Y := EnY em) (Qc := fun A => va_Qv (fun (_ : ((Nat → Nat) × (Nat → Nat))) => True) (fun u t => gPost D T A (rcW 1 u.1 (T 0) (some (b 0)) w (cdL 1 u.1 u.2 T ns wr)) t ∧ (u.1 0 = r0 ∧ LamI 1 D u.1 u.2 ns q t.heap ∧ LaF u.2 ns (rcW 1 u.1 (T 0) (some (b 0)) w (cdL 1 u.1 u.2 T ns wr)))) A) (by decide) rfl ?_
  intro p e s m below meth c ls S hini hM hY hl
  have hl : lv_has ls 4 [(0, .ref r0), (1, .ref (b 0)), (2, .ref (em 1)), (3, .ref st)] := hl
  have hM : gM D _ s.heap ((r0, .inr (2, [.null, .null, .null, .null, .null, .null, .int 0, .int 0, .int 0, .int 0, .int 0, .int 0, .int 0, .int 0, .int 0, .null, .null, .int 0, .int 0, .int 0, .int 0, .int 0, .int 0, .int 0, .int 0])) :: wr : va_W) s.heap [] := hM
  refine lv_aload_n S.x S.b dX3_init_0 rfl (lv_at hl 0 rfl) ?_
  refine g_objInit S hl q112 q103 q104 ⟨rfl, rfl⟩ dX3_init_1 ?_
  refine lv_aload_n S.x S.b dX3_init_4 rfl (lv_at hl 0 rfl) ?_
  refine lv_bipush (v := (6 : Int32)) S.x S.b dX3_init_5 (by decide) ?_
  refine g_newa S hM (N := 6) (by decide) (by decide) (Nat.le_of_ble_eq_true rfl) (Nat.le_of_ble_eq_true rfl) (Nat.le_of_ble_eq_true rfl) dX3_init_7 (fun z1 H hM => ?_)
  refine g_putF S hM 1 rfl (ci := 2) rfl in_X3 tyX3_ok nmX3 2 rfl q224 rfl hini rfl rfl rfl rfl (ws' := ((z1, .inl (T 0, 6, .inl (fun _ => 0))) :: (r0, .inr (2, [.null, .null, .ref z1, .null, .null, .null, .int 0, .int 0, .int 0, .int 0, .int 0, .int 0, .int 0, .int 0, .int 0, .null, .null, .int 0, .int 0, .int 0, .int 0, .int 0, .int 0, .int 0, .int 0])) :: wr : va_W)) rfl dX3_init_9 (fun H locs hM => ?_)
  refine lv_aload_n S.x S.b dX3_init_12 rfl (lv_at hl 0 rfl) ?_
  refine lv_bipush (v := (6 : Int32)) S.x S.b dX3_init_13 (by decide) ?_
  refine g_newa S hM (N := 6) (by decide) (by decide) (Nat.le_of_ble_eq_true rfl) (Nat.le_of_ble_eq_true rfl) (Nat.le_of_ble_eq_true rfl) dX3_init_15 (fun z2 H hM => ?_)
  refine g_putF S hM 2 rfl (ci := 2) rfl in_X3 tyX3_ok nmX3 3 rfl q226 rfl hini rfl rfl rfl rfl (ws' := ((z2, .inl (T 0, 6, .inl (fun _ => 0))) :: (z1, .inl (T 0, 6, .inl (fun _ => 0))) :: (r0, .inr (2, [.null, .null, .ref z1, .ref z2, .null, .null, .int 0, .int 0, .int 0, .int 0, .int 0, .int 0, .int 0, .int 0, .int 0, .null, .null, .int 0, .int 0, .int 0, .int 0, .int 0, .int 0, .int 0, .int 0])) :: wr : va_W)) rfl dX3_init_17 (fun H locs hM => ?_)
  refine lv_aload_n S.x S.b dX3_init_20 rfl (lv_at hl 0 rfl) ?_
  refine lv_bipush (v := (16 : Int32)) S.x S.b dX3_init_21 (by decide) ?_
  refine g_newa S hM (N := 16) (by decide) (by decide) (Nat.le_of_ble_eq_true rfl) (Nat.le_of_ble_eq_true rfl) (Nat.le_of_ble_eq_true rfl) dX3_init_23 (fun z3 H hM => ?_)
  refine g_putF S hM 3 rfl (ci := 2) rfl in_X3 tyX3_ok nmX3 4 rfl q228 rfl hini rfl rfl rfl rfl (ws' := ((z3, .inl (T 0, 16, .inl (fun _ => 0))) :: (z2, .inl (T 0, 6, .inl (fun _ => 0))) :: (z1, .inl (T 0, 6, .inl (fun _ => 0))) :: (r0, .inr (2, [.null, .null, .ref z1, .ref z2, .ref z3, .null, .int 0, .int 0, .int 0, .int 0, .int 0, .int 0, .int 0, .int 0, .int 0, .null, .null, .int 0, .int 0, .int 0, .int 0, .int 0, .int 0, .int 0, .int 0])) :: wr : va_W)) rfl dX3_init_25 (fun H locs hM => ?_)
  refine lv_aload_n S.x S.b dX3_init_28 rfl (lv_at hl 0 rfl) ?_
  refine lv_iconst (v := (1 : Int32)) S.x S.b dX3_init_29 rfl ?_
  refine g_putL S hM 3 rfl (ci := 2) rfl in_X3 tyX3_ok nmX3 6 rfl (Or.inl q232) rfl rfl rfl rfl (ws' := ((z3, .inl (T 0, 16, .inl (fun _ => 0))) :: (z2, .inl (T 0, 6, .inl (fun _ => 0))) :: (z1, .inl (T 0, 6, .inl (fun _ => 0))) :: (r0, .inr (2, [.null, .null, .ref z1, .ref z2, .ref z3, .null, .int 1, .int 0, .int 0, .int 0, .int 0, .int 0, .int 0, .int 0, .int 0, .null, .null, .int 0, .int 0, .int 0, .int 0, .int 0, .int 0, .int 0, .int 0])) :: wr : va_W)) rfl dX3_init_30 (fun H locs hM => ?_)
  refine lv_aload_n S.x S.b dX3_init_33 rfl (lv_at hl 0 rfl) ?_
  refine lv_bipush (v := (40 : Int32)) S.x S.b dX3_init_34 (by decide) ?_
  refine g_newa S hM (N := 40) (by decide) (by decide) (Nat.le_of_ble_eq_true rfl) (Nat.le_of_ble_eq_true rfl) (Nat.le_of_ble_eq_true rfl) dX3_init_36 (fun z4 H hM => ?_)
  refine g_putF S hM 4 rfl (ci := 2) rfl in_X3 tyX3_ok nmX3 15 rfl q250 rfl hini rfl rfl rfl rfl (ws' := ((z4, .inl (T 0, 40, .inl (fun _ => 0))) :: (z3, .inl (T 0, 16, .inl (fun _ => 0))) :: (z2, .inl (T 0, 6, .inl (fun _ => 0))) :: (z1, .inl (T 0, 6, .inl (fun _ => 0))) :: (r0, .inr (2, [.null, .null, .ref z1, .ref z2, .ref z3, .null, .int 1, .int 0, .int 0, .int 0, .int 0, .int 0, .int 0, .int 0, .int 0, .ref z4, .null, .int 0, .int 0, .int 0, .int 0, .int 0, .int 0, .int 0, .int 0])) :: wr : va_W)) rfl dX3_init_38 (fun H locs hM => ?_)
  refine lv_aload_n S.x S.b dX3_init_41 rfl (lv_at hl 0 rfl) ?_
  refine lv_bipush (v := (40 : Int32)) S.x S.b dX3_init_42 (by decide) ?_
  refine g_newa S hM (N := 40) (by decide) (by decide) (Nat.le_of_ble_eq_true rfl) (Nat.le_of_ble_eq_true rfl) (Nat.le_of_ble_eq_true rfl) dX3_init_44 (fun z5 H hM => ?_)
  refine g_putF S hM 5 rfl (ci := 2) rfl in_X3 tyX3_ok nmX3 16 rfl q252 rfl hini rfl rfl rfl rfl (ws' := ((z5, .inl (T 0, 40, .inl (fun _ => 0))) :: (z4, .inl (T 0, 40, .inl (fun _ => 0))) :: (z3, .inl (T 0, 16, .inl (fun _ => 0))) :: (z2, .inl (T 0, 6, .inl (fun _ => 0))) :: (z1, .inl (T 0, 6, .inl (fun _ => 0))) :: (r0, .inr (2, [.null, .null, .ref z1, .ref z2, .ref z3, .null, .int 1, .int 0, .int 0, .int 0, .int 0, .int 0, .int 0, .int 0, .int 0, .ref z4, .ref z5, .int 0, .int 0, .int 0, .int 0, .int 0, .int 0, .int 0, .int 0])) :: wr : va_W)) rfl dX3_init_46 (fun H locs hM => ?_)
  refine lv_aload_n S.x S.b dX3_init_49 rfl (lv_at hl 0 rfl) ?_
  refine lv_aload_n S.x S.b dX3_init_50 rfl (lv_at hl 1 rfl) ?_
  refine g_putF S hM 5 rfl (ci := 2) rfl in_X3 tyX3_ok nmX3 0 rfl q221 rfl hini rfl rfl rfl rfl (ws' := ((z5, .inl (T 0, 40, .inl (fun _ => 0))) :: (z4, .inl (T 0, 40, .inl (fun _ => 0))) :: (z3, .inl (T 0, 16, .inl (fun _ => 0))) :: (z2, .inl (T 0, 6, .inl (fun _ => 0))) :: (z1, .inl (T 0, 6, .inl (fun _ => 0))) :: (r0, .inr (2, [.ref (b 0), .null, .ref z1, .ref z2, .ref z3, .null, .int 1, .int 0, .int 0, .int 0, .int 0, .int 0, .int 0, .int 0, .int 0, .ref z4, .ref z5, .int 0, .int 0, .int 0, .int 0, .int 0, .int 0, .int 0, .int 0])) :: wr : va_W)) rfl dX3_init_51 (fun H locs hM => ?_)
  refine lv_aload_n S.x S.b dX3_init_54 rfl (lv_at hl 0 rfl) ?_
  refine lv_aload_n S.x S.b dX3_init_55 rfl (lv_at hl 3 rfl) ?_
  obtain ⟨i9, h9s⟩ : ∃ i : Nat, ((z5, .inl (T 0, 40, .inl (fun _ => 0))) :: (z4, .inl (T 0, 40, .inl (fun _ => 0))) :: (z3, .inl (T 0, 16, .inl (fun _ => 0))) :: (z2, .inl (T 0, 6, .inl (fun _ => 0))) :: (z1, .inl (T 0, 6, .inl (fun _ => 0))) :: (r0, .inr (2, [.ref (b 0), .null, .ref z1, .ref z2, .ref z3, .null, .int 1, .int 0, .int 0, .int 0, .int 0, .int 0, .int 0, .int 0, .int 0, .ref z4, .ref z5, .int 0, .int 0, .int 0, .int 0, .int 0, .int 0, .int 0, .int 0])) :: wr : va_W)[i]? = some (st, .inl (T 0, 6, .inl f)) := ex_cons (ex_cons (ex_cons (ex_cons (ex_cons (ex_cons hSt)))))
  refine g_clone S hM hl i9 h9s q113 q114 q115 q116 q117 q118 ⟨rfl, rfl⟩ (Nat.le_of_ble_eq_true rfl) (Nat.le_of_ble_eq_true rfl) dX3_init_56 (fun z6 H hM => ?_)
  refine g_castA S hM 0 rfl q119 dX3_init_59 ?_
  refine g_putF S hM 6 rfl (ci := 2) rfl in_X3 tyX3_ok nmX3 1 rfl q223 rfl hini rfl rfl rfl rfl (ws' := ((z6, .inl (T 0, 6, .inl f)) :: (z5, .inl (T 0, 40, .inl (fun _ => 0))) :: (z4, .inl (T 0, 40, .inl (fun _ => 0))) :: (z3, .inl (T 0, 16, .inl (fun _ => 0))) :: (z2, .inl (T 0, 6, .inl (fun _ => 0))) :: (z1, .inl (T 0, 6, .inl (fun _ => 0))) :: (r0, .inr (2, [.ref (b 0), .ref z6, .ref z1, .ref z2, .ref z3, .null, .int 1, .int 0, .int 0, .int 0, .int 0, .int 0, .int 0, .int 0, .int 0, .ref z4, .ref z5, .int 0, .int 0, .int 0, .int 0, .int 0, .int 0, .int 0, .int 0])) :: wr : va_W)) rfl dX3_init_62 (fun H locs hM => ?_)
  refine lv_aload_n S.x S.b dX3_init_65 rfl (lv_at hl 0 rfl) ?_
  refine lv_aload_n S.x S.b dX3_init_66 rfl (lv_at hl 1 rfl) ?_
  refine lv_ifnonnull (tgt := 74) S.x S.b dX3_init_67 rfl ?_
  refine lv_aload_n S.x S.b dX3_init_74 rfl (lv_at hl 2 rfl) ?_
  refine lv_aload_n S.x S.b dX3_init_75 rfl (lv_at hl 0 rfl) ?_
  have hQ9 : SqI T b sa ns q (.ref (b 3)) ((z6, .inl (T 0, 6, .inl f)) :: (z5, .inl (T 0, 40, .inl (fun _ => 0))) :: (z4, .inl (T 0, 40, .inl (fun _ => 0))) :: (z3, .inl (T 0, 16, .inl (fun _ => 0))) :: (z2, .inl (T 0, 6, .inl (fun _ => 0))) :: (z1, .inl (T 0, 6, .inl (fun _ => 0))) :: (r0, .inr (2, [.ref (b 0), .ref z6, .ref z1, .ref z2, .ref z3, .null, .int 1, .int 0, .int 0, .int 0, .int 0, .int 0, .int 0, .int 0, .int 0, .ref z4, .ref z5, .int 0, .int 0, .int 0, .int 0, .int 0, .int 0, .int 0, .int 0])) :: wr : va_W) := (((((((hQ.cons _).cons _).cons _).cons _).cons _).cons _).cons _)
  have hC9 : CuI T b nc q ((z6, .inl (T 0, 6, .inl f)) :: (z5, .inl (T 0, 40, .inl (fun _ => 0))) :: (z4, .inl (T 0, 40, .inl (fun _ => 0))) :: (z3, .inl (T 0, 16, .inl (fun _ => 0))) :: (z2, .inl (T 0, 6, .inl (fun _ => 0))) :: (z1, .inl (T 0, 6, .inl (fun _ => 0))) :: (r0, .inr (2, [.ref (b 0), .ref z6, .ref z1, .ref z2, .ref z3, .null, .int 1, .int 0, .int 0, .int 0, .int 0, .int 0, .int 0, .int 0, .int 0, .ref z4, .ref z5, .int 0, .int 0, .int 0, .int 0, .int 0, .int 0, .int 0, .int 0])) :: wr : va_W) := (((((((hC.cons _).cons _).cons _).cons _).cons _).cons _).cons _)
  have hO := va_Orecv (hY.1 1 (by decide)).2 hM.2.2.1
  refine gc_r (C := enC 1) (owner := "SequenceBench$Method") S hM hl [.ref r0] hO (by decide) (metX13_circuit (a := (adR r0 z6 z1 z2 z3 z4 z5)) hns hQ9 hC9 ⟨6, rfl⟩ rfl h5 h6 hfo h7 h8) q120 q122 q121 hdMc q155 q156 q157 ⟨rfl, rfl⟩ ⟨rfl, rfl⟩ rfl rfl rfl ⟨Nat.le_of_ble_eq_true rfl, Nat.le_of_ble_eq_true rfl⟩ dX3_init_76 (fun u H locs hM hX hsz hk => ?_)
  obtain ⟨z7, z8, la⟩ := u
  have hM : gM D _ s.heap ((z8, .inl (T 4, ns, .inr (.inr (.inr (.inr (fun k => some (la k))))))) :: (z7, .inr (4, [.ref r0, .ref z8, .int (Int32.ofNat nc - 1)])) :: (z6, .inl (T 0, 6, .inl f)) :: (z5, .inl (T 0, 40, .inl (fun _ => 0))) :: (z4, .inl (T 0, 40, .inl (fun _ => 0))) :: (z3, .inl (T 0, 16, .inl (fun _ => 0))) :: (z2, .inl (T 0, 6, .inl (fun _ => 0))) :: (z1, .inl (T 0, 6, .inl (fun _ => 0))) :: (r0, .inr (2, [.ref (b 0), .ref z6, .ref z1, .ref z2, .ref z3, .null, .int 1, .int 0, .int 0, .int 0, .int 0, .int 0, .int 0, .int 0, .int 0, .ref z4, .ref z5, .int 0, .int 0, .int 0, .int 0, .int 0, .int 0, .int 0, .int 0])) :: wr : va_W) H locs := hM
  obtain ⟨hLam, hLF⟩ := hX
  have hLF : LaF la ns ((z8, .inl (T 4, ns, .inr (.inr (.inr (.inr (fun k => some (la k))))))) :: (z7, .inr (4, [.ref r0, .ref z8, .int (Int32.ofNat nc - 1)])) :: (z6, .inl (T 0, 6, .inl f)) :: (z5, .inl (T 0, 40, .inl (fun _ => 0))) :: (z4, .inl (T 0, 40, .inl (fun _ => 0))) :: (z3, .inl (T 0, 16, .inl (fun _ => 0))) :: (z2, .inl (T 0, 6, .inl (fun _ => 0))) :: (z1, .inl (T 0, 6, .inl (fun _ => 0))) :: (r0, .inr (2, [.ref (b 0), .ref z6, .ref z1, .ref z2, .ref z3, .null, .int 1, .int 0, .int 0, .int 0, .int 0, .int 0, .int 0, .int 0, .int 0, .ref z4, .ref z5, .int 0, .int 0, .int 0, .int 0, .int 0, .int 0, .int 0, .int 0])) :: wr : va_W) := hLF
  refine g_reb hM hLam hLF (fun q h => (vaA_mem.mp h).imp (fun h => List.mem_cons_of_mem _ (List.mem_cons_of_mem _ (List.mem_cons_of_mem _ (List.mem_cons_of_mem _ (List.mem_cons_of_mem _ (List.mem_cons_of_mem _ (List.mem_cons_of_mem _ (List.mem_cons_of_mem _ (h))))))))) id) (fun locs A' hA1 hA2 hM9 => ?_)
  have hSb := hM.2.2.1
  have hAb := hM.2.2.2
  have hM := hM9
  refine g_putF S hM 8 rfl (ci := 2) rfl in_X3 tyX3_ok nmX3 5 rfl q230 rfl hini rfl rfl rfl rfl (ws' := ((z8, .inl (T 4, ns, .inr (.inr (.inr (.inr (fun k => some (la k))))))) :: (z7, .inr (4, [.ref r0, .ref z8, .int (Int32.ofNat nc - 1)])) :: (z6, .inl (T 0, 6, .inl f)) :: (z5, .inl (T 0, 40, .inl (fun _ => 0))) :: (z4, .inl (T 0, 40, .inl (fun _ => 0))) :: (z3, .inl (T 0, 16, .inl (fun _ => 0))) :: (z2, .inl (T 0, 6, .inl (fun _ => 0))) :: (z1, .inl (T 0, 6, .inl (fun _ => 0))) :: (r0, .inr (2, [.ref (b 0), .ref z6, .ref z1, .ref z2, .ref z3, .ref z7, .int 1, .int 0, .int 0, .int 0, .int 0, .int 0, .int 0, .int 0, .int 0, .ref z4, .ref z5, .int 0, .int 0, .int 0, .int 0, .int 0, .int 0, .int 0, .int 0])) :: wr : va_W)) rfl dX3_init_79 (fun H locs hM => ?_)
  have hM : gM D _ _ (rgW (adC (adR r0 z6 z1 z2 z3 z4 z5) z7 z8) (T 0) (some (b 0)) (some z7) (rig0 f (Int32.ofNat nc - 1)) ((z7, crE 1 (adC (adR r0 z6 z1 z2 z3 z4 z5) z7 z8) (Int32.ofNat nc - 1)) :: cdL 1 (adC (adR r0 z6 z1 z2 z3 z4 z5) z7 z8) la T ns wr)) H locs := hM.perm (permR9 _ _ _ _ _ _ _ _ _ _)
  have hQ8 : SqI T b sa ns q (.ref (b 3)) ((z7, crE 1 (adC (adR r0 z6 z1 z2 z3 z4 z5) z7 z8) (Int32.ofNat nc - 1)) :: cdL 1 (adC (adR r0 z6 z1 z2 z3 z4 z5) z7 z8) la T ns wr) := (hQ.cons _).cons _
  obtain ⟨r, hr, hf⟩ := bd_some hf
  refine lv_aload_n S.x S.b dX3_init_82 rfl (lv_at hl 1 rfl) ?_
  refine lv_ifnull S.x S.b dX3_init_83 ?_
  refine lv_aload_n S.x S.b dX3_init_86 rfl (lv_at hl 0 rfl) ?_
  refine lv_aload_n S.x S.b dX3_init_87 rfl (lv_at hl 1 rfl) ?_
  refine gw_ci S hM hl [] 9 rfl hQ8.rg.sq (metX11_firstWithMoves hQ8.rg hr) hdX11_firstWithMoves q207 q208 q209 q94 q210 ⟨rfl, rfl⟩ ⟨rfl, rfl⟩ rfl rfl rfl ⟨Nat.le_of_ble_eq_true rfl, Nat.le_of_ble_eq_true rfl⟩ dX3_init_88 (fun H locs hM => ?_)
  refine gw_cv (b := r0) S hM hl [.int r] 2 rfl ⟨0, _, rfl⟩ (metX3_expect (a := (adC (adR r0 z6 z1 z2 z3 z4 z5) z7 z8)) hQ8 hf) hdX3_expect q215 q217 qs2 q65 q218 ⟨rfl, rfl⟩ ⟨rfl, rfl⟩ rfl rfl rfl ⟨Nat.le_of_ble_eq_true rfl, Nat.le_of_ble_eq_true rfl⟩ dX3_init_91 (fun H locs hM => ?_)
  refine W.widen (k := 24) (n := 213) (by decide) (by decide) ?_
  have e30 : w.1 30 = (Int32.ofNat nc - 1) := gX3_expect_30 hf
  have hLam9 := LamI.kept hLam hA2 hM.2.2.1
  have hM8 := hM.2.1.2
  have hM := hM.unbase hSb hA1 hAb
  have hM : gM D (va_A ((r0, .inr (2, rgD)) :: wr) s.heap.size) s.heap (rgW (adC (adR r0 z6 z1 z2 z3 z4 z5) z7 z8) (T 0) (some (b 0)) (some z7) w ((z7, crE 1 (adC (adR r0 z6 z1 z2 z3 z4 z5) z7 z8) (w.1 30)) :: cdL 1 (adC (adR r0 z6 z1 z2 z3 z4 z5) z7 z8) la T ns wr)) H locs := by rw [e30]; exact hM
  have hLF9 : LaF la ns (rgW (adC (adR r0 z6 z1 z2 z3 z4 z5) z7 z8) (T 0) (some (b 0)) (some z7) w ((z7, crE 1 (adC (adR r0 z6 z1 z2 z3 z4 z5) z7 z8) (w.1 30)) :: cdL 1 (adC (adR r0 z6 z1 z2 z3 z4 z5) z7 z8) la T ns wr)) := by
    intro k hk i e h1
    rw [e30] at h1
    exact hA2 k hk (hM8 i _ h1)
  exact ga_vret (U := ((Nat → Nat) × (Nat → Nat))) (ws' := (fun u => rcW 1 u.1 (T 0) (some (b 0)) w (cdL 1 u.1 u.2 T ns wr))) (X := (fun u H => u.1 0 = r0 ∧ LamI 1 D u.1 u.2 ns q H ∧ LaF u.2 ns (rcW 1 u.1 (T 0) (some (b 0)) w (cdL 1 u.1 u.2 T ns wr)))) S ((adC (adR r0 z6 z1 z2 z3 z4 z5) z7 z8), la) hM ⟨rfl, fun k hk => (hLam9 k hk).trans (congrArg some (lamC_ad rfl rfl)), hLF9⟩ dX3_init_94
abbrev rmX3_init_2 : Room := { frames := 7, cells := 24, slots := 213, locals := 3300 }
set_option maxHeartbeats 8000000 in
theorem metX3_init_2 {l : Launch} {D : va_G} {T : Nat → ClassId} {r0 st N : Nat} {b sa em : Nat → Nat} {q w : MW} {f : Nat → Int32} {wr : va_W} {cv : Value} {ns : Nat} (hQ : SqI T b sa ns q cv wr) (hSt : ∃ i : Nat, wr[i]? = some (st, .inl (T 0, 6, .inl f))) (hf : gX3_init N ns q f (-1) = some w) (sz : Nat) : MetAY ((Nat → Nat) × (Nat → Nat)) l yX3_init (ws_ yX3_init cX3_init 4 none) rmX3_init_2 D T (EnY em) ((r0, .inr (2, rgD)) :: wr) sz [.ref r0, .ref (b 0), .ref (em 2), .ref st] (fun u => rcW 2 u.1 (T 0) (some (b 0)) w (cdL 2 u.1 u.2 T ns wr)) (fun u H => u.1 0 = r0 ∧ LamI 2 D u.1 u.2 0 q H ∧ LaF u.2 0 (rcW 2 u.1 (T 0) (some (b 0)) w (cdL 2 u.1 u.2 T ns wr))) 24 213 := by
  refine g_entryY (y := yX3_init) (Y := EnY em) (Qc := fun A => va_Qv (fun (_ : ((Nat → Nat) × (Nat → Nat))) => True) (fun u t => gPost D T A (rcW 2 u.1 (T 0) (some (b 0)) w (cdL 2 u.1 u.2 T ns wr)) t ∧ (u.1 0 = r0 ∧ LamI 2 D u.1 u.2 0 q t.heap ∧ LaF u.2 0 (rcW 2 u.1 (T 0) (some (b 0)) w (cdL 2 u.1 u.2 T ns wr)))) A) (by decide) rfl ?_
  intro p e s m below meth c ls S hini hM hY hl
  have hl : lv_has ls 4 [(0, .ref r0), (1, .ref (b 0)), (2, .ref (em 2)), (3, .ref st)] := hl
  have hM : gM D _ s.heap ((r0, .inr (2, [.null, .null, .null, .null, .null, .null, .int 0, .int 0, .int 0, .int 0, .int 0, .int 0, .int 0, .int 0, .int 0, .null, .null, .int 0, .int 0, .int 0, .int 0, .int 0, .int 0, .int 0, .int 0])) :: wr : va_W) s.heap [] := hM
  refine lv_aload_n S.x S.b dX3_init_0 rfl (lv_at hl 0 rfl) ?_
  refine g_objInit S hl q112 q103 q104 ⟨rfl, rfl⟩ dX3_init_1 ?_
  refine lv_aload_n S.x S.b dX3_init_4 rfl (lv_at hl 0 rfl) ?_
  refine lv_bipush (v := (6 : Int32)) S.x S.b dX3_init_5 (by decide) ?_
  refine g_newa S hM (N := 6) (by decide) (by decide) (Nat.le_of_ble_eq_true rfl) (Nat.le_of_ble_eq_true rfl) (Nat.le_of_ble_eq_true rfl) dX3_init_7 (fun z1 H hM => ?_)
  refine g_putF S hM 1 rfl (ci := 2) rfl in_X3 tyX3_ok nmX3 2 rfl q224 rfl hini rfl rfl rfl rfl (ws' := ((z1, .inl (T 0, 6, .inl (fun _ => 0))) :: (r0, .inr (2, [.null, .null, .ref z1, .null, .null, .null, .int 0, .int 0, .int 0, .int 0, .int 0, .int 0, .int 0, .int 0, .int 0, .null, .null, .int 0, .int 0, .int 0, .int 0, .int 0, .int 0, .int 0, .int 0])) :: wr : va_W)) rfl dX3_init_9 (fun H locs hM => ?_)
  refine lv_aload_n S.x S.b dX3_init_12 rfl (lv_at hl 0 rfl) ?_
  refine lv_bipush (v := (6 : Int32)) S.x S.b dX3_init_13 (by decide) ?_
  refine g_newa S hM (N := 6) (by decide) (by decide) (Nat.le_of_ble_eq_true rfl) (Nat.le_of_ble_eq_true rfl) (Nat.le_of_ble_eq_true rfl) dX3_init_15 (fun z2 H hM => ?_)
  refine g_putF S hM 2 rfl (ci := 2) rfl in_X3 tyX3_ok nmX3 3 rfl q226 rfl hini rfl rfl rfl rfl (ws' := ((z2, .inl (T 0, 6, .inl (fun _ => 0))) :: (z1, .inl (T 0, 6, .inl (fun _ => 0))) :: (r0, .inr (2, [.null, .null, .ref z1, .ref z2, .null, .null, .int 0, .int 0, .int 0, .int 0, .int 0, .int 0, .int 0, .int 0, .int 0, .null, .null, .int 0, .int 0, .int 0, .int 0, .int 0, .int 0, .int 0, .int 0])) :: wr : va_W)) rfl dX3_init_17 (fun H locs hM => ?_)
  refine lv_aload_n S.x S.b dX3_init_20 rfl (lv_at hl 0 rfl) ?_
  refine lv_bipush (v := (16 : Int32)) S.x S.b dX3_init_21 (by decide) ?_
  refine g_newa S hM (N := 16) (by decide) (by decide) (Nat.le_of_ble_eq_true rfl) (Nat.le_of_ble_eq_true rfl) (Nat.le_of_ble_eq_true rfl) dX3_init_23 (fun z3 H hM => ?_)
  refine g_putF S hM 3 rfl (ci := 2) rfl in_X3 tyX3_ok nmX3 4 rfl q228 rfl hini rfl rfl rfl rfl (ws' := ((z3, .inl (T 0, 16, .inl (fun _ => 0))) :: (z2, .inl (T 0, 6, .inl (fun _ => 0))) :: (z1, .inl (T 0, 6, .inl (fun _ => 0))) :: (r0, .inr (2, [.null, .null, .ref z1, .ref z2, .ref z3, .null, .int 0, .int 0, .int 0, .int 0, .int 0, .int 0, .int 0, .int 0, .int 0, .null, .null, .int 0, .int 0, .int 0, .int 0, .int 0, .int 0, .int 0, .int 0])) :: wr : va_W)) rfl dX3_init_25 (fun H locs hM => ?_)
  refine lv_aload_n S.x S.b dX3_init_28 rfl (lv_at hl 0 rfl) ?_
  refine lv_iconst (v := (1 : Int32)) S.x S.b dX3_init_29 rfl ?_
  refine g_putL S hM 3 rfl (ci := 2) rfl in_X3 tyX3_ok nmX3 6 rfl (Or.inl q232) rfl rfl rfl rfl (ws' := ((z3, .inl (T 0, 16, .inl (fun _ => 0))) :: (z2, .inl (T 0, 6, .inl (fun _ => 0))) :: (z1, .inl (T 0, 6, .inl (fun _ => 0))) :: (r0, .inr (2, [.null, .null, .ref z1, .ref z2, .ref z3, .null, .int 1, .int 0, .int 0, .int 0, .int 0, .int 0, .int 0, .int 0, .int 0, .null, .null, .int 0, .int 0, .int 0, .int 0, .int 0, .int 0, .int 0, .int 0])) :: wr : va_W)) rfl dX3_init_30 (fun H locs hM => ?_)
  refine lv_aload_n S.x S.b dX3_init_33 rfl (lv_at hl 0 rfl) ?_
  refine lv_bipush (v := (40 : Int32)) S.x S.b dX3_init_34 (by decide) ?_
  refine g_newa S hM (N := 40) (by decide) (by decide) (Nat.le_of_ble_eq_true rfl) (Nat.le_of_ble_eq_true rfl) (Nat.le_of_ble_eq_true rfl) dX3_init_36 (fun z4 H hM => ?_)
  refine g_putF S hM 4 rfl (ci := 2) rfl in_X3 tyX3_ok nmX3 15 rfl q250 rfl hini rfl rfl rfl rfl (ws' := ((z4, .inl (T 0, 40, .inl (fun _ => 0))) :: (z3, .inl (T 0, 16, .inl (fun _ => 0))) :: (z2, .inl (T 0, 6, .inl (fun _ => 0))) :: (z1, .inl (T 0, 6, .inl (fun _ => 0))) :: (r0, .inr (2, [.null, .null, .ref z1, .ref z2, .ref z3, .null, .int 1, .int 0, .int 0, .int 0, .int 0, .int 0, .int 0, .int 0, .int 0, .ref z4, .null, .int 0, .int 0, .int 0, .int 0, .int 0, .int 0, .int 0, .int 0])) :: wr : va_W)) rfl dX3_init_38 (fun H locs hM => ?_)
  refine lv_aload_n S.x S.b dX3_init_41 rfl (lv_at hl 0 rfl) ?_
  refine lv_bipush (v := (40 : Int32)) S.x S.b dX3_init_42 (by decide) ?_
  refine g_newa S hM (N := 40) (by decide) (by decide) (Nat.le_of_ble_eq_true rfl) (Nat.le_of_ble_eq_true rfl) (Nat.le_of_ble_eq_true rfl) dX3_init_44 (fun z5 H hM => ?_)
  refine g_putF S hM 5 rfl (ci := 2) rfl in_X3 tyX3_ok nmX3 16 rfl q252 rfl hini rfl rfl rfl rfl (ws' := ((z5, .inl (T 0, 40, .inl (fun _ => 0))) :: (z4, .inl (T 0, 40, .inl (fun _ => 0))) :: (z3, .inl (T 0, 16, .inl (fun _ => 0))) :: (z2, .inl (T 0, 6, .inl (fun _ => 0))) :: (z1, .inl (T 0, 6, .inl (fun _ => 0))) :: (r0, .inr (2, [.null, .null, .ref z1, .ref z2, .ref z3, .null, .int 1, .int 0, .int 0, .int 0, .int 0, .int 0, .int 0, .int 0, .int 0, .ref z4, .ref z5, .int 0, .int 0, .int 0, .int 0, .int 0, .int 0, .int 0, .int 0])) :: wr : va_W)) rfl dX3_init_46 (fun H locs hM => ?_)
  refine lv_aload_n S.x S.b dX3_init_49 rfl (lv_at hl 0 rfl) ?_
  refine lv_aload_n S.x S.b dX3_init_50 rfl (lv_at hl 1 rfl) ?_
  refine g_putF S hM 5 rfl (ci := 2) rfl in_X3 tyX3_ok nmX3 0 rfl q221 rfl hini rfl rfl rfl rfl (ws' := ((z5, .inl (T 0, 40, .inl (fun _ => 0))) :: (z4, .inl (T 0, 40, .inl (fun _ => 0))) :: (z3, .inl (T 0, 16, .inl (fun _ => 0))) :: (z2, .inl (T 0, 6, .inl (fun _ => 0))) :: (z1, .inl (T 0, 6, .inl (fun _ => 0))) :: (r0, .inr (2, [.ref (b 0), .null, .ref z1, .ref z2, .ref z3, .null, .int 1, .int 0, .int 0, .int 0, .int 0, .int 0, .int 0, .int 0, .int 0, .ref z4, .ref z5, .int 0, .int 0, .int 0, .int 0, .int 0, .int 0, .int 0, .int 0])) :: wr : va_W)) rfl dX3_init_51 (fun H locs hM => ?_)
  refine lv_aload_n S.x S.b dX3_init_54 rfl (lv_at hl 0 rfl) ?_
  refine lv_aload_n S.x S.b dX3_init_55 rfl (lv_at hl 3 rfl) ?_
  obtain ⟨i9, h9s⟩ : ∃ i : Nat, ((z5, .inl (T 0, 40, .inl (fun _ => 0))) :: (z4, .inl (T 0, 40, .inl (fun _ => 0))) :: (z3, .inl (T 0, 16, .inl (fun _ => 0))) :: (z2, .inl (T 0, 6, .inl (fun _ => 0))) :: (z1, .inl (T 0, 6, .inl (fun _ => 0))) :: (r0, .inr (2, [.ref (b 0), .null, .ref z1, .ref z2, .ref z3, .null, .int 1, .int 0, .int 0, .int 0, .int 0, .int 0, .int 0, .int 0, .int 0, .ref z4, .ref z5, .int 0, .int 0, .int 0, .int 0, .int 0, .int 0, .int 0, .int 0])) :: wr : va_W)[i]? = some (st, .inl (T 0, 6, .inl f)) := ex_cons (ex_cons (ex_cons (ex_cons (ex_cons (ex_cons hSt)))))
  refine g_clone S hM hl i9 h9s q113 q114 q115 q116 q117 q118 ⟨rfl, rfl⟩ (Nat.le_of_ble_eq_true rfl) (Nat.le_of_ble_eq_true rfl) dX3_init_56 (fun z6 H hM => ?_)
  refine g_castA S hM 0 rfl q119 dX3_init_59 ?_
  refine g_putF S hM 6 rfl (ci := 2) rfl in_X3 tyX3_ok nmX3 1 rfl q223 rfl hini rfl rfl rfl rfl (ws' := ((z6, .inl (T 0, 6, .inl f)) :: (z5, .inl (T 0, 40, .inl (fun _ => 0))) :: (z4, .inl (T 0, 40, .inl (fun _ => 0))) :: (z3, .inl (T 0, 16, .inl (fun _ => 0))) :: (z2, .inl (T 0, 6, .inl (fun _ => 0))) :: (z1, .inl (T 0, 6, .inl (fun _ => 0))) :: (r0, .inr (2, [.ref (b 0), .ref z6, .ref z1, .ref z2, .ref z3, .null, .int 1, .int 0, .int 0, .int 0, .int 0, .int 0, .int 0, .int 0, .int 0, .ref z4, .ref z5, .int 0, .int 0, .int 0, .int 0, .int 0, .int 0, .int 0, .int 0])) :: wr : va_W)) rfl dX3_init_62 (fun H locs hM => ?_)
  refine lv_aload_n S.x S.b dX3_init_65 rfl (lv_at hl 0 rfl) ?_
  refine lv_aload_n S.x S.b dX3_init_66 rfl (lv_at hl 1 rfl) ?_
  refine lv_ifnonnull (tgt := 74) S.x S.b dX3_init_67 rfl ?_
  refine lv_aload_n S.x S.b dX3_init_74 rfl (lv_at hl 2 rfl) ?_
  refine lv_aload_n S.x S.b dX3_init_75 rfl (lv_at hl 0 rfl) ?_
  have hQ9 : SqI T b sa ns q cv ((z6, .inl (T 0, 6, .inl f)) :: (z5, .inl (T 0, 40, .inl (fun _ => 0))) :: (z4, .inl (T 0, 40, .inl (fun _ => 0))) :: (z3, .inl (T 0, 16, .inl (fun _ => 0))) :: (z2, .inl (T 0, 6, .inl (fun _ => 0))) :: (z1, .inl (T 0, 6, .inl (fun _ => 0))) :: (r0, .inr (2, [.ref (b 0), .ref z6, .ref z1, .ref z2, .ref z3, .null, .int 1, .int 0, .int 0, .int 0, .int 0, .int 0, .int 0, .int 0, .int 0, .ref z4, .ref z5, .int 0, .int 0, .int 0, .int 0, .int 0, .int 0, .int 0, .int 0])) :: wr : va_W) := (((((((hQ.cons _).cons _).cons _).cons _).cons _).cons _).cons _)
  have hO := va_Orecv (hY.1 2 (by decide)).2 hM.2.2.1
  refine gc_r (C := enC 2) (owner := "SequenceBench$Method") S hM hl [.ref r0] hO (by decide) (metX14_circuit (a := (adR r0 z6 z1 z2 z3 z4 z5)) ) q120 q122 q121 hdMc q191 q192 q193 ⟨rfl, rfl⟩ ⟨rfl, rfl⟩ rfl rfl rfl ⟨Nat.le_of_ble_eq_true rfl, Nat.le_of_ble_eq_true rfl⟩ dX3_init_76 (fun u H locs hM hX hsz hk => ?_)
  obtain ⟨z7, ez⟩ : ∃ z, z = u := ⟨u, rfl⟩
  subst ez
  have hM : gM D _ s.heap ((z7, .inr (5, [.ref r0, .int (-1)])) :: (z6, .inl (T 0, 6, .inl f)) :: (z5, .inl (T 0, 40, .inl (fun _ => 0))) :: (z4, .inl (T 0, 40, .inl (fun _ => 0))) :: (z3, .inl (T 0, 16, .inl (fun _ => 0))) :: (z2, .inl (T 0, 6, .inl (fun _ => 0))) :: (z1, .inl (T 0, 6, .inl (fun _ => 0))) :: (r0, .inr (2, [.ref (b 0), .ref z6, .ref z1, .ref z2, .ref z3, .null, .int 1, .int 0, .int 0, .int 0, .int 0, .int 0, .int 0, .int 0, .int 0, .ref z4, .ref z5, .int 0, .int 0, .int 0, .int 0, .int 0, .int 0, .int 0, .int 0])) :: wr : va_W) H locs := hM
  refine g_putF S hM 7 rfl (ci := 2) rfl in_X3 tyX3_ok nmX3 5 rfl q230 rfl hini rfl rfl rfl rfl (ws' := ((z7, .inr (5, [.ref r0, .int (-1)])) :: (z6, .inl (T 0, 6, .inl f)) :: (z5, .inl (T 0, 40, .inl (fun _ => 0))) :: (z4, .inl (T 0, 40, .inl (fun _ => 0))) :: (z3, .inl (T 0, 16, .inl (fun _ => 0))) :: (z2, .inl (T 0, 6, .inl (fun _ => 0))) :: (z1, .inl (T 0, 6, .inl (fun _ => 0))) :: (r0, .inr (2, [.ref (b 0), .ref z6, .ref z1, .ref z2, .ref z3, .ref z7, .int 1, .int 0, .int 0, .int 0, .int 0, .int 0, .int 0, .int 0, .int 0, .ref z4, .ref z5, .int 0, .int 0, .int 0, .int 0, .int 0, .int 0, .int 0, .int 0])) :: wr : va_W)) rfl dX3_init_79 (fun H locs hM => ?_)
  have hM : gM D _ _ (rgW (adC (adR r0 z6 z1 z2 z3 z4 z5) z7 0) (T 0) (some (b 0)) (some z7) (rig0 f (-1)) ((z7, crE 2 (adC (adR r0 z6 z1 z2 z3 z4 z5) z7 0) (-1)) :: cdL 2 (adC (adR r0 z6 z1 z2 z3 z4 z5) z7 0) (fun _ => 0) T ns wr)) H locs := hM.perm (permR8 _ _ _ _ _ _ _ _ _)
  have hQ8 : SqI T b sa ns q cv ((z7, crE 2 (adC (adR r0 z6 z1 z2 z3 z4 z5) z7 0) (-1)) :: cdL 2 (adC (adR r0 z6 z1 z2 z3 z4 z5) z7 0) (fun _ => 0) T ns wr) := hQ.cons _
  obtain ⟨r, hr, hf⟩ := bd_some hf
  refine lv_aload_n S.x S.b dX3_init_82 rfl (lv_at hl 1 rfl) ?_
  refine lv_ifnull S.x S.b dX3_init_83 ?_
  refine lv_aload_n S.x S.b dX3_init_86 rfl (lv_at hl 0 rfl) ?_
  refine lv_aload_n S.x S.b dX3_init_87 rfl (lv_at hl 1 rfl) ?_
  refine gw_ci S hM hl [] 9 rfl hQ8.rg.sq (metX11_firstWithMoves hQ8.rg hr) hdX11_firstWithMoves q207 q208 q209 q94 q210 ⟨rfl, rfl⟩ ⟨rfl, rfl⟩ rfl rfl rfl ⟨Nat.le_of_ble_eq_true rfl, Nat.le_of_ble_eq_true rfl⟩ dX3_init_88 (fun H locs hM => ?_)
  refine gw_cv (b := r0) S hM hl [.int r] 2 rfl ⟨0, _, rfl⟩ (metX3_expect (a := (adC (adR r0 z6 z1 z2 z3 z4 z5) z7 0)) hQ8 hf) hdX3_expect q215 q217 qs2 q65 q218 ⟨rfl, rfl⟩ ⟨rfl, rfl⟩ rfl rfl rfl ⟨Nat.le_of_ble_eq_true rfl, Nat.le_of_ble_eq_true rfl⟩ dX3_init_91 (fun H locs hM => ?_)
  refine W.widen (k := 24) (n := 213) (by decide) (by decide) ?_
  have e30 : w.1 30 = (-1) := gX3_expect_30 hf
  have hM : gM D (va_A ((r0, .inr (2, rgD)) :: wr) s.heap.size) s.heap (rgW (adC (adR r0 z6 z1 z2 z3 z4 z5) z7 0) (T 0) (some (b 0)) (some z7) w ((z7, crE 2 (adC (adR r0 z6 z1 z2 z3 z4 z5) z7 0) (w.1 30)) :: cdL 2 (adC (adR r0 z6 z1 z2 z3 z4 z5) z7 0) (fun _ => 0) T ns wr)) H locs := by rw [e30]; exact hM
  exact ga_vret (U := ((Nat → Nat) × (Nat → Nat))) (ws' := (fun u => rcW 2 u.1 (T 0) (some (b 0)) w (cdL 2 u.1 u.2 T ns wr))) (X := (fun u H => u.1 0 = r0 ∧ LamI 2 D u.1 u.2 0 q H ∧ LaF u.2 0 (rcW 2 u.1 (T 0) (some (b 0)) w (cdL 2 u.1 u.2 T ns wr)))) S ((adC (adR r0 z6 z1 z2 z3 z4 z5) z7 0), fun _ => 0) hM ⟨rfl, fun k hk => absurd hk (Nat.not_lt_zero _), fun k hk => absurd hk (Nat.not_lt_zero _)⟩ dX3_init_94
