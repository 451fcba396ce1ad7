/-! the circuits' constructors -/
set_option maxRecDepth 100000
section OLD
variable {p : Program} {l : Launch} {e : Env} {R : Room} {s : State} {m : MethodId} {args : Array Value} {below : List Frame} {meth : Method} {c : Code} {H : Heap} {locs : List Loc} {cells slots : Nat} {Q : State → Prop} {g : JFrame}
theorem W_old (kk : W p l e R s m args below meth c H (locs.filter (fun y => decide (y.base < s.heap.size))) cells slots Q g) : W p l e R s m args below meth c H locs cells slots Q g :=
  fun T hT X => kk T hT { X with same := X.same.weaken (fun y hy hlt => List.mem_filter.mpr ⟨hy, by simp [hlt]⟩) (Nat.le_refl _) (Nat.le_refl _) }
/-- new cells 'lam', not listed, will not be written any more: they count as old from here on -/
theorem g_rebase {D : va_G} {A : Nat → Prop} {H0 : Heap} {ws : va_W} {lam : Nat → Prop} (hM : gM D A H0 ws H locs) (h1 : ∀ q, lam q → q < H.size ∧ s.heap.size ≤ q) (h2 : ∀ x ∈ ws, ¬ lam x.1)
    (kk : ∀ locs', gM D (fun q => A q ∧ ¬ lam q) H ws H locs' → W p l e R s m args below meth c H locs' cells slots Q g) : W p l e R s m args below meth c H locs cells slots Q g := by
  refine W_old (kk _ ?_)
  have hM' : gM D A H0 ws H (locs.filter (fun y => decide (y.base < s.heap.size))) := ⟨hM.1, hM.2.1, ⟨hM.2.2.1.1, hM.2.2.1.2.1, fun l hl => hM.2.2.1.2.2 l (List.mem_filter.mp hl).1⟩, hM.2.2.2⟩
  refine hM'.rebase (fun q hq => (h1 q hq).1) h2 (fun l hl hlam => ?_)
  have h3 : l.base < s.heap.size := of_decide_eq_true (List.mem_filter.mp hl).2
  exact absurd h3 (Nat.not_lt.mpr (h1 _ hlam).2)
end OLD
/-- an array's contents told by another function that agrees below its length -/
theorem vp_congr {cA : ClassId} {n : Nat} {f g : Nat → Option Nat} (h : ∀ j, j < n → f j = g j) : vp_cell cA (n, .inr (.inr (.inr (.inr f)))) = vp_cell cA (n, .inr (.inr (.inr (.inr g)))) := by
  rw [vp_cell_q, vp_cell_q]
  unfold arrV
  congr 1
  apply Array.ext
  · simp
  · intro i h1 h2
    have hi : i < n := by simpa using h1
    simp [h i hi]
theorem gM.arrq {D : va_G} {A : Nat → Prop} {H0 H : Heap} {ws : va_W} {locs : List Loc} {z : Nat} {cA : ClassId} {n : Nat} {f g : Nat → Option Nat} (hM : gM D A H0 ((z, .inl (cA, n, .inr (.inr (.inr (.inr f))))) :: ws) H locs) (h : ∀ j, j < n → f j = g j) : gM D A H0 ((z, .inl (cA, n, .inr (.inr (.inr (.inr g))))) :: ws) H locs := by
  obtain ⟨hP, hD, hS, hA⟩ := hM
  rw [vaP_iff] at hP
  rw [vaD_iff] at hD
  refine ⟨vaP_iff.mpr ?_, vaD_iff.mpr ⟨hD.1, ?_⟩, hS, hA⟩
  · intro x hx
    rcases List.mem_cons.mp hx with e | e
    · subst e
      have h1 := hP _ List.mem_cons_self
      show H[z]? = some (vp_cell cA (n, .inr (.inr (.inr (.inr g)))))
      rw [← vp_congr h]
      exact h1
    · exact hP x (List.mem_cons_of_mem _ e)
  · intro x hx
    rcases List.mem_cons.mp hx with e | e
    · subst e
      exact hD.2 (z, .inl (cA, n, .inr (.inr (.inr (.inr f))))) List.mem_cons_self
    · exact hD.2 x (List.mem_cons_of_mem _ e)
theorem lam_any {D : va_G} {s : State} {H : Heap} {z : Nat} {x : MethodName} {pc idx : Nat} {σ : Lambda.Shape} {cK : ClassId} {sl : Array Value} (h : s.lambdaAt? x pc idx σ = some (cK, none)) (hσ : σ.iface = "SequenceBench$Condition") (hz : H[z]? = some { cls := cK, slots := sl, vm := .none }) : va_Any "SequenceBench$Condition" s H z := by
  obtain ⟨m', kS, cfS, i0, p0, lk, hm', hkS, hcfS, hshape, -, hfind, hmade, hcan, hlk⟩ := State.lambdaAt?_spec h
  obtain ⟨dk', k', ok', tk', file', cfK, object, iface', t', lay, methods, tgt, found, -, hk', -⟩ := Lambda.isMade_spec hmade
  obtain ⟨i2, hi2, hasg, -⟩ := State.lambdaCallable_spec hcan
  rw [hσ] at hi2
  exact ⟨_, hz, rfl, ⟨k', hk'⟩, fun comp hc => by cases hc.symm.trans hi2; exact hasg⟩
/-- the start of a walk that makes cells; the method is told -/
theorem g_entryN {l : Launch} {D : va_G} {T : Nat → ClassId} {ws : va_W} {cc : ByteArray} {nL : Nat} {ret : Option FieldType} {y : MethodName} {rm : Room} {sz : Nat} {As : List Value} {Qc : (Nat → Prop) → Array Value → State → Outcome → State → Prop} {mc ms : Nat} (hy : plainName y.cls = true) (hn : Nat.ble (lg_sl As).length nL = true)
    (body : ∀ p e s m below meth c ls, gS p s m As.toArray meth c cc nL ret y.cls D T → meth.name = y.name → s.methodNamed? y = some m → gM D (va_A ws s.heap.size) s.heap ws s.heap [] → lv_has ls nL (lv_args 0 As) →
      W p l e rm s m As.toArray below meth c s.heap [] 0 0 (MQ below (Qc (va_A ws s.heap.size)) As.toArray s mc ms (va_A ws s.heap.size)) (F0 m 0 ls [])) :
    Met l y (ws_ y cc nL ret) rm (va_Pc As (gPre D T ws sz)) (Qc (va_A ws sz)) mc ms (va_A ws sz) := by
  refine Met.ofW (cc := cc) (maxL := nL) (ret := ret) hy rfl ?_
  intro p e s m args below meth c s₁ B hml hv
  obtain ⟨rfl, hsz, hP, hK, hD0, hG⟩ := hv
  subst hsz
  have hts := atoms_spec (ws := ws_ y cc nL ret) B.pre
  have hts : ∀ w ∈ lw_all, w.before _ s = true := fun w h => hts w (List.mem_cons_of_mem _ h)
  have hl := lv_entry As (n := nL) (Nat.le_of_ble_eq_true hn)
  rw [lg_entry_eq]
  exact body p e s m below meth c _ ⟨B.exec, B.bytes, hml, B.returns, B.notSynchronized, findClass_of_methodNamed B.named, hts, hK, hG⟩ (name_of_methodNamed B.named B.method).1 B.named ⟨hP, hD0.self, va_S.rf, fun q h => Or.inr h⟩ hl
theorem di_ns {n : Nat} (h : n ≤ 16) : n < 2 ^ 31 := Nat.lt_of_le_of_lt h (by decide)

abbrev rmX4_init : Room := { frames := 3, cells := 17, slots := 48, locals := 3100 }
set_option maxHeartbeats 4000000 in
theorem di_loop {p : Program} {l : Launch} {e : Env} {s : State} {m : MethodId} {args : Array Value} {below : List Frame} {meth : Method} {c : Code} {D : va_G} {T : Nat → ClassId} {A : Nat → Prop} {Q : State → Prop} {a b sa : Nat → Nat} {cv : Value} {wr : va_W} {ns cd : Nat} {q : MW}
    (S : gS p s m args meth c cX4_init 5 none RX4 D T) (hnamed : s.methodNamed? yX4_init = some m) (hns : ns ≤ 16) (hQ : SqI T b sa ns q cv wr) (h5 : ∀ k, k < ns → gX11_before ns q (nI k) = some (q.2 5 k)) (h7 : ∀ k, k < ns → q.2 7 k = if k = 0 then 1 else 0) (hA : ∀ q, s.heap.size ≤ q → A q)
    (hend : ∀ (la : Nat → Nat) (H : Heap) (locs : List Loc) (ls : Array Slot), gM D A s.heap ((cd, .inl (T 4, ns, .inr (.inr (.inr (.inr (fun k => some (la k))))))) :: (a 7, .inr (3, [.ref (a 0), .ref cd])) :: wr) H locs → LamI 0 D a la ns q H → LaF la ns ((cd, .inl (T 4, ns, .inr (.inr (.inr (.inr (fun k => some (la k))))))) :: (a 7, .inr (3, [.ref (a 0), .ref cd])) :: wr) → ls.size = 5 → W p l e rmX4_init s m args below meth c H locs 17 48 Q (F0 m 79 ls [])) :
    ∀ (n k : Nat), k + n = ns → ∀ (la : Nat → Nat) (f : Nat → Option Nat) (A' : Nat → Prop) (Hb : Heap) (lb : List Loc) (H : Heap) (locs : List Loc) (ls : Array Slot), gM D A' Hb ((cd, .inl (T 4, ns, .inr (.inr (.inr (.inr f))))) :: (a 7, .inr (3, [.ref (a 0), .ref cd])) :: wr) H locs → (∀ q, A' q → A q) → va_S A s.heap Hb lb → (∀ j, j < k → f j = some (la j)) → (∀ j, j < k → Hb[la j]? = some (lamC 0 D a q j)) → (∀ j, j < k → ¬ A' (la j)) →
      lv_has ls 5 [(0, .ref (a 7)), (1, .ref (a 0)), (2, .ref (b 0)), (3, .int (nI k))] → W p l e rmX4_init s m args below meth c H locs (1 + k) (ns + 2 * k) Q (F0 m 28 ls []) := by
  have hb31 := di_ns hns
  intro n
  induction n with
  | zero =>
    intro k hk la f A' Hb lb H locs ls hM hA' hSb hf hLb hLA hl
    have hk : k = ns := by omega
    subst hk
    refine lv_iload_n S.x S.b dX4_init_28 rfl (lv_at hl 3 rfl) ?_
    refine lv_aload_n S.x S.b dX4_init_29 rfl (lv_at hl 0 rfl) ?_
    refine g_getL S hM ⟨1, rfl⟩ (ci := 3) rfl in_X4 1 rfl (Or.inl q147) rfl dX4_init_30 ?_
    refine va_alen S.x S.b S.k hM.1 0 4 rfl (ty := .object "SequenceBench$Condition") rfl (v := nI k) rfl dX4_init_33 ?_
    refine lv_icmp_ge (tgt := 79) S.x S.b dX4_init_34 rfl (fun cn => ?_) (fun cn => absurd (nI_le (Nat.le_refl k) hb31) cn)
    refine W.widen (k := 17) (n := 48) (by omega) (by omega) ?_
    have hM := hM.arrq (g := fun j => some (la j)) hf
    have hLH : LamI 0 D a la k q H := LamI.kept (fun j hj => hLb j hj) hLA hM.2.2.1
    refine hend la H locs ls (hM.unbase hSb hA' hA) hLH ?_ hl.1
    intro j hj i e h1
    exact hLA j hj (hM.2.1.2 i _ h1)
  | succ n ih =>
    intro k hk la f A' Hb lb H locs ls hM hA' hSb hf hLb hLA hl
    have hkn : k < ns := by omega
    have hk31 : k < 2 ^ 31 := by omega
    refine lv_iload_n S.x S.b dX4_init_28 rfl (lv_at hl 3 rfl) ?_
    refine lv_aload_n S.x S.b dX4_init_29 rfl (lv_at hl 0 rfl) ?_
    refine g_getL S hM ⟨1, rfl⟩ (ci := 3) rfl in_X4 1 rfl (Or.inl q147) rfl dX4_init_30 ?_
    refine va_alen S.x S.b S.k hM.1 0 4 rfl (ty := .object "SequenceBench$Condition") rfl (v := nI ns) rfl dX4_init_33 ?_
    refine lv_icmp_ge (tgt := 79) S.x S.b dX4_init_34 rfl (fun cn => absurd cn (nI_ge hkn hb31)) (fun cn => ?_)
    refine lv_aload_n S.x S.b dX4_init_37 rfl (lv_at hl 2 rfl) ?_
    refine lv_iload_n S.x S.b dX4_init_38 rfl (lv_at hl 3 rfl) ?_
    have hQ' : ∀ f : Nat → Option Nat, SqI T b sa ns q cv ((cd, .inl (T 4, ns, .inr (.inr (.inr (.inr f))))) :: (a 7, .inr (3, [.ref (a 0), .ref cd])) :: wr) := fun f => (hQ.cons _).cons _
    refine gw_ci S hM hl [.int (nI k)] 9 rfl (hQ' f).sq (metX11_before (hQ' f) (h5 k hkn)) hdX11_before q134 q135 q136 q94 q137 ⟨rfl, rfl⟩ ⟨rfl, rfl⟩ rfl rfl rfl ⟨by show 1 + k + 0 ≤ 17; omega, by show ns + 2 * k + 0 ≤ 48; omega⟩ dX4_init_39 (fun H locs hM => ?_)
    refine g_ist S (x' := q.2 5 k) rfl hl dX4_init_42 rfl (lv' := [(4, .int (q.2 5 k)), (0, .ref (a 7)), (1, .ref (a 0)), (2, .ref (b 0)), (3, .int (nI k))]) rfl (fun ls hl => ?_)
    refine lv_aload_n S.x S.b dX4_init_44 rfl (lv_at hl 1 rfl) ?_
    refine g_getL S hM ⟨1, rfl⟩ (ci := 3) rfl in_X4 1 rfl (Or.inl q147) rfl dX4_init_45 ?_
    refine lv_iload_n S.x S.b dX4_init_48 rfl (lv_at hl 4 rfl) ?_
    refine lv_iload_n S.x S.b dX4_init_49 rfl (lv_at hl 4 rfl) ?_
    -- behind either lambda
    have J : ∀ (z : Nat) (H1 : Heap) (cK : ClassId), gM D A' Hb ((cd, .inl (T 4, ns, .inr (.inr (.inr (.inr f))))) :: (a 7, .inr (3, [.ref (a 0), .ref cd])) :: wr) H1 locs → z = H.size → H1.size = H.size + 1 → H1[z]? = some (lamC 0 D a q k) → (∀ q, q < H.size → H1[q]? = H[q]?) → va_Any "SequenceBench$Condition" s H1 z →
        W p l e rmX4_init s m args below meth c H1 locs (1 + k + 1) (ns + 2 * k + 2) Q (F0 m 72 ls [.ref z, .int (nI k), .ref cd]) := by
      intro z H1 cK hM1 hz hsz hcell hold hany
      have hMA := hM1.unbase hSb hA' hA
      have hLH1 : ∀ j, j < k → H1[la j]? = some (lamC 0 D a q j) := fun j hj => by
        rw [hM1.2.2.1.2.1 (la j) (Array.getElem?_eq_some_iff.mp (hLb j hj)).1 (hLA j hj)]
        exact hLb j hj
      have hlt : ∀ x ∈ ((cd, .inl (T 4, ns, .inr (.inr (.inr (.inr f))))) :: (a 7, .inr (3, [.ref (a 0), .ref cd])) :: wr : va_W), x.1 < H.size := fun x hx => (vaP_iff.mp hM.1 x hx).lt
      have hsS : s.heap.size ≤ H.size := (hM.unbase hSb hA' hA).2.2.1.1
      refine g_rebase (lam := fun q => q = z) hM1 (fun q hq => by subst hq; omega) (fun x hx hxz => by have := hlt x hx; omega) (fun locs' hM2 => ?_)
      refine va_astqM S.x S.b S.k hM2.1 hM2.2.1 hM2.2.2.1 0 4 rfl rfl hany (vp_in_nI hkn hb31) dX4_init_72 (fun H2 locs2 hP hD hS => ?_)
      have hM3 : gM D (fun q => A' q ∧ ¬ q = z) H1 ((cd, .inl (T 4, ns, .inr (.inr (.inr (.inr (va_up f (nI k).toNatClampNeg (some z))))))) :: (a 7, .inr (3, [.ref (a 0), .ref cd])) :: wr) H2 locs2 := ⟨hP, hD, hS, hM2.2.2.2⟩
      rw [nI_clamp hk31] at hM3
      refine g_inc S (x' := nI (k + 1)) (d := 1) hl (k := 4) rfl (by decide) (nI_1 k).symm dX4_init_73 rfl (lv' := [(3, .int (nI (k + 1))), (4, .int (q.2 5 k)), (0, .ref (a 7)), (1, .ref (a 0)), (2, .ref (b 0))]) rfl (fun ls hl => ?_)
      refine lv_goto (tgt := 28) S.x S.b dX4_init_76 rfl ?_
      refine ih (k + 1) (by omega) (va_up la k z) (va_up f k (some z)) (fun q => A' q ∧ ¬ q = z) H1 _ H2 locs2 ls hM3 (fun q hq => hA' q hq.1) hMA.2.2.1 ?_ ?_ ?_ (lv_sub hl [2, 3, 4, 0] rfl)
      · intro j hj
        by_cases e : j = k
        · subst e; simp [va_up]
        · simp [va_up, e]; exact hf j (by omega)
      · intro j hj
        by_cases e : j = k
        · subst e; simp only [va_up, if_pos]; exact hcell
        · simp only [va_up, if_neg e]; exact hLH1 j (by omega)
      · intro j hj
        by_cases e : j = k
        · subst e; simp [va_up]
        · simp only [va_up, if_neg e]
          exact fun h => hLA j (by omega) h.1
    refine lv_if_ne (tgt := 64) S.x S.b dX4_init_50 rfl (fun cn => ?_) (fun cn => ?_)
    · have hk0 : ¬ k = 0 := fun e => cn (by rw [e]; rfl)
      have h7k : q.2 7 k = 0 := by rw [h7 k hkn, if_neg hk0]
      refine lv_aload_n S.x S.b dX4_init_64 rfl (lv_at hl 2 rfl) ?_
      refine lv_iload S.x S.b dX4_init_65 (lv_at hl 0 rfl) ?_
      refine g_indy S hM hl hnamed S.g.2.2.2.1.2.1 lm_ok1 [.ref (a 0), .int (q.2 5 k)] rfl rfl (fun i v hv => by
        match i, hv with
        | 0, hv => cases hv; exact ⟨_, rfl, rfl⟩
        | 1, hv => cases hv; exact ⟨_, rfl, rfl⟩) rfl rfl (by show 1 + k + 1 ≤ 17; omega) (by show ns + 2 * k + 2 ≤ 48; omega) dX4_init_67 (fun z H1 hM1 hz hsz hcell hold => ?_)
      exact J z H1 (D.1 101) hM1 hz hsz (by rw [hcell]; simp only [lamC, h7k]; rfl) hold (lam_any (D := D) S.g.2.2.2.1.2.1 rfl hcell)
    · have hk0 : k = 0 := by
        rcases Nat.eq_zero_or_pos k with h | h
        · exact h
        · exact absurd cn (nI_ne0 h hk31)
      have h7k : q.2 7 k = 1 := by rw [h7 k hkn, if_pos hk0]
      refine lv_aload_n S.x S.b dX4_init_53 rfl (lv_at hl 2 rfl) ?_
      refine lv_iload S.x S.b dX4_init_54 (lv_at hl 0 rfl) ?_
      refine g_indy S hM hl hnamed S.g.2.2.2.1.1 lm_ok0 [.ref (a 0), .int (q.2 5 k)] rfl rfl (fun i v hv => by
        match i, hv with
        | 0, hv => cases hv; exact ⟨_, rfl, rfl⟩
        | 1, hv => cases hv; exact ⟨_, rfl, rfl⟩) rfl rfl (by show 1 + k + 1 ≤ 17; omega) (by show ns + 2 * k + 2 ≤ 48; omega) dX4_init_56 (fun z H1 hM1 hz hsz hcell hold => ?_)
      refine lv_goto (tgt := 72) S.x S.b dX4_init_61 rfl ?_
      exact J z H1 (D.1 100) hM1 hz hsz (by rw [hcell]; simp only [lamC, h7k]; rfl) hold (lam_any (D := D) S.g.2.2.2.1.1 rfl hcell)
set_option maxHeartbeats 4000000 in
/-- new Direct(rig): u = (its conditions' array, its lambdas) -/
theorem metX4_init {l : Launch} {D : va_G} {T : Nat → ClassId} {a b sa : Nat → Nat} {cv : Value} {wr : va_W} {ns : Nat} {q : MW} {fs : List Value} (hns : ns ≤ 16) (hQ : SqI T b sa ns q cv wr) (hR : ∃ i : Nat, wr[i]? = some (a 0, .inr (2, fs))) (hfs : fs[0]? = some (.ref (b 0))) (h5 : ∀ k, k < ns → gX11_before ns q (nI k) = some (q.2 5 k)) (h7 : ∀ k, k < ns → q.2 7 k = if k = 0 then 1 else 0) (sz : Nat) :
    MetA (Nat × (Nat → Nat)) l yX4_init (ws_ yX4_init cX4_init 5 none) rmX4_init D T ((a 7, .inr (3, [.null, .null])) :: wr) sz [.ref (a 7), .ref (a 0)] (fun u => (u.1, .inl (T 4, ns, .inr (.inr (.inr (.inr (fun k => some (u.2 k))))))) :: (a 7, .inr (3, [.ref (a 0), .ref u.1])) :: wr) (fun u H => LamI 0 D a u.2 ns q H ∧ LaF u.2 ns ((u.1, .inl (T 4, ns, .inr (.inr (.inr (.inr (fun k => some (u.2 k))))))) :: (a 7, .inr (3, [.ref (a 0), .ref u.1])) :: wr)) 17 48 := by
  refine g_entryN (Qc := fun A => va_Qv (fun (_ : Nat × (Nat → Nat)) => True) (fun u t => gPost D T A ((u.1, .inl (T 4, ns, .inr (.inr (.inr (.inr (fun k => some (u.2 k))))))) :: (a 7, .inr (3, [.ref (a 0), .ref u.1])) :: wr) t ∧ LamI 0 D a u.2 ns q t.heap ∧ LaF u.2 ns ((u.1, .inl (T 4, ns, .inr (.inr (.inr (.inr (fun k => some (u.2 k))))))) :: (a 7, .inr (3, [.ref (a 0), .ref u.1])) :: wr)) A) (by decide) rfl ?_
  intro p e s m below meth c ls S hini hnamed hM hl
  have hl : lv_has ls 5 [(0, .ref (a 7)), (1, .ref (a 0))] := hl
  have hb31 := di_ns hns
  refine lv_aload_n S.x S.b dX4_init_0 rfl (lv_at hl 0 rfl) ?_
  refine g_objInit S hl q131 q103 q104 ⟨rfl, rfl⟩ dX4_init_1 ?_
  refine lv_aload_n S.x S.b dX4_init_4 rfl (lv_at hl 0 rfl) ?_
  refine lv_aload_n S.x S.b dX4_init_5 rfl (lv_at hl 1 rfl) ?_
  refine g_putF S hM 0 rfl (ci := 3) rfl in_X4 tyX4_ok nmX4 0 rfl q146 rfl hini rfl rfl rfl rfl (ws' := (a 7, .inr (3, [.ref (a 0), .null])) :: wr) rfl dX4_init_6 (fun H locs hM => ?_)
  refine lv_aload_n S.x S.b dX4_init_9 rfl (lv_at hl 1 rfl) ?_
  refine g_getL S hM (ex_cons hR) (ci := 2) rfl in_X3 0 rfl (Or.inr ⟨_, q219⟩) hfs dX4_init_10 ?_
  refine lv_astore_n (lv' := [(2, .ref (b 0)), (0, .ref (a 7)), (1, .ref (a 0))]) S.x S.b dX4_init_13 rfl hl (by decide) rfl (fun ls hl => ?_)
  refine lv_aload_n S.x S.b dX4_init_14 rfl (lv_at hl 1 rfl) ?_
  refine lv_aload_n S.x S.b dX4_init_15 rfl (lv_at hl 0 rfl) ?_
  refine sq_g S hM (hQ.cons _) 0 rfl (Or.inr ⟨_, q916⟩) rfl dX4_init_16 ?_
  refine sq_len S hM (hQ.cons _) dX4_init_19 ?_
  refine g_newq S hM 4 rfl q132 S.g.2.2.1.2.1 (n := nI ns) (N := ns) (nI_pos hb31) (nI_clamp hb31) (by omega) (by show 0 + 1 ≤ 17; omega) (by show 0 + ns ≤ 48; omega) dX4_init_20 (fun cd H hM => ?_)
  refine g_putF S hM 1 rfl (ci := 3) rfl in_X4 tyX4_ok nmX4 1 rfl q147 rfl hini rfl rfl rfl rfl (ws' := (cd, .inl (T 4, ns, .inr (.inr (.inr (.inr (fun _ => none)))))) :: (a 7, .inr (3, [.ref (a 0), .ref cd])) :: wr) rfl dX4_init_23 (fun H locs hM => ?_)
  refine lv_iconst (v := (0 : Int32)) S.x S.b dX4_init_26 ki_0 ?_
  refine g_istn S (x' := (0 : Int32)) rfl hl dX4_init_27 rfl rfl (lv' := [(3, .int (0 : Int32)), (2, .ref (b 0)), (0, .ref (a 7)), (1, .ref (a 0))]) rfl (fun ls hl => ?_)
  refine W.widen (k := 1 + 0) (n := ns + 2 * 0) (by omega) (by omega) ?_
  refine di_loop S hnamed hns hQ h5 h7 hM.2.2.2 ?_ ns 0 (by omega) (fun _ => 0) (fun _ => none) _ s.heap [] H locs ls hM (fun _ h => h) va_S.rf (fun j hj => absurd hj (Nat.not_lt_zero j)) (fun j hj => absurd hj (Nat.not_lt_zero j)) (fun j hj => absurd hj (Nat.not_lt_zero j)) (lv_sub hl [2, 3, 1, 0] rfl)
  intro la H locs ls hM hL hF hsz
  exact ga_vret (U := Nat × (Nat → Nat)) (ws' := fun u => (u.1, .inl (T 4, ns, .inr (.inr (.inr (.inr (fun k => some (u.2 k))))))) :: (a 7, .inr (3, [.ref (a 0), .ref u.1])) :: wr) (X := fun u H => LamI 0 D a u.2 ns q H ∧ LaF u.2 ns ((u.1, .inl (T 4, ns, .inr (.inr (.inr (.inr (fun k => some (u.2 k))))))) :: (a 7, .inr (3, [.ref (a 0), .ref u.1])) :: wr)) S (cd, la) hM ⟨hL, hF⟩ dX4_init_79
