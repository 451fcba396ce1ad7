set_option maxRecDepth 100000

abbrev rmX5_init : Room := { frames := 3, cells := 17, slots := 96, locals := 3100 }
abbrev caL (a : Nat → Nat) (T : Nat → ClassId) (ns cd : Nat) (f : Nat → Option Nat) (cg : Int32) (wr : va_W) : va_W := (cd, .inl (T 4, ns, .inr (.inr (.inr (.inr f))))) :: (a 7, .inr (4, [.ref (a 0), .ref cd, .int cg])) :: wr
set_option maxHeartbeats 4000000 in
theorem ca_loop {p : Program} {l : Launch} {e : Env} {s : State} {m : MethodId} {args : Array Value} {below : List Frame} {meth : Method} {c : Code} {D : va_G} {T : Nat → ClassId} {A : Nat → Prop} {Q : State → Prop} {a b sa : Nat → Nat} {wr : va_W} {ns nc cd N : Nat} {q : MW} {cg : Int32} {fo : Nat → Int32}
    (S : gS p s m args meth c cX5_init 8 none RX5 D T) (hnamed : s.methodNamed? yX5_init = some m) (hns : ns ≤ 16) (hQ : SqI T b sa ns q (.ref (b 3)) wr) (hC : CuI T b nc q wr) (h5 : ∀ k, k < ns → gX11_before ns q (nI k) = some (q.2 5 k)) (h6 : ∀ k, k < ns → gX11_groupOf N ns q nc (nI k) = some (q.2 6 k)) (hfo : ∀ k, k < ns → gX11_firstOf ns q nc (q.2 6 k) = some (fo k)) (h7 : ∀ k, k < ns → q.2 7 k = if fo k = nI k then 1 else 0) (h8 : ∀ k, k < ns → q.2 8 k = if k = 0 then 1 else 0) (hA : ∀ q, s.heap.size ≤ q → A q)
    (hend : ∀ (la : Nat → Nat) (H : Heap) (locs : List Loc) (ls : Array Slot), gM D A s.heap (caL a T ns cd (fun k => some (la k)) cg wr) H locs → LamI 1 D a la ns q H → LaF la ns (caL a T ns cd (fun k => some (la k)) cg wr) → ls.size = 8 → W p l e rmX5_init s m args below meth c H locs 17 96 Q (F0 m 131 ls [])) :
    ∀ (n k : Nat), k + n = ns → ∀ (la : Nat → Nat) (f : Nat → Option Nat) (A' : Nat → Prop) (Hb : Heap) (lb : List Loc) (H : Heap) (locs : List Loc) (ls : Array Slot), gM D A' Hb (caL a T ns cd f cg wr) H locs → (∀ q, A' q → A q) → va_S A s.heap Hb lb → (∀ j, j < k → f j = some (la j)) → (∀ j, j < k → Hb[la j]? = some (lamC 1 D a q j)) → (∀ j, j < k → ¬ A' (la j)) →
      lv_has ls 8 [(0, .ref (a 7)), (1, .ref (a 0)), (2, .ref (b 0)), (3, .int (nI k))] → W p l e rmX5_init s m args below meth c H locs (1 + k) (ns + 5 * k) Q (F0 m 39 ls []) := by
  have hb31 := di_ns hns
  intro n
  induction n with
  | zero =>
    intro k hk la f A' Hb lb H locs ls hM hA' hSb hf hLb hLA hl
    have hk : k = ns := by omega
    subst hk
    refine lv_iload_n S.x S.b dX5_init_39 rfl (lv_at hl 3 rfl) ?_
    refine lv_aload_n S.x S.b dX5_init_40 rfl (lv_at hl 0 rfl) ?_
    refine g_getL S hM ⟨1, rfl⟩ (ci := 4) rfl in_X5 1 rfl (Or.inl q182) rfl dX5_init_41 ?_
    refine va_alen S.x S.b S.k hM.1 0 4 rfl (ty := .object "SequenceBench$Condition") rfl (v := nI k) rfl dX5_init_44 ?_
    refine lv_icmp_ge (tgt := 131) S.x S.b dX5_init_45 rfl (fun cn => ?_) (fun cn => absurd (nI_le (Nat.le_refl k) hb31) cn)
    refine W.widen (k := 17) (n := 96) (by omega) (by omega) ?_
    have hM := hM.arrq (g := fun j => some (la j)) hf
    have hLH : LamI 1 D a la k q H := LamI.kept (fun j hj => hLb j hj) hLA hM.2.2.1
    refine hend la H locs ls (hM.unbase hSb hA' hA) hLH ?_ hl.1
    intro j hj i e h1
    exact hLA j hj (hM.2.1.2 i _ h1)
  | succ n ih =>
    intro k hk la f A' Hb lb H locs ls hM hA' hSb hf hLb hLA hl
    have hkn : k < ns := by omega
    have hk31 : k < 2 ^ 31 := by omega
    have hcs : 1 + k + 0 ≤ rmX5_init.cells ∧ ns + 5 * k + 0 ≤ rmX5_init.slots := ⟨by show 1 + k + 0 ≤ 17; omega, by show ns + 5 * k + 0 ≤ 96; omega⟩
    refine lv_iload_n S.x S.b dX5_init_39 rfl (lv_at hl 3 rfl) ?_
    refine lv_aload_n S.x S.b dX5_init_40 rfl (lv_at hl 0 rfl) ?_
    refine g_getL S hM ⟨1, rfl⟩ (ci := 4) rfl in_X5 1 rfl (Or.inl q182) rfl dX5_init_41 ?_
    refine va_alen S.x S.b S.k hM.1 0 4 rfl (ty := .object "SequenceBench$Condition") rfl (v := nI ns) rfl dX5_init_44 ?_
    refine lv_icmp_ge (tgt := 131) S.x S.b dX5_init_45 rfl (fun cn => absurd cn (nI_ge hkn hb31)) (fun cn => ?_)
    have hQ' : SqI T b sa ns q (.ref (b 3)) (caL a T ns cd f cg wr) := (hQ.cons _).cons _
    have hC' : CuI T b nc q (caL a T ns cd f cg wr) := (hC.cons _).cons _
    refine lv_aload_n S.x S.b dX5_init_48 rfl (lv_at hl 2 rfl) ?_
    refine lv_iload_n S.x S.b dX5_init_49 rfl (lv_at hl 3 rfl) ?_
    refine gw_ci S hM hl [.int (nI k)] 9 rfl hQ'.sq (metX11_groupOf hQ' hC' (h6 k hkn)) hdX11_groupOf q165 q166 q167 q94 q168 ⟨rfl, rfl⟩ ⟨rfl, rfl⟩ rfl rfl rfl hcs dX5_init_50 (fun H locs hM => ?_)
    refine g_ist S (x' := q.2 6 k) rfl hl dX5_init_53 rfl (lv' := [(4, .int (q.2 6 k)), (0, .ref (a 7)), (1, .ref (a 0)), (2, .ref (b 0)), (3, .int (nI k))]) rfl (fun ls hl => ?_)
    refine lv_aload_n S.x S.b dX5_init_55 rfl (lv_at hl 3 rfl) ?_
    refine lv_iload_n S.x S.b dX5_init_56 rfl (lv_at hl 4 rfl) ?_
    refine gw_ci S hM hl [.int (nI k)] 9 rfl hQ'.sq (metX11_before hQ' (h5 k hkn)) hdX11_before q169 q135 q136 q94 q137 ⟨rfl, rfl⟩ ⟨rfl, rfl⟩ rfl rfl rfl hcs dX5_init_57 (fun H locs hM => ?_)
    refine g_ist S (x' := q.2 5 k) rfl hl dX5_init_60 rfl (lv' := [(5, .int (q.2 5 k)), (4, .int (q.2 6 k)), (0, .ref (a 7)), (1, .ref (a 0)), (2, .ref (b 0)), (3, .int (nI k))]) rfl (fun ls hl => ?_)
    refine lv_aload_n S.x S.b dX5_init_62 rfl (lv_at hl 4 rfl) ?_
    refine lv_iload S.x S.b dX5_init_63 (lv_at hl 1 rfl) ?_
    refine gw_ci S hM hl [.int (q.2 6 k)] 9 rfl hQ'.sq (metX11_firstOf hQ' hC' (hfo k hkn)) hdX11_firstOf q170 q171 q172 q94 q173 ⟨rfl, rfl⟩ ⟨rfl, rfl⟩ rfl rfl rfl hcs dX5_init_65 (fun H locs hM => ?_)
    refine lv_iload_n S.x S.b dX5_init_68 rfl (lv_at hl 5 rfl) ?_
    -- behind either lambda
    have J : ∀ (z : Nat) (H1 : Heap) (ls : Array Slot), lv_has ls 8 [(7, .int (q.2 8 k)), (6, .int (q.2 7 k)), (5, .int (q.2 5 k)), (4, .int (q.2 6 k)), (0, .ref (a 7)), (1, .ref (a 0)), (2, .ref (b 0)), (3, .int (nI k))] → gM D A' Hb (caL a T ns cd f cg wr) H1 locs → z = H.size → H1.size = H.size + 1 → H1[z]? = some (lamC 1 D a q k) → va_Any "SequenceBench$Condition" s H1 z →
        W p l e rmX5_init s m args below meth c H1 locs (1 + k + 1) (ns + 5 * k + 5) Q (F0 m 124 ls [.ref z, .int (nI k), .ref cd]) := by
      intro z H1 ls hl hM1 hz hsz hcell hany
      have hMA := hM1.unbase hSb hA' hA
      have hLH1 : ∀ j, j < k → H1[la j]? = some (lamC 1 D a q j) := fun j hj => by
        rw [hM1.2.2.1.2.1 (la j) (Array.getElem?_eq_some_iff.mp (hLb j hj)).1 (hLA j hj)]
        exact hLb j hj
      have hlt : ∀ x ∈ (caL a T ns cd f cg wr), x.1 < H.size := fun x hx => (vaP_iff.mp hM.1 x hx).lt
      have hsS : s.heap.size ≤ H.size := (hM.unbase hSb hA' hA).2.2.1.1
      refine g_rebase (lam := fun q => q = z) hM1 (fun q hq => by subst hq; omega) (fun x hx hxz => by have := hlt x hx; omega) (fun locs' hM2 => ?_)
      refine va_astqM S.x S.b S.k hM2.1 hM2.2.1 hM2.2.2.1 0 4 rfl rfl hany (vp_in_nI hkn hb31) dX5_init_124 (fun H2 locs2 hP hD hS => ?_)
      have hM3 : gM D (fun q => A' q ∧ ¬ q = z) H1 (caL a T ns cd (va_up f (nI k).toNatClampNeg (some z)) cg wr) H2 locs2 := ⟨hP, hD, hS, hM2.2.2.2⟩
      rw [nI_clamp hk31] at hM3
      refine g_inc S (x' := nI (k + 1)) (d := 1) hl (k := 7) rfl (by decide) (nI_1 k).symm dX5_init_125 rfl (lv' := [(3, .int (nI (k + 1))), (7, .int (q.2 8 k)), (6, .int (q.2 7 k)), (5, .int (q.2 5 k)), (4, .int (q.2 6 k)), (0, .ref (a 7)), (1, .ref (a 0)), (2, .ref (b 0))]) rfl (fun ls hl => ?_)
      refine lv_goto (tgt := 39) S.x S.b dX5_init_128 rfl ?_
      refine ih (k + 1) (by omega) (va_up la k z) (va_up f k (some z)) (fun q => A' q ∧ ¬ q = z) H1 _ H2 locs2 ls hM3 (fun q hq => hA' q hq.1) hMA.2.2.1 ?_ ?_ ?_ (lv_sub hl [5, 6, 7, 0] rfl)
      · intro j hj
        by_cases e : j = k
        · subst e; simp [va_up]
        · simp [va_up, e]; exact hf j (by omega)
      · intro j hj
        by_cases e : j = k
        · subst e; simp only [va_up, if_pos]; exact hcell
        · simp only [va_up, if_neg e]; exact hLH1 j (by omega)
      · intro j hj
        by_cases e : j = k
        · subst e; simp [va_up]
        · simp only [va_up, if_neg e]
          exact fun h => hLA j (by omega) h.1
    have hbo : narrow .boolean (.int (q.2 8 k)) = .int (q.2 8 k) ∧ fits .boolean (.int (q.2 8 k)) = true := by
      rw [h8 k hkn]
      split <;> exact ⟨rfl, rfl⟩
    have J2 : ∀ (ls : Array Slot), lv_has ls 8 [(7, .int (q.2 8 k)), (6, .int (q.2 7 k)), (5, .int (q.2 5 k)), (4, .int (q.2 6 k)), (0, .ref (a 7)), (1, .ref (a 0)), (2, .ref (b 0)), (3, .int (nI k))] → W p l e rmX5_init s m args below meth c H locs (1 + k) (ns + 5 * k) Q (F0 m 90 ls []) := by
      intro ls hl
      refine lv_aload_n S.x S.b dX5_init_90 rfl (lv_at hl 4 rfl) ?_
      refine g_getL S hM ⟨1, rfl⟩ (ci := 4) rfl in_X5 1 rfl (Or.inl q182) rfl dX5_init_91 ?_
      refine lv_iload_n S.x S.b dX5_init_94 rfl (lv_at hl 7 rfl) ?_
      refine lv_iload S.x S.b dX5_init_95 (lv_at hl 1 rfl) ?_
      refine lv_if_eq (tgt := 111) S.x S.b dX5_init_97 rfl (fun cn => ?_) (fun cn => ?_)
      · refine lv_aload_n S.x S.b dX5_init_111 rfl (lv_at hl 4 rfl) ?_
        refine lv_iload S.x S.b dX5_init_112 (lv_at hl 3 rfl) ?_
        refine lv_aload_n S.x S.b dX5_init_114 rfl (lv_at hl 5 rfl) ?_
        refine lv_iload S.x S.b dX5_init_115 (lv_at hl 2 rfl) ?_
        refine lv_iload S.x S.b dX5_init_117 (lv_at hl 0 rfl) ?_
        refine g_indy S hM hl hnamed S.g.2.2.2.1.2.2.2 lm_ok3 [.ref (a 7), .int (q.2 6 k), .ref (a 0), .int (q.2 5 k), .int (q.2 8 k)] rfl (by simp [hbo.1]; exact ⟨rfl, rfl, rfl, rfl⟩) (fun i v hv => by
          match i, hv with
          | 0, hv => cases hv; exact ⟨_, rfl, rfl⟩
          | 1, hv => cases hv; exact ⟨_, rfl, rfl⟩
          | 2, hv => cases hv; exact ⟨_, rfl, rfl⟩
          | 3, hv => cases hv; exact ⟨_, rfl, rfl⟩
          | 4, hv => cases hv; exact ⟨_, rfl, hbo.2⟩) rfl rfl (by show 1 + k + 1 ≤ 17; omega) (by show ns + 5 * k + 5 ≤ 96; omega) dX5_init_119 (fun z H1 hM1 hz hsz hcell hold => ?_)
        exact J z H1 ls hl hM1 hz hsz (by rw [hcell]; simp only [lamC, cn]; rfl) (lam_any (D := D) S.g.2.2.2.1.2.2.2 rfl hcell)
      · have h71 : q.2 7 k = 1 := by
          have := h7 k hkn
          by_cases e : fo k = nI k
          · rw [this, if_pos e]
          · rw [if_neg e] at this
            exact absurd this cn
        refine lv_aload_n S.x S.b dX5_init_100 rfl (lv_at hl 4 rfl) ?_
        refine lv_iload S.x S.b dX5_init_101 (lv_at hl 3 rfl) ?_
        refine g_indy S hM hl hnamed S.g.2.2.2.1.2.2.1 lm_ok2 [.ref (a 7), .int (q.2 6 k)] rfl rfl (fun i v hv => by
          match i, hv with
          | 0, hv => cases hv; exact ⟨_, rfl, rfl⟩
          | 1, hv => cases hv; exact ⟨_, rfl, rfl⟩) rfl rfl (by show 1 + k + 1 ≤ 17; omega) (by show ns + 5 * k + 2 ≤ 96; omega) dX5_init_103 (fun z H1 hM1 hz hsz hcell hold => ?_)
        refine lv_goto (tgt := 124) S.x S.b dX5_init_108 rfl ?_
        refine W.widen (k := 1 + k + 1) (n := ns + 5 * k + 5) (Nat.le_refl _) (by show ns + 5 * k + 2 ≤ _; omega) ?_
        exact J z H1 ls hl hM1 hz hsz (by rw [hcell]; simp only [lamC, h71]; rfl) (lam_any (D := D) S.g.2.2.2.1.2.2.1 rfl hcell)
    have J3 : ∀ (ls : Array Slot), lv_has ls 8 [(6, .int (q.2 7 k)), (5, .int (q.2 5 k)), (4, .int (q.2 6 k)), (0, .ref (a 7)), (1, .ref (a 0)), (2, .ref (b 0)), (3, .int (nI k))] → W p l e rmX5_init s m args below meth c H locs (1 + k) (ns + 5 * k) Q (F0 m 79 ls []) := by
      intro ls hl
      refine lv_iload_n S.x S.b dX5_init_79 rfl (lv_at hl 6 rfl) ?_
      refine lv_if_ne (tgt := 87) S.x S.b dX5_init_80 rfl (fun cn => ?_) (fun cn => ?_)
      · have hk0 : ¬ k = 0 := fun e => cn (by rw [e]; rfl)
        refine lv_iconst (v := (0 : Int32)) S.x S.b dX5_init_87 ki_0 ?_
        refine g_ist S (x' := q.2 8 k) (by rw [h8 k hkn, if_neg hk0]) hl dX5_init_88 rfl (lv' := [(7, .int (q.2 8 k)), (6, .int (q.2 7 k)), (5, .int (q.2 5 k)), (4, .int (q.2 6 k)), (0, .ref (a 7)), (1, .ref (a 0)), (2, .ref (b 0)), (3, .int (nI k))]) rfl (fun ls hl => ?_)
        exact J2 ls hl
      · have hk0 : k = 0 := by
          rcases Nat.eq_zero_or_pos k with h | h
          · exact h
          · exact absurd cn (nI_ne0 h hk31)
        refine lv_iconst (v := (1 : Int32)) S.x S.b dX5_init_83 ki_1 ?_
        refine lv_goto (tgt := 88) S.x S.b dX5_init_84 rfl ?_
        refine g_ist S (x' := q.2 8 k) (by rw [h8 k hkn, if_pos hk0]) hl dX5_init_88 rfl (lv' := [(7, .int (q.2 8 k)), (6, .int (q.2 7 k)), (5, .int (q.2 5 k)), (4, .int (q.2 6 k)), (0, .ref (a 7)), (1, .ref (a 0)), (2, .ref (b 0)), (3, .int (nI k))]) rfl (fun ls hl => ?_)
        exact J2 ls hl
    refine lv_icmp_ne (tgt := 76) S.x S.b dX5_init_69 rfl (fun cn => ?_) (fun cn => ?_)
    · refine lv_iconst (v := (0 : Int32)) S.x S.b dX5_init_76 ki_0 ?_
      refine g_ist S (x' := q.2 7 k) (by rw [h7 k hkn, if_neg cn]) hl dX5_init_77 rfl (lv' := [(6, .int (q.2 7 k)), (5, .int (q.2 5 k)), (4, .int (q.2 6 k)), (0, .ref (a 7)), (1, .ref (a 0)), (2, .ref (b 0)), (3, .int (nI k))]) rfl (fun ls hl => ?_)
      exact J3 ls hl
    · refine lv_iconst (v := (1 : Int32)) S.x S.b dX5_init_72 ki_1 ?_
      refine lv_goto (tgt := 77) S.x S.b dX5_init_73 rfl ?_
      refine g_ist S (x' := q.2 7 k) (by rw [h7 k hkn, if_pos cn]) hl dX5_init_77 rfl (lv' := [(6, .int (q.2 7 k)), (5, .int (q.2 5 k)), (4, .int (q.2 6 k)), (0, .ref (a 7)), (1, .ref (a 0)), (2, .ref (b 0)), (3, .int (nI k))]) rfl (fun ls hl => ?_)
      exact J3 ls hl
set_option maxHeartbeats 4000000 in
/-- new Cascade(rig): u = (its conditions' array, its lambdas) -/
theorem metX5_init {l : Launch} {D : va_G} {T : Nat → ClassId} {a b sa : Nat → Nat} {wr : va_W} {ns nc N : Nat} {q : MW} {fs : List Value} {fo : Nat → Int32} (hns : ns ≤ 16) (hQ : SqI T b sa ns q (.ref (b 3)) wr) (hC : CuI T b nc q wr) (hR : ∃ i : Nat, wr[i]? = some (a 0, .inr (2, fs))) (hfs : fs[0]? = some (.ref (b 0))) (h5 : ∀ k, k < ns → gX11_before ns q (nI k) = some (q.2 5 k)) (h6 : ∀ k, k < ns → gX11_groupOf N ns q nc (nI k) = some (q.2 6 k)) (hfo : ∀ k, k < ns → gX11_firstOf ns q nc (q.2 6 k) = some (fo k)) (h7 : ∀ k, k < ns → q.2 7 k = if fo k = nI k then 1 else 0) (h8 : ∀ k, k < ns → q.2 8 k = if k = 0 then 1 else 0) (sz : Nat) :
    MetA (Nat × (Nat → Nat)) l yX5_init (ws_ yX5_init cX5_init 8 none) rmX5_init D T ((a 7, .inr (4, [.null, .null, .int 0])) :: wr) sz [.ref (a 7), .ref (a 0)] (fun u => caL a T ns u.1 (fun k => some (u.2 k)) (Int32.ofNat nc - 1) wr) (fun u H => LamI 1 D a u.2 ns q H ∧ LaF u.2 ns (caL a T ns u.1 (fun k => some (u.2 k)) (Int32.ofNat nc - 1) wr)) 17 96 := by
  refine g_entryN (Qc := fun A => va_Qv (fun (_ : Nat × (Nat → Nat)) => True) (fun u t => gPost D T A (caL a T ns u.1 (fun k => some (u.2 k)) (Int32.ofNat nc - 1) wr) t ∧ LamI 1 D a u.2 ns q t.heap ∧ LaF u.2 ns (caL a T ns u.1 (fun k => some (u.2 k)) (Int32.ofNat nc - 1) wr)) A) (by decide) rfl ?_
  intro p e s m below meth c ls S hini hnamed hM hl
  have hl : lv_has ls 8 [(0, .ref (a 7)), (1, .ref (a 0))] := hl
  have hb31 := di_ns hns
  refine lv_aload_n S.x S.b dX5_init_0 rfl (lv_at hl 0 rfl) ?_
  refine g_objInit S hl q163 q103 q104 ⟨rfl, rfl⟩ dX5_init_1 ?_
  refine lv_aload_n S.x S.b dX5_init_4 rfl (lv_at hl 0 rfl) ?_
  refine lv_aload_n S.x S.b dX5_init_5 rfl (lv_at hl 1 rfl) ?_
  refine g_putF S hM 0 rfl (ci := 4) rfl in_X5 tyX5_ok nmX5 0 rfl q181 rfl hini rfl rfl rfl rfl (ws' := (a 7, .inr (4, [.ref (a 0), .null, .int 0])) :: wr) rfl dX5_init_6 (fun H locs hM => ?_)
  refine lv_aload_n S.x S.b dX5_init_9 rfl (lv_at hl 1 rfl) ?_
  refine g_getL S hM (ex_cons hR) (ci := 2) rfl in_X3 0 rfl (Or.inr ⟨_, q220⟩) hfs dX5_init_10 ?_
  refine lv_astore_n (lv' := [(2, .ref (b 0)), (0, .ref (a 7)), (1, .ref (a 0))]) S.x S.b dX5_init_13 rfl hl (by decide) rfl (fun ls hl => ?_)
  refine lv_aload_n S.x S.b dX5_init_14 rfl (lv_at hl 1 rfl) ?_
  refine lv_aload_n S.x S.b dX5_init_15 rfl (lv_at hl 0 rfl) ?_
  refine sq_g S hM (hQ.cons _) 2 rfl (Or.inr ⟨_, q923⟩) rfl dX5_init_16 ?_
  refine sq_clen S hM (hC.cons _) dX5_init_19 ?_
  refine lv_iconst (v := (1 : Int32)) S.x S.b dX5_init_20 ki_1 ?_
  refine lv_isub S.x S.b dX5_init_21 ?_
  refine g_put S hM 0 rfl (ci := 4) rfl in_X5 tyX5_ok nmX5 2 rfl q183 rfl rfl rfl rfl (ws' := (a 7, .inr (4, [.ref (a 0), .null, .int (Int32.ofNat nc - 1)])) :: wr) rfl dX5_init_22 (fun H locs hM => ?_)
  refine lv_aload_n S.x S.b dX5_init_25 rfl (lv_at hl 1 rfl) ?_
  refine lv_aload_n S.x S.b dX5_init_26 rfl (lv_at hl 0 rfl) ?_
  refine sq_g S hM (hQ.cons _) 0 rfl (Or.inr ⟨_, q917⟩) rfl dX5_init_27 ?_
  refine sq_len S hM (hQ.cons _) dX5_init_30 ?_
  refine g_newq S hM 4 rfl q164 S.g.2.2.1.2.1 (n := nI ns) (N := ns) (nI_pos hb31) (nI_clamp hb31) (by omega) (by show 0 + 1 ≤ 17; omega) (by show 0 + ns ≤ 96; omega) dX5_init_31 (fun cd H hM => ?_)
  refine g_putF S hM 1 rfl (ci := 4) rfl in_X5 tyX5_ok nmX5 1 rfl q182 rfl hini rfl rfl rfl rfl (ws' := caL a T ns cd (fun _ => none) (Int32.ofNat nc - 1) wr) rfl dX5_init_34 (fun H locs hM => ?_)
  refine lv_iconst (v := (0 : Int32)) S.x S.b dX5_init_37 ki_0 ?_
  refine g_istn S (x' := (0 : Int32)) rfl hl dX5_init_38 rfl rfl (lv' := [(3, .int (0 : Int32)), (2, .ref (b 0)), (0, .ref (a 7)), (1, .ref (a 0))]) rfl (fun ls hl => ?_)
  refine W.widen (k := 1 + 0) (n := ns + 5 * 0) (by omega) (by omega) ?_
  refine ca_loop S hnamed hns hQ hC h5 h6 hfo h7 h8 hM.2.2.2 ?_ ns 0 (by omega) (fun _ => 0) (fun _ => none) _ s.heap [] H locs ls hM (fun _ h => h) va_S.rf (fun j hj => absurd hj (Nat.not_lt_zero j)) (fun j hj => absurd hj (Nat.not_lt_zero j)) (fun j hj => absurd hj (Nat.not_lt_zero j)) (lv_sub hl [2, 3, 1, 0] rfl)
  intro la H locs ls hM hL hF hsz
  exact ga_vret (U := Nat × (Nat → Nat)) (ws' := fun u => caL a T ns u.1 (fun k => some (u.2 k)) (Int32.ofNat nc - 1) wr) (X := fun u H => LamI 1 D a u.2 ns q H ∧ LaF u.2 ns (caL a T ns u.1 (fun k => some (u.2 k)) (Int32.ofNat nc - 1) wr)) S (cd, la) hM ⟨hL, hF⟩ dX5_init_131
abbrev rmX6_init : Room := { frames := 1, cells := 0, slots := 0, locals := 12 }
set_option maxHeartbeats 4000000 in
/-- new Stepper(rig) -/
theorem metX6_init {l : Launch} {D : va_G} {T : Nat → ClassId} {a : Nat → Nat} {wr : va_W} (sz : Nat) :
    MetA Unit l yX6_init (ws_ yX6_init cX6_init 2 none) rmX6_init D T ((a 7, .inr (5, [.null, .int 0])) :: wr) sz [.ref (a 7), .ref (a 0)] (fun _ => (a 7, .inr (5, [.ref (a 0), .int (-1)])) :: wr) (fun _ _ => True) 0 0 := by
  refine g_entryN (Qc := fun A => va_Qv (fun (_ : Unit) => True) (fun u t => gPost D T A ((a 7, .inr (5, [.ref (a 0), .int (-1)])) :: wr) t ∧ True) A) (by decide) rfl ?_
  intro p e s m below meth c ls S hini hnamed hM hl
  have hl : lv_has ls 2 [(0, .ref (a 7)), (1, .ref (a 0))] := hl
  refine lv_aload_n S.x S.b dX6_init_0 rfl (lv_at hl 0 rfl) ?_
  refine g_objInit S hl q199 q103 q104 ⟨rfl, rfl⟩ dX6_init_1 ?_
  refine lv_aload_n S.x S.b dX6_init_4 rfl (lv_at hl 0 rfl) ?_
  refine lv_iconst (v := (-1 : Int32)) S.x S.b dX6_init_5 ki_m1 ?_
  refine g_put S hM 0 rfl (ci := 5) rfl in_X6 tyX6_ok nmX6 1 rfl q201 rfl rfl rfl rfl (ws' := (a 7, .inr (5, [.null, .int (-1)])) :: wr) rfl dX6_init_6 (fun H locs hM => ?_)
  refine lv_aload_n S.x S.b dX6_init_9 rfl (lv_at hl 0 rfl) ?_
  refine lv_aload_n S.x S.b dX6_init_10 rfl (lv_at hl 1 rfl) ?_
  refine g_putF S hM 0 rfl (ci := 5) rfl in_X6 tyX6_ok nmX6 0 rfl q200 rfl hini rfl rfl rfl rfl (ws' := (a 7, .inr (5, [.ref (a 0), .int (-1)])) :: wr) rfl dX6_init_11 (fun H locs hM => ?_)
  exact ga_vret (U := Unit) (ws' := fun _ => (a 7, .inr (5, [.ref (a 0), .int (-1)])) :: wr) (X := fun _ _ => True) S () hM trivial dX6_init_14
