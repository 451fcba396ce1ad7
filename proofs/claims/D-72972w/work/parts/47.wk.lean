/-! works, cycleTime: a trial rig, then dropped -/
set_option maxRecDepth 100000
theorem gM.sublist {D : va_G} {A : Nat → Prop} {H0 H : Heap} {ws ws' : va_W} {locs : List Loc} (hM : gM D A H0 ws H locs) (h : ws'.Sublist ws) : gM D A H0 ws' H locs := by
  obtain ⟨h1, h2, h3, h4⟩ := hM
  rw [vaD_iff] at h2
  exact ⟨vaP_iff.mpr fun x hx => vaP_iff.mp h1 x (h.subset hx), vaD_iff.mpr ⟨(h.map (·.1)).nodup h2.1, fun x hx => h2.2 x (h.subset hx)⟩, h3, h4⟩
theorem cd_sub {i : Nat} {a la : Nat → Nat} {T : Nat → ClassId} {ns : Nat} {wr : va_W} : wr.Sublist (cdL i a la T ns wr) := by
  unfold cdL
  split
  · exact List.sublist_cons_self _ _
  · exact List.sublist_cons_self _ _
  · exact List.Sublist.refl _
theorem rc_sub {i : Nat} {a : Nat → Nat} {cI : ClassId} {so : Option Nat} {w : MW} {tl : va_W} : tl.Sublist (rcW i a cI so w tl) :=
  (((((((List.sublist_cons_self _ _).trans (List.sublist_cons_self _ _)).trans (List.sublist_cons_self _ _)).trans (List.sublist_cons_self _ _)).trans (List.sublist_cons_self _ _)).trans (List.sublist_cons_self _ _)).trans (List.sublist_cons_self _ _)).trans (List.sublist_cons_self _ _)
theorem gM.drop {D : va_G} {A : Nat → Prop} {H0 H : Heap} {locs : List Loc} {i ns : Nat} {a la : Nat → Nat} {T : Nat → ClassId} {so : Option Nat} {w : MW} {WB : va_W} (hM : gM D A H0 (rcW i a (T 0) so w (cdL i a la T ns WB)) H locs) : gM D A H0 WB H locs := hM.sublist (cd_sub.trans rc_sub)
section WK
variable {p : Program} {l : Launch} {e : Env} {R : Room} {s : State} {m : MethodId} {args : Array Value} {below : List Frame} {meth : Method} {c : Code} {H : Heap} {locs : List Loc} {cells slots : Nat} {Q : State → Prop}
variable {cc : ByteArray} {nL : Nat} {ret : Option FieldType} {D : va_G} {T : Nat → ClassId} {A : Nat → Prop} {pc : Nat} {ls : Array Slot} {rest : List Value} {lv : List (Nat × Value)} {H0 : Heap}
variable {h me ns nc N j : Nat} {d a b sa la em : Nat → Nat} {co : Option Nat} {w : BW} {wt wt' q : MW} {tl WB : va_W}
theorem gt_call (S : gS p s m args meth c cc nL ret RX1 D T) (hM : gM D A s.heap (bwW h d T (some (b 0)) co me a w tl) H locs) (hl : lv_has ls nL lv) (hY : EnY em A s s.heap) (hj : j < 3) (hK : SqK N ns nc q) (hQ : SqI T b sa ns q (.ref (b 3)) tl) (hC : CuI T b nc q tl) (hf : gX3_init N ns (qD N ns nc q j) (w.1.2 1) (cgI j nc) = some wt) (hR : Nat.ble (rmTrial.frames + 1) R.frames = true ∧ Nat.ble (8 + (2 + 11) + rmTrial.locals) R.locals = true) (hrm : Nat.ble (rest.map fun v => v.category).sum 8 = true) (hfit : cells + 25 ≤ R.cells ∧ slots + 238 ≤ R.slots) (hdg : decode cc pc = .ok (.invokevirtual 233, 3))
    (kk : ∀ (u : (Nat → Nat) × (Nat → Nat)) (H1 : Heap) (locs1 : List Loc), gM D A s.heap (rcW j u.1 (T 0) (some (b 0)) wt (cdL j u.1 u.2 T ns (bwW h d T (some (b 0)) co me a w tl))) H1 locs1 → LamI j D u.1 u.2 (nlI j ns) (qD N ns nc q j) H1 → LaF u.2 (nlI j ns) (rcW j u.1 (T 0) (some (b 0)) wt (cdL j u.1 u.2 T ns (bwW h d T (some (b 0)) co me a w tl))) → W p l e R s m args below meth c H1 locs1 (cells + 25) (slots + 238) Q (F0 m (pc + 3) ls (.ref (u.1 0) :: rest))) : W p l e R s m args below meth c H locs cells slots Q (F0 m pc ls (.ref (em j) :: .ref h :: rest)) := by
  have hM' : gM D A s.heap (bwW h d T (some (b 0)) co me a w tl ++ []) H locs := by rw [List.append_nil]; exact hM
  refine gy_r (U := (Nat → Nat) × (Nat → Nat)) (wc := bwW h d T (some (b 0)) co me a w tl) (wr := []) (q0 := 0) (ci := 1) S hM' hl [.ref (em j)] rfl rfl EnY.c (EnY.c.sub hY hM') (metX1_trial hj hK ⟨0, rfl⟩ hQ.bw hC.bw ⟨2, rfl⟩ hf) hdX1_trial q1381 q1383 qs27 q62 q1384 ⟨rfl, rfl⟩ hR rfl rfl hrm hfit hdg ?_
  intro u H1 locs1 h1 hX _ _
  rw [List.append_nil] at h1
  exact kk u H1 locs1 h1 hX.1 hX.2
theorem gk_call {r : Int32} (S : gS p s m args meth c cc nL ret RX1 D T) (hM : gM D A H0 (rcW j a (T 0) (some (b 0)) wt (cdL j a la T ns WB)) H locs) (hl : lv_has ls nL lv) (hj : j < 3) (hQ : SqI T b sa ns q (.ref (b 3)) WB) (hC : CuI T b nc q WB) (hLam : LamI j D a la (nlI j ns) (qD N ns nc q j) H) (hLF : LaF la (nlI j ns) (rcW j a (T 0) (some (b 0)) wt (cdL j a la T ns WB))) (hf : gMakes j N ns nc (qD N ns nc q j) wt = some (r, wt')) (hR : Nat.ble (rmX3_makesCycles_0.frames + 1) R.frames = true ∧ Nat.ble (8 + (1 + 11) + rmX3_makesCycles_0.locals) R.locals = true) (hrm : Nat.ble (rest.map fun v => v.category).sum 8 = true) (hfit : cells + 0 ≤ R.cells ∧ slots + 0 ≤ R.slots) (hdg : decode cc pc = .ok (.invokevirtual 237, 3))
    (kk : ∀ (H1 : Heap) (locs1 : List Loc), gM D A H0 (rcW j a (T 0) (some (b 0)) wt' (cdL j a la T ns WB)) H1 locs1 → W p l e R s m args below meth c H1 locs1 cells slots Q (F0 m (pc + 3) ls (.int r :: rest))) : W p l e R s m args below meth c H locs cells slots Q (F0 m pc ls (.ref (a 0) :: rest)) :=
  gx_ci (X := LamI j D a la (nlI j ns) (qD N ns nc q j)) S hM hLam hl [] 2 rfl ⟨0, _, rfl⟩ (metX3_makesI hj hQ.qD hC.qD (fun w => hLF.of rc_addr) hf) hdX3_makesCycles q1385 q1386 q1387 q65 q1388 ⟨rfl, rfl⟩ hR rfl rfl hrm hfit hdg kk
end WK
