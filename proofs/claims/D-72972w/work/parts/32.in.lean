/-! invokedynamic: a lambda is made -/
set_option maxRecDepth 100000
theorem lm_three {α : Type} {x : Array Nat} {f : Nat → Nat → Nat → Option α} {r : α} (h : Lambda.shapeOf?.match_15 (fun _ => Option α) x f (fun _ => none) = some r) : ∃ a0 a1 a2, f a0 a1 a2 = some r := by
  rcases x with ⟨L⟩
  match L, h with
  | [], h => cases h
  | [_], h => cases h
  | [_, _], h => cases h
  | [a, b, c], h => exact ⟨a, b, c, h⟩
  | _ :: _ :: _ :: _ :: _, h => cases h
theorem lm_site {cf : ClassFile} {index : Nat} {σ : Lambda.Shape} (h : Lambda.shapeOf? cf index = some σ) :
    ∃ (b nt : Nat) (desc : String) (site : MethodDescriptor), cf.constantPool[index]? = some (.invokeDynamic b nt) ∧ cf.constantPool.nameAndType? nt = some (σ.name, desc) ∧ parseMethodDescriptor desc = some site ∧ site.parameters = σ.captured := by
  unfold Lambda.shapeOf? at h
  split at h
  · rename_i b nt hc
    obtain ⟨entries, -, h⟩ := Option.bind_eq_some_iff.mp h
    obtain ⟨bm, -, h⟩ := Option.bind_eq_some_iff.mp h
    split at h
    · obtain ⟨_, -, h⟩ := Option.bind_eq_some_iff.mp h
      obtain ⟨a0, a1, a2, h⟩ := lm_three h
      · skip
        split at h
        · split at h
          · split at h
            · obtain ⟨⟨name, desc⟩, hnt, h⟩ := Option.bind_eq_some_iff.mp h
              obtain ⟨site, hsite, h⟩ := Option.bind_eq_some_iff.mp h
              dsimp only at h
              split at h
              · obtain ⟨⟨implClass, implName, implDesc, implItf⟩, -, h⟩ := Option.bind_eq_some_iff.mp h
                obtain ⟨x1, -, h⟩ := Option.bind_eq_some_iff.mp h
                obtain ⟨x2, -, h⟩ := Option.bind_eq_some_iff.mp h
                obtain ⟨x3, -, h⟩ := Option.bind_eq_some_iff.mp h
                obtain ⟨x4, -, h⟩ := Option.bind_eq_some_iff.mp h
                obtain ⟨x5, -, h⟩ := Option.bind_eq_some_iff.mp h
                cases h
                exact ⟨b, nt, desc, site, hc, hnt, hsite, rfl⟩
              · cases h
            · cases h
          · cases h
        · cases h
    · cases h
  · cases h
section IND
variable {p : Program} {l : Launch} {e : Env} {R : Room} {s : State} {m : MethodId} {args : Array Value} {below : List Frame} {meth : Method} {c : Code} {H : Heap} {locs : List Loc} {cells slots : Nat} {Q : State → Prop}
variable {cc : ByteArray} {nL : Nat} {ret : Option FieldType} {own : String} {D : va_G} {T : Nat → ClassId} {A : Nat → Prop} {pc : Nat} {ls : Array Slot} {rest : List Value} {H0 : Heap} {ws : va_W}
/-- a lambda that captures the values vals is made; it stands at z, beside the listed cells -/
theorem g_indy (S : gS p s m args meth c cc nL ret own D T) (hM : gM D A H0 ws H locs) {lv : List (Nat × Value)} (hl : lv_has ls nL lv) {x : MethodName} {idx : Nat} {σ : Lambda.Shape} {cK : ClassId} {bts : ByteArray} {fis : List (Nat × Nat)} {mi ci nt cu : Nat} {desc : String} {tys : Array FieldType} (hnamed : s.methodNamed? x = some m) (hlam : s.lambdaAt? x pc idx σ = some (cK, none)) (ok : lmOk σ x.cls bts fis mi ci nt cu desc tys)
    (vals : List Value) {st0 : List Value} (hcap : vals.length = σ.captured.length) (hnar : ((tys.toList.zip vals).map fun (t, v) => narrow t v) = vals) (hfit : ∀ (i : Nat) (v : Value), vals[i]? = some v → ∃ t, tys[i]? = some t ∧ fits t v = true) (hst : st0 = vals.reverse ++ rest) (hR : Nat.ble ((st0.map fun v => v.category).sum + 3072) R.locals = true) (hcells : cells + 1 ≤ R.cells) (hslots : slots + vals.length ≤ R.slots) (hdg : decode cc pc = .ok (.invokedynamic idx, 5))
    (kk : ∀ (z : Nat) (H1 : Heap), gM D A H0 ws H1 locs → z = H.size → H1.size = H.size + 1 → H1[z]? = some { cls := cK, slots := vals.toArray, vm := .none } → (∀ q, q < H.size → H1[q]? = H[q]?) → W p l e R s m args below meth c H1 locs (cells + 1) (slots + vals.length) Q (F0 m (pc + 5) ls (.ref z :: rest))) : W p l e R s m args below meth c H locs cells slots Q (F0 m pc ls st0) := by
  subst hst
  obtain ⟨m', kS, cfS, i0, p0, lk, hm', hkS, hcfS, hshape, -, hfind, hmade, hcan, hlk⟩ := State.lambdaAt?_spec hlam
  cases hnamed.symm.trans hm'
  obtain ⟨rfl, -⟩ : lk = .makes cK ∧ True := by
    rcases hlk with ⟨a, cell, -, h, -⟩ | h
    · cases h
    · exact ⟨h.1, trivial⟩
  obtain ⟨bsm, nt', dsc, site, hc, hnt, hsite, hpar⟩ := lm_site hshape
  obtain ⟨d, kK, tk, file, methk, ck, toy, t, -, -, hkK, -, -, -, -, -, -, -, -, -, -, -, -, -, -, -, -, htyK, hkindK, -⟩ := lm_at hlam ok (S.w _ q1837)
  have hslotsE : ((kK.instanceTypes.toList.zip vals).map fun (t, v) => narrow t v) = vals := by rw [htyK]; exact hnar
  intro T0 hT X
  obtain ⟨X₁, st1⟩ := X.lambdaMakes S.x (g := F0 m pc ls (vals.reverse ++ rest)) rfl (by rw [S.2.2.1]; exact hl.1) (by rw [S.b]; exact hdg) (vals := vals) (rest := rest) hkS hfind hcfS hc hnt (parseLong_of_parse hsite) (by rw [hpar]; exact hcap) rfl hkK
    (by rw [X.admits.platform]; show 2 * 0 + ((vals.reverse ++ rest).map fun v => v.category).sum + 3072 ≤ _; have := Nat.le_of_ble_eq_true hR; omega) hcells (by rw [hslotsE]; exact hslots)
    (fun i v hv => by
      rw [hslotsE] at hv
      obtain ⟨ty, h1, h2⟩ := hfit i v (by simpa using hv)
      simp [State.fitsSlot, State.slotType?, hkK, hkindK, htyK, h1, h2])
  rw [hslotsE] at X₁ st1
  have e0 : (T0.pushCell { cls := cK, slots := vals.toArray, vm := .none }).heap = T0.heap.push { cls := cK, slots := vals.toArray, vm := .none } := rfl
  have hsz1 : (T0.heap.push { cls := cK, slots := vals.toArray, vm := .none }).size = H.size + 1 := by rw [Array.size_push, hT]
  have hnew : (T0.heap.push { cls := cK, slots := vals.toArray, vm := .none })[H.size]? = some { cls := cK, slots := vals.toArray, vm := .none } := by rw [← hT, Array.getElem?_push_size]
  have hold : ∀ q, q < H.size → (T0.heap.push { cls := cK, slots := vals.toArray, vm := .none })[q]? = H[q]? := fun q hq => by rw [Array.getElem?_push, if_neg (by rw [hT]; exact Nat.ne_of_lt hq), hT]
  have hM1 : gM D A H0 ws (T0.heap.push { cls := cK, slots := vals.toArray, vm := .none }) locs := by
    obtain ⟨hP, hD, hS, hA⟩ := hM
    refine ⟨hP.kept (fun k q hq => hold q.1 (hP k q hq).lt), hD, ⟨by rw [hsz1]; exact Nat.le_succ_of_le hS.1, fun q h1 h2 => ?_, hS.2.2⟩, hA⟩
    rw [hold q (Nat.lt_of_lt_of_le h1 hS.1)]
    exact hS.2.1 q h1 h2
  have hlen : vals.toArray.size = vals.length := by simp
  rw [hlen] at X₁
  obtain ⟨t1, a1, b1⟩ := kk H.size _ hM1 rfl hsz1 hnew hold _ e0 X₁
  refine ⟨t1, st1 t1 ?_, b1⟩
  rw [hT]
  exact a1
end IND
