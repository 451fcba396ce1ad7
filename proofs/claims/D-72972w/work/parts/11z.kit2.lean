section GK2
variable {p : Program} {l : Launch} {e : Env} {R : Room} {s : State} {m : MethodId} {args : Array Value} {below : List Frame} {meth : Method} {c : Code} {H : Heap} {locs : List Loc} {cells slots : Nat} {Q : State → Prop}
variable {cc : ByteArray} {nL : Nat} {ret : Option FieldType} {own : String} {D : va_G} {T : Nat → ClassId} {pc : Nat} {ls : Array Slot} {rest : List Value}
theorem g_lst (S : gS p s m args meth c cc nL ret own D T) {i : Nat} {x x' : Int64} (ex : x' = x) {lv lv' : List (Nat × Value)} (hl : lv_has ls nL lv) (hdg : decode cc pc = .ok (.lstore i, 2)) (hn : Nat.ble (i + 2) nL = true) (hv : (i, Value.long x') :: lv.filter (fun q => !(q.1 == i) && (!(q.1 == i + 1) && !(q.1 + 1 == i && q.2.category == 2))) = lv')
    (kk : ∀ ls : Array Slot, lv_has ls nL lv' → W p l e R s m args below meth c H locs cells slots Q (F0 m (pc + 2) ls rest)) : W p l e R s m args below meth c H locs cells slots Q (F0 m pc ls (.long x :: rest)) := by
  subst ex
  exact lv_lstore S.x S.b hdg hl (Nat.le_of_ble_eq_true hn) hv kk
theorem g_lstn (S : gS p s m args meth c cc nL ret own D T) {k : Fin 4} {i : Nat} {x x' : Int64} (ex : x' = x) {lv lv' : List (Nat × Value)} (hl : lv_has ls nL lv) (hdg : decode cc pc = .ok (.lstore_n k, 1)) (hi : (k : Nat) = i) (hn : Nat.ble (i + 2) nL = true) (hv : (i, Value.long x') :: lv.filter (fun q => !(q.1 == i) && (!(q.1 == i + 1) && !(q.1 + 1 == i && q.2.category == 2))) = lv')
    (kk : ∀ ls : Array Slot, lv_has ls nL lv' → W p l e R s m args below meth c H locs cells slots Q (F0 m (pc + 1) ls rest)) : W p l e R s m args below meth c H locs cells slots Q (F0 m pc ls (.long x :: rest)) := by
  subst ex
  exact lv_lstore_n S.x S.b hdg hi hl (Nat.le_of_ble_eq_true hn) hv kk
end GK2
theorem rt2 {α β : Type} {a r : α} {b w : β} (h : some (a, b) = some (r, w)) : r = a ∧ w = b := by
  have h := Option.some.inj h
  exact ⟨(congrArg Prod.fst h).symm, (congrArg Prod.snd h).symm⟩
theorem rt1 {α : Type} {a r : α} (h : some a = some r) : r = a := (Option.some.inj h).symm
