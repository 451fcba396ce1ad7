/-! isLike: two rigs, read only -/
set_option maxRecDepth 100000
theorem lk_ld {p : Program} {l : Launch} {e : Env} {R : Room} {s : State} {m : MethodId} {args : Array Value} {below : List Frame} {meth : Method} {c : Code} {H : Heap} {locs : List Loc} {cells slots : Nat} {Q : State → Prop} {cc : ByteArray} {nL : Nat} {ret : Option FieldType} {own : String} {D : va_G} {T : Nat → ClassId} {A : Nat → Prop} {pc : Nat} {ls : Array Slot} {rest : List Value} {H0 : Heap} {ws : va_W} {z n : Nat} {f : Nat → Int32}
    (S : gS p s m args meth c cc nL ret own D T) (hM : gM D A H0 ws H locs) (hP : ∃ i : Nat, ws[i]? = some (z, .inl (T 0, n, .inl f))) {i : Int32} (hi : vp_in i n) (hdg : decode cc pc = .ok (.iaload, 1))
    (kk : W p l e R s m args below meth c H locs cells slots Q (F0 m (pc + 1) ls (.int (f i.toNatClampNeg) :: rest))) : W p l e R s m args below meth c H locs cells slots Q (F0 m pc ls (.int i :: .ref z :: rest)) := by
  obtain ⟨k, h⟩ := hP
  exact g_iald S hM k h hi hdg kk
